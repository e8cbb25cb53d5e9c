/-! the tables' words by their places (out of claim/names) -/
set_option maxRecDepth 100000
theorem q445 : (Jvm.Cond.initialized "ScriptTypesLaw") ∈ lw_all := lw_g (lw_at lw_m1 0 rfl) rfl
theorem q446 : (Jvm.Cond.initialized "ScriptTypes") ∈ lw_all := lw_g (lw_at lw_m1 1 rfl) rfl
theorem q447 : (Jvm.Cond.initialized "ScriptTypes$Texts") ∈ lw_all := lw_g (lw_at lw_m1 2 rfl) rfl
theorem q448 : (Jvm.Cond.initialized "java/util/AbstractCollection") ∈ lw_all := lw_g (lw_at lw_m1 3 rfl) rfl
theorem q449 : (Jvm.Cond.initialized "java/util/AbstractList") ∈ lw_all := lw_g (lw_at lw_m1 4 rfl) rfl
theorem q450 : (Jvm.Cond.initialized "java/util/ArrayList") ∈ lw_all := lw_g (lw_at lw_m1 5 rfl) rfl
theorem q451 : (Jvm.Cond.initialized "ScriptTypes$Coder") ∈ lw_all := lw_g (lw_at lw_m1 6 rfl) rfl
theorem q452 : (Jvm.Cond.initialized "java/lang/Throwable") ∈ lw_all := lw_g (lw_at lw_m1 7 rfl) rfl
theorem q453 : (Jvm.Cond.initialized "java/lang/Exception") ∈ lw_all := lw_g (lw_at lw_m1 8 rfl) rfl
theorem q454 : (Jvm.Cond.initialized "java/lang/RuntimeException") ∈ lw_all := lw_g (lw_at lw_m1 9 rfl) rfl
theorem q455 : (Jvm.Cond.initialized "ScriptTypes$NoRoom") ∈ lw_all := lw_g (lw_at lw_m1 10 rfl) rfl
theorem q456 : (Jvm.Cond.initialized "ScriptTypes$Thrown") ∈ lw_all := lw_g (lw_at lw_m1 11 rfl) rfl
theorem q457 : (Jvm.Cond.initialized "ScriptTypes$Bag") ∈ lw_all := lw_g (lw_at lw_m1 12 rfl) rfl
theorem q458 : (Jvm.Cond.initialized "ScriptTypes$Kept") ∈ lw_all := lw_g (lw_at lw_m1 13 rfl) rfl
theorem q459 : (Jvm.Cond.initialized "java/lang/String") ∈ lw_all := lw_g (lw_at lw_m1 14 rfl) rfl
theorem q460 : (Jvm.Cond.initialized "java/lang/StringLatin1") ∈ lw_all := lw_g (lw_at lw_m1 15 rfl) rfl
theorem q461 : (Jvm.Cond.initialized "jdk/internal/util/Preconditions") ∈ lw_all := lw_g (lw_at lw_m1 16 rfl) rfl
theorem q462 : (Jvm.Cond.initialized "java/lang/StringUTF16") ∈ lw_all := lw_g (lw_at lw_m1 17 rfl) rfl
theorem q463 : (Jvm.Cond.initialized "ScriptTypesModel") ∈ lw_all := lw_g (lw_at lw_m1 18 rfl) rfl
theorem q464 : (Jvm.Cond.initialized "ScriptTypes$Parser") ∈ lw_all := lw_g (lw_at lw_m1 19 rfl) rfl
theorem q465 : (Jvm.Cond.initialized "ScriptTypes$Tokens") ∈ lw_all := lw_g (lw_at lw_m1 20 rfl) rfl
theorem q466 : (Jvm.Cond.initialized "ScriptTypes$Code") ∈ lw_all := lw_g (lw_at lw_m1 21 rfl) rfl
theorem q467 : (Jvm.Cond.initialized "jdk/internal/util/ArraysSupport") ∈ lw_all := lw_g (lw_at lw_m1 22 rfl) rfl
theorem q468 : (Jvm.Cond.initialized "java/lang/Math") ∈ lw_all := lw_g (lw_at lw_m1 23 rfl) rfl
theorem q469 : (Jvm.Cond.initialized "java/util/Arrays") ∈ lw_all := lw_g (lw_at lw_m1 24 rfl) rfl
theorem q470 : (Jvm.Cond.initialized "java/lang/System") ∈ lw_all := lw_g (lw_at lw_m1 25 rfl) rfl
theorem q471 : (Jvm.Cond.initialized "ScriptTypes$Fault") ∈ lw_all := lw_g (lw_at lw_m1 26 rfl) rfl
theorem q472 : (Jvm.Cond.initialized "ScriptTypes$Node") ∈ lw_all := lw_g (lw_at lw_m1 27 rfl) rfl
theorem q473 : (Jvm.Cond.initialized "ScriptTypes$Block") ∈ lw_all := lw_g (lw_at lw_m1 28 rfl) rfl
theorem q474 : (Jvm.Cond.initialized "ScriptTypes$Drops") ∈ lw_all := lw_g (lw_at lw_m1 29 rfl) rfl
theorem q475 : (Jvm.Cond.initialized "ScriptTypes$Sets") ∈ lw_all := lw_g (lw_at lw_m1 30 rfl) rfl
theorem q476 : (Jvm.Cond.initialized "ScriptTypes$Name") ∈ lw_all := lw_g (lw_at lw_m1 31 rfl) rfl
theorem q477 : (Jvm.Cond.initialized "ScriptTypes$Literal") ∈ lw_all := lw_g (lw_at lw_m1 32 rfl) rfl
theorem q478 : (Jvm.Cond.initialized "ScriptTypes$This") ∈ lw_all := lw_g (lw_at lw_m1 33 rfl) rfl
theorem q479 : (Jvm.Cond.initialized "ScriptTypes$Made") ∈ lw_all := lw_g (lw_at lw_m1 34 rfl) rfl
theorem q480 : (Jvm.Cond.initialized "ScriptTypes$Bracketed") ∈ lw_all := lw_g (lw_at lw_m1 35 rfl) rfl
theorem q481 : (Jvm.Cond.initialized "ScriptTypes$Commas") ∈ lw_all := lw_g (lw_at lw_m1 36 rfl) rfl
theorem q482 : (Jvm.Cond.initialized "ScriptTypes$Items") ∈ lw_all := lw_g (lw_at lw_m1 37 rfl) rfl
theorem q483 : (Jvm.Cond.initialized "ScriptTypes$Left") ∈ lw_all := lw_g (lw_at lw_m1 38 rfl) rfl
theorem q484 : (Jvm.Cond.initialized "ScriptTypes$Suffix") ∈ lw_all := lw_g (lw_at lw_m1 39 rfl) rfl
theorem q485 : (Jvm.Cond.initialized "ScriptTypes$New") ∈ lw_all := lw_g (lw_at lw_m1 40 rfl) rfl
theorem q486 : (Jvm.Cond.initialized "java/util/Objects") ∈ lw_all := lw_g (lw_at lw_m1 41 rfl) rfl
theorem q487 : (Jvm.Cond.initialized "ScriptTypes$Counts") ∈ lw_all := lw_g (lw_at lw_m1 42 rfl) rfl
theorem q488 : (Jvm.Cond.initialized "ScriptTypes$Ahead") ∈ lw_all := lw_g (lw_at lw_m1 43 rfl) rfl
theorem q489 : (Jvm.Cond.initialized "ScriptTypes$Both") ∈ lw_all := lw_g (lw_at lw_m1 44 rfl) rfl
theorem q490 : (Jvm.Cond.initialized "ScriptTypes$Row") ∈ lw_all := lw_g (lw_at lw_m1 45 rfl) rfl
theorem q491 : (Jvm.Cond.initialized "ScriptTypes$Choice") ∈ lw_all := lw_g (lw_at lw_m1 46 rfl) rfl
theorem q492 : (Jvm.Cond.initialized "ScriptTypes$If") ∈ lw_all := lw_g (lw_at lw_m1 47 rfl) rfl
theorem q493 : (Jvm.Cond.initialized "ScriptTypes$Loop") ∈ lw_all := lw_g (lw_at lw_m1 48 rfl) rfl
theorem q494 : (Jvm.Cond.initialized "ScriptTypes$Each") ∈ lw_all := lw_g (lw_at lw_m1 49 rfl) rfl
theorem q495 : (Jvm.Cond.initialized "ScriptTypes$Goes") ∈ lw_all := lw_g (lw_at lw_m1 50 rfl) rfl
theorem q496 : (Jvm.Cond.initialized "ScriptTypes$Return") ∈ lw_all := lw_g (lw_at lw_m1 51 rfl) rfl
theorem q497 : (Jvm.Cond.initialized "ScriptTypes$Throw") ∈ lw_all := lw_g (lw_at lw_m1 52 rfl) rfl
theorem q498 : (Jvm.Cond.initialized "ScriptTypes$Try") ∈ lw_all := lw_g (lw_at lw_m1 53 rfl) rfl
theorem q499 : (Jvm.Cond.initialized "ScriptTypes$Switch") ∈ lw_all := lw_g (lw_at lw_m1 54 rfl) rfl
theorem q500 : (Jvm.Cond.initialized "ScriptTypes$Around") ∈ lw_all := lw_g (lw_at lw_m1 55 rfl) rfl
theorem q501 : (Jvm.Cond.initialized "ScriptTypes$Jumps") ∈ lw_all := lw_g (lw_at lw_m1 56 rfl) rfl
theorem q502 : (Jvm.Cond.initialized "java/lang/IllegalStateException") ∈ lw_all := lw_g (lw_at lw_m1 57 rfl) rfl
theorem q503 : (Jvm.Cond.initialized "java/lang/IllegalArgumentException") ∈ lw_all := lw_g (lw_at lw_m1 58 rfl) rfl
theorem q504 : (Jvm.Cond.initialized "java/lang/Number") ∈ lw_all := lw_g (lw_at lw_m1 59 rfl) rfl
theorem q505 : (Jvm.Cond.initialized "java/lang/Integer") ∈ lw_all := lw_g (lw_at lw_m1 60 rfl) rfl
theorem q506 : (Jvm.Cond.initialized "ScriptTypes$Table") ∈ lw_all := lw_g (lw_at lw_m1 61 rfl) rfl
theorem q507 : (Jvm.Cond.initialized "ScriptTypes$Work") ∈ lw_all := lw_g (lw_at lw_m1 62 rfl) rfl
theorem q508 : (Jvm.Cond.initialized "java/lang/Long") ∈ lw_all := lw_g (lw_at lw_m1 63 rfl) rfl
theorem q509 : (Jvm.Cond.classLink "ScriptTypesLaw" (8 : Nat) "ScriptTypes") ∈ lw_all := lw_g (lw_at lw_m1 64 rfl) rfl
theorem q510 : (Jvm.Cond.instantiable "ScriptTypes" (97 : Nat)) ∈ lw_all := lw_g (lw_at lw_m1 65 rfl) rfl
theorem q511 : (Jvm.Cond.methodLink "ScriptTypesLaw" (24 : Nat) ({ cls := "ScriptTypes", name := "<init>", desc := "()V" } : Jvm.MethodName)) ∈ lw_all := lw_g (lw_at lw_m1 66 rfl) rfl
theorem q512 : (Jvm.Cond.instanceMethod ({ cls := "ScriptTypes", name := "<init>", desc := "()V" } : Jvm.MethodName)) ∈ lw_all := lw_g (lw_at lw_m1 67 rfl) rfl
theorem q513 : (Jvm.Cond.code ({ cls := "ScriptTypes", name := "<init>", desc := "()V" } : Jvm.MethodName) prog_1_method_7_code (2 : Nat) (Option.none : Option Jvm.ClassFile.FieldType)) ∈ lw_all := lw_g (lw_at lw_m1 68 rfl) rfl
theorem q514 : (Jvm.Cond.methodLink "ScriptTypes" (61 : Nat) ({ cls := "java/lang/Object", name := "<init>", desc := "()V" } : Jvm.MethodName)) ∈ lw_all := lw_g (lw_at lw_m1 69 rfl) rfl
theorem q515 : (Jvm.Cond.instanceMethod ({ cls := "java/lang/Object", name := "<init>", desc := "()V" } : Jvm.MethodName)) ∈ lw_all := lw_g (lw_at lw_m1 70 rfl) rfl
theorem q516 : (Jvm.Cond.code ({ cls := "java/lang/Object", name := "<init>", desc := "()V" } : Jvm.MethodName) object_method_1_code (1 : Nat) (Option.none : Option Jvm.ClassFile.FieldType)) ∈ lw_all := lw_g (lw_at lw_m1 71 rfl) rfl
theorem q517 : (Jvm.Cond.classLink "ScriptTypes" (24 : Nat) "ScriptTypes$Texts") ∈ lw_all := lw_g (lw_at lw_m1 72 rfl) rfl
theorem q518 : (Jvm.Cond.instantiable "ScriptTypes$Texts" (3 : Nat)) ∈ lw_all := lw_g (lw_at lw_m1 73 rfl) rfl
theorem q519 : (Jvm.Cond.constant "ScriptTypes" (66 : Nat) (40000 : Int32)) ∈ lw_all := lw_g (lw_at lw_m1 74 rfl) rfl
theorem q520 : (Jvm.Cond.methodLink "ScriptTypes" (67 : Nat) ({ cls := "ScriptTypes$Texts", name := "<init>", desc := "(II)V" } : Jvm.MethodName)) ∈ lw_all := lw_g (lw_at lw_m1 75 rfl) rfl
theorem q521 : (Jvm.Cond.instanceMethod ({ cls := "ScriptTypes$Texts", name := "<init>", desc := "(II)V" } : Jvm.MethodName)) ∈ lw_all := lw_g (lw_at lw_m1 76 rfl) rfl
theorem q522 : (Jvm.Cond.code ({ cls := "ScriptTypes$Texts", name := "<init>", desc := "(II)V" } : Jvm.MethodName) prog_36_method_1_code (3 : Nat) (Option.none : Option Jvm.ClassFile.FieldType)) ∈ lw_all := lw_g (lw_at lw_m1 77 rfl) rfl
theorem q523 : (Jvm.Cond.methodLink "ScriptTypes$Texts" (3 : Nat) ({ cls := "java/lang/Object", name := "<init>", desc := "()V" } : Jvm.MethodName)) ∈ lw_all := lw_g (lw_at lw_m1 78 rfl) rfl
theorem q524 : (Jvm.Cond.fieldLink "ScriptTypes$Texts" (15 : Nat) "ScriptTypes$Texts" "signs" "[B") ∈ lw_all := lw_g (lw_at lw_m1 79 rfl) rfl
theorem q525 : (Jvm.Cond.fieldLink "ScriptTypes$Texts" (9 : Nat) "ScriptTypes$Texts" "from" "[I") ∈ lw_all := lw_g (lw_at lw_m1 80 rfl) rfl
theorem q526 : (Jvm.Cond.fieldLink "ScriptTypes$Texts" (19 : Nat) "ScriptTypes$Texts" "many" "I") ∈ lw_all := lw_g (lw_at lw_m1 81 rfl) rfl
theorem q527 : (Jvm.Cond.fieldLink "ScriptTypes" (41 : Nat) "ScriptTypes$Texts" "many" "I") ∈ lw_all := lw_g (lw_at lw_m1 82 rfl) rfl
theorem q528 : (Jvm.Cond.laysFinal "ScriptTypes$Texts" "ScriptTypes$Texts" "signs" "[B") ∈ lw_all := lw_g (lw_at lw_m1 83 rfl) rfl
theorem q529 : (Jvm.Cond.soleField "ScriptTypes$Texts" "signs") ∈ lw_all := lw_g (lw_at lw_m1 84 rfl) rfl
theorem q530 : (Jvm.Cond.laysFinal "ScriptTypes$Texts" "ScriptTypes$Texts" "from" "[I") ∈ lw_all := lw_g (lw_at lw_m1 85 rfl) rfl
theorem q531 : (Jvm.Cond.soleField "ScriptTypes$Texts" "from") ∈ lw_all := lw_g (lw_at lw_m1 86 rfl) rfl
theorem q532 : (Jvm.Cond.lays "ScriptTypes$Texts" "ScriptTypes$Texts" "many" "I") ∈ lw_all := lw_g (lw_at lw_m1 87 rfl) rfl
theorem q533 : (Jvm.Cond.soleField "ScriptTypes$Texts" "many") ∈ lw_all := lw_g (lw_at lw_m1 88 rfl) rfl
theorem q534 : (Jvm.Cond.superclass "ScriptTypes$Texts" "java/lang/Object") ∈ lw_all := lw_g (lw_at lw_m1 89 rfl) rfl
theorem q535 : (Jvm.Cond.arrayClass Jvm.ClassFile.FieldType.int) ∈ lw_all := lw_g (lw_at lw_m1 90 rfl) rfl
theorem q536 : (Jvm.Cond.arrayClass Jvm.ClassFile.FieldType.byte) ∈ lw_all := lw_g (lw_at lw_m1 91 rfl) rfl
theorem q537 : (Jvm.Cond.classLink "ScriptTypes" (79 : Nat) "java/util/ArrayList") ∈ lw_all := lw_g (lw_at lw_m1 92 rfl) rfl
theorem q538 : (Jvm.Cond.instantiable "java/util/ArrayList" (3 : Nat)) ∈ lw_all := lw_g (lw_at lw_m1 93 rfl) rfl
theorem q539 : (Jvm.Cond.methodLink "ScriptTypes" (81 : Nat) ({ cls := "java/util/ArrayList", name := "<init>", desc := "()V" } : Jvm.MethodName)) ∈ lw_all := lw_g (lw_at lw_m1 94 rfl) rfl
theorem q540 : (Jvm.Cond.instanceMethod ({ cls := "java/util/ArrayList", name := "<init>", desc := "()V" } : Jvm.MethodName)) ∈ lw_all := lw_g (lw_at lw_m1 95 rfl) rfl
theorem q541 : (Jvm.Cond.code ({ cls := "java/util/ArrayList", name := "<init>", desc := "()V" } : Jvm.MethodName) prog_67_method_2_code (1 : Nat) (Option.none : Option Jvm.ClassFile.FieldType)) ∈ lw_all := lw_g (lw_at lw_m1 96 rfl) rfl
theorem q542 : (Jvm.Cond.methodLink "java/util/ArrayList" (1 : Nat) ({ cls := "java/util/AbstractList", name := "<init>", desc := "()V" } : Jvm.MethodName)) ∈ lw_all := lw_g (lw_at lw_m1 97 rfl) rfl
theorem q543 : (Jvm.Cond.instanceMethod ({ cls := "java/util/AbstractList", name := "<init>", desc := "()V" } : Jvm.MethodName)) ∈ lw_all := lw_g (lw_at lw_m1 98 rfl) rfl
theorem q544 : (Jvm.Cond.code ({ cls := "java/util/AbstractList", name := "<init>", desc := "()V" } : Jvm.MethodName) prog_66_method_1_code (1 : Nat) (Option.none : Option Jvm.ClassFile.FieldType)) ∈ lw_all := lw_g (lw_at lw_m1 99 rfl) rfl
theorem q545 : (Jvm.Cond.methodLink "java/util/AbstractList" (1 : Nat) ({ cls := "java/util/AbstractCollection", name := "<init>", desc := "()V" } : Jvm.MethodName)) ∈ lw_all := lw_g (lw_at lw_m1 100 rfl) rfl
theorem q546 : (Jvm.Cond.instanceMethod ({ cls := "java/util/AbstractCollection", name := "<init>", desc := "()V" } : Jvm.MethodName)) ∈ lw_all := lw_g (lw_at lw_m1 101 rfl) rfl
theorem q547 : (Jvm.Cond.code ({ cls := "java/util/AbstractCollection", name := "<init>", desc := "()V" } : Jvm.MethodName) prog_65_method_1_code (1 : Nat) (Option.none : Option Jvm.ClassFile.FieldType)) ∈ lw_all := lw_g (lw_at lw_m1 102 rfl) rfl
theorem q548 : (Jvm.Cond.methodLink "java/util/AbstractCollection" (1 : Nat) ({ cls := "java/lang/Object", name := "<init>", desc := "()V" } : Jvm.MethodName)) ∈ lw_all := lw_g (lw_at lw_m1 103 rfl) rfl
theorem q549 : (Jvm.Cond.fieldLink "java/util/ArrayList" (39 : Nat) "java/util/ArrayList" "DEFAULTCAPACITY_EMPTY_ELEMENTDATA" "[Ljava/lang/Object;") ∈ lw_all := lw_g (lw_at lw_m1 104 rfl) rfl
theorem q550 : (Jvm.Cond.laysStatic "java/util/ArrayList" "DEFAULTCAPACITY_EMPTY_ELEMENTDATA" "[Ljava/lang/Object;") ∈ lw_tbl := lw_at lw_m1 105 rfl
theorem q551 : (Jvm.Cond.fieldLink "java/util/ArrayList" (9 : Nat) "java/util/ArrayList" "elementData" "[Ljava/lang/Object;") ∈ lw_all := lw_g (lw_at lw_m1 106 rfl) rfl
theorem q552 : (Jvm.Cond.fieldLink "java/util/ArrayList" (48 : Nat) "java/util/ArrayList" "size" "I") ∈ lw_all := lw_g (lw_at lw_m1 107 rfl) rfl
theorem q553 : (Jvm.Cond.fieldLink "java/util/AbstractList" (7 : Nat) "java/util/AbstractList" "modCount" "I") ∈ lw_all := lw_g (lw_at lw_m1 108 rfl) rfl
theorem q554 : (Jvm.Cond.fieldLink "java/util/ArrayList" (63 : Nat) "java/util/ArrayList" "modCount" "I") ∈ lw_all := lw_g (lw_at lw_m1 109 rfl) rfl
theorem q555 : (Jvm.Cond.sameField "java/util/ArrayList" "java/util/AbstractList" "modCount" "I") ∈ lw_all := lw_g (lw_at lw_m1 110 rfl) rfl
theorem q556 : (Jvm.Cond.lays "java/util/ArrayList" "java/util/ArrayList" "elementData" "[Ljava/lang/Object;") ∈ lw_all := lw_g (lw_at lw_m1 111 rfl) rfl
theorem q557 : (Jvm.Cond.soleField "java/util/ArrayList" "elementData") ∈ lw_all := lw_g (lw_at lw_m1 112 rfl) rfl
theorem q558 : (Jvm.Cond.lays "java/util/ArrayList" "java/util/ArrayList" "size" "I") ∈ lw_all := lw_g (lw_at lw_m1 113 rfl) rfl
theorem q559 : (Jvm.Cond.soleField "java/util/ArrayList" "size") ∈ lw_all := lw_g (lw_at lw_m1 114 rfl) rfl
theorem q560 : (Jvm.Cond.lays "java/util/ArrayList" "java/util/AbstractList" "modCount" "I") ∈ lw_all := lw_g (lw_at lw_m1 115 rfl) rfl
theorem q561 : (Jvm.Cond.soleField "java/util/AbstractList" "modCount") ∈ lw_all := lw_g (lw_at lw_m1 116 rfl) rfl
theorem q562 : (Jvm.Cond.superclass "java/util/ArrayList" "java/util/AbstractList") ∈ lw_all := lw_g (lw_at lw_m1 117 rfl) rfl
theorem q563 : (Jvm.Cond.classLink "ScriptTypes" (86 : Nat) "ScriptTypes$Coder") ∈ lw_all := lw_g (lw_at lw_m1 118 rfl) rfl
theorem q564 : (Jvm.Cond.instantiable "ScriptTypes$Coder" (13 : Nat)) ∈ lw_all := lw_g (lw_at lw_m1 119 rfl) rfl
theorem q565 : (Jvm.Cond.methodLinkNest "ScriptTypes" (88 : Nat) ({ cls := "ScriptTypes$Coder", name := "<init>", desc := "()V" } : Jvm.MethodName) "ScriptTypes") ∈ lw_tbl := lw_at lw_m1 120 rfl
theorem q566 : (Jvm.Cond.instanceMethod ({ cls := "ScriptTypes$Coder", name := "<init>", desc := "()V" } : Jvm.MethodName)) ∈ lw_all := lw_g (lw_at lw_m1 121 rfl) rfl
theorem q567 : (Jvm.Cond.code ({ cls := "ScriptTypes$Coder", name := "<init>", desc := "()V" } : Jvm.MethodName) prog_10_method_1_code (1 : Nat) (Option.none : Option Jvm.ClassFile.FieldType)) ∈ lw_all := lw_g (lw_at lw_m1 122 rfl) rfl
theorem q568 : (Jvm.Cond.methodLink "ScriptTypes$Coder" (3 : Nat) ({ cls := "java/lang/Object", name := "<init>", desc := "()V" } : Jvm.MethodName)) ∈ lw_all := lw_g (lw_at lw_m1 123 rfl) rfl
theorem q569 : (Jvm.Cond.classLink "ScriptTypes$Coder" (35 : Nat) "java/util/ArrayList") ∈ lw_all := lw_g (lw_at lw_m1 124 rfl) rfl
theorem q570 : (Jvm.Cond.methodLink "ScriptTypes$Coder" (37 : Nat) ({ cls := "java/util/ArrayList", name := "<init>", desc := "()V" } : Jvm.MethodName)) ∈ lw_all := lw_g (lw_at lw_m1 125 rfl) rfl
theorem q571 : (Jvm.Cond.fieldLink "ScriptTypes$Coder" (9 : Nat) "ScriptTypes$Coder" "operation" "[B") ∈ lw_all := lw_g (lw_at lw_m1 126 rfl) rfl
theorem q572 : (Jvm.Cond.fieldLink "ScriptTypes" (334 : Nat) "ScriptTypes$Coder" "operation" "[B") ∈ lw_all := lw_g (lw_at lw_m1 127 rfl) rfl
theorem q573 : (Jvm.Cond.fieldLink "ScriptTypes$Coder" (15 : Nat) "ScriptTypes$Coder" "a" "[S") ∈ lw_all := lw_g (lw_at lw_m1 128 rfl) rfl
theorem q574 : (Jvm.Cond.fieldLink "ScriptTypes" (337 : Nat) "ScriptTypes$Coder" "a" "[S") ∈ lw_all := lw_g (lw_at lw_m1 129 rfl) rfl
theorem q575 : (Jvm.Cond.fieldLink "ScriptTypes$Coder" (19 : Nat) "ScriptTypes$Coder" "open" "[S") ∈ lw_all := lw_g (lw_at lw_m1 130 rfl) rfl
theorem q576 : (Jvm.Cond.fieldLink "ScriptTypes" (773 : Nat) "ScriptTypes$Coder" "open" "[S") ∈ lw_all := lw_g (lw_at lw_m1 131 rfl) rfl
theorem q577 : (Jvm.Cond.fieldLink "ScriptTypes$Coder" (22 : Nat) "ScriptTypes$Coder" "under" "[S") ∈ lw_all := lw_g (lw_at lw_m1 132 rfl) rfl
theorem q578 : (Jvm.Cond.fieldLink "ScriptTypes" (776 : Nat) "ScriptTypes$Coder" "under" "[S") ∈ lw_all := lw_g (lw_at lw_m1 133 rfl) rfl
theorem q579 : (Jvm.Cond.fieldLink "ScriptTypes$Coder" (25 : Nat) "ScriptTypes$Coder" "b" "[I") ∈ lw_all := lw_g (lw_at lw_m1 134 rfl) rfl
theorem q580 : (Jvm.Cond.fieldLink "ScriptTypes" (340 : Nat) "ScriptTypes$Coder" "b" "[I") ∈ lw_all := lw_g (lw_at lw_m1 135 rfl) rfl
theorem q581 : (Jvm.Cond.fieldLink "ScriptTypes$Coder" (29 : Nat) "ScriptTypes$Coder" "of" "[B") ∈ lw_all := lw_g (lw_at lw_m1 136 rfl) rfl
theorem q582 : (Jvm.Cond.fieldLink "ScriptTypes" (343 : Nat) "ScriptTypes$Coder" "of" "[B") ∈ lw_all := lw_g (lw_at lw_m1 137 rfl) rfl
theorem q583 : (Jvm.Cond.fieldLink "ScriptTypes$Coder" (32 : Nat) "ScriptTypes$Coder" "sitePlace" "[I") ∈ lw_all := lw_g (lw_at lw_m1 138 rfl) rfl
theorem q584 : (Jvm.Cond.fieldLink "ScriptTypes" (671 : Nat) "ScriptTypes$Coder" "sitePlace" "[I") ∈ lw_all := lw_g (lw_at lw_m1 139 rfl) rfl
theorem q585 : (Jvm.Cond.fieldLink "ScriptTypes$Try" (22 : Nat) "ScriptTypes$Coder" "many" "I") ∈ lw_all := lw_g (lw_at lw_m1 140 rfl) rfl
theorem q586 : (Jvm.Cond.fieldLink "ScriptTypes$Coder" (42 : Nat) "ScriptTypes$Coder" "many" "I") ∈ lw_all := lw_g (lw_at lw_m1 141 rfl) rfl
theorem q587 : (Jvm.Cond.fieldLink "ScriptTypes" (287 : Nat) "ScriptTypes$Coder" "many" "I") ∈ lw_all := lw_g (lw_at lw_m1 142 rfl) rfl
theorem q588 : (Jvm.Cond.fieldLink "ScriptTypes$Coder" (80 : Nat) "ScriptTypes$Coder" "sites" "I") ∈ lw_all := lw_g (lw_at lw_m1 143 rfl) rfl
theorem q589 : (Jvm.Cond.fieldLink "ScriptTypes" (288 : Nat) "ScriptTypes$Coder" "sites" "I") ∈ lw_all := lw_g (lw_at lw_m1 144 rfl) rfl
theorem q590 : (Jvm.Cond.fieldLink "ScriptTypes$Coder" (46 : Nat) "ScriptTypes$Coder" "around" "LScriptTypes$Around;") ∈ lw_all := lw_g (lw_at lw_m1 145 rfl) rfl
theorem q591 : (Jvm.Cond.fieldLink "ScriptTypes$Coder" (38 : Nat) "ScriptTypes$Coder" "arounds" "Ljava/util/ArrayList;") ∈ lw_all := lw_g (lw_at lw_m1 146 rfl) rfl
theorem q592 : (Jvm.Cond.fieldLink "ScriptTypes$Coder" (91 : Nat) "ScriptTypes$Coder" "used" "I") ∈ lw_all := lw_g (lw_at lw_m1 147 rfl) rfl
theorem q593 : (Jvm.Cond.fieldLink "ScriptTypes$Coder" (71 : Nat) "ScriptTypes$Coder" "function" "LScriptTypes$Code;") ∈ lw_all := lw_g (lw_at lw_m1 148 rfl) rfl
theorem q594 : (Jvm.Cond.laysFinal "ScriptTypes$Coder" "ScriptTypes$Coder" "operation" "[B") ∈ lw_all := lw_g (lw_at lw_m1 149 rfl) rfl
theorem q595 : (Jvm.Cond.soleField "ScriptTypes$Coder" "operation") ∈ lw_all := lw_g (lw_at lw_m1 150 rfl) rfl
theorem q596 : (Jvm.Cond.laysFinal "ScriptTypes$Coder" "ScriptTypes$Coder" "a" "[S") ∈ lw_all := lw_g (lw_at lw_m1 151 rfl) rfl
theorem q597 : (Jvm.Cond.soleField "ScriptTypes$Coder" "a") ∈ lw_all := lw_g (lw_at lw_m1 152 rfl) rfl
theorem q598 : (Jvm.Cond.laysFinal "ScriptTypes$Coder" "ScriptTypes$Coder" "open" "[S") ∈ lw_all := lw_g (lw_at lw_m1 153 rfl) rfl
theorem q599 : (Jvm.Cond.soleField "ScriptTypes$Coder" "open") ∈ lw_all := lw_g (lw_at lw_m1 154 rfl) rfl
theorem q600 : (Jvm.Cond.laysFinal "ScriptTypes$Coder" "ScriptTypes$Coder" "under" "[S") ∈ lw_all := lw_g (lw_at lw_m1 155 rfl) rfl
theorem q601 : (Jvm.Cond.soleField "ScriptTypes$Coder" "under") ∈ lw_all := lw_g (lw_at lw_m1 156 rfl) rfl
theorem q602 : (Jvm.Cond.laysFinal "ScriptTypes$Coder" "ScriptTypes$Coder" "b" "[I") ∈ lw_all := lw_g (lw_at lw_m1 157 rfl) rfl
theorem q603 : (Jvm.Cond.soleField "ScriptTypes$Coder" "b") ∈ lw_all := lw_g (lw_at lw_m1 158 rfl) rfl
theorem q604 : (Jvm.Cond.laysFinal "ScriptTypes$Coder" "ScriptTypes$Coder" "of" "[B") ∈ lw_all := lw_g (lw_at lw_m1 159 rfl) rfl
theorem q605 : (Jvm.Cond.soleField "ScriptTypes$Coder" "of") ∈ lw_all := lw_g (lw_at lw_m1 160 rfl) rfl
theorem q606 : (Jvm.Cond.laysFinal "ScriptTypes$Coder" "ScriptTypes$Coder" "sitePlace" "[I") ∈ lw_all := lw_g (lw_at lw_m1 161 rfl) rfl
theorem q607 : (Jvm.Cond.soleField "ScriptTypes$Coder" "sitePlace") ∈ lw_all := lw_g (lw_at lw_m1 162 rfl) rfl
theorem q608 : (Jvm.Cond.lays "ScriptTypes$Coder" "ScriptTypes$Coder" "many" "I") ∈ lw_all := lw_g (lw_at lw_m1 163 rfl) rfl
theorem q609 : (Jvm.Cond.soleField "ScriptTypes$Coder" "many") ∈ lw_all := lw_g (lw_at lw_m1 164 rfl) rfl
theorem q610 : (Jvm.Cond.lays "ScriptTypes$Coder" "ScriptTypes$Coder" "sites" "I") ∈ lw_all := lw_g (lw_at lw_m1 165 rfl) rfl
theorem q611 : (Jvm.Cond.soleField "ScriptTypes$Coder" "sites") ∈ lw_all := lw_g (lw_at lw_m1 166 rfl) rfl
theorem q612 : (Jvm.Cond.lays "ScriptTypes$Coder" "ScriptTypes$Coder" "around" "LScriptTypes$Around;") ∈ lw_all := lw_g (lw_at lw_m1 167 rfl) rfl
theorem q613 : (Jvm.Cond.soleField "ScriptTypes$Coder" "around") ∈ lw_all := lw_g (lw_at lw_m1 168 rfl) rfl
theorem q614 : (Jvm.Cond.laysFinal "ScriptTypes$Coder" "ScriptTypes$Coder" "arounds" "Ljava/util/ArrayList;") ∈ lw_all := lw_g (lw_at lw_m1 169 rfl) rfl
theorem q615 : (Jvm.Cond.soleField "ScriptTypes$Coder" "arounds") ∈ lw_all := lw_g (lw_at lw_m1 170 rfl) rfl
theorem q616 : (Jvm.Cond.lays "ScriptTypes$Coder" "ScriptTypes$Coder" "used" "I") ∈ lw_all := lw_g (lw_at lw_m1 171 rfl) rfl
theorem q617 : (Jvm.Cond.soleField "ScriptTypes$Coder" "used") ∈ lw_all := lw_g (lw_at lw_m1 172 rfl) rfl
theorem q618 : (Jvm.Cond.lays "ScriptTypes$Coder" "ScriptTypes$Coder" "function" "LScriptTypes$Code;") ∈ lw_all := lw_g (lw_at lw_m1 173 rfl) rfl
theorem q619 : (Jvm.Cond.soleField "ScriptTypes$Coder" "function") ∈ lw_all := lw_g (lw_at lw_m1 174 rfl) rfl
theorem q620 : (Jvm.Cond.superclass "ScriptTypes$Coder" "java/lang/Object") ∈ lw_all := lw_g (lw_at lw_m1 175 rfl) rfl
theorem q621 : (Jvm.Cond.arrayClass Jvm.ClassFile.FieldType.short) ∈ lw_all := lw_g (lw_at lw_m1 176 rfl) rfl
theorem q622 : (Jvm.Cond.classLink "ScriptTypes" (134 : Nat) "ScriptTypes$NoRoom") ∈ lw_all := lw_g (lw_at lw_m1 177 rfl) rfl
theorem q623 : (Jvm.Cond.instantiable "ScriptTypes$NoRoom" (6 : Nat)) ∈ lw_all := lw_g (lw_at lw_m1 178 rfl) rfl
theorem q624 : (Jvm.Cond.castable "ScriptTypes$NoRoom" "ScriptTypes$NoRoom") ∈ lw_tbl := lw_at lw_m1 179 rfl
theorem q625 : (Jvm.Cond.declares ({ cls := "java/lang/RuntimeException", name := "<init>", desc := "()V" } : Jvm.MethodName)) ∈ lw_tbl := lw_at lw_m1 180 rfl
theorem q626 : (Jvm.Cond.declares ({ cls := "java/lang/RuntimeException", name := "<init>", desc := "(Ljava/lang/String;)V" } : Jvm.MethodName)) ∈ lw_tbl := lw_at lw_m1 181 rfl
theorem q627 : (Jvm.Cond.declares ({ cls := "java/lang/Exception", name := "<init>", desc := "()V" } : Jvm.MethodName)) ∈ lw_tbl := lw_at lw_m1 182 rfl
theorem q628 : (Jvm.Cond.declares ({ cls := "java/lang/Exception", name := "<init>", desc := "(Ljava/lang/String;)V" } : Jvm.MethodName)) ∈ lw_tbl := lw_at lw_m1 183 rfl
theorem q629 : (Jvm.Cond.declares ({ cls := "java/lang/Throwable", name := "<init>", desc := "()V" } : Jvm.MethodName)) ∈ lw_tbl := lw_at lw_m1 184 rfl
theorem q630 : (Jvm.Cond.declares ({ cls := "java/lang/Throwable", name := "<init>", desc := "(Ljava/lang/String;)V" } : Jvm.MethodName)) ∈ lw_tbl := lw_at lw_m1 185 rfl
theorem q631 : (Jvm.Cond.selects "ScriptTypes$NoRoom" ({ cls := "java/lang/Throwable", name := "fillInStackTrace", desc := "(I)Ljava/lang/Throwable;" } : Jvm.MethodName) ({ cls := "java/lang/Throwable", name := "fillInStackTrace", desc := "(I)Ljava/lang/Throwable;" } : Jvm.MethodName)) ∈ lw_all := lw_g (lw_at lw_m1 186 rfl) rfl
theorem q632 : (Jvm.Cond.selects "ScriptTypes$NoRoom" ({ cls := "java/lang/Throwable", name := "fillInStackTrace", desc := "()Ljava/lang/Throwable;" } : Jvm.MethodName) ({ cls := "java/lang/Throwable", name := "fillInStackTrace", desc := "()Ljava/lang/Throwable;" } : Jvm.MethodName)) ∈ lw_all := lw_g (lw_at lw_m1 187 rfl) rfl
theorem q633 : (Jvm.Cond.lays "ScriptTypes$NoRoom" "java/lang/Throwable" "cause" "Ljava/lang/Throwable;") ∈ lw_all := lw_g (lw_at lw_m1 188 rfl) rfl
theorem q634 : (Jvm.Cond.lays "java/lang/Throwable" "java/lang/Throwable" "cause" "Ljava/lang/Throwable;") ∈ lw_all := lw_g (lw_at lw_m1 189 rfl) rfl
theorem q635 : (Jvm.Cond.lays "ScriptTypes$NoRoom" "java/lang/Throwable" "stackTrace" "[Ljava/lang/StackTraceElement;") ∈ lw_all := lw_g (lw_at lw_m1 190 rfl) rfl
theorem q636 : (Jvm.Cond.lays "java/lang/Throwable" "java/lang/Throwable" "stackTrace" "[Ljava/lang/StackTraceElement;") ∈ lw_all := lw_g (lw_at lw_m1 191 rfl) rfl
theorem q637 : (Jvm.Cond.lays "ScriptTypes$NoRoom" "java/lang/Throwable" "suppressedExceptions" "Ljava/util/List;") ∈ lw_all := lw_g (lw_at lw_m1 192 rfl) rfl
theorem q638 : (Jvm.Cond.lays "java/lang/Throwable" "java/lang/Throwable" "suppressedExceptions" "Ljava/util/List;") ∈ lw_all := lw_g (lw_at lw_m1 193 rfl) rfl
theorem q639 : (Jvm.Cond.lays "ScriptTypes$NoRoom" "java/lang/Throwable" "detailMessage" "Ljava/lang/String;") ∈ lw_all := lw_g (lw_at lw_m1 194 rfl) rfl
theorem q640 : (Jvm.Cond.lays "java/lang/Throwable" "java/lang/Throwable" "detailMessage" "Ljava/lang/String;") ∈ lw_all := lw_g (lw_at lw_m1 195 rfl) rfl
theorem q641 : (Jvm.Cond.lays "ScriptTypes$NoRoom" "java/lang/Throwable" "backtrace" "Ljava/lang/Object;") ∈ lw_all := lw_g (lw_at lw_m1 196 rfl) rfl
theorem q642 : (Jvm.Cond.lays "java/lang/Throwable" "java/lang/Throwable" "backtrace" "Ljava/lang/Object;") ∈ lw_all := lw_g (lw_at lw_m1 197 rfl) rfl
theorem q643 : (Jvm.Cond.fieldLink "java/lang/Throwable" (198 : Nat) "java/lang/Throwable" "backtrace" "Ljava/lang/Object;") ∈ lw_all := lw_g (lw_at lw_m1 198 rfl) rfl
theorem q644 : (Jvm.Cond.superclass "java/lang/Throwable" "java/lang/Object") ∈ lw_all := lw_g (lw_at lw_m1 199 rfl) rfl
theorem q645 : (Jvm.Cond.instanceMethod ({ cls := "java/lang/Throwable", name := "<init>", desc := "()V" } : Jvm.MethodName)) ∈ lw_all := lw_g (lw_at lw_m1 200 rfl) rfl
theorem q646 : (Jvm.Cond.code ({ cls := "java/lang/Throwable", name := "<init>", desc := "()V" } : Jvm.MethodName) prog_62_method_1_code (1 : Nat) (Option.none : Option Jvm.ClassFile.FieldType)) ∈ lw_all := lw_g (lw_at lw_m1 201 rfl) rfl
theorem q647 : (Jvm.Cond.methodLink "java/lang/Throwable" (1 : Nat) ({ cls := "java/lang/Object", name := "<init>", desc := "()V" } : Jvm.MethodName)) ∈ lw_all := lw_g (lw_at lw_m1 202 rfl) rfl
theorem q648 : (Jvm.Cond.fieldLink "java/lang/Throwable" (13 : Nat) "java/lang/Throwable" "UNASSIGNED_STACK" "[Ljava/lang/StackTraceElement;") ∈ lw_all := lw_g (lw_at lw_m1 203 rfl) rfl
theorem q649 : (Jvm.Cond.laysStatic "java/lang/Throwable" "UNASSIGNED_STACK" "[Ljava/lang/StackTraceElement;") ∈ lw_tbl := lw_at lw_m1 204 rfl
theorem q650 : (Jvm.Cond.fieldLink "java/lang/Throwable" (20 : Nat) "java/lang/Throwable" "SUPPRESSED_SENTINEL" "Ljava/util/List;") ∈ lw_all := lw_g (lw_at lw_m1 205 rfl) rfl
theorem q651 : (Jvm.Cond.laysStatic "java/lang/Throwable" "SUPPRESSED_SENTINEL" "Ljava/util/List;") ∈ lw_tbl := lw_at lw_m1 206 rfl
theorem q652 : (Jvm.Cond.methodLink "java/lang/Throwable" (27 : Nat) ({ cls := "java/lang/Throwable", name := "fillInStackTrace", desc := "()Ljava/lang/Throwable;" } : Jvm.MethodName)) ∈ lw_all := lw_g (lw_at lw_m1 207 rfl) rfl
theorem q653 : (Jvm.Cond.instanceMethod ({ cls := "java/lang/Throwable", name := "fillInStackTrace", desc := "()Ljava/lang/Throwable;" } : Jvm.MethodName)) ∈ lw_all := lw_g (lw_at lw_m1 208 rfl) rfl
theorem q654 : (Jvm.Cond.sameMethod "java/lang/Throwable" "java/lang/Throwable" "fillInStackTrace" "()Ljava/lang/Throwable;") ∈ lw_all := lw_g (lw_at lw_m1 209 rfl) rfl
theorem q655 : (Jvm.Cond.selects "ScriptTypes$Fault" ({ cls := "java/lang/Throwable", name := "fillInStackTrace", desc := "()Ljava/lang/Throwable;" } : Jvm.MethodName) ({ cls := "java/lang/Throwable", name := "fillInStackTrace", desc := "()Ljava/lang/Throwable;" } : Jvm.MethodName)) ∈ lw_all := lw_g (lw_at lw_m1 210 rfl) rfl
theorem q656 : (Jvm.Cond.selects "ScriptTypes$Thrown" ({ cls := "java/lang/Throwable", name := "fillInStackTrace", desc := "()Ljava/lang/Throwable;" } : Jvm.MethodName) ({ cls := "java/lang/Throwable", name := "fillInStackTrace", desc := "()Ljava/lang/Throwable;" } : Jvm.MethodName)) ∈ lw_all := lw_g (lw_at lw_m1 211 rfl) rfl
theorem q657 : (Jvm.Cond.selects "java/lang/IllegalArgumentException" ({ cls := "java/lang/Throwable", name := "fillInStackTrace", desc := "()Ljava/lang/Throwable;" } : Jvm.MethodName) ({ cls := "java/lang/Throwable", name := "fillInStackTrace", desc := "()Ljava/lang/Throwable;" } : Jvm.MethodName)) ∈ lw_all := lw_g (lw_at lw_m1 212 rfl) rfl
theorem q658 : (Jvm.Cond.selects "java/lang/IllegalStateException" ({ cls := "java/lang/Throwable", name := "fillInStackTrace", desc := "()Ljava/lang/Throwable;" } : Jvm.MethodName) ({ cls := "java/lang/Throwable", name := "fillInStackTrace", desc := "()Ljava/lang/Throwable;" } : Jvm.MethodName)) ∈ lw_all := lw_g (lw_at lw_m1 213 rfl) rfl
theorem q659 : (Jvm.Cond.codeSync ({ cls := "java/lang/Throwable", name := "fillInStackTrace", desc := "()Ljava/lang/Throwable;" } : Jvm.MethodName) prog_62_method_18_code (1 : Nat) (Option.some (Jvm.ClassFile.FieldType.object "java/lang/Throwable"))) ∈ lw_all := lw_g (lw_at lw_m1 214 rfl) rfl
theorem q660 : (Jvm.Cond.methodLink "java/lang/Throwable" (202 : Nat) ({ cls := "java/lang/Throwable", name := "fillInStackTrace", desc := "(I)Ljava/lang/Throwable;" } : Jvm.MethodName)) ∈ lw_all := lw_g (lw_at lw_m1 215 rfl) rfl
theorem q661 : (Jvm.Cond.privateMethod ({ cls := "java/lang/Throwable", name := "fillInStackTrace", desc := "(I)Ljava/lang/Throwable;" } : Jvm.MethodName)) ∈ lw_tbl := lw_at lw_m1 216 rfl
theorem q662 : (Jvm.Cond.instanceMethod ({ cls := "java/lang/Throwable", name := "fillInStackTrace", desc := "(I)Ljava/lang/Throwable;" } : Jvm.MethodName)) ∈ lw_all := lw_g (lw_at lw_m1 217 rfl) rfl
theorem q663 : (Jvm.Cond.instantiable "java/lang/Throwable" (6 : Nat)) ∈ lw_all := lw_g (lw_at lw_m1 218 rfl) rfl
theorem q664 : (Jvm.Cond.native ({ cls := "java/lang/Throwable", name := "fillInStackTrace", desc := "(I)Ljava/lang/Throwable;" } : Jvm.MethodName)) ∈ lw_all := lw_g (lw_at lw_m1 219 rfl) rfl
theorem q665 : (Jvm.Cond.methodLink "ScriptTypes" (136 : Nat) ({ cls := "ScriptTypes$NoRoom", name := "<init>", desc := "()V" } : Jvm.MethodName)) ∈ lw_all := lw_g (lw_at lw_m1 220 rfl) rfl
theorem q666 : (Jvm.Cond.instanceMethod ({ cls := "ScriptTypes$NoRoom", name := "<init>", desc := "()V" } : Jvm.MethodName)) ∈ lw_all := lw_g (lw_at lw_m1 221 rfl) rfl
theorem q667 : (Jvm.Cond.code ({ cls := "ScriptTypes$NoRoom", name := "<init>", desc := "()V" } : Jvm.MethodName) prog_27_method_1_code (1 : Nat) (Option.none : Option Jvm.ClassFile.FieldType)) ∈ lw_all := lw_g (lw_at lw_m1 222 rfl) rfl
theorem q668 : (Jvm.Cond.methodLink "ScriptTypes$NoRoom" (1 : Nat) ({ cls := "java/lang/RuntimeException", name := "<init>", desc := "(Ljava/lang/String;Ljava/lang/Throwable;ZZ)V" } : Jvm.MethodName)) ∈ lw_all := lw_g (lw_at lw_m1 223 rfl) rfl
theorem q669 : (Jvm.Cond.instanceMethod ({ cls := "java/lang/RuntimeException", name := "<init>", desc := "(Ljava/lang/String;Ljava/lang/Throwable;ZZ)V" } : Jvm.MethodName)) ∈ lw_all := lw_g (lw_at lw_m1 224 rfl) rfl
theorem q670 : (Jvm.Cond.code ({ cls := "java/lang/RuntimeException", name := "<init>", desc := "(Ljava/lang/String;Ljava/lang/Throwable;ZZ)V" } : Jvm.MethodName) prog_57_method_5_code (5 : Nat) (Option.none : Option Jvm.ClassFile.FieldType)) ∈ lw_all := lw_g (lw_at lw_m1 225 rfl) rfl
theorem q671 : (Jvm.Cond.methodLink "java/lang/RuntimeException" (16 : Nat) ({ cls := "java/lang/Exception", name := "<init>", desc := "(Ljava/lang/String;Ljava/lang/Throwable;ZZ)V" } : Jvm.MethodName)) ∈ lw_all := lw_g (lw_at lw_m1 226 rfl) rfl
theorem q672 : (Jvm.Cond.instanceMethod ({ cls := "java/lang/Exception", name := "<init>", desc := "(Ljava/lang/String;Ljava/lang/Throwable;ZZ)V" } : Jvm.MethodName)) ∈ lw_all := lw_g (lw_at lw_m1 227 rfl) rfl
theorem q673 : (Jvm.Cond.code ({ cls := "java/lang/Exception", name := "<init>", desc := "(Ljava/lang/String;Ljava/lang/Throwable;ZZ)V" } : Jvm.MethodName) prog_49_method_5_code (5 : Nat) (Option.none : Option Jvm.ClassFile.FieldType)) ∈ lw_all := lw_g (lw_at lw_m1 228 rfl) rfl
theorem q674 : (Jvm.Cond.methodLink "java/lang/Exception" (16 : Nat) ({ cls := "java/lang/Throwable", name := "<init>", desc := "(Ljava/lang/String;Ljava/lang/Throwable;ZZ)V" } : Jvm.MethodName)) ∈ lw_all := lw_g (lw_at lw_m1 229 rfl) rfl
theorem q675 : (Jvm.Cond.instanceMethod ({ cls := "java/lang/Throwable", name := "<init>", desc := "(Ljava/lang/String;Ljava/lang/Throwable;ZZ)V" } : Jvm.MethodName)) ∈ lw_all := lw_g (lw_at lw_m1 230 rfl) rfl
theorem q676 : (Jvm.Cond.code ({ cls := "java/lang/Throwable", name := "<init>", desc := "(Ljava/lang/String;Ljava/lang/Throwable;ZZ)V" } : Jvm.MethodName) prog_62_method_5_code (5 : Nat) (Option.none : Option Jvm.ClassFile.FieldType)) ∈ lw_all := lw_g (lw_at lw_m1 231 rfl) rfl
theorem q677 : (Jvm.Cond.fieldLink "java/lang/Throwable" (198 : Nat) "java/lang/Throwable" "backtrace" "Ljava/lang/Object;") ∈ lw_all := lw_g (lw_at lw_m1 232 rfl) rfl
theorem q678 : (Jvm.Cond.fieldLink "java/lang/Throwable" (31 : Nat) "java/lang/Throwable" "detailMessage" "Ljava/lang/String;") ∈ lw_all := lw_g (lw_at lw_m1 233 rfl) rfl
theorem q679 : (Jvm.Cond.fieldLink "java/lang/Throwable" (7 : Nat) "java/lang/Throwable" "cause" "Ljava/lang/Throwable;") ∈ lw_all := lw_g (lw_at lw_m1 234 rfl) rfl
theorem q680 : (Jvm.Cond.fieldLink "java/lang/Throwable" (17 : Nat) "java/lang/Throwable" "stackTrace" "[Ljava/lang/StackTraceElement;") ∈ lw_all := lw_g (lw_at lw_m1 235 rfl) rfl
theorem q681 : (Jvm.Cond.fieldLink "java/lang/Throwable" (24 : Nat) "java/lang/Throwable" "suppressedExceptions" "Ljava/util/List;") ∈ lw_all := lw_g (lw_at lw_m1 236 rfl) rfl
theorem q682 : (Jvm.Cond.soleField "java/lang/Throwable" "backtrace") ∈ lw_all := lw_g (lw_at lw_m1 237 rfl) rfl
theorem q683 : (Jvm.Cond.soleField "java/lang/Throwable" "detailMessage") ∈ lw_all := lw_g (lw_at lw_m1 238 rfl) rfl
theorem q684 : (Jvm.Cond.soleField "java/lang/Throwable" "cause") ∈ lw_all := lw_g (lw_at lw_m1 239 rfl) rfl
theorem q685 : (Jvm.Cond.soleField "java/lang/Throwable" "stackTrace") ∈ lw_all := lw_g (lw_at lw_m2 0 rfl) rfl
theorem q686 : (Jvm.Cond.lays "ScriptTypes$NoRoom" "java/lang/Throwable" "depth" "I") ∈ lw_all := lw_g (lw_at lw_m2 1 rfl) rfl
theorem q687 : (Jvm.Cond.soleField "java/lang/Throwable" "depth") ∈ lw_all := lw_g (lw_at lw_m2 2 rfl) rfl
theorem q688 : (Jvm.Cond.soleField "java/lang/Throwable" "suppressedExceptions") ∈ lw_all := lw_g (lw_at lw_m2 3 rfl) rfl
theorem q689 : (Jvm.Cond.superclass "ScriptTypes$NoRoom" "java/lang/RuntimeException") ∈ lw_all := lw_g (lw_at lw_m2 4 rfl) rfl
theorem q690 : (Jvm.Cond.classLink "ScriptTypes" (141 : Nat) "ScriptTypes$Thrown") ∈ lw_all := lw_g (lw_at lw_m2 5 rfl) rfl
theorem q691 : (Jvm.Cond.instantiable "ScriptTypes$Thrown" (6 : Nat)) ∈ lw_all := lw_g (lw_at lw_m2 6 rfl) rfl
theorem q692 : (Jvm.Cond.castable "ScriptTypes$Thrown" "ScriptTypes$Thrown") ∈ lw_tbl := lw_at lw_m2 7 rfl
theorem q693 : (Jvm.Cond.selects "ScriptTypes$Thrown" ({ cls := "java/lang/Throwable", name := "fillInStackTrace", desc := "(I)Ljava/lang/Throwable;" } : Jvm.MethodName) ({ cls := "java/lang/Throwable", name := "fillInStackTrace", desc := "(I)Ljava/lang/Throwable;" } : Jvm.MethodName)) ∈ lw_all := lw_g (lw_at lw_m2 8 rfl) rfl
theorem q694 : (Jvm.Cond.lays "ScriptTypes$Thrown" "java/lang/Throwable" "cause" "Ljava/lang/Throwable;") ∈ lw_all := lw_g (lw_at lw_m2 9 rfl) rfl
theorem q695 : (Jvm.Cond.lays "ScriptTypes$Thrown" "java/lang/Throwable" "stackTrace" "[Ljava/lang/StackTraceElement;") ∈ lw_all := lw_g (lw_at lw_m2 10 rfl) rfl
theorem q696 : (Jvm.Cond.lays "ScriptTypes$Thrown" "java/lang/Throwable" "suppressedExceptions" "Ljava/util/List;") ∈ lw_all := lw_g (lw_at lw_m2 11 rfl) rfl
theorem q697 : (Jvm.Cond.lays "ScriptTypes$Thrown" "java/lang/Throwable" "detailMessage" "Ljava/lang/String;") ∈ lw_all := lw_g (lw_at lw_m2 12 rfl) rfl
theorem q698 : (Jvm.Cond.lays "ScriptTypes$Thrown" "java/lang/Throwable" "backtrace" "Ljava/lang/Object;") ∈ lw_all := lw_g (lw_at lw_m2 13 rfl) rfl
theorem q699 : (Jvm.Cond.methodLink "ScriptTypes" (143 : Nat) ({ cls := "ScriptTypes$Thrown", name := "<init>", desc := "()V" } : Jvm.MethodName)) ∈ lw_all := lw_g (lw_at lw_m2 14 rfl) rfl
theorem q700 : (Jvm.Cond.instanceMethod ({ cls := "ScriptTypes$Thrown", name := "<init>", desc := "()V" } : Jvm.MethodName)) ∈ lw_all := lw_g (lw_at lw_m2 15 rfl) rfl
theorem q701 : (Jvm.Cond.code ({ cls := "ScriptTypes$Thrown", name := "<init>", desc := "()V" } : Jvm.MethodName) prog_39_method_1_code (1 : Nat) (Option.none : Option Jvm.ClassFile.FieldType)) ∈ lw_all := lw_g (lw_at lw_m2 16 rfl) rfl
theorem q702 : (Jvm.Cond.methodLink "ScriptTypes$Thrown" (1 : Nat) ({ cls := "java/lang/RuntimeException", name := "<init>", desc := "(Ljava/lang/String;Ljava/lang/Throwable;ZZ)V" } : Jvm.MethodName)) ∈ lw_all := lw_g (lw_at lw_m2 17 rfl) rfl
theorem q703 : (Jvm.Cond.lays "ScriptTypes$Thrown" "java/lang/Throwable" "depth" "I") ∈ lw_all := lw_g (lw_at lw_m2 18 rfl) rfl
theorem q704 : (Jvm.Cond.superclass "ScriptTypes$Thrown" "java/lang/RuntimeException") ∈ lw_all := lw_g (lw_at lw_m2 19 rfl) rfl
theorem q705 : (Jvm.Cond.classLink "ScriptTypes" (203 : Nat) "ScriptTypes$Bag") ∈ lw_all := lw_g (lw_at lw_m2 20 rfl) rfl
theorem q706 : (Jvm.Cond.instantiable "ScriptTypes$Bag" (3 : Nat)) ∈ lw_all := lw_g (lw_at lw_m2 21 rfl) rfl
theorem q707 : (Jvm.Cond.methodLinkNest "ScriptTypes" (205 : Nat) ({ cls := "ScriptTypes$Bag", name := "<init>", desc := "()V" } : Jvm.MethodName) "ScriptTypes") ∈ lw_tbl := lw_at lw_m2 22 rfl
theorem q708 : (Jvm.Cond.instanceMethod ({ cls := "ScriptTypes$Bag", name := "<init>", desc := "()V" } : Jvm.MethodName)) ∈ lw_all := lw_g (lw_at lw_m2 23 rfl) rfl
theorem q709 : (Jvm.Cond.code ({ cls := "ScriptTypes$Bag", name := "<init>", desc := "()V" } : Jvm.MethodName) prog_4_method_1_code (1 : Nat) (Option.none : Option Jvm.ClassFile.FieldType)) ∈ lw_all := lw_g (lw_at lw_m2 24 rfl) rfl
theorem q710 : (Jvm.Cond.methodLink "ScriptTypes$Bag" (3 : Nat) ({ cls := "java/lang/Object", name := "<init>", desc := "()V" } : Jvm.MethodName)) ∈ lw_all := lw_g (lw_at lw_m2 25 rfl) rfl
theorem q711 : (Jvm.Cond.fieldLink "ScriptTypes$Bag" (9 : Nat) "ScriptTypes$Bag" "low" "J") ∈ lw_all := lw_g (lw_at lw_m2 26 rfl) rfl
theorem q712 : (Jvm.Cond.fieldLink "ScriptTypes$Work" (60 : Nat) "ScriptTypes$Bag" "low" "J") ∈ lw_all := lw_g (lw_at lw_m2 27 rfl) rfl
theorem q713 : (Jvm.Cond.fieldLink "ScriptTypes" (916 : Nat) "ScriptTypes$Bag" "low" "J") ∈ lw_all := lw_g (lw_at lw_m2 28 rfl) rfl
theorem q714 : (Jvm.Cond.fieldLink "ScriptTypes$Bag" (15 : Nat) "ScriptTypes$Bag" "high" "J") ∈ lw_all := lw_g (lw_at lw_m2 29 rfl) rfl
theorem q715 : (Jvm.Cond.fieldLink "ScriptTypes$Work" (65 : Nat) "ScriptTypes$Bag" "high" "J") ∈ lw_all := lw_g (lw_at lw_m2 30 rfl) rfl
theorem q716 : (Jvm.Cond.fieldLink "ScriptTypes" (918 : Nat) "ScriptTypes$Bag" "high" "J") ∈ lw_all := lw_g (lw_at lw_m2 31 rfl) rfl
theorem q717 : (Jvm.Cond.fieldLink "ScriptTypes$Bag" (18 : Nat) "ScriptTypes$Bag" "rest" "J") ∈ lw_all := lw_g (lw_at lw_m2 32 rfl) rfl
theorem q718 : (Jvm.Cond.fieldLink "ScriptTypes$Work" (67 : Nat) "ScriptTypes$Bag" "rest" "J") ∈ lw_all := lw_g (lw_at lw_m2 33 rfl) rfl
theorem q719 : (Jvm.Cond.fieldLink "ScriptTypes" (920 : Nat) "ScriptTypes$Bag" "rest" "J") ∈ lw_all := lw_g (lw_at lw_m2 34 rfl) rfl
theorem q720 : (Jvm.Cond.lays "ScriptTypes$Bag" "ScriptTypes$Bag" "low" "J") ∈ lw_all := lw_g (lw_at lw_m2 35 rfl) rfl
theorem q721 : (Jvm.Cond.soleField "ScriptTypes$Bag" "low") ∈ lw_all := lw_g (lw_at lw_m2 36 rfl) rfl
theorem q722 : (Jvm.Cond.lays "ScriptTypes$Bag" "ScriptTypes$Bag" "high" "J") ∈ lw_all := lw_g (lw_at lw_m2 37 rfl) rfl
theorem q723 : (Jvm.Cond.soleField "ScriptTypes$Bag" "high") ∈ lw_all := lw_g (lw_at lw_m2 38 rfl) rfl
theorem q724 : (Jvm.Cond.lays "ScriptTypes$Bag" "ScriptTypes$Bag" "rest" "J") ∈ lw_all := lw_g (lw_at lw_m2 39 rfl) rfl
theorem q725 : (Jvm.Cond.soleField "ScriptTypes$Bag" "rest") ∈ lw_all := lw_g (lw_at lw_m2 40 rfl) rfl
theorem q726 : (Jvm.Cond.superclass "ScriptTypes$Bag" "java/lang/Object") ∈ lw_all := lw_g (lw_at lw_m2 41 rfl) rfl
theorem q727 : (Jvm.Cond.arrayClass Jvm.ClassFile.FieldType.boolean) ∈ lw_all := lw_g (lw_at lw_m2 42 rfl) rfl
theorem q728 : (Jvm.Cond.arrayOver (Jvm.ClassFile.FieldType.object "ScriptTypes$Bag")) ∈ lw_tbl := lw_at lw_m2 43 rfl
theorem q729 : (Jvm.Cond.classLink "ScriptTypes" (235 : Nat) "ScriptTypes$Kept") ∈ lw_all := lw_g (lw_at lw_m2 44 rfl) rfl
theorem q730 : (Jvm.Cond.instantiable "ScriptTypes$Kept" (6 : Nat)) ∈ lw_all := lw_g (lw_at lw_m2 45 rfl) rfl
theorem q731 : (Jvm.Cond.methodLink "ScriptTypes" (237 : Nat) ({ cls := "ScriptTypes$Kept", name := "<init>", desc := "(LScriptTypes;)V" } : Jvm.MethodName)) ∈ lw_all := lw_g (lw_at lw_m2 46 rfl) rfl
theorem q732 : (Jvm.Cond.instanceMethod ({ cls := "ScriptTypes$Kept", name := "<init>", desc := "(LScriptTypes;)V" } : Jvm.MethodName)) ∈ lw_all := lw_g (lw_at lw_m2 47 rfl) rfl
theorem q733 : (Jvm.Cond.code ({ cls := "ScriptTypes$Kept", name := "<init>", desc := "(LScriptTypes;)V" } : Jvm.MethodName) prog_20_method_1_code (2 : Nat) (Option.none : Option Jvm.ClassFile.FieldType)) ∈ lw_all := lw_g (lw_at lw_m2 48 rfl) rfl
theorem q734 : (Jvm.Cond.methodLink "ScriptTypes$Kept" (3 : Nat) ({ cls := "java/lang/Object", name := "<init>", desc := "()V" } : Jvm.MethodName)) ∈ lw_all := lw_g (lw_at lw_m2 49 rfl) rfl
theorem q735 : (Jvm.Cond.fieldLink "ScriptTypes$Kept" (21 : Nat) "ScriptTypes$Kept" "all" "LScriptTypes;") ∈ lw_all := lw_g (lw_at lw_m2 50 rfl) rfl
theorem q736 : (Jvm.Cond.fieldLink "ScriptTypes$Kept" (9 : Nat) "ScriptTypes$Kept" "low" "[J") ∈ lw_all := lw_g (lw_at lw_m2 51 rfl) rfl
theorem q737 : (Jvm.Cond.fieldLink "ScriptTypes$Kept" (15 : Nat) "ScriptTypes$Kept" "high" "[J") ∈ lw_all := lw_g (lw_at lw_m2 52 rfl) rfl
theorem q738 : (Jvm.Cond.fieldLink "ScriptTypes$Kept" (18 : Nat) "ScriptTypes$Kept" "rest" "[J") ∈ lw_all := lw_g (lw_at lw_m2 53 rfl) rfl
theorem q739 : (Jvm.Cond.fieldLinkNest "ScriptTypes" (1106 : Nat) "ScriptTypes$Kept" "rest" "[J" "ScriptTypes") ∈ lw_tbl := lw_at lw_m2 54 rfl
theorem q740 : (Jvm.Cond.fieldLink "ScriptTypes$Kept" (41 : Nat) "ScriptTypes$Kept" "protoLow" "J") ∈ lw_all := lw_g (lw_at lw_m2 55 rfl) rfl
theorem q741 : (Jvm.Cond.fieldLink "ScriptTypes$Kept" (48 : Nat) "ScriptTypes$Kept" "is" "Z") ∈ lw_all := lw_g (lw_at lw_m2 56 rfl) rfl
theorem q742 : (Jvm.Cond.laysFinal "ScriptTypes$Kept" "ScriptTypes$Kept" "all" "LScriptTypes;") ∈ lw_all := lw_g (lw_at lw_m2 57 rfl) rfl
theorem q743 : (Jvm.Cond.soleField "ScriptTypes$Kept" "all") ∈ lw_all := lw_g (lw_at lw_m2 58 rfl) rfl
theorem q744 : (Jvm.Cond.laysFinal "ScriptTypes$Kept" "ScriptTypes$Kept" "low" "[J") ∈ lw_all := lw_g (lw_at lw_m2 59 rfl) rfl
theorem q745 : (Jvm.Cond.soleField "ScriptTypes$Kept" "low") ∈ lw_all := lw_g (lw_at lw_m2 60 rfl) rfl
theorem q746 : (Jvm.Cond.laysFinal "ScriptTypes$Kept" "ScriptTypes$Kept" "high" "[J") ∈ lw_all := lw_g (lw_at lw_m2 61 rfl) rfl
theorem q747 : (Jvm.Cond.soleField "ScriptTypes$Kept" "high") ∈ lw_all := lw_g (lw_at lw_m2 62 rfl) rfl
theorem q748 : (Jvm.Cond.laysFinal "ScriptTypes$Kept" "ScriptTypes$Kept" "rest" "[J") ∈ lw_all := lw_g (lw_at lw_m2 63 rfl) rfl
theorem q749 : (Jvm.Cond.soleField "ScriptTypes$Kept" "rest") ∈ lw_all := lw_g (lw_at lw_m2 64 rfl) rfl
theorem q750 : (Jvm.Cond.lays "ScriptTypes$Kept" "ScriptTypes$Kept" "protoLow" "J") ∈ lw_all := lw_g (lw_at lw_m2 65 rfl) rfl
theorem q751 : (Jvm.Cond.soleField "ScriptTypes$Kept" "protoLow") ∈ lw_all := lw_g (lw_at lw_m2 66 rfl) rfl
theorem q752 : (Jvm.Cond.lays "ScriptTypes$Kept" "ScriptTypes$Kept" "is" "Z") ∈ lw_all := lw_g (lw_at lw_m2 67 rfl) rfl
theorem q753 : (Jvm.Cond.soleField "ScriptTypes$Kept" "is") ∈ lw_all := lw_g (lw_at lw_m2 68 rfl) rfl
theorem q754 : (Jvm.Cond.superclass "ScriptTypes$Kept" "java/lang/Object") ∈ lw_all := lw_g (lw_at lw_m2 69 rfl) rfl
theorem q755 : (Jvm.Cond.arrayClass Jvm.ClassFile.FieldType.long) ∈ lw_all := lw_g (lw_at lw_m2 70 rfl) rfl
theorem q756 : (Jvm.Cond.stringRef "ScriptTypes" (247 : Nat) "break case catch continue default delete do else false finally for function if in instanceof NaN new null return switch this throw true try typeof undefined var void while ") ∈ lw_tbl := lw_at lw_m2 71 rfl
theorem q757 : (Jvm.Cond.methodLink "ScriptTypes" (249 : Nat) ({ cls := "ScriptTypes", name := "fill", desc := "(LScriptTypes$Texts;Ljava/lang/String;)V" } : Jvm.MethodName)) ∈ lw_all := lw_g (lw_at lw_m2 72 rfl) rfl
theorem q758 : (Jvm.Cond.privateMethod ({ cls := "ScriptTypes", name := "fill", desc := "(LScriptTypes$Texts;Ljava/lang/String;)V" } : Jvm.MethodName)) ∈ lw_tbl := lw_at lw_m2 73 rfl
theorem q759 : (Jvm.Cond.instanceMethod ({ cls := "ScriptTypes", name := "fill", desc := "(LScriptTypes$Texts;Ljava/lang/String;)V" } : Jvm.MethodName)) ∈ lw_all := lw_g (lw_at lw_m2 74 rfl) rfl
theorem q760 : (Jvm.Cond.code ({ cls := "ScriptTypes", name := "fill", desc := "(LScriptTypes$Texts;Ljava/lang/String;)V" } : Jvm.MethodName) prog_1_method_14_code (4 : Nat) (Option.none : Option Jvm.ClassFile.FieldType)) ∈ lw_all := lw_g (lw_at lw_m2 75 rfl) rfl
theorem q761 : (Jvm.Cond.methodLink "ScriptTypes" (37 : Nat) ({ cls := "ScriptTypes", name := "clearRow", desc := "()V" } : Jvm.MethodName)) ∈ lw_all := lw_g (lw_at lw_m2 76 rfl) rfl
theorem q762 : (Jvm.Cond.privateMethod ({ cls := "ScriptTypes", name := "clearRow", desc := "()V" } : Jvm.MethodName)) ∈ lw_tbl := lw_at lw_m2 77 rfl
theorem q763 : (Jvm.Cond.instanceMethod ({ cls := "ScriptTypes", name := "clearRow", desc := "()V" } : Jvm.MethodName)) ∈ lw_all := lw_g (lw_at lw_m2 78 rfl) rfl
theorem q764 : (Jvm.Cond.code ({ cls := "ScriptTypes", name := "clearRow", desc := "()V" } : Jvm.MethodName) prog_1_method_1_code (1 : Nat) (Option.none : Option Jvm.ClassFile.FieldType)) ∈ lw_all := lw_g (lw_at lw_m2 79 rfl) rfl
theorem q765 : (Jvm.Cond.methodLink "ScriptTypes" (46 : Nat) ({ cls := "java/lang/String", name := "length", desc := "()I" } : Jvm.MethodName)) ∈ lw_all := lw_g (lw_at lw_m2 80 rfl) rfl
theorem q766 : (Jvm.Cond.instanceMethod ({ cls := "java/lang/String", name := "length", desc := "()I" } : Jvm.MethodName)) ∈ lw_all := lw_g (lw_at lw_m2 81 rfl) rfl
theorem q767 : (Jvm.Cond.selects "java/lang/String" ({ cls := "java/lang/String", name := "length", desc := "()I" } : Jvm.MethodName) ({ cls := "java/lang/String", name := "length", desc := "()I" } : Jvm.MethodName)) ∈ lw_all := lw_g (lw_at lw_m2 82 rfl) rfl
theorem q768 : (Jvm.Cond.code ({ cls := "java/lang/String", name := "length", desc := "()I" } : Jvm.MethodName) prog_58_method_54_code (1 : Nat) (Option.some Jvm.ClassFile.FieldType.int)) ∈ lw_all := lw_g (lw_at lw_m2 83 rfl) rfl
theorem q769 : (Jvm.Cond.methodLink "java/lang/String" (335 : Nat) ({ cls := "java/lang/String", name := "coder", desc := "()B" } : Jvm.MethodName)) ∈ lw_all := lw_g (lw_at lw_m2 84 rfl) rfl
theorem q770 : (Jvm.Cond.instanceMethod ({ cls := "java/lang/String", name := "coder", desc := "()B" } : Jvm.MethodName)) ∈ lw_all := lw_g (lw_at lw_m2 85 rfl) rfl
theorem q771 : (Jvm.Cond.selects "java/lang/String" ({ cls := "java/lang/String", name := "coder", desc := "()B" } : Jvm.MethodName) ({ cls := "java/lang/String", name := "coder", desc := "()B" } : Jvm.MethodName)) ∈ lw_all := lw_g (lw_at lw_m2 86 rfl) rfl
theorem q772 : (Jvm.Cond.code ({ cls := "java/lang/String", name := "coder", desc := "()B" } : Jvm.MethodName) prog_58_method_152_code (1 : Nat) (Option.some Jvm.ClassFile.FieldType.byte)) ∈ lw_all := lw_g (lw_at lw_m2 87 rfl) rfl
theorem q773 : (Jvm.Cond.fieldLink "java/lang/String" (38 : Nat) "java/lang/String" "COMPACT_STRINGS" "Z") ∈ lw_all := lw_g (lw_at lw_m2 88 rfl) rfl
theorem q774 : (Jvm.Cond.laysStatic "java/lang/String" "COMPACT_STRINGS" "Z") ∈ lw_tbl := lw_at lw_m2 89 rfl
theorem q775 : (Jvm.Cond.methodLink "ScriptTypes" (51 : Nat) ({ cls := "java/lang/String", name := "charAt", desc := "(I)C" } : Jvm.MethodName)) ∈ lw_all := lw_g (lw_at lw_m2 90 rfl) rfl
theorem q776 : (Jvm.Cond.instanceMethod ({ cls := "java/lang/String", name := "charAt", desc := "(I)C" } : Jvm.MethodName)) ∈ lw_all := lw_g (lw_at lw_m2 91 rfl) rfl
theorem q777 : (Jvm.Cond.selects "java/lang/String" ({ cls := "java/lang/String", name := "charAt", desc := "(I)C" } : Jvm.MethodName) ({ cls := "java/lang/String", name := "charAt", desc := "(I)C" } : Jvm.MethodName)) ∈ lw_all := lw_g (lw_at lw_m2 92 rfl) rfl
theorem q778 : (Jvm.Cond.code ({ cls := "java/lang/String", name := "charAt", desc := "(I)C" } : Jvm.MethodName) prog_58_method_56_code (2 : Nat) (Option.some Jvm.ClassFile.FieldType.char)) ∈ lw_all := lw_g (lw_at lw_m2 93 rfl) rfl
theorem q779 : (Jvm.Cond.methodLink "java/lang/String" (492 : Nat) ({ cls := "java/lang/String", name := "isLatin1", desc := "()Z" } : Jvm.MethodName)) ∈ lw_all := lw_g (lw_at lw_m2 94 rfl) rfl
theorem q780 : (Jvm.Cond.instanceMethod ({ cls := "java/lang/String", name := "isLatin1", desc := "()Z" } : Jvm.MethodName)) ∈ lw_all := lw_g (lw_at lw_m2 95 rfl) rfl
theorem q781 : (Jvm.Cond.selects "java/lang/String" ({ cls := "java/lang/String", name := "isLatin1", desc := "()Z" } : Jvm.MethodName) ({ cls := "java/lang/String", name := "isLatin1", desc := "()Z" } : Jvm.MethodName)) ∈ lw_all := lw_g (lw_at lw_m2 96 rfl) rfl
theorem q782 : (Jvm.Cond.code ({ cls := "java/lang/String", name := "isLatin1", desc := "()Z" } : Jvm.MethodName) prog_58_method_154_code (1 : Nat) (Option.some Jvm.ClassFile.FieldType.boolean)) ∈ lw_all := lw_g (lw_at lw_m2 97 rfl) rfl
theorem q783 : (Jvm.Cond.methodLink "java/lang/String" (495 : Nat) ({ cls := "java/lang/StringLatin1", name := "charAt", desc := "([BI)C" } : Jvm.MethodName)) ∈ lw_all := lw_g (lw_at lw_m2 98 rfl) rfl
theorem q784 : (Jvm.Cond.static ({ cls := "java/lang/StringLatin1", name := "charAt", desc := "([BI)C" } : Jvm.MethodName)) ∈ lw_all := lw_g (lw_at lw_m2 99 rfl) rfl
theorem q785 : (Jvm.Cond.code ({ cls := "java/lang/StringLatin1", name := "charAt", desc := "([BI)C" } : Jvm.MethodName) prog_59_method_2_code (2 : Nat) (Option.some Jvm.ClassFile.FieldType.char)) ∈ lw_all := lw_g (lw_at lw_m2 100 rfl) rfl
theorem q786 : (Jvm.Cond.methodLink "java/lang/StringLatin1" (9 : Nat) ({ cls := "java/lang/String", name := "checkIndex", desc := "(II)V" } : Jvm.MethodName)) ∈ lw_all := lw_g (lw_at lw_m2 101 rfl) rfl
theorem q787 : (Jvm.Cond.static ({ cls := "java/lang/String", name := "checkIndex", desc := "(II)V" } : Jvm.MethodName)) ∈ lw_all := lw_g (lw_at lw_m2 102 rfl) rfl
theorem q788 : (Jvm.Cond.code ({ cls := "java/lang/String", name := "checkIndex", desc := "(II)V" } : Jvm.MethodName) prog_58_method_155_code (2 : Nat) (Option.none : Option Jvm.ClassFile.FieldType)) ∈ lw_all := lw_g (lw_at lw_m2 103 rfl) rfl
theorem q789 : (Jvm.Cond.fieldLink "java/lang/String" (1053 : Nat) "jdk/internal/util/Preconditions" "SIOOBE_FORMATTER" "Ljava/util/function/BiFunction;") ∈ lw_all := lw_g (lw_at lw_m2 104 rfl) rfl
theorem q790 : (Jvm.Cond.laysStatic "jdk/internal/util/Preconditions" "SIOOBE_FORMATTER" "Ljava/util/function/BiFunction;") ∈ lw_tbl := lw_at lw_m2 105 rfl
theorem q791 : (Jvm.Cond.methodLink "java/lang/String" (1059 : Nat) ({ cls := "jdk/internal/util/Preconditions", name := "checkIndex", desc := "(IILjava/util/function/BiFunction;)I" } : Jvm.MethodName)) ∈ lw_all := lw_g (lw_at lw_m2 106 rfl) rfl
theorem q792 : (Jvm.Cond.static ({ cls := "jdk/internal/util/Preconditions", name := "checkIndex", desc := "(IILjava/util/function/BiFunction;)I" } : Jvm.MethodName)) ∈ lw_all := lw_g (lw_at lw_m2 107 rfl) rfl
theorem q793 : (Jvm.Cond.code ({ cls := "jdk/internal/util/Preconditions", name := "checkIndex", desc := "(IILjava/util/function/BiFunction;)I" } : Jvm.MethodName) prog_75_method_11_code (3 : Nat) (Option.some Jvm.ClassFile.FieldType.int)) ∈ lw_all := lw_g (lw_at lw_m2 108 rfl) rfl
theorem q794 : (Jvm.Cond.methodLink "java/lang/String" (498 : Nat) ({ cls := "java/lang/StringUTF16", name := "charAt", desc := "([BI)C" } : Jvm.MethodName)) ∈ lw_all := lw_g (lw_at lw_m2 109 rfl) rfl
theorem q795 : (Jvm.Cond.static ({ cls := "java/lang/StringUTF16", name := "charAt", desc := "([BI)C" } : Jvm.MethodName)) ∈ lw_all := lw_g (lw_at lw_m2 110 rfl) rfl
theorem q796 : (Jvm.Cond.code ({ cls := "java/lang/StringUTF16", name := "charAt", desc := "([BI)C" } : Jvm.MethodName) prog_60_method_83_code (2 : Nat) (Option.some Jvm.ClassFile.FieldType.char)) ∈ lw_all := lw_g (lw_at lw_m2 111 rfl) rfl
theorem q797 : (Jvm.Cond.methodLink "java/lang/StringUTF16" (67 : Nat) ({ cls := "java/lang/StringUTF16", name := "checkIndex", desc := "(I[B)V" } : Jvm.MethodName)) ∈ lw_all := lw_g (lw_at lw_m2 112 rfl) rfl
theorem q798 : (Jvm.Cond.static ({ cls := "java/lang/StringUTF16", name := "checkIndex", desc := "(I[B)V" } : Jvm.MethodName)) ∈ lw_all := lw_g (lw_at lw_m2 113 rfl) rfl
theorem q799 : (Jvm.Cond.code ({ cls := "java/lang/StringUTF16", name := "checkIndex", desc := "(I[B)V" } : Jvm.MethodName) prog_60_method_91_code (2 : Nat) (Option.none : Option Jvm.ClassFile.FieldType)) ∈ lw_all := lw_g (lw_at lw_m2 114 rfl) rfl
theorem q800 : (Jvm.Cond.methodLink "java/lang/StringUTF16" (48 : Nat) ({ cls := "java/lang/StringUTF16", name := "length", desc := "([B)I" } : Jvm.MethodName)) ∈ lw_all := lw_g (lw_at lw_m2 115 rfl) rfl
theorem q801 : (Jvm.Cond.static ({ cls := "java/lang/StringUTF16", name := "length", desc := "([B)I" } : Jvm.MethodName)) ∈ lw_all := lw_g (lw_at lw_m2 116 rfl) rfl
theorem q802 : (Jvm.Cond.code ({ cls := "java/lang/StringUTF16", name := "length", desc := "([B)I" } : Jvm.MethodName) prog_60_method_6_code (1 : Nat) (Option.some Jvm.ClassFile.FieldType.int)) ∈ lw_all := lw_g (lw_at lw_m2 117 rfl) rfl
theorem q803 : (Jvm.Cond.methodLink "java/lang/StringUTF16" (414 : Nat) ({ cls := "java/lang/String", name := "checkIndex", desc := "(II)V" } : Jvm.MethodName)) ∈ lw_all := lw_g (lw_at lw_m2 118 rfl) rfl
theorem q804 : (Jvm.Cond.methodLink "java/lang/StringUTF16" (71 : Nat) ({ cls := "java/lang/StringUTF16", name := "getChar", desc := "([BI)C" } : Jvm.MethodName)) ∈ lw_all := lw_g (lw_at lw_m2 119 rfl) rfl
theorem q805 : (Jvm.Cond.static ({ cls := "java/lang/StringUTF16", name := "getChar", desc := "([BI)C" } : Jvm.MethodName)) ∈ lw_all := lw_g (lw_at lw_m2 120 rfl) rfl
theorem q806 : (Jvm.Cond.code ({ cls := "java/lang/StringUTF16", name := "getChar", desc := "([BI)C" } : Jvm.MethodName) prog_60_method_5_code (2 : Nat) (Option.some Jvm.ClassFile.FieldType.char)) ∈ lw_all := lw_g (lw_at lw_m2 121 rfl) rfl
theorem q807 : (Jvm.Cond.fieldLink "java/lang/StringUTF16" (44 : Nat) "java/lang/StringUTF16" "$assertionsDisabled" "Z") ∈ lw_all := lw_g (lw_at lw_m2 122 rfl) rfl
theorem q808 : (Jvm.Cond.laysStatic "java/lang/StringUTF16" "$assertionsDisabled" "Z") ∈ lw_tbl := lw_at lw_m2 123 rfl
theorem q809 : (Jvm.Cond.fieldLink "java/lang/StringUTF16" (59 : Nat) "java/lang/StringUTF16" "HI_BYTE_SHIFT" "I") ∈ lw_all := lw_g (lw_at lw_m2 124 rfl) rfl
theorem q810 : (Jvm.Cond.laysStatic "java/lang/StringUTF16" "HI_BYTE_SHIFT" "I") ∈ lw_tbl := lw_at lw_m2 125 rfl
theorem q811 : (Jvm.Cond.fieldLink "java/lang/StringUTF16" (63 : Nat) "java/lang/StringUTF16" "LO_BYTE_SHIFT" "I") ∈ lw_all := lw_g (lw_at lw_m2 126 rfl) rfl
theorem q812 : (Jvm.Cond.laysStatic "java/lang/StringUTF16" "LO_BYTE_SHIFT" "I") ∈ lw_tbl := lw_at lw_m2 127 rfl
theorem q813 : (Jvm.Cond.methodLink "ScriptTypes" (33 : Nat) ({ cls := "ScriptTypes$Texts", name := "add", desc := "([BI)I" } : Jvm.MethodName)) ∈ lw_all := lw_g (lw_at lw_m2 128 rfl) rfl
theorem q814 : (Jvm.Cond.instanceMethod ({ cls := "ScriptTypes$Texts", name := "add", desc := "([BI)I" } : Jvm.MethodName)) ∈ lw_all := lw_g (lw_at lw_m2 129 rfl) rfl
theorem q815 : (Jvm.Cond.selects "ScriptTypes$Texts" ({ cls := "ScriptTypes$Texts", name := "add", desc := "([BI)I" } : Jvm.MethodName) ({ cls := "ScriptTypes$Texts", name := "add", desc := "([BI)I" } : Jvm.MethodName)) ∈ lw_all := lw_g (lw_at lw_m2 130 rfl) rfl
theorem q816 : (Jvm.Cond.code ({ cls := "ScriptTypes$Texts", name := "add", desc := "([BI)I" } : Jvm.MethodName) prog_36_method_5_code (4 : Nat) (Option.some Jvm.ClassFile.FieldType.int)) ∈ lw_all := lw_g (lw_at lw_m2 131 rfl) rfl
theorem q817 : (Jvm.Cond.methodLink "ScriptTypes" (11 : Nat) ({ cls := "ScriptTypes", name := "write", desc := "(I)V" } : Jvm.MethodName)) ∈ lw_all := lw_g (lw_at lw_m2 132 rfl) rfl
theorem q818 : (Jvm.Cond.privateMethod ({ cls := "ScriptTypes", name := "write", desc := "(I)V" } : Jvm.MethodName)) ∈ lw_tbl := lw_at lw_m2 133 rfl
theorem q819 : (Jvm.Cond.instanceMethod ({ cls := "ScriptTypes", name := "write", desc := "(I)V" } : Jvm.MethodName)) ∈ lw_all := lw_g (lw_at lw_m2 134 rfl) rfl
theorem q820 : (Jvm.Cond.code ({ cls := "ScriptTypes", name := "write", desc := "(I)V" } : Jvm.MethodName) prog_1_method_2_code (2 : Nat) (Option.none : Option Jvm.ClassFile.FieldType)) ∈ lw_all := lw_g (lw_at lw_m2 135 rfl) rfl
theorem q821 : (Jvm.Cond.stringRef "ScriptTypes" (253 : Nat) "{ } ( ) [ ] . ; , < > <= >= == != === !== + - * % / ++ -- << >> >>> & | ^ ! ~ && || ? : = += -= *= /= %= <<= >>= >>>= &= |= ^= ") ∈ lw_tbl := lw_at lw_m2 136 rfl
theorem q822 : (Jvm.Cond.methodLink "ScriptTypes" (255 : Nat) ({ cls := "ScriptTypes", name := "firstNames", desc := "()V" } : Jvm.MethodName)) ∈ lw_all := lw_g (lw_at lw_m2 137 rfl) rfl
theorem q823 : (Jvm.Cond.privateMethod ({ cls := "ScriptTypes", name := "firstNames", desc := "()V" } : Jvm.MethodName)) ∈ lw_tbl := lw_at lw_m2 138 rfl
theorem q824 : (Jvm.Cond.instanceMethod ({ cls := "ScriptTypes", name := "firstNames", desc := "()V" } : Jvm.MethodName)) ∈ lw_all := lw_g (lw_at lw_m2 139 rfl) rfl
theorem q825 : (Jvm.Cond.code ({ cls := "ScriptTypes", name := "firstNames", desc := "()V" } : Jvm.MethodName) prog_1_method_6_code (3 : Nat) (Option.none : Option Jvm.ClassFile.FieldType)) ∈ lw_all := lw_g (lw_at lw_m2 140 rfl) rfl
theorem q826 : (Jvm.Cond.stringRef "ScriptTypes" (44 : Nat) "length prototype constructor message name print Object Array String isNaN Error TypeError ReferenceError RangeError push pop call hasOwnProperty charAt undefined object boolean number string function null true false NaN [object] ") ∈ lw_tbl := lw_at lw_m2 141 rfl
theorem q827 : (Jvm.Cond.methodLink "ScriptTypes" (55 : Nat) ({ cls := "ScriptTypes", name := "begins", desc := "()V" } : Jvm.MethodName)) ∈ lw_all := lw_g (lw_at lw_m2 142 rfl) rfl
theorem q828 : (Jvm.Cond.privateMethod ({ cls := "ScriptTypes", name := "begins", desc := "()V" } : Jvm.MethodName)) ∈ lw_tbl := lw_at lw_m2 143 rfl
theorem q829 : (Jvm.Cond.instanceMethod ({ cls := "ScriptTypes", name := "begins", desc := "()V" } : Jvm.MethodName)) ∈ lw_all := lw_g (lw_at lw_m2 144 rfl) rfl
theorem q830 : (Jvm.Cond.code ({ cls := "ScriptTypes", name := "begins", desc := "()V" } : Jvm.MethodName) prog_1_method_5_code (1 : Nat) (Option.none : Option Jvm.ClassFile.FieldType)) ∈ lw_all := lw_g (lw_at lw_m2 145 rfl) rfl
theorem q831 : (Jvm.Cond.fieldLink "ScriptTypes" (19 : Nat) "ScriptTypes" "texts" "LScriptTypes$Texts;") ∈ lw_all := lw_g (lw_at lw_m2 146 rfl) rfl
theorem q832 : (Jvm.Cond.fieldLinkNest "ScriptTypes$Tokens" (124 : Nat) "ScriptTypes" "texts" "LScriptTypes$Texts;" "ScriptTypes") ∈ lw_tbl := lw_at lw_m2 147 rfl
theorem q833 : (Jvm.Cond.fieldLinkNest "ScriptTypes$Work" (53 : Nat) "ScriptTypes" "names" "I" "ScriptTypes") ∈ lw_tbl := lw_at lw_m2 148 rfl
theorem q834 : (Jvm.Cond.fieldLinkNest "ScriptTypes$Kept" (31 : Nat) "ScriptTypes" "names" "I" "ScriptTypes") ∈ lw_tbl := lw_at lw_m2 149 rfl
theorem q835 : (Jvm.Cond.fieldLinkNest "ScriptTypes$Table" (94 : Nat) "ScriptTypes" "names" "I" "ScriptTypes") ∈ lw_tbl := lw_at lw_m2 150 rfl
theorem q836 : (Jvm.Cond.fieldLink "ScriptTypes" (58 : Nat) "ScriptTypes" "names" "I") ∈ lw_all := lw_g (lw_at lw_m2 151 rfl) rfl
theorem q837 : (Jvm.Cond.fieldLink "ScriptTypes" (7 : Nat) "ScriptTypes" "row" "[B") ∈ lw_all := lw_g (lw_at lw_m2 152 rfl) rfl
theorem q838 : (Jvm.Cond.fieldLinkNest "ScriptTypes$Tokens" (89 : Nat) "ScriptTypes" "row" "[B" "ScriptTypes") ∈ lw_tbl := lw_at lw_m2 153 rfl
theorem q839 : (Jvm.Cond.fieldLink "ScriptTypes" (1 : Nat) "ScriptTypes" "made" "I") ∈ lw_all := lw_g (lw_at lw_m2 154 rfl) rfl
theorem q840 : (Jvm.Cond.fieldLinkNest "ScriptTypes$Tokens" (92 : Nat) "ScriptTypes" "made" "I" "ScriptTypes") ∈ lw_tbl := lw_at lw_m2 155 rfl
theorem q841 : (Jvm.Cond.fieldLinkNest "ScriptTypes$Tokens" (30 : Nat) "ScriptTypes" "tape" "[B" "ScriptTypes") ∈ lw_tbl := lw_at lw_m2 156 rfl
theorem q842 : (Jvm.Cond.fieldLink "ScriptTypes" (70 : Nat) "ScriptTypes" "tape" "[B") ∈ lw_all := lw_g (lw_at lw_m2 157 rfl) rfl
theorem q843 : (Jvm.Cond.fieldLinkNest "ScriptTypes$Tokens" (27 : Nat) "ScriptTypes" "length" "I" "ScriptTypes") ∈ lw_tbl := lw_at lw_m2 158 rfl
theorem q844 : (Jvm.Cond.fieldLink "ScriptTypes" (258 : Nat) "ScriptTypes" "length" "I") ∈ lw_all := lw_g (lw_at lw_m2 159 rfl) rfl
theorem q845 : (Jvm.Cond.fieldLink "ScriptTypes" (73 : Nat) "ScriptTypes" "keywords" "LScriptTypes$Texts;") ∈ lw_all := lw_g (lw_at lw_m2 160 rfl) rfl
theorem q846 : (Jvm.Cond.fieldLinkNest "ScriptTypes$Tokens" (85 : Nat) "ScriptTypes" "keywords" "LScriptTypes$Texts;" "ScriptTypes") ∈ lw_tbl := lw_at lw_m2 161 rfl
theorem q847 : (Jvm.Cond.fieldLink "ScriptTypes" (76 : Nat) "ScriptTypes" "signs" "LScriptTypes$Texts;") ∈ lw_all := lw_g (lw_at lw_m2 162 rfl) rfl
theorem q848 : (Jvm.Cond.fieldLinkNest "ScriptTypes$Tokens" (119 : Nat) "ScriptTypes" "signs" "LScriptTypes$Texts;" "ScriptTypes") ∈ lw_tbl := lw_at lw_m2 163 rfl
theorem q849 : (Jvm.Cond.fieldLink "ScriptTypes" (82 : Nat) "ScriptTypes" "functions" "Ljava/util/ArrayList;") ∈ lw_all := lw_g (lw_at lw_m2 164 rfl) rfl
theorem q850 : (Jvm.Cond.fieldLink "ScriptTypes" (89 : Nat) "ScriptTypes" "code" "LScriptTypes$Coder;") ∈ lw_all := lw_g (lw_at lw_m2 165 rfl) rfl
theorem q851 : (Jvm.Cond.fieldLink "ScriptTypes" (270 : Nat) "ScriptTypes" "there" "Z") ∈ lw_all := lw_g (lw_at lw_m2 166 rfl) rfl
theorem q852 : (Jvm.Cond.fieldLinkNest "ScriptTypes$Table" (91 : Nat) "ScriptTypes" "labels" "I" "ScriptTypes") ∈ lw_tbl := lw_at lw_m2 167 rfl
theorem q853 : (Jvm.Cond.fieldLinkNest "ScriptTypes$Work" (103 : Nat) "ScriptTypes" "labels" "I" "ScriptTypes") ∈ lw_tbl := lw_at lw_m2 168 rfl
theorem q854 : (Jvm.Cond.fieldLink "ScriptTypes" (313 : Nat) "ScriptTypes" "labels" "I") ∈ lw_all := lw_g (lw_at lw_m2 169 rfl) rfl
theorem q855 : (Jvm.Cond.fieldLink "ScriptTypes" (307 : Nat) "ScriptTypes" "sites" "I") ∈ lw_all := lw_g (lw_at lw_m2 170 rfl) rfl
theorem q856 : (Jvm.Cond.fieldLink "ScriptTypes" (93 : Nat) "ScriptTypes" "sortOf" "[B") ∈ lw_all := lw_g (lw_at lw_m2 171 rfl) rfl
theorem q857 : (Jvm.Cond.fieldLink "ScriptTypes" (96 : Nat) "ScriptTypes" "codeOf" "[B") ∈ lw_all := lw_g (lw_at lw_m2 172 rfl) rfl
theorem q858 : (Jvm.Cond.fieldLink "ScriptTypes" (99 : Nat) "ScriptTypes" "pairOf" "[S") ∈ lw_all := lw_g (lw_at lw_m2 173 rfl) rfl
theorem q859 : (Jvm.Cond.fieldLink "ScriptTypes" (103 : Nat) "ScriptTypes" "protoOf" "[S") ∈ lw_all := lw_g (lw_at lw_m2 174 rfl) rfl
theorem q860 : (Jvm.Cond.fieldLink "ScriptTypes" (106 : Nat) "ScriptTypes" "linkOf" "[S") ∈ lw_all := lw_g (lw_at lw_m2 175 rfl) rfl
theorem q861 : (Jvm.Cond.fieldLink "ScriptTypes" (109 : Nat) "ScriptTypes" "firstOf" "[S") ∈ lw_all := lw_g (lw_at lw_m2 176 rfl) rfl
theorem q862 : (Jvm.Cond.fieldLink "ScriptTypes" (112 : Nat) "ScriptTypes" "lastOf" "[S") ∈ lw_all := lw_g (lw_at lw_m2 177 rfl) rfl
theorem q863 : (Jvm.Cond.fieldLink "ScriptTypes" (115 : Nat) "ScriptTypes" "latest" "[S") ∈ lw_all := lw_g (lw_at lw_m2 178 rfl) rfl
theorem q864 : (Jvm.Cond.fieldLink "ScriptTypes" (118 : Nat) "ScriptTypes" "propertyName" "[S") ∈ lw_all := lw_g (lw_at lw_m2 179 rfl) rfl
theorem q865 : (Jvm.Cond.fieldLink "ScriptTypes" (121 : Nat) "ScriptTypes" "propertyNext" "[S") ∈ lw_all := lw_g (lw_at lw_m2 180 rfl) rfl
theorem q866 : (Jvm.Cond.fieldLink "ScriptTypes" (124 : Nat) "ScriptTypes" "propertySort" "[B") ∈ lw_all := lw_g (lw_at lw_m2 181 rfl) rfl
theorem q867 : (Jvm.Cond.fieldLink "ScriptTypes" (127 : Nat) "ScriptTypes" "propertyValue" "[I") ∈ lw_all := lw_g (lw_at lw_m2 182 rfl) rfl
theorem q868 : (Jvm.Cond.fieldLink "ScriptTypes" (131 : Nat) "ScriptTypes" "stamp" "[I") ∈ lw_all := lw_g (lw_at lw_m2 183 rfl) rfl
theorem q869 : (Jvm.Cond.fieldLink "ScriptTypes" (322 : Nat) "ScriptTypes" "objects" "I") ∈ lw_all := lw_g (lw_at lw_m2 184 rfl) rfl
theorem q870 : (Jvm.Cond.fieldLink "ScriptTypes" (352 : Nat) "ScriptTypes" "properties" "I") ∈ lw_all := lw_g (lw_at lw_m2 185 rfl) rfl
theorem q871 : (Jvm.Cond.fieldLink "ScriptTypes" (349 : Nat) "ScriptTypes" "spare" "I") ∈ lw_all := lw_g (lw_at lw_m2 186 rfl) rfl
theorem q872 : (Jvm.Cond.fieldLink "ScriptTypes" (355 : Nat) "ScriptTypes" "stamps" "I") ∈ lw_all := lw_g (lw_at lw_m2 187 rfl) rfl
theorem q873 : (Jvm.Cond.fieldLink "ScriptTypes" (137 : Nat) "ScriptTypes" "noRoom" "LScriptTypes$NoRoom;") ∈ lw_all := lw_g (lw_at lw_m2 188 rfl) rfl
theorem q874 : (Jvm.Cond.fieldLink "ScriptTypes" (144 : Nat) "ScriptTypes" "thrown" "LScriptTypes$Thrown;") ∈ lw_all := lw_g (lw_at lw_m2 189 rfl) rfl
theorem q875 : (Jvm.Cond.fieldLink "ScriptTypes" (392 : Nat) "ScriptTypes" "result" "I") ∈ lw_all := lw_g (lw_at lw_m2 190 rfl) rfl
theorem q876 : (Jvm.Cond.fieldLink "ScriptTypes" (389 : Nat) "ScriptTypes" "resultSort" "I") ∈ lw_all := lw_g (lw_at lw_m2 191 rfl) rfl
theorem q877 : (Jvm.Cond.fieldLink "ScriptTypes" (148 : Nat) "ScriptTypes" "sort" "[B") ∈ lw_all := lw_g (lw_at lw_m2 192 rfl) rfl
theorem q878 : (Jvm.Cond.fieldLink "ScriptTypes" (151 : Nat) "ScriptTypes" "value" "[I") ∈ lw_all := lw_g (lw_at lw_m2 193 rfl) rfl
theorem q879 : (Jvm.Cond.fieldLink "ScriptTypes" (154 : Nat) "ScriptTypes" "limit" "[I") ∈ lw_all := lw_g (lw_at lw_m2 194 rfl) rfl
theorem q880 : (Jvm.Cond.fieldLink "ScriptTypes" (157 : Nat) "ScriptTypes" "seenTo" "[I") ∈ lw_all := lw_g (lw_at lw_m2 195 rfl) rfl
theorem q881 : (Jvm.Cond.fieldLink "ScriptTypes" (440 : Nat) "ScriptTypes" "top" "I") ∈ lw_all := lw_g (lw_at lw_m2 196 rfl) rfl
theorem q882 : (Jvm.Cond.fieldLink "ScriptTypes" (160 : Nat) "ScriptTypes" "frameCode" "[S") ∈ lw_all := lw_g (lw_at lw_m2 197 rfl) rfl
theorem q883 : (Jvm.Cond.fieldLink "ScriptTypes" (163 : Nat) "ScriptTypes" "frameScope" "[S") ∈ lw_all := lw_g (lw_at lw_m2 198 rfl) rfl
theorem q884 : (Jvm.Cond.fieldLink "ScriptTypes" (166 : Nat) "ScriptTypes" "framePlace" "[S") ∈ lw_all := lw_g (lw_at lw_m2 199 rfl) rfl
theorem q885 : (Jvm.Cond.fieldLink "ScriptTypes" (169 : Nat) "ScriptTypes" "frameBase" "[S") ∈ lw_all := lw_g (lw_at lw_m2 200 rfl) rfl
theorem q886 : (Jvm.Cond.fieldLink "ScriptTypes" (172 : Nat) "ScriptTypes" "frameMade" "[S") ∈ lw_all := lw_g (lw_at lw_m2 201 rfl) rfl
theorem q887 : (Jvm.Cond.fieldLink "ScriptTypes" (175 : Nat) "ScriptTypes" "frameTries" "[S") ∈ lw_all := lw_g (lw_at lw_m2 202 rfl) rfl
theorem q888 : (Jvm.Cond.fieldLink "ScriptTypes" (178 : Nat) "ScriptTypes" "thisSort" "[B") ∈ lw_all := lw_g (lw_at lw_m2 203 rfl) rfl
theorem q889 : (Jvm.Cond.fieldLink "ScriptTypes" (181 : Nat) "ScriptTypes" "thisValue" "[I") ∈ lw_all := lw_g (lw_at lw_m2 204 rfl) rfl
theorem q890 : (Jvm.Cond.fieldLink "ScriptTypes" (184 : Nat) "ScriptTypes" "tryPlace" "[S") ∈ lw_all := lw_g (lw_at lw_m2 205 rfl) rfl
theorem q891 : (Jvm.Cond.fieldLink "ScriptTypes" (187 : Nat) "ScriptTypes" "tryTop" "[S") ∈ lw_all := lw_g (lw_at lw_m2 206 rfl) rfl
theorem q892 : (Jvm.Cond.fieldLink "ScriptTypes" (328 : Nat) "ScriptTypes" "frames" "I") ∈ lw_all := lw_g (lw_at lw_m2 207 rfl) rfl
theorem q893 : (Jvm.Cond.fieldLink "ScriptTypes" (443 : Nat) "ScriptTypes" "tries" "I") ∈ lw_all := lw_g (lw_at lw_m2 208 rfl) rfl
theorem q894 : (Jvm.Cond.fieldLink "ScriptTypes" (277 : Nat) "ScriptTypes" "status" "I") ∈ lw_all := lw_g (lw_at lw_m2 209 rfl) rfl
theorem q895 : (Jvm.Cond.fieldLink "ScriptTypes" (319 : Nat) "ScriptTypes" "steps" "I") ∈ lw_all := lw_g (lw_at lw_m2 210 rfl) rfl
theorem q896 : (Jvm.Cond.fieldLink "ScriptTypes" (325 : Nat) "ScriptTypes" "lines" "I") ∈ lw_all := lw_g (lw_at lw_m2 211 rfl) rfl
theorem q897 : (Jvm.Cond.fieldLink "ScriptTypes" (470 : Nat) "ScriptTypes" "uncaughtSort" "I") ∈ lw_all := lw_g (lw_at lw_m2 212 rfl) rfl
theorem q898 : (Jvm.Cond.fieldLink "ScriptTypes" (473 : Nat) "ScriptTypes" "uncaught" "I") ∈ lw_all := lw_g (lw_at lw_m2 213 rfl) rfl
theorem q899 : (Jvm.Cond.fieldLink "ScriptTypes" (190 : Nat) "ScriptTypes" "line" "[S") ∈ lw_all := lw_g (lw_at lw_m2 214 rfl) rfl
theorem q900 : (Jvm.Cond.fieldLink "ScriptTypes" (460 : Nat) "ScriptTypes" "thrownSort" "I") ∈ lw_all := lw_g (lw_at lw_m2 215 rfl) rfl
theorem q901 : (Jvm.Cond.fieldLink "ScriptTypes" (463 : Nat) "ScriptTypes" "thrownValue" "I") ∈ lw_all := lw_g (lw_at lw_m2 216 rfl) rfl
theorem q902 : (Jvm.Cond.fieldLink "ScriptTypes" (674 : Nat) "ScriptTypes" "table" "LScriptTypes$Table;") ∈ lw_all := lw_g (lw_at lw_m2 217 rfl) rfl
theorem q903 : (Jvm.Cond.fieldLink "ScriptTypes" (684 : Nat) "ScriptTypes" "now" "LScriptTypes$Work;") ∈ lw_all := lw_g (lw_at lw_m2 218 rfl) rfl
theorem q904 : (Jvm.Cond.fieldLink "ScriptTypes" (688 : Nat) "ScriptTypes" "then" "LScriptTypes$Work;") ∈ lw_all := lw_g (lw_at lw_m2 219 rfl) rfl
theorem q905 : (Jvm.Cond.fieldLink "ScriptTypes" (274 : Nat) "ScriptTypes" "solved" "Z") ∈ lw_all := lw_g (lw_at lw_m2 220 rfl) rfl
theorem q906 : (Jvm.Cond.fieldLink "ScriptTypes" (331 : Nat) "ScriptTypes" "reached" "I") ∈ lw_all := lw_g (lw_at lw_m2 221 rfl) rfl
theorem q907 : (Jvm.Cond.fieldLink "ScriptTypes" (193 : Nat) "ScriptTypes" "due" "[Z") ∈ lw_all := lw_g (lw_at lw_m2 222 rfl) rfl
theorem q908 : (Jvm.Cond.fieldLink "ScriptTypes" (197 : Nat) "ScriptTypes" "calls" "[S") ∈ lw_all := lw_g (lw_at lw_m2 223 rfl) rfl
theorem q909 : (Jvm.Cond.fieldLink "ScriptTypes" (200 : Nat) "ScriptTypes" "warning" "[B") ∈ lw_all := lw_g (lw_at lw_m2 224 rfl) rfl
theorem q910 : (Jvm.Cond.fieldLink "ScriptTypes" (639 : Nat) "ScriptTypes" "digitsLow" "J") ∈ lw_all := lw_g (lw_at lw_m2 225 rfl) rfl
theorem q911 : (Jvm.Cond.fieldLink "ScriptTypes" (643 : Nat) "ScriptTypes" "digitsHigh" "J") ∈ lw_all := lw_g (lw_at lw_m2 226 rfl) rfl
theorem q912 : (Jvm.Cond.fieldLink "ScriptTypes" (646 : Nat) "ScriptTypes" "indexLow" "J") ∈ lw_all := lw_g (lw_at lw_m2 227 rfl) rfl
theorem q913 : (Jvm.Cond.fieldLink "ScriptTypes" (649 : Nat) "ScriptTypes" "indexHigh" "J") ∈ lw_all := lw_g (lw_at lw_m2 228 rfl) rfl
theorem q914 : (Jvm.Cond.fieldLink "ScriptTypes" (652 : Nat) "ScriptTypes" "arraysLow" "J") ∈ lw_all := lw_g (lw_at lw_m2 229 rfl) rfl
theorem q915 : (Jvm.Cond.fieldLink "ScriptTypes" (655 : Nat) "ScriptTypes" "arraysHigh" "J") ∈ lw_all := lw_g (lw_at lw_m2 230 rfl) rfl
theorem q916 : (Jvm.Cond.fieldLink "ScriptTypes" (658 : Nat) "ScriptTypes" "madeLow" "J") ∈ lw_all := lw_g (lw_at lw_m2 231 rfl) rfl
theorem q917 : (Jvm.Cond.fieldLink "ScriptTypes" (661 : Nat) "ScriptTypes" "madeHigh" "J") ∈ lw_all := lw_g (lw_at lw_m2 232 rfl) rfl
theorem q918 : (Jvm.Cond.fieldLink "ScriptTypes" (694 : Nat) "ScriptTypes" "exitFrom" "I") ∈ lw_all := lw_g (lw_at lw_m2 233 rfl) rfl
theorem q919 : (Jvm.Cond.fieldLink "ScriptTypes" (713 : Nat) "ScriptTypes" "at" "I") ∈ lw_all := lw_g (lw_at lw_m2 234 rfl) rfl
theorem q920 : (Jvm.Cond.fieldLink "ScriptTypes" (710 : Nat) "ScriptTypes" "normal" "Z") ∈ lw_all := lw_g (lw_at lw_m2 235 rfl) rfl
theorem q921 : (Jvm.Cond.fieldLink "ScriptTypes" (206 : Nat) "ScriptTypes" "x" "LScriptTypes$Bag;") ∈ lw_all := lw_g (lw_at lw_m2 236 rfl) rfl
theorem q922 : (Jvm.Cond.fieldLink "ScriptTypes" (210 : Nat) "ScriptTypes" "y" "LScriptTypes$Bag;") ∈ lw_all := lw_g (lw_at lw_m2 237 rfl) rfl
theorem q923 : (Jvm.Cond.fieldLink "ScriptTypes" (213 : Nat) "ScriptTypes" "z" "LScriptTypes$Bag;") ∈ lw_all := lw_g (lw_at lw_m2 238 rfl) rfl
theorem q924 : (Jvm.Cond.fieldLink "ScriptTypes" (216 : Nat) "ScriptTypes" "out" "LScriptTypes$Bag;") ∈ lw_all := lw_g (lw_at lw_m2 239 rfl) rfl
theorem q925 : (Jvm.Cond.fieldLink "ScriptTypes" (219 : Nat) "ScriptTypes" "found" "LScriptTypes$Bag;") ∈ lw_all := lw_g (lw_at lw_m3 0 rfl) rfl
theorem q926 : (Jvm.Cond.fieldLink "ScriptTypes" (222 : Nat) "ScriptTypes" "callee" "LScriptTypes$Bag;") ∈ lw_all := lw_g (lw_at lw_m3 1 rfl) rfl
theorem q927 : (Jvm.Cond.fieldLink "ScriptTypes" (225 : Nat) "ScriptTypes" "self" "LScriptTypes$Bag;") ∈ lw_all := lw_g (lw_at lw_m3 2 rfl) rfl
theorem q928 : (Jvm.Cond.fieldLink "ScriptTypes" (228 : Nat) "ScriptTypes" "given" "[LScriptTypes$Bag;") ∈ lw_all := lw_g (lw_at lw_m3 3 rfl) rfl
theorem q929 : (Jvm.Cond.fieldLink "ScriptTypes" (232 : Nat) "ScriptTypes" "errors" "LScriptTypes$Bag;") ∈ lw_all := lw_g (lw_at lw_m3 4 rfl) rfl
theorem q930 : (Jvm.Cond.fieldLink "ScriptTypes" (240 : Nat) "ScriptTypes" "then2" "LScriptTypes$Kept;") ∈ lw_all := lw_g (lw_at lw_m3 5 rfl) rfl
theorem q931 : (Jvm.Cond.fieldLink "ScriptTypes" (818 : Nat) "ScriptTypes" "keysLow" "J") ∈ lw_all := lw_g (lw_at lw_m3 6 rfl) rfl
theorem q932 : (Jvm.Cond.fieldLink "ScriptTypes" (821 : Nat) "ScriptTypes" "keysHigh" "J") ∈ lw_all := lw_g (lw_at lw_m3 7 rfl) rfl
theorem q933 : (Jvm.Cond.fieldLink "ScriptTypes" (824 : Nat) "ScriptTypes" "other" "Z") ∈ lw_all := lw_g (lw_at lw_m3 8 rfl) rfl
theorem q934 : (Jvm.Cond.fieldLink "ScriptTypes" (850 : Nat) "ScriptTypes" "missed" "Z") ∈ lw_all := lw_g (lw_at lw_m3 9 rfl) rfl
theorem q935 : (Jvm.Cond.fieldLink "ScriptTypes" (853 : Nat) "ScriptTypes" "some" "Z") ∈ lw_all := lw_g (lw_at lw_m3 10 rfl) rfl
theorem q936 : (Jvm.Cond.fieldLink "ScriptTypes" (906 : Nat) "ScriptTypes" "scopeLow" "J") ∈ lw_all := lw_g (lw_at lw_m3 11 rfl) rfl
theorem q937 : (Jvm.Cond.fieldLink "ScriptTypes" (907 : Nat) "ScriptTypes" "scopeHigh" "J") ∈ lw_all := lw_g (lw_at lw_m3 12 rfl) rfl
theorem q938 : (Jvm.Cond.fieldLink "ScriptTypes" (1042 : Nat) "ScriptTypes" "base" "I") ∈ lw_all := lw_g (lw_at lw_m3 13 rfl) rfl
theorem q939 : (Jvm.Cond.fieldLink "ScriptTypes" (244 : Nat) "ScriptTypes" "kept" "LScriptTypes$Kept;") ∈ lw_all := lw_g (lw_at lw_m3 14 rfl) rfl
theorem q940 : (Jvm.Cond.laysFinal "ScriptTypes" "ScriptTypes" "texts" "LScriptTypes$Texts;") ∈ lw_all := lw_g (lw_at lw_m3 15 rfl) rfl
theorem q941 : (Jvm.Cond.soleField "ScriptTypes" "texts") ∈ lw_all := lw_g (lw_at lw_m3 16 rfl) rfl
theorem q942 : (Jvm.Cond.lays "ScriptTypes" "ScriptTypes" "names" "I") ∈ lw_all := lw_g (lw_at lw_m3 17 rfl) rfl
theorem q943 : (Jvm.Cond.soleField "ScriptTypes" "names") ∈ lw_all := lw_g (lw_at lw_m3 18 rfl) rfl
theorem q944 : (Jvm.Cond.laysFinal "ScriptTypes" "ScriptTypes" "row" "[B") ∈ lw_all := lw_g (lw_at lw_m3 19 rfl) rfl
theorem q945 : (Jvm.Cond.soleField "ScriptTypes" "row") ∈ lw_all := lw_g (lw_at lw_m3 20 rfl) rfl
theorem q946 : (Jvm.Cond.lays "ScriptTypes" "ScriptTypes" "made" "I") ∈ lw_all := lw_g (lw_at lw_m3 21 rfl) rfl
theorem q947 : (Jvm.Cond.soleField "ScriptTypes" "made") ∈ lw_all := lw_g (lw_at lw_m3 22 rfl) rfl
theorem q948 : (Jvm.Cond.laysFinal "ScriptTypes" "ScriptTypes" "tape" "[B") ∈ lw_all := lw_g (lw_at lw_m3 23 rfl) rfl
theorem q949 : (Jvm.Cond.soleField "ScriptTypes" "tape") ∈ lw_all := lw_g (lw_at lw_m3 24 rfl) rfl
theorem q950 : (Jvm.Cond.lays "ScriptTypes" "ScriptTypes" "length" "I") ∈ lw_all := lw_g (lw_at lw_m3 25 rfl) rfl
theorem q951 : (Jvm.Cond.soleField "ScriptTypes" "length") ∈ lw_all := lw_g (lw_at lw_m3 26 rfl) rfl
theorem q952 : (Jvm.Cond.laysFinal "ScriptTypes" "ScriptTypes" "keywords" "LScriptTypes$Texts;") ∈ lw_all := lw_g (lw_at lw_m3 27 rfl) rfl
theorem q953 : (Jvm.Cond.soleField "ScriptTypes" "keywords") ∈ lw_all := lw_g (lw_at lw_m3 28 rfl) rfl
theorem q954 : (Jvm.Cond.laysFinal "ScriptTypes" "ScriptTypes" "signs" "LScriptTypes$Texts;") ∈ lw_all := lw_g (lw_at lw_m3 29 rfl) rfl
theorem q955 : (Jvm.Cond.soleField "ScriptTypes" "signs") ∈ lw_all := lw_g (lw_at lw_m3 30 rfl) rfl
theorem q956 : (Jvm.Cond.lays "ScriptTypes" "ScriptTypes" "functions" "Ljava/util/ArrayList;") ∈ lw_all := lw_g (lw_at lw_m3 31 rfl) rfl
theorem q957 : (Jvm.Cond.soleField "ScriptTypes" "functions") ∈ lw_all := lw_g (lw_at lw_m3 32 rfl) rfl
theorem q958 : (Jvm.Cond.laysFinal "ScriptTypes" "ScriptTypes" "code" "LScriptTypes$Coder;") ∈ lw_all := lw_g (lw_at lw_m3 33 rfl) rfl
theorem q959 : (Jvm.Cond.soleField "ScriptTypes" "code") ∈ lw_all := lw_g (lw_at lw_m3 34 rfl) rfl
theorem q960 : (Jvm.Cond.lays "ScriptTypes" "ScriptTypes" "there" "Z") ∈ lw_all := lw_g (lw_at lw_m3 35 rfl) rfl
theorem q961 : (Jvm.Cond.soleField "ScriptTypes" "there") ∈ lw_all := lw_g (lw_at lw_m3 36 rfl) rfl
theorem q962 : (Jvm.Cond.lays "ScriptTypes" "ScriptTypes" "labels" "I") ∈ lw_all := lw_g (lw_at lw_m3 37 rfl) rfl
theorem q963 : (Jvm.Cond.soleField "ScriptTypes" "labels") ∈ lw_all := lw_g (lw_at lw_m3 38 rfl) rfl
theorem q964 : (Jvm.Cond.lays "ScriptTypes" "ScriptTypes" "sites" "I") ∈ lw_all := lw_g (lw_at lw_m3 39 rfl) rfl
theorem q965 : (Jvm.Cond.soleField "ScriptTypes" "sites") ∈ lw_all := lw_g (lw_at lw_m3 40 rfl) rfl
theorem q966 : (Jvm.Cond.laysFinal "ScriptTypes" "ScriptTypes" "sortOf" "[B") ∈ lw_all := lw_g (lw_at lw_m3 41 rfl) rfl
theorem q967 : (Jvm.Cond.soleField "ScriptTypes" "sortOf") ∈ lw_all := lw_g (lw_at lw_m3 42 rfl) rfl
theorem q968 : (Jvm.Cond.laysFinal "ScriptTypes" "ScriptTypes" "codeOf" "[B") ∈ lw_all := lw_g (lw_at lw_m3 43 rfl) rfl
theorem q969 : (Jvm.Cond.soleField "ScriptTypes" "codeOf") ∈ lw_all := lw_g (lw_at lw_m3 44 rfl) rfl
theorem q970 : (Jvm.Cond.laysFinal "ScriptTypes" "ScriptTypes" "pairOf" "[S") ∈ lw_all := lw_g (lw_at lw_m3 45 rfl) rfl
theorem q971 : (Jvm.Cond.soleField "ScriptTypes" "pairOf") ∈ lw_all := lw_g (lw_at lw_m3 46 rfl) rfl
theorem q972 : (Jvm.Cond.laysFinal "ScriptTypes" "ScriptTypes" "protoOf" "[S") ∈ lw_all := lw_g (lw_at lw_m3 47 rfl) rfl
theorem q973 : (Jvm.Cond.soleField "ScriptTypes" "protoOf") ∈ lw_all := lw_g (lw_at lw_m3 48 rfl) rfl
theorem q974 : (Jvm.Cond.laysFinal "ScriptTypes" "ScriptTypes" "linkOf" "[S") ∈ lw_all := lw_g (lw_at lw_m3 49 rfl) rfl
theorem q975 : (Jvm.Cond.soleField "ScriptTypes" "linkOf") ∈ lw_all := lw_g (lw_at lw_m3 50 rfl) rfl
theorem q976 : (Jvm.Cond.laysFinal "ScriptTypes" "ScriptTypes" "firstOf" "[S") ∈ lw_all := lw_g (lw_at lw_m3 51 rfl) rfl
theorem q977 : (Jvm.Cond.soleField "ScriptTypes" "firstOf") ∈ lw_all := lw_g (lw_at lw_m3 52 rfl) rfl
theorem q978 : (Jvm.Cond.laysFinal "ScriptTypes" "ScriptTypes" "lastOf" "[S") ∈ lw_all := lw_g (lw_at lw_m3 53 rfl) rfl
theorem q979 : (Jvm.Cond.soleField "ScriptTypes" "lastOf") ∈ lw_all := lw_g (lw_at lw_m3 54 rfl) rfl
theorem q980 : (Jvm.Cond.laysFinal "ScriptTypes" "ScriptTypes" "latest" "[S") ∈ lw_all := lw_g (lw_at lw_m3 55 rfl) rfl
theorem q981 : (Jvm.Cond.soleField "ScriptTypes" "latest") ∈ lw_all := lw_g (lw_at lw_m3 56 rfl) rfl
theorem q982 : (Jvm.Cond.laysFinal "ScriptTypes" "ScriptTypes" "propertyName" "[S") ∈ lw_all := lw_g (lw_at lw_m3 57 rfl) rfl
theorem q983 : (Jvm.Cond.soleField "ScriptTypes" "propertyName") ∈ lw_all := lw_g (lw_at lw_m3 58 rfl) rfl
theorem q984 : (Jvm.Cond.laysFinal "ScriptTypes" "ScriptTypes" "propertyNext" "[S") ∈ lw_all := lw_g (lw_at lw_m3 59 rfl) rfl
theorem q985 : (Jvm.Cond.soleField "ScriptTypes" "propertyNext") ∈ lw_all := lw_g (lw_at lw_m3 60 rfl) rfl
theorem q986 : (Jvm.Cond.laysFinal "ScriptTypes" "ScriptTypes" "propertySort" "[B") ∈ lw_all := lw_g (lw_at lw_m3 61 rfl) rfl
theorem q987 : (Jvm.Cond.soleField "ScriptTypes" "propertySort") ∈ lw_all := lw_g (lw_at lw_m3 62 rfl) rfl
theorem q988 : (Jvm.Cond.laysFinal "ScriptTypes" "ScriptTypes" "propertyValue" "[I") ∈ lw_all := lw_g (lw_at lw_m3 63 rfl) rfl
theorem q989 : (Jvm.Cond.soleField "ScriptTypes" "propertyValue") ∈ lw_all := lw_g (lw_at lw_m3 64 rfl) rfl
theorem q990 : (Jvm.Cond.laysFinal "ScriptTypes" "ScriptTypes" "stamp" "[I") ∈ lw_all := lw_g (lw_at lw_m3 65 rfl) rfl
theorem q991 : (Jvm.Cond.soleField "ScriptTypes" "stamp") ∈ lw_all := lw_g (lw_at lw_m3 66 rfl) rfl
theorem q992 : (Jvm.Cond.lays "ScriptTypes" "ScriptTypes" "objects" "I") ∈ lw_all := lw_g (lw_at lw_m3 67 rfl) rfl
theorem q993 : (Jvm.Cond.soleField "ScriptTypes" "objects") ∈ lw_all := lw_g (lw_at lw_m3 68 rfl) rfl
theorem q994 : (Jvm.Cond.lays "ScriptTypes" "ScriptTypes" "properties" "I") ∈ lw_all := lw_g (lw_at lw_m3 69 rfl) rfl
theorem q995 : (Jvm.Cond.soleField "ScriptTypes" "properties") ∈ lw_all := lw_g (lw_at lw_m3 70 rfl) rfl
theorem q996 : (Jvm.Cond.lays "ScriptTypes" "ScriptTypes" "spare" "I") ∈ lw_all := lw_g (lw_at lw_m3 71 rfl) rfl
theorem q997 : (Jvm.Cond.soleField "ScriptTypes" "spare") ∈ lw_all := lw_g (lw_at lw_m3 72 rfl) rfl
theorem q998 : (Jvm.Cond.lays "ScriptTypes" "ScriptTypes" "stamps" "I") ∈ lw_all := lw_g (lw_at lw_m3 73 rfl) rfl
theorem q999 : (Jvm.Cond.soleField "ScriptTypes" "stamps") ∈ lw_all := lw_g (lw_at lw_m3 74 rfl) rfl
theorem q1000 : (Jvm.Cond.laysFinal "ScriptTypes" "ScriptTypes" "noRoom" "LScriptTypes$NoRoom;") ∈ lw_all := lw_g (lw_at lw_m3 75 rfl) rfl
theorem q1001 : (Jvm.Cond.soleField "ScriptTypes" "noRoom") ∈ lw_all := lw_g (lw_at lw_m3 76 rfl) rfl
theorem q1002 : (Jvm.Cond.laysFinal "ScriptTypes" "ScriptTypes" "thrown" "LScriptTypes$Thrown;") ∈ lw_all := lw_g (lw_at lw_m3 77 rfl) rfl
theorem q1003 : (Jvm.Cond.soleField "ScriptTypes" "thrown") ∈ lw_all := lw_g (lw_at lw_m3 78 rfl) rfl
theorem q1004 : (Jvm.Cond.lays "ScriptTypes" "ScriptTypes" "result" "I") ∈ lw_all := lw_g (lw_at lw_m3 79 rfl) rfl
theorem q1005 : (Jvm.Cond.soleField "ScriptTypes" "result") ∈ lw_all := lw_g (lw_at lw_m3 80 rfl) rfl
theorem q1006 : (Jvm.Cond.lays "ScriptTypes" "ScriptTypes" "resultSort" "I") ∈ lw_all := lw_g (lw_at lw_m3 81 rfl) rfl
theorem q1007 : (Jvm.Cond.soleField "ScriptTypes" "resultSort") ∈ lw_all := lw_g (lw_at lw_m3 82 rfl) rfl
theorem q1008 : (Jvm.Cond.laysFinal "ScriptTypes" "ScriptTypes" "sort" "[B") ∈ lw_all := lw_g (lw_at lw_m3 83 rfl) rfl
theorem q1009 : (Jvm.Cond.soleField "ScriptTypes" "sort") ∈ lw_all := lw_g (lw_at lw_m3 84 rfl) rfl
theorem q1010 : (Jvm.Cond.laysFinal "ScriptTypes" "ScriptTypes" "value" "[I") ∈ lw_all := lw_g (lw_at lw_m3 85 rfl) rfl
theorem q1011 : (Jvm.Cond.soleField "ScriptTypes" "value") ∈ lw_all := lw_g (lw_at lw_m3 86 rfl) rfl
theorem q1012 : (Jvm.Cond.laysFinal "ScriptTypes" "ScriptTypes" "limit" "[I") ∈ lw_all := lw_g (lw_at lw_m3 87 rfl) rfl
theorem q1013 : (Jvm.Cond.soleField "ScriptTypes" "limit") ∈ lw_all := lw_g (lw_at lw_m3 88 rfl) rfl
theorem q1014 : (Jvm.Cond.laysFinal "ScriptTypes" "ScriptTypes" "seenTo" "[I") ∈ lw_all := lw_g (lw_at lw_m3 89 rfl) rfl
theorem q1015 : (Jvm.Cond.soleField "ScriptTypes" "seenTo") ∈ lw_all := lw_g (lw_at lw_m3 90 rfl) rfl
theorem q1016 : (Jvm.Cond.lays "ScriptTypes" "ScriptTypes" "top" "I") ∈ lw_all := lw_g (lw_at lw_m3 91 rfl) rfl
theorem q1017 : (Jvm.Cond.soleField "ScriptTypes" "top") ∈ lw_all := lw_g (lw_at lw_m3 92 rfl) rfl
theorem q1018 : (Jvm.Cond.laysFinal "ScriptTypes" "ScriptTypes" "frameCode" "[S") ∈ lw_all := lw_g (lw_at lw_m3 93 rfl) rfl
theorem q1019 : (Jvm.Cond.soleField "ScriptTypes" "frameCode") ∈ lw_all := lw_g (lw_at lw_m3 94 rfl) rfl
theorem q1020 : (Jvm.Cond.laysFinal "ScriptTypes" "ScriptTypes" "frameScope" "[S") ∈ lw_all := lw_g (lw_at lw_m3 95 rfl) rfl
theorem q1021 : (Jvm.Cond.soleField "ScriptTypes" "frameScope") ∈ lw_all := lw_g (lw_at lw_m3 96 rfl) rfl
theorem q1022 : (Jvm.Cond.laysFinal "ScriptTypes" "ScriptTypes" "framePlace" "[S") ∈ lw_all := lw_g (lw_at lw_m3 97 rfl) rfl
theorem q1023 : (Jvm.Cond.soleField "ScriptTypes" "framePlace") ∈ lw_all := lw_g (lw_at lw_m3 98 rfl) rfl
theorem q1024 : (Jvm.Cond.laysFinal "ScriptTypes" "ScriptTypes" "frameBase" "[S") ∈ lw_all := lw_g (lw_at lw_m3 99 rfl) rfl
theorem q1025 : (Jvm.Cond.soleField "ScriptTypes" "frameBase") ∈ lw_all := lw_g (lw_at lw_m3 100 rfl) rfl
theorem q1026 : (Jvm.Cond.laysFinal "ScriptTypes" "ScriptTypes" "frameMade" "[S") ∈ lw_all := lw_g (lw_at lw_m3 101 rfl) rfl
theorem q1027 : (Jvm.Cond.soleField "ScriptTypes" "frameMade") ∈ lw_all := lw_g (lw_at lw_m3 102 rfl) rfl
theorem q1028 : (Jvm.Cond.laysFinal "ScriptTypes" "ScriptTypes" "frameTries" "[S") ∈ lw_all := lw_g (lw_at lw_m3 103 rfl) rfl
theorem q1029 : (Jvm.Cond.soleField "ScriptTypes" "frameTries") ∈ lw_all := lw_g (lw_at lw_m3 104 rfl) rfl
theorem q1030 : (Jvm.Cond.laysFinal "ScriptTypes" "ScriptTypes" "thisSort" "[B") ∈ lw_all := lw_g (lw_at lw_m3 105 rfl) rfl
theorem q1031 : (Jvm.Cond.soleField "ScriptTypes" "thisSort") ∈ lw_all := lw_g (lw_at lw_m3 106 rfl) rfl
theorem q1032 : (Jvm.Cond.laysFinal "ScriptTypes" "ScriptTypes" "thisValue" "[I") ∈ lw_all := lw_g (lw_at lw_m3 107 rfl) rfl
theorem q1033 : (Jvm.Cond.soleField "ScriptTypes" "thisValue") ∈ lw_all := lw_g (lw_at lw_m3 108 rfl) rfl
theorem q1034 : (Jvm.Cond.laysFinal "ScriptTypes" "ScriptTypes" "tryPlace" "[S") ∈ lw_all := lw_g (lw_at lw_m3 109 rfl) rfl
theorem q1035 : (Jvm.Cond.soleField "ScriptTypes" "tryPlace") ∈ lw_all := lw_g (lw_at lw_m3 110 rfl) rfl
theorem q1036 : (Jvm.Cond.laysFinal "ScriptTypes" "ScriptTypes" "tryTop" "[S") ∈ lw_all := lw_g (lw_at lw_m3 111 rfl) rfl
theorem q1037 : (Jvm.Cond.soleField "ScriptTypes" "tryTop") ∈ lw_all := lw_g (lw_at lw_m3 112 rfl) rfl
theorem q1038 : (Jvm.Cond.lays "ScriptTypes" "ScriptTypes" "frames" "I") ∈ lw_all := lw_g (lw_at lw_m3 113 rfl) rfl
theorem q1039 : (Jvm.Cond.soleField "ScriptTypes" "frames") ∈ lw_all := lw_g (lw_at lw_m3 114 rfl) rfl
theorem q1040 : (Jvm.Cond.lays "ScriptTypes" "ScriptTypes" "tries" "I") ∈ lw_all := lw_g (lw_at lw_m3 115 rfl) rfl
theorem q1041 : (Jvm.Cond.soleField "ScriptTypes" "tries") ∈ lw_all := lw_g (lw_at lw_m3 116 rfl) rfl
theorem q1042 : (Jvm.Cond.lays "ScriptTypes" "ScriptTypes" "status" "I") ∈ lw_all := lw_g (lw_at lw_m3 117 rfl) rfl
theorem q1043 : (Jvm.Cond.soleField "ScriptTypes" "status") ∈ lw_all := lw_g (lw_at lw_m3 118 rfl) rfl
theorem q1044 : (Jvm.Cond.lays "ScriptTypes" "ScriptTypes" "steps" "I") ∈ lw_all := lw_g (lw_at lw_m3 119 rfl) rfl
theorem q1045 : (Jvm.Cond.soleField "ScriptTypes" "steps") ∈ lw_all := lw_g (lw_at lw_m3 120 rfl) rfl
theorem q1046 : (Jvm.Cond.lays "ScriptTypes" "ScriptTypes" "lines" "I") ∈ lw_all := lw_g (lw_at lw_m3 121 rfl) rfl
theorem q1047 : (Jvm.Cond.soleField "ScriptTypes" "lines") ∈ lw_all := lw_g (lw_at lw_m3 122 rfl) rfl
theorem q1048 : (Jvm.Cond.lays "ScriptTypes" "ScriptTypes" "uncaughtSort" "I") ∈ lw_all := lw_g (lw_at lw_m3 123 rfl) rfl
theorem q1049 : (Jvm.Cond.soleField "ScriptTypes" "uncaughtSort") ∈ lw_all := lw_g (lw_at lw_m3 124 rfl) rfl
theorem q1050 : (Jvm.Cond.lays "ScriptTypes" "ScriptTypes" "uncaught" "I") ∈ lw_all := lw_g (lw_at lw_m3 125 rfl) rfl
theorem q1051 : (Jvm.Cond.soleField "ScriptTypes" "uncaught") ∈ lw_all := lw_g (lw_at lw_m3 126 rfl) rfl
theorem q1052 : (Jvm.Cond.laysFinal "ScriptTypes" "ScriptTypes" "line" "[S") ∈ lw_all := lw_g (lw_at lw_m3 127 rfl) rfl
theorem q1053 : (Jvm.Cond.soleField "ScriptTypes" "line") ∈ lw_all := lw_g (lw_at lw_m3 128 rfl) rfl
theorem q1054 : (Jvm.Cond.lays "ScriptTypes" "ScriptTypes" "thrownSort" "I") ∈ lw_all := lw_g (lw_at lw_m3 129 rfl) rfl
theorem q1055 : (Jvm.Cond.soleField "ScriptTypes" "thrownSort") ∈ lw_all := lw_g (lw_at lw_m3 130 rfl) rfl
theorem q1056 : (Jvm.Cond.lays "ScriptTypes" "ScriptTypes" "thrownValue" "I") ∈ lw_all := lw_g (lw_at lw_m3 131 rfl) rfl
theorem q1057 : (Jvm.Cond.soleField "ScriptTypes" "thrownValue") ∈ lw_all := lw_g (lw_at lw_m3 132 rfl) rfl
theorem q1058 : (Jvm.Cond.lays "ScriptTypes" "ScriptTypes" "table" "LScriptTypes$Table;") ∈ lw_all := lw_g (lw_at lw_m3 133 rfl) rfl
theorem q1059 : (Jvm.Cond.soleField "ScriptTypes" "table") ∈ lw_all := lw_g (lw_at lw_m3 134 rfl) rfl
theorem q1060 : (Jvm.Cond.lays "ScriptTypes" "ScriptTypes" "now" "LScriptTypes$Work;") ∈ lw_all := lw_g (lw_at lw_m3 135 rfl) rfl
theorem q1061 : (Jvm.Cond.soleField "ScriptTypes" "now") ∈ lw_all := lw_g (lw_at lw_m3 136 rfl) rfl
theorem q1062 : (Jvm.Cond.lays "ScriptTypes" "ScriptTypes" "then" "LScriptTypes$Work;") ∈ lw_all := lw_g (lw_at lw_m3 137 rfl) rfl
theorem q1063 : (Jvm.Cond.soleField "ScriptTypes" "then") ∈ lw_all := lw_g (lw_at lw_m3 138 rfl) rfl
theorem q1064 : (Jvm.Cond.lays "ScriptTypes" "ScriptTypes" "solved" "Z") ∈ lw_all := lw_g (lw_at lw_m3 139 rfl) rfl
theorem q1065 : (Jvm.Cond.soleField "ScriptTypes" "solved") ∈ lw_all := lw_g (lw_at lw_m3 140 rfl) rfl
theorem q1066 : (Jvm.Cond.lays "ScriptTypes" "ScriptTypes" "reached" "I") ∈ lw_all := lw_g (lw_at lw_m3 141 rfl) rfl
theorem q1067 : (Jvm.Cond.soleField "ScriptTypes" "reached") ∈ lw_all := lw_g (lw_at lw_m3 142 rfl) rfl
theorem q1068 : (Jvm.Cond.laysFinal "ScriptTypes" "ScriptTypes" "due" "[Z") ∈ lw_all := lw_g (lw_at lw_m3 143 rfl) rfl
theorem q1069 : (Jvm.Cond.soleField "ScriptTypes" "due") ∈ lw_all := lw_g (lw_at lw_m3 144 rfl) rfl
theorem q1070 : (Jvm.Cond.laysFinal "ScriptTypes" "ScriptTypes" "calls" "[S") ∈ lw_all := lw_g (lw_at lw_m3 145 rfl) rfl
theorem q1071 : (Jvm.Cond.soleField "ScriptTypes" "calls") ∈ lw_all := lw_g (lw_at lw_m3 146 rfl) rfl
theorem q1072 : (Jvm.Cond.laysFinal "ScriptTypes" "ScriptTypes" "warning" "[B") ∈ lw_all := lw_g (lw_at lw_m3 147 rfl) rfl
theorem q1073 : (Jvm.Cond.soleField "ScriptTypes" "warning") ∈ lw_all := lw_g (lw_at lw_m3 148 rfl) rfl
theorem q1074 : (Jvm.Cond.lays "ScriptTypes" "ScriptTypes" "digitsLow" "J") ∈ lw_all := lw_g (lw_at lw_m3 149 rfl) rfl
theorem q1075 : (Jvm.Cond.soleField "ScriptTypes" "digitsLow") ∈ lw_all := lw_g (lw_at lw_m3 150 rfl) rfl
theorem q1076 : (Jvm.Cond.lays "ScriptTypes" "ScriptTypes" "digitsHigh" "J") ∈ lw_all := lw_g (lw_at lw_m3 151 rfl) rfl
theorem q1077 : (Jvm.Cond.soleField "ScriptTypes" "digitsHigh") ∈ lw_all := lw_g (lw_at lw_m3 152 rfl) rfl
theorem q1078 : (Jvm.Cond.lays "ScriptTypes" "ScriptTypes" "indexLow" "J") ∈ lw_all := lw_g (lw_at lw_m3 153 rfl) rfl
theorem q1079 : (Jvm.Cond.soleField "ScriptTypes" "indexLow") ∈ lw_all := lw_g (lw_at lw_m3 154 rfl) rfl
theorem q1080 : (Jvm.Cond.lays "ScriptTypes" "ScriptTypes" "indexHigh" "J") ∈ lw_all := lw_g (lw_at lw_m3 155 rfl) rfl
theorem q1081 : (Jvm.Cond.soleField "ScriptTypes" "indexHigh") ∈ lw_all := lw_g (lw_at lw_m3 156 rfl) rfl
theorem q1082 : (Jvm.Cond.lays "ScriptTypes" "ScriptTypes" "arraysLow" "J") ∈ lw_all := lw_g (lw_at lw_m3 157 rfl) rfl
theorem q1083 : (Jvm.Cond.soleField "ScriptTypes" "arraysLow") ∈ lw_all := lw_g (lw_at lw_m3 158 rfl) rfl
theorem q1084 : (Jvm.Cond.lays "ScriptTypes" "ScriptTypes" "arraysHigh" "J") ∈ lw_all := lw_g (lw_at lw_m3 159 rfl) rfl
theorem q1085 : (Jvm.Cond.soleField "ScriptTypes" "arraysHigh") ∈ lw_all := lw_g (lw_at lw_m3 160 rfl) rfl
theorem q1086 : (Jvm.Cond.lays "ScriptTypes" "ScriptTypes" "madeLow" "J") ∈ lw_all := lw_g (lw_at lw_m3 161 rfl) rfl
theorem q1087 : (Jvm.Cond.soleField "ScriptTypes" "madeLow") ∈ lw_all := lw_g (lw_at lw_m3 162 rfl) rfl
theorem q1088 : (Jvm.Cond.lays "ScriptTypes" "ScriptTypes" "madeHigh" "J") ∈ lw_all := lw_g (lw_at lw_m3 163 rfl) rfl
theorem q1089 : (Jvm.Cond.soleField "ScriptTypes" "madeHigh") ∈ lw_all := lw_g (lw_at lw_m3 164 rfl) rfl
theorem q1090 : (Jvm.Cond.lays "ScriptTypes" "ScriptTypes" "exitFrom" "I") ∈ lw_all := lw_g (lw_at lw_m3 165 rfl) rfl
theorem q1091 : (Jvm.Cond.soleField "ScriptTypes" "exitFrom") ∈ lw_all := lw_g (lw_at lw_m3 166 rfl) rfl
theorem q1092 : (Jvm.Cond.lays "ScriptTypes" "ScriptTypes" "at" "I") ∈ lw_all := lw_g (lw_at lw_m3 167 rfl) rfl
theorem q1093 : (Jvm.Cond.soleField "ScriptTypes" "at") ∈ lw_all := lw_g (lw_at lw_m3 168 rfl) rfl
theorem q1094 : (Jvm.Cond.lays "ScriptTypes" "ScriptTypes" "normal" "Z") ∈ lw_all := lw_g (lw_at lw_m3 169 rfl) rfl
theorem q1095 : (Jvm.Cond.soleField "ScriptTypes" "normal") ∈ lw_all := lw_g (lw_at lw_m3 170 rfl) rfl
theorem q1096 : (Jvm.Cond.laysFinal "ScriptTypes" "ScriptTypes" "x" "LScriptTypes$Bag;") ∈ lw_all := lw_g (lw_at lw_m3 171 rfl) rfl
theorem q1097 : (Jvm.Cond.soleField "ScriptTypes" "x") ∈ lw_all := lw_g (lw_at lw_m3 172 rfl) rfl
theorem q1098 : (Jvm.Cond.laysFinal "ScriptTypes" "ScriptTypes" "y" "LScriptTypes$Bag;") ∈ lw_all := lw_g (lw_at lw_m3 173 rfl) rfl
theorem q1099 : (Jvm.Cond.soleField "ScriptTypes" "y") ∈ lw_all := lw_g (lw_at lw_m3 174 rfl) rfl
theorem q1100 : (Jvm.Cond.laysFinal "ScriptTypes" "ScriptTypes" "z" "LScriptTypes$Bag;") ∈ lw_all := lw_g (lw_at lw_m3 175 rfl) rfl
theorem q1101 : (Jvm.Cond.soleField "ScriptTypes" "z") ∈ lw_all := lw_g (lw_at lw_m3 176 rfl) rfl
theorem q1102 : (Jvm.Cond.laysFinal "ScriptTypes" "ScriptTypes" "out" "LScriptTypes$Bag;") ∈ lw_all := lw_g (lw_at lw_m3 177 rfl) rfl
theorem q1103 : (Jvm.Cond.soleField "ScriptTypes" "out") ∈ lw_all := lw_g (lw_at lw_m3 178 rfl) rfl
theorem q1104 : (Jvm.Cond.laysFinal "ScriptTypes" "ScriptTypes" "found" "LScriptTypes$Bag;") ∈ lw_all := lw_g (lw_at lw_m3 179 rfl) rfl
theorem q1105 : (Jvm.Cond.soleField "ScriptTypes" "found") ∈ lw_all := lw_g (lw_at lw_m3 180 rfl) rfl
theorem q1106 : (Jvm.Cond.laysFinal "ScriptTypes" "ScriptTypes" "callee" "LScriptTypes$Bag;") ∈ lw_all := lw_g (lw_at lw_m3 181 rfl) rfl
theorem q1107 : (Jvm.Cond.soleField "ScriptTypes" "callee") ∈ lw_all := lw_g (lw_at lw_m3 182 rfl) rfl
theorem q1108 : (Jvm.Cond.laysFinal "ScriptTypes" "ScriptTypes" "self" "LScriptTypes$Bag;") ∈ lw_all := lw_g (lw_at lw_m3 183 rfl) rfl
theorem q1109 : (Jvm.Cond.soleField "ScriptTypes" "self") ∈ lw_all := lw_g (lw_at lw_m3 184 rfl) rfl
theorem q1110 : (Jvm.Cond.laysFinal "ScriptTypes" "ScriptTypes" "given" "[LScriptTypes$Bag;") ∈ lw_all := lw_g (lw_at lw_m3 185 rfl) rfl
theorem q1111 : (Jvm.Cond.soleField "ScriptTypes" "given") ∈ lw_all := lw_g (lw_at lw_m3 186 rfl) rfl
theorem q1112 : (Jvm.Cond.laysFinal "ScriptTypes" "ScriptTypes" "errors" "LScriptTypes$Bag;") ∈ lw_all := lw_g (lw_at lw_m3 187 rfl) rfl
theorem q1113 : (Jvm.Cond.soleField "ScriptTypes" "errors") ∈ lw_all := lw_g (lw_at lw_m3 188 rfl) rfl
theorem q1114 : (Jvm.Cond.laysFinal "ScriptTypes" "ScriptTypes" "then2" "LScriptTypes$Kept;") ∈ lw_all := lw_g (lw_at lw_m3 189 rfl) rfl
theorem q1115 : (Jvm.Cond.soleField "ScriptTypes" "then2") ∈ lw_all := lw_g (lw_at lw_m3 190 rfl) rfl
theorem q1116 : (Jvm.Cond.lays "ScriptTypes" "ScriptTypes" "keysLow" "J") ∈ lw_all := lw_g (lw_at lw_m3 191 rfl) rfl
theorem q1117 : (Jvm.Cond.soleField "ScriptTypes" "keysLow") ∈ lw_all := lw_g (lw_at lw_m3 192 rfl) rfl
theorem q1118 : (Jvm.Cond.lays "ScriptTypes" "ScriptTypes" "keysHigh" "J") ∈ lw_all := lw_g (lw_at lw_m3 193 rfl) rfl
theorem q1119 : (Jvm.Cond.soleField "ScriptTypes" "keysHigh") ∈ lw_all := lw_g (lw_at lw_m3 194 rfl) rfl
theorem q1120 : (Jvm.Cond.lays "ScriptTypes" "ScriptTypes" "other" "Z") ∈ lw_all := lw_g (lw_at lw_m3 195 rfl) rfl
theorem q1121 : (Jvm.Cond.soleField "ScriptTypes" "other") ∈ lw_all := lw_g (lw_at lw_m3 196 rfl) rfl
theorem q1122 : (Jvm.Cond.lays "ScriptTypes" "ScriptTypes" "missed" "Z") ∈ lw_all := lw_g (lw_at lw_m3 197 rfl) rfl
theorem q1123 : (Jvm.Cond.soleField "ScriptTypes" "missed") ∈ lw_all := lw_g (lw_at lw_m3 198 rfl) rfl
theorem q1124 : (Jvm.Cond.lays "ScriptTypes" "ScriptTypes" "some" "Z") ∈ lw_all := lw_g (lw_at lw_m3 199 rfl) rfl
theorem q1125 : (Jvm.Cond.soleField "ScriptTypes" "some") ∈ lw_all := lw_g (lw_at lw_m3 200 rfl) rfl
theorem q1126 : (Jvm.Cond.lays "ScriptTypes" "ScriptTypes" "scopeLow" "J") ∈ lw_all := lw_g (lw_at lw_m3 201 rfl) rfl
theorem q1127 : (Jvm.Cond.soleField "ScriptTypes" "scopeLow") ∈ lw_all := lw_g (lw_at lw_m3 202 rfl) rfl
theorem q1128 : (Jvm.Cond.lays "ScriptTypes" "ScriptTypes" "scopeHigh" "J") ∈ lw_all := lw_g (lw_at lw_m3 203 rfl) rfl
theorem q1129 : (Jvm.Cond.soleField "ScriptTypes" "scopeHigh") ∈ lw_all := lw_g (lw_at lw_m3 204 rfl) rfl
theorem q1130 : (Jvm.Cond.lays "ScriptTypes" "ScriptTypes" "base" "I") ∈ lw_all := lw_g (lw_at lw_m3 205 rfl) rfl
theorem q1131 : (Jvm.Cond.soleField "ScriptTypes" "base") ∈ lw_all := lw_g (lw_at lw_m3 206 rfl) rfl
theorem q1132 : (Jvm.Cond.laysFinal "ScriptTypes" "ScriptTypes" "kept" "LScriptTypes$Kept;") ∈ lw_all := lw_g (lw_at lw_m3 207 rfl) rfl
theorem q1133 : (Jvm.Cond.soleField "ScriptTypes" "kept") ∈ lw_all := lw_g (lw_at lw_m3 208 rfl) rfl
theorem q1134 : (Jvm.Cond.superclass "ScriptTypes" "java/lang/Object") ∈ lw_all := lw_g (lw_at lw_m3 209 rfl) rfl
theorem q1135 : (Jvm.Cond.methodLink "ScriptTypesLaw" (28 : Nat) ({ cls := "ScriptTypes", name := "feed", desc := "(IIIII)I" } : Jvm.MethodName)) ∈ lw_all := lw_g (lw_at lw_m3 210 rfl) rfl
theorem q1136 : (Jvm.Cond.instanceMethod ({ cls := "ScriptTypes", name := "feed", desc := "(IIIII)I" } : Jvm.MethodName)) ∈ lw_all := lw_g (lw_at lw_m3 211 rfl) rfl
theorem q1137 : (Jvm.Cond.selects "ScriptTypes" ({ cls := "ScriptTypes", name := "feed", desc := "(IIIII)I" } : Jvm.MethodName) ({ cls := "ScriptTypes", name := "feed", desc := "(IIIII)I" } : Jvm.MethodName)) ∈ lw_all := lw_g (lw_at lw_m3 212 rfl) rfl
theorem q1138 : (Jvm.Cond.code ({ cls := "ScriptTypes", name := "feed", desc := "(IIIII)I" } : Jvm.MethodName) prog_1_method_8_code (6 : Nat) (Option.some Jvm.ClassFile.FieldType.int)) ∈ lw_all := lw_g (lw_at lw_m3 213 rfl) rfl
theorem q1139 : (Jvm.Cond.methodLink "ScriptTypes" (260 : Nat) ({ cls := "ScriptTypes", name := "tell", desc := "(I)V" } : Jvm.MethodName)) ∈ lw_all := lw_g (lw_at lw_m3 214 rfl) rfl
theorem q1140 : (Jvm.Cond.privateMethod ({ cls := "ScriptTypes", name := "tell", desc := "(I)V" } : Jvm.MethodName)) ∈ lw_tbl := lw_at lw_m3 215 rfl
theorem q1141 : (Jvm.Cond.instanceMethod ({ cls := "ScriptTypes", name := "tell", desc := "(I)V" } : Jvm.MethodName)) ∈ lw_all := lw_g (lw_at lw_m3 216 rfl) rfl
theorem q1142 : (Jvm.Cond.code ({ cls := "ScriptTypes", name := "tell", desc := "(I)V" } : Jvm.MethodName) prog_1_method_9_code (3 : Nat) (Option.none : Option Jvm.ClassFile.FieldType)) ∈ lw_all := lw_g (lw_at lw_m3 217 rfl) rfl
theorem q1143 : (Jvm.Cond.methodLink "ScriptTypesLaw" (33 : Nat) ({ cls := "ScriptTypes", name := "back", desc := "(I)I" } : Jvm.MethodName)) ∈ lw_all := lw_g (lw_at lw_m3 218 rfl) rfl
theorem q1144 : (Jvm.Cond.instanceMethod ({ cls := "ScriptTypes", name := "back", desc := "(I)I" } : Jvm.MethodName)) ∈ lw_all := lw_g (lw_at lw_m3 219 rfl) rfl
theorem q1145 : (Jvm.Cond.selects "ScriptTypes" ({ cls := "ScriptTypes", name := "back", desc := "(I)I" } : Jvm.MethodName) ({ cls := "ScriptTypes", name := "back", desc := "(I)I" } : Jvm.MethodName)) ∈ lw_all := lw_g (lw_at lw_m3 220 rfl) rfl
theorem q1146 : (Jvm.Cond.code ({ cls := "ScriptTypes", name := "back", desc := "(I)I" } : Jvm.MethodName) prog_1_method_10_code (2 : Nat) (Option.some Jvm.ClassFile.FieldType.int)) ∈ lw_all := lw_g (lw_at lw_m3 221 rfl) rfl
theorem q1147 : (Jvm.Cond.methodLink "ScriptTypesLaw" (37 : Nat) ({ cls := "ScriptTypes", name := "read", desc := "()I" } : Jvm.MethodName)) ∈ lw_all := lw_g (lw_at lw_m3 222 rfl) rfl
theorem q1148 : (Jvm.Cond.instanceMethod ({ cls := "ScriptTypes", name := "read", desc := "()I" } : Jvm.MethodName)) ∈ lw_all := lw_g (lw_at lw_m3 223 rfl) rfl
theorem q1149 : (Jvm.Cond.selects "ScriptTypes" ({ cls := "ScriptTypes", name := "read", desc := "()I" } : Jvm.MethodName) ({ cls := "ScriptTypes", name := "read", desc := "()I" } : Jvm.MethodName)) ∈ lw_all := lw_g (lw_at lw_m3 224 rfl) rfl
theorem q1150 : (Jvm.Cond.codeWith ({ cls := "ScriptTypes", name := "read", desc := "()I" } : Jvm.MethodName) prog_1_method_15_code (3 : Nat) (Option.some Jvm.ClassFile.FieldType.int) [((19 : Nat), (146 : Nat), (160 : Nat), (308 : Nat)), ((147 : Nat), (159 : Nat), (160 : Nat), (308 : Nat))]) ∈ lw_all := lw_g (lw_at lw_m3 225 rfl) rfl
theorem q1151 : (Jvm.Cond.classLink "ScriptTypes" (308 : Nat) "ScriptTypes$Fault") ∈ lw_all := lw_g (lw_at lw_m3 226 rfl) rfl
theorem q1152 : (Jvm.Cond.classLink "ScriptTypes" (280 : Nat) "ScriptTypes$Parser") ∈ lw_all := lw_g (lw_at lw_m3 227 rfl) rfl
theorem q1153 : (Jvm.Cond.instantiable "ScriptTypes$Parser" (9 : Nat)) ∈ lw_all := lw_g (lw_at lw_m3 228 rfl) rfl
theorem q1154 : (Jvm.Cond.methodLink "ScriptTypes" (282 : Nat) ({ cls := "ScriptTypes$Parser", name := "<init>", desc := "(LScriptTypes;)V" } : Jvm.MethodName)) ∈ lw_all := lw_g (lw_at lw_m3 229 rfl) rfl
theorem q1155 : (Jvm.Cond.instanceMethod ({ cls := "ScriptTypes$Parser", name := "<init>", desc := "(LScriptTypes;)V" } : Jvm.MethodName)) ∈ lw_all := lw_g (lw_at lw_m3 230 rfl) rfl
theorem q1156 : (Jvm.Cond.code ({ cls := "ScriptTypes$Parser", name := "<init>", desc := "(LScriptTypes;)V" } : Jvm.MethodName) prog_29_method_1_code (2 : Nat) (Option.none : Option Jvm.ClassFile.FieldType)) ∈ lw_all := lw_g (lw_at lw_m3 231 rfl) rfl
theorem q1157 : (Jvm.Cond.methodLink "ScriptTypes$Parser" (3 : Nat) ({ cls := "java/lang/Object", name := "<init>", desc := "()V" } : Jvm.MethodName)) ∈ lw_all := lw_g (lw_at lw_m3 232 rfl) rfl
theorem q1158 : (Jvm.Cond.classLink "ScriptTypes$Parser" (9 : Nat) "java/util/ArrayList") ∈ lw_all := lw_g (lw_at lw_m3 233 rfl) rfl
theorem q1159 : (Jvm.Cond.methodLink "ScriptTypes$Parser" (11 : Nat) ({ cls := "java/util/ArrayList", name := "<init>", desc := "()V" } : Jvm.MethodName)) ∈ lw_all := lw_g (lw_at lw_m3 234 rfl) rfl
theorem q1160 : (Jvm.Cond.classLink "ScriptTypes$Parser" (22 : Nat) "ScriptTypes$Tokens") ∈ lw_all := lw_g (lw_at lw_m3 235 rfl) rfl
theorem q1161 : (Jvm.Cond.instantiable "ScriptTypes$Tokens" (8 : Nat)) ∈ lw_all := lw_g (lw_at lw_m3 236 rfl) rfl
theorem q1162 : (Jvm.Cond.methodLink "ScriptTypes$Parser" (24 : Nat) ({ cls := "ScriptTypes$Tokens", name := "<init>", desc := "(LScriptTypes;)V" } : Jvm.MethodName)) ∈ lw_all := lw_g (lw_at lw_m3 237 rfl) rfl
theorem q1163 : (Jvm.Cond.instanceMethod ({ cls := "ScriptTypes$Tokens", name := "<init>", desc := "(LScriptTypes;)V" } : Jvm.MethodName)) ∈ lw_all := lw_g (lw_at lw_m3 238 rfl) rfl
theorem q1164 : (Jvm.Cond.code ({ cls := "ScriptTypes$Tokens", name := "<init>", desc := "(LScriptTypes;)V" } : Jvm.MethodName) prog_40_method_1_code (2 : Nat) (Option.none : Option Jvm.ClassFile.FieldType)) ∈ lw_all := lw_g (lw_at lw_m3 239 rfl) rfl
theorem q1165 : (Jvm.Cond.methodLink "ScriptTypes$Tokens" (3 : Nat) ({ cls := "java/lang/Object", name := "<init>", desc := "()V" } : Jvm.MethodName)) ∈ lw_all := lw_g (lw_at lw_m4 0 rfl) rfl
theorem q1166 : (Jvm.Cond.fieldLink "ScriptTypes$Tokens" (15 : Nat) "ScriptTypes$Tokens" "all" "LScriptTypes;") ∈ lw_all := lw_g (lw_at lw_m4 1 rfl) rfl
theorem q1167 : (Jvm.Cond.fieldLink "ScriptTypes$Tokens" (34 : Nat) "ScriptTypes$Tokens" "at" "I") ∈ lw_all := lw_g (lw_at lw_m4 2 rfl) rfl
theorem q1168 : (Jvm.Cond.fieldLink "ScriptTypes$Tokens" (9 : Nat) "ScriptTypes$Tokens" "line" "I") ∈ lw_all := lw_g (lw_at lw_m4 3 rfl) rfl
theorem q1169 : (Jvm.Cond.fieldLink "ScriptTypes$Parser" (55 : Nat) "ScriptTypes$Tokens" "sort" "I") ∈ lw_all := lw_g (lw_at lw_m4 4 rfl) rfl
theorem q1170 : (Jvm.Cond.fieldLink "ScriptTypes$Tokens" (50 : Nat) "ScriptTypes$Tokens" "sort" "I") ∈ lw_all := lw_g (lw_at lw_m4 5 rfl) rfl
theorem q1171 : (Jvm.Cond.fieldLink "ScriptTypes$Tokens" (21 : Nat) "ScriptTypes$Tokens" "from" "I") ∈ lw_all := lw_g (lw_at lw_m4 6 rfl) rfl
theorem q1172 : (Jvm.Cond.fieldLink "ScriptTypes$Tokens" (44 : Nat) "ScriptTypes$Tokens" "last" "I") ∈ lw_all := lw_g (lw_at lw_m4 7 rfl) rfl
theorem q1173 : (Jvm.Cond.fieldLink "ScriptTypes$Parser" (114 : Nat) "ScriptTypes$Tokens" "id" "I") ∈ lw_all := lw_g (lw_at lw_m4 8 rfl) rfl
theorem q1174 : (Jvm.Cond.fieldLink "ScriptTypes$Tokens" (101 : Nat) "ScriptTypes$Tokens" "id" "I") ∈ lw_all := lw_g (lw_at lw_m4 9 rfl) rfl
theorem q1175 : (Jvm.Cond.fieldLink "ScriptTypes$Tokens" (112 : Nat) "ScriptTypes$Tokens" "value" "I") ∈ lw_all := lw_g (lw_at lw_m4 10 rfl) rfl
theorem q1176 : (Jvm.Cond.fieldLink "ScriptTypes$Parser" (355 : Nat) "ScriptTypes$Tokens" "value" "I") ∈ lw_all := lw_g (lw_at lw_m4 11 rfl) rfl
theorem q1177 : (Jvm.Cond.laysFinal "ScriptTypes$Tokens" "ScriptTypes$Tokens" "all" "LScriptTypes;") ∈ lw_all := lw_g (lw_at lw_m4 12 rfl) rfl
theorem q1178 : (Jvm.Cond.soleField "ScriptTypes$Tokens" "all") ∈ lw_all := lw_g (lw_at lw_m4 13 rfl) rfl
theorem q1179 : (Jvm.Cond.lays "ScriptTypes$Tokens" "ScriptTypes$Tokens" "at" "I") ∈ lw_all := lw_g (lw_at lw_m4 14 rfl) rfl
theorem q1180 : (Jvm.Cond.soleField "ScriptTypes$Tokens" "at") ∈ lw_all := lw_g (lw_at lw_m4 15 rfl) rfl
theorem q1181 : (Jvm.Cond.lays "ScriptTypes$Tokens" "ScriptTypes$Tokens" "line" "I") ∈ lw_all := lw_g (lw_at lw_m4 16 rfl) rfl
theorem q1182 : (Jvm.Cond.soleField "ScriptTypes$Tokens" "line") ∈ lw_all := lw_g (lw_at lw_m4 17 rfl) rfl
theorem q1183 : (Jvm.Cond.lays "ScriptTypes$Tokens" "ScriptTypes$Tokens" "sort" "I") ∈ lw_all := lw_g (lw_at lw_m4 18 rfl) rfl
theorem q1184 : (Jvm.Cond.soleField "ScriptTypes$Tokens" "sort") ∈ lw_all := lw_g (lw_at lw_m4 19 rfl) rfl
theorem q1185 : (Jvm.Cond.lays "ScriptTypes$Tokens" "ScriptTypes$Tokens" "from" "I") ∈ lw_all := lw_g (lw_at lw_m4 20 rfl) rfl
theorem q1186 : (Jvm.Cond.soleField "ScriptTypes$Tokens" "from") ∈ lw_all := lw_g (lw_at lw_m4 21 rfl) rfl
theorem q1187 : (Jvm.Cond.lays "ScriptTypes$Tokens" "ScriptTypes$Tokens" "last" "I") ∈ lw_all := lw_g (lw_at lw_m4 22 rfl) rfl
theorem q1188 : (Jvm.Cond.soleField "ScriptTypes$Tokens" "last") ∈ lw_all := lw_g (lw_at lw_m4 23 rfl) rfl
theorem q1189 : (Jvm.Cond.lays "ScriptTypes$Tokens" "ScriptTypes$Tokens" "id" "I") ∈ lw_all := lw_g (lw_at lw_m4 24 rfl) rfl
theorem q1190 : (Jvm.Cond.soleField "ScriptTypes$Tokens" "id") ∈ lw_all := lw_g (lw_at lw_m4 25 rfl) rfl
theorem q1191 : (Jvm.Cond.lays "ScriptTypes$Tokens" "ScriptTypes$Tokens" "value" "I") ∈ lw_all := lw_g (lw_at lw_m4 26 rfl) rfl
theorem q1192 : (Jvm.Cond.soleField "ScriptTypes$Tokens" "value") ∈ lw_all := lw_g (lw_at lw_m4 27 rfl) rfl
theorem q1193 : (Jvm.Cond.superclass "ScriptTypes$Tokens" "java/lang/Object") ∈ lw_all := lw_g (lw_at lw_m4 28 rfl) rfl
theorem q1194 : (Jvm.Cond.fieldLink "ScriptTypes$Parser" (18 : Nat) "ScriptTypes$Parser" "all" "LScriptTypes;") ∈ lw_all := lw_g (lw_at lw_m4 29 rfl) rfl
theorem q1195 : (Jvm.Cond.fieldLink "ScriptTypes$Parser" (27 : Nat) "ScriptTypes$Parser" "t" "LScriptTypes$Tokens;") ∈ lw_all := lw_g (lw_at lw_m4 30 rfl) rfl
theorem q1196 : (Jvm.Cond.fieldLink "ScriptTypes$Parser" (12 : Nat) "ScriptTypes$Parser" "functions" "Ljava/util/ArrayList;") ∈ lw_all := lw_g (lw_at lw_m4 31 rfl) rfl
theorem q1197 : (Jvm.Cond.fieldLink "ScriptTypes$Parser" (44 : Nat) "ScriptTypes$Parser" "function" "LScriptTypes$Code;") ∈ lw_all := lw_g (lw_at lw_m4 32 rfl) rfl
theorem q1198 : (Jvm.Cond.fieldLink "ScriptTypes$Parser" (31 : Nat) "ScriptTypes$Parser" "open" "I") ∈ lw_all := lw_g (lw_at lw_m4 33 rfl) rfl
theorem q1199 : (Jvm.Cond.fieldLink "ScriptTypes$Parser" (102 : Nat) "ScriptTypes$Parser" "loops" "I") ∈ lw_all := lw_g (lw_at lw_m4 34 rfl) rfl
theorem q1200 : (Jvm.Cond.fieldLink "ScriptTypes$Parser" (105 : Nat) "ScriptTypes$Parser" "switches" "I") ∈ lw_all := lw_g (lw_at lw_m4 35 rfl) rfl
theorem q1201 : (Jvm.Cond.fieldLink "ScriptTypes$Parser" (224 : Nat) "ScriptTypes$Parser" "alone" "Z") ∈ lw_all := lw_g (lw_at lw_m4 36 rfl) rfl
theorem q1202 : (Jvm.Cond.fieldLink "ScriptTypes$Parser" (280 : Nat) "ScriptTypes$Parser" "sign" "I") ∈ lw_all := lw_g (lw_at lw_m4 37 rfl) rfl
theorem q1203 : (Jvm.Cond.laysFinal "ScriptTypes$Parser" "ScriptTypes$Parser" "all" "LScriptTypes;") ∈ lw_all := lw_g (lw_at lw_m4 38 rfl) rfl
theorem q1204 : (Jvm.Cond.soleField "ScriptTypes$Parser" "all") ∈ lw_all := lw_g (lw_at lw_m4 39 rfl) rfl
theorem q1205 : (Jvm.Cond.laysFinal "ScriptTypes$Parser" "ScriptTypes$Parser" "t" "LScriptTypes$Tokens;") ∈ lw_all := lw_g (lw_at lw_m4 40 rfl) rfl
theorem q1206 : (Jvm.Cond.soleField "ScriptTypes$Parser" "t") ∈ lw_all := lw_g (lw_at lw_m4 41 rfl) rfl
theorem q1207 : (Jvm.Cond.laysFinal "ScriptTypes$Parser" "ScriptTypes$Parser" "functions" "Ljava/util/ArrayList;") ∈ lw_all := lw_g (lw_at lw_m4 42 rfl) rfl
theorem q1208 : (Jvm.Cond.soleField "ScriptTypes$Parser" "functions") ∈ lw_all := lw_g (lw_at lw_m4 43 rfl) rfl
theorem q1209 : (Jvm.Cond.lays "ScriptTypes$Parser" "ScriptTypes$Parser" "function" "LScriptTypes$Code;") ∈ lw_all := lw_g (lw_at lw_m4 44 rfl) rfl
theorem q1210 : (Jvm.Cond.soleField "ScriptTypes$Parser" "function") ∈ lw_all := lw_g (lw_at lw_m4 45 rfl) rfl
theorem q1211 : (Jvm.Cond.lays "ScriptTypes$Parser" "ScriptTypes$Parser" "open" "I") ∈ lw_all := lw_g (lw_at lw_m4 46 rfl) rfl
theorem q1212 : (Jvm.Cond.soleField "ScriptTypes$Parser" "open") ∈ lw_all := lw_g (lw_at lw_m4 47 rfl) rfl
theorem q1213 : (Jvm.Cond.lays "ScriptTypes$Parser" "ScriptTypes$Parser" "loops" "I") ∈ lw_all := lw_g (lw_at lw_m4 48 rfl) rfl
theorem q1214 : (Jvm.Cond.soleField "ScriptTypes$Parser" "loops") ∈ lw_all := lw_g (lw_at lw_m4 49 rfl) rfl
theorem q1215 : (Jvm.Cond.lays "ScriptTypes$Parser" "ScriptTypes$Parser" "switches" "I") ∈ lw_all := lw_g (lw_at lw_m4 50 rfl) rfl
theorem q1216 : (Jvm.Cond.soleField "ScriptTypes$Parser" "switches") ∈ lw_all := lw_g (lw_at lw_m4 51 rfl) rfl
theorem q1217 : (Jvm.Cond.lays "ScriptTypes$Parser" "ScriptTypes$Parser" "alone" "Z") ∈ lw_all := lw_g (lw_at lw_m4 52 rfl) rfl
theorem q1218 : (Jvm.Cond.soleField "ScriptTypes$Parser" "alone") ∈ lw_all := lw_g (lw_at lw_m4 53 rfl) rfl
theorem q1219 : (Jvm.Cond.lays "ScriptTypes$Parser" "ScriptTypes$Parser" "sign" "I") ∈ lw_all := lw_g (lw_at lw_m4 54 rfl) rfl
theorem q1220 : (Jvm.Cond.soleField "ScriptTypes$Parser" "sign") ∈ lw_all := lw_g (lw_at lw_m4 55 rfl) rfl
theorem q1221 : (Jvm.Cond.superclass "ScriptTypes$Parser" "java/lang/Object") ∈ lw_all := lw_g (lw_at lw_m4 56 rfl) rfl
theorem q1222 : (Jvm.Cond.methodLink "ScriptTypes" (283 : Nat) ({ cls := "ScriptTypes$Parser", name := "script", desc := "()Ljava/util/ArrayList;" } : Jvm.MethodName)) ∈ lw_all := lw_g (lw_at lw_m4 57 rfl) rfl
theorem q1223 : (Jvm.Cond.instanceMethod ({ cls := "ScriptTypes$Parser", name := "script", desc := "()Ljava/util/ArrayList;" } : Jvm.MethodName)) ∈ lw_all := lw_g (lw_at lw_m4 58 rfl) rfl
theorem q1224 : (Jvm.Cond.selects "ScriptTypes$Parser" ({ cls := "ScriptTypes$Parser", name := "script", desc := "()Ljava/util/ArrayList;" } : Jvm.MethodName) ({ cls := "ScriptTypes$Parser", name := "script", desc := "()Ljava/util/ArrayList;" } : Jvm.MethodName)) ∈ lw_all := lw_g (lw_at lw_m4 59 rfl) rfl
theorem q1225 : (Jvm.Cond.code ({ cls := "ScriptTypes$Parser", name := "script", desc := "()Ljava/util/ArrayList;" } : Jvm.MethodName) prog_29_method_3_code (1 : Nat) (Option.some (Jvm.ClassFile.FieldType.object "java/util/ArrayList"))) ∈ lw_all := lw_g (lw_at lw_m4 60 rfl) rfl
theorem q1226 : (Jvm.Cond.classLink "ScriptTypes$Parser" (39 : Nat) "ScriptTypes$Code") ∈ lw_all := lw_g (lw_at lw_m4 61 rfl) rfl
theorem q1227 : (Jvm.Cond.instantiable "ScriptTypes$Code" (10 : Nat)) ∈ lw_all := lw_g (lw_at lw_m4 62 rfl) rfl
theorem q1228 : (Jvm.Cond.methodLink "ScriptTypes$Parser" (41 : Nat) ({ cls := "ScriptTypes$Code", name := "<init>", desc := "(ILScriptTypes$Code;)V" } : Jvm.MethodName)) ∈ lw_all := lw_g (lw_at lw_m4 63 rfl) rfl
theorem q1229 : (Jvm.Cond.instanceMethod ({ cls := "ScriptTypes$Code", name := "<init>", desc := "(ILScriptTypes$Code;)V" } : Jvm.MethodName)) ∈ lw_all := lw_g (lw_at lw_m4 64 rfl) rfl
theorem q1230 : (Jvm.Cond.code ({ cls := "ScriptTypes$Code", name := "<init>", desc := "(ILScriptTypes$Code;)V" } : Jvm.MethodName) prog_9_method_1_code (3 : Nat) (Option.none : Option Jvm.ClassFile.FieldType)) ∈ lw_all := lw_g (lw_at lw_m4 65 rfl) rfl
theorem q1231 : (Jvm.Cond.methodLink "ScriptTypes$Code" (3 : Nat) ({ cls := "java/lang/Object", name := "<init>", desc := "()V" } : Jvm.MethodName)) ∈ lw_all := lw_g (lw_at lw_m4 66 rfl) rfl
theorem q1232 : (Jvm.Cond.classLink "ScriptTypes$Code" (9 : Nat) "java/util/ArrayList") ∈ lw_all := lw_g (lw_at lw_m4 67 rfl) rfl
theorem q1233 : (Jvm.Cond.methodLink "ScriptTypes$Code" (11 : Nat) ({ cls := "java/util/ArrayList", name := "<init>", desc := "()V" } : Jvm.MethodName)) ∈ lw_all := lw_g (lw_at lw_m4 68 rfl) rfl
theorem q1234 : (Jvm.Cond.fieldLink "ScriptTypes$Code" (32 : Nat) "ScriptTypes$Code" "number" "I") ∈ lw_all := lw_g (lw_at lw_m4 69 rfl) rfl
theorem q1235 : (Jvm.Cond.fieldLink "ScriptTypes$Coder" (75 : Nat) "ScriptTypes$Code" "number" "I") ∈ lw_all := lw_g (lw_at lw_m4 70 rfl) rfl
theorem q1236 : (Jvm.Cond.fieldLink "ScriptTypes$Parser" (375 : Nat) "ScriptTypes$Code" "number" "I") ∈ lw_all := lw_g (lw_at lw_m4 71 rfl) rfl
theorem q1237 : (Jvm.Cond.fieldLink "ScriptTypes" (571 : Nat) "ScriptTypes$Code" "number" "I") ∈ lw_all := lw_g (lw_at lw_m4 72 rfl) rfl
theorem q1238 : (Jvm.Cond.fieldLink "ScriptTypes$Code" (35 : Nat) "ScriptTypes$Code" "outer" "LScriptTypes$Code;") ∈ lw_all := lw_g (lw_at lw_m4 73 rfl) rfl
theorem q1239 : (Jvm.Cond.fieldLink "ScriptTypes$Parser" (86 : Nat) "ScriptTypes$Code" "outer" "LScriptTypes$Code;") ∈ lw_all := lw_g (lw_at lw_m4 74 rfl) rfl
theorem q1240 : (Jvm.Cond.fieldLink "ScriptTypes$Coder" (113 : Nat) "ScriptTypes$Code" "outer" "LScriptTypes$Code;") ∈ lw_all := lw_g (lw_at lw_m4 75 rfl) rfl
theorem q1241 : (Jvm.Cond.fieldLink "ScriptTypes$Code" (12 : Nat) "ScriptTypes$Code" "parts" "Ljava/util/ArrayList;") ∈ lw_all := lw_g (lw_at lw_m4 76 rfl) rfl
theorem q1242 : (Jvm.Cond.fieldLink "ScriptTypes$Parser" (65 : Nat) "ScriptTypes$Code" "parts" "Ljava/util/ArrayList;") ∈ lw_all := lw_g (lw_at lw_m4 77 rfl) rfl
theorem q1243 : (Jvm.Cond.fieldLink "ScriptTypes$Coder" (167 : Nat) "ScriptTypes$Code" "parts" "Ljava/util/ArrayList;") ∈ lw_all := lw_g (lw_at lw_m4 78 rfl) rfl
theorem q1244 : (Jvm.Cond.fieldLink "ScriptTypes$Code" (18 : Nat) "ScriptTypes$Code" "declared" "Ljava/util/ArrayList;") ∈ lw_all := lw_g (lw_at lw_m4 79 rfl) rfl
theorem q1245 : (Jvm.Cond.fieldLink "ScriptTypes$Parser" (92 : Nat) "ScriptTypes$Code" "declared" "Ljava/util/ArrayList;") ∈ lw_all := lw_g (lw_at lw_m4 80 rfl) rfl
theorem q1246 : (Jvm.Cond.fieldLink "ScriptTypes$Coder" (158 : Nat) "ScriptTypes$Code" "declared" "Ljava/util/ArrayList;") ∈ lw_all := lw_g (lw_at lw_m4 81 rfl) rfl
theorem q1247 : (Jvm.Cond.fieldLink "ScriptTypes$Code" (21 : Nat) "ScriptTypes$Code" "variables" "[I") ∈ lw_all := lw_g (lw_at lw_m4 82 rfl) rfl
theorem q1248 : (Jvm.Cond.fieldLink "ScriptTypes$Coder" (155 : Nat) "ScriptTypes$Code" "variables" "[I") ∈ lw_all := lw_g (lw_at lw_m4 83 rfl) rfl
theorem q1249 : (Jvm.Cond.fieldLink "ScriptTypes" (577 : Nat) "ScriptTypes$Code" "variables" "[I") ∈ lw_all := lw_g (lw_at lw_m4 84 rfl) rfl
theorem q1250 : (Jvm.Cond.fieldLink "ScriptTypes$Code" (39 : Nat) "ScriptTypes$Code" "many" "I") ∈ lw_all := lw_g (lw_at lw_m4 85 rfl) rfl
theorem q1251 : (Jvm.Cond.fieldLink "ScriptTypes" (316 : Nat) "ScriptTypes$Code" "many" "I") ∈ lw_all := lw_g (lw_at lw_m4 86 rfl) rfl
theorem q1252 : (Jvm.Cond.fieldLink "ScriptTypes$Coder" (154 : Nat) "ScriptTypes$Code" "many" "I") ∈ lw_all := lw_g (lw_at lw_m4 87 rfl) rfl
theorem q1253 : (Jvm.Cond.fieldLink "ScriptTypes$Parser" (120 : Nat) "ScriptTypes$Code" "parameters" "I") ∈ lw_all := lw_g (lw_at lw_m4 88 rfl) rfl
theorem q1254 : (Jvm.Cond.fieldLink "ScriptTypes" (574 : Nat) "ScriptTypes$Code" "parameters" "I") ∈ lw_all := lw_g (lw_at lw_m4 89 rfl) rfl
theorem q1255 : (Jvm.Cond.fieldLink "ScriptTypes$Code" (25 : Nat) "ScriptTypes$Code" "name" "I") ∈ lw_all := lw_g (lw_at lw_m4 90 rfl) rfl
theorem q1256 : (Jvm.Cond.fieldLink "ScriptTypes$Parser" (83 : Nat) "ScriptTypes$Code" "name" "I") ∈ lw_all := lw_g (lw_at lw_m4 91 rfl) rfl
theorem q1257 : (Jvm.Cond.fieldLink "ScriptTypes$Coder" (161 : Nat) "ScriptTypes$Code" "name" "I") ∈ lw_all := lw_g (lw_at lw_m4 92 rfl) rfl
theorem q1258 : (Jvm.Cond.fieldLink "ScriptTypes$Code" (29 : Nat) "ScriptTypes$Code" "own" "I") ∈ lw_all := lw_g (lw_at lw_m4 93 rfl) rfl
theorem q1259 : (Jvm.Cond.fieldLink "ScriptTypes$Parser" (123 : Nat) "ScriptTypes$Code" "own" "I") ∈ lw_all := lw_g (lw_at lw_m4 94 rfl) rfl
theorem q1260 : (Jvm.Cond.fieldLink "ScriptTypes" (580 : Nat) "ScriptTypes$Code" "own" "I") ∈ lw_all := lw_g (lw_at lw_m4 95 rfl) rfl
theorem q1261 : (Jvm.Cond.fieldLink "ScriptTypes$Coder" (151 : Nat) "ScriptTypes$Code" "begins" "I") ∈ lw_all := lw_g (lw_at lw_m4 96 rfl) rfl
theorem q1262 : (Jvm.Cond.fieldLink "ScriptTypes" (449 : Nat) "ScriptTypes$Code" "begins" "I") ∈ lw_all := lw_g (lw_at lw_m4 97 rfl) rfl
theorem q1263 : (Jvm.Cond.laysFinal "ScriptTypes$Code" "ScriptTypes$Code" "number" "I") ∈ lw_all := lw_g (lw_at lw_m4 98 rfl) rfl
theorem q1264 : (Jvm.Cond.soleField "ScriptTypes$Code" "number") ∈ lw_all := lw_g (lw_at lw_m4 99 rfl) rfl
theorem q1265 : (Jvm.Cond.laysFinal "ScriptTypes$Code" "ScriptTypes$Code" "outer" "LScriptTypes$Code;") ∈ lw_all := lw_g (lw_at lw_m4 100 rfl) rfl
theorem q1266 : (Jvm.Cond.soleField "ScriptTypes$Code" "outer") ∈ lw_all := lw_g (lw_at lw_m4 101 rfl) rfl
theorem q1267 : (Jvm.Cond.laysFinal "ScriptTypes$Code" "ScriptTypes$Code" "parts" "Ljava/util/ArrayList;") ∈ lw_all := lw_g (lw_at lw_m4 102 rfl) rfl
theorem q1268 : (Jvm.Cond.soleField "ScriptTypes$Code" "parts") ∈ lw_all := lw_g (lw_at lw_m4 103 rfl) rfl
theorem q1269 : (Jvm.Cond.laysFinal "ScriptTypes$Code" "ScriptTypes$Code" "declared" "Ljava/util/ArrayList;") ∈ lw_all := lw_g (lw_at lw_m4 104 rfl) rfl
theorem q1270 : (Jvm.Cond.soleField "ScriptTypes$Code" "declared") ∈ lw_all := lw_g (lw_at lw_m4 105 rfl) rfl
theorem q1271 : (Jvm.Cond.lays "ScriptTypes$Code" "ScriptTypes$Code" "variables" "[I") ∈ lw_all := lw_g (lw_at lw_m4 106 rfl) rfl
theorem q1272 : (Jvm.Cond.soleField "ScriptTypes$Code" "variables") ∈ lw_all := lw_g (lw_at lw_m4 107 rfl) rfl
theorem q1273 : (Jvm.Cond.lays "ScriptTypes$Code" "ScriptTypes$Code" "many" "I") ∈ lw_all := lw_g (lw_at lw_m4 108 rfl) rfl
theorem q1274 : (Jvm.Cond.soleField "ScriptTypes$Code" "many") ∈ lw_all := lw_g (lw_at lw_m4 109 rfl) rfl
theorem q1275 : (Jvm.Cond.lays "ScriptTypes$Code" "ScriptTypes$Code" "parameters" "I") ∈ lw_all := lw_g (lw_at lw_m4 110 rfl) rfl
theorem q1276 : (Jvm.Cond.soleField "ScriptTypes$Code" "parameters") ∈ lw_all := lw_g (lw_at lw_m4 111 rfl) rfl
theorem q1277 : (Jvm.Cond.lays "ScriptTypes$Code" "ScriptTypes$Code" "name" "I") ∈ lw_all := lw_g (lw_at lw_m4 112 rfl) rfl
theorem q1278 : (Jvm.Cond.soleField "ScriptTypes$Code" "name") ∈ lw_all := lw_g (lw_at lw_m4 113 rfl) rfl
theorem q1279 : (Jvm.Cond.lays "ScriptTypes$Code" "ScriptTypes$Code" "own" "I") ∈ lw_all := lw_g (lw_at lw_m4 114 rfl) rfl
theorem q1280 : (Jvm.Cond.soleField "ScriptTypes$Code" "own") ∈ lw_all := lw_g (lw_at lw_m4 115 rfl) rfl
theorem q1281 : (Jvm.Cond.lays "ScriptTypes$Code" "ScriptTypes$Code" "begins" "I") ∈ lw_all := lw_g (lw_at lw_m4 116 rfl) rfl
theorem q1282 : (Jvm.Cond.soleField "ScriptTypes$Code" "begins") ∈ lw_all := lw_g (lw_at lw_m4 117 rfl) rfl
theorem q1283 : (Jvm.Cond.superclass "ScriptTypes$Code" "java/lang/Object") ∈ lw_all := lw_g (lw_at lw_m4 118 rfl) rfl
theorem q1284 : (Jvm.Cond.methodLink "ScriptTypes$Parser" (48 : Nat) ({ cls := "java/util/ArrayList", name := "add", desc := "(Ljava/lang/Object;)Z" } : Jvm.MethodName)) ∈ lw_all := lw_g (lw_at lw_m4 119 rfl) rfl
theorem q1285 : (Jvm.Cond.instanceMethod ({ cls := "java/util/ArrayList", name := "add", desc := "(Ljava/lang/Object;)Z" } : Jvm.MethodName)) ∈ lw_all := lw_g (lw_at lw_m4 120 rfl) rfl
theorem q1286 : (Jvm.Cond.selects "java/util/ArrayList" ({ cls := "java/util/ArrayList", name := "add", desc := "(Ljava/lang/Object;)Z" } : Jvm.MethodName) ({ cls := "java/util/ArrayList", name := "add", desc := "(Ljava/lang/Object;)Z" } : Jvm.MethodName)) ∈ lw_all := lw_g (lw_at lw_m4 121 rfl) rfl
theorem q1287 : (Jvm.Cond.code ({ cls := "java/util/ArrayList", name := "add", desc := "(Ljava/lang/Object;)Z" } : Jvm.MethodName) prog_67_method_25_code (2 : Nat) (Option.some Jvm.ClassFile.FieldType.boolean)) ∈ lw_all := lw_g (lw_at lw_m4 122 rfl) rfl
theorem q1288 : (Jvm.Cond.methodLink "java/util/ArrayList" (131 : Nat) ({ cls := "java/util/ArrayList", name := "add", desc := "(Ljava/lang/Object;[Ljava/lang/Object;I)V" } : Jvm.MethodName)) ∈ lw_all := lw_g (lw_at lw_m4 123 rfl) rfl
theorem q1289 : (Jvm.Cond.privateMethod ({ cls := "java/util/ArrayList", name := "add", desc := "(Ljava/lang/Object;[Ljava/lang/Object;I)V" } : Jvm.MethodName)) ∈ lw_tbl := lw_at lw_m4 124 rfl
theorem q1290 : (Jvm.Cond.instanceMethod ({ cls := "java/util/ArrayList", name := "add", desc := "(Ljava/lang/Object;[Ljava/lang/Object;I)V" } : Jvm.MethodName)) ∈ lw_all := lw_g (lw_at lw_m4 125 rfl) rfl
theorem q1291 : (Jvm.Cond.code ({ cls := "java/util/ArrayList", name := "add", desc := "(Ljava/lang/Object;[Ljava/lang/Object;I)V" } : Jvm.MethodName) prog_67_method_24_code (4 : Nat) (Option.none : Option Jvm.ClassFile.FieldType)) ∈ lw_all := lw_g (lw_at lw_m4 126 rfl) rfl
theorem q1292 : (Jvm.Cond.methodLink "java/util/ArrayList" (129 : Nat) ({ cls := "java/util/ArrayList", name := "grow", desc := "()[Ljava/lang/Object;" } : Jvm.MethodName)) ∈ lw_all := lw_g (lw_at lw_m4 127 rfl) rfl
theorem q1293 : (Jvm.Cond.privateMethod ({ cls := "java/util/ArrayList", name := "grow", desc := "()[Ljava/lang/Object;" } : Jvm.MethodName)) ∈ lw_tbl := lw_at lw_m4 128 rfl
theorem q1294 : (Jvm.Cond.instanceMethod ({ cls := "java/util/ArrayList", name := "grow", desc := "()[Ljava/lang/Object;" } : Jvm.MethodName)) ∈ lw_all := lw_g (lw_at lw_m4 129 rfl) rfl
theorem q1295 : (Jvm.Cond.code ({ cls := "java/util/ArrayList", name := "grow", desc := "()[Ljava/lang/Object;" } : Jvm.MethodName) prog_67_method_7_code (1 : Nat) (Option.some (Jvm.ClassFile.FieldType.array (Jvm.ClassFile.FieldType.object "java/lang/Object")))) ∈ lw_all := lw_g (lw_at lw_m4 130 rfl) rfl
theorem q1296 : (Jvm.Cond.methodLink "java/util/ArrayList" (69 : Nat) ({ cls := "java/util/ArrayList", name := "grow", desc := "(I)[Ljava/lang/Object;" } : Jvm.MethodName)) ∈ lw_all := lw_g (lw_at lw_m4 131 rfl) rfl
theorem q1297 : (Jvm.Cond.privateMethod ({ cls := "java/util/ArrayList", name := "grow", desc := "(I)[Ljava/lang/Object;" } : Jvm.MethodName)) ∈ lw_tbl := lw_at lw_m4 132 rfl
theorem q1298 : (Jvm.Cond.instanceMethod ({ cls := "java/util/ArrayList", name := "grow", desc := "(I)[Ljava/lang/Object;" } : Jvm.MethodName)) ∈ lw_all := lw_g (lw_at lw_m4 133 rfl) rfl
theorem q1299 : (Jvm.Cond.code ({ cls := "java/util/ArrayList", name := "grow", desc := "(I)[Ljava/lang/Object;" } : Jvm.MethodName) prog_67_method_6_code (4 : Nat) (Option.some (Jvm.ClassFile.FieldType.array (Jvm.ClassFile.FieldType.object "java/lang/Object")))) ∈ lw_all := lw_g (lw_at lw_m4 134 rfl) rfl
theorem q1300 : (Jvm.Cond.methodLink "java/util/ArrayList" (73 : Nat) ({ cls := "jdk/internal/util/ArraysSupport", name := "newLength", desc := "(III)I" } : Jvm.MethodName)) ∈ lw_all := lw_g (lw_at lw_m4 135 rfl) rfl
theorem q1301 : (Jvm.Cond.static ({ cls := "jdk/internal/util/ArraysSupport", name := "newLength", desc := "(III)I" } : Jvm.MethodName)) ∈ lw_all := lw_g (lw_at lw_m4 136 rfl) rfl
theorem q1302 : (Jvm.Cond.code ({ cls := "jdk/internal/util/ArraysSupport", name := "newLength", desc := "(III)I" } : Jvm.MethodName) prog_74_method_27_code (4 : Nat) (Option.some Jvm.ClassFile.FieldType.int)) ∈ lw_all := lw_g (lw_at lw_m4 137 rfl) rfl
theorem q1303 : (Jvm.Cond.methodLink "jdk/internal/util/ArraysSupport" (194 : Nat) ({ cls := "java/lang/Math", name := "max", desc := "(II)I" } : Jvm.MethodName)) ∈ lw_all := lw_g (lw_at lw_m4 138 rfl) rfl
theorem q1304 : (Jvm.Cond.static ({ cls := "java/lang/Math", name := "max", desc := "(II)I" } : Jvm.MethodName)) ∈ lw_all := lw_g (lw_at lw_m4 139 rfl) rfl
theorem q1305 : (Jvm.Cond.code ({ cls := "java/lang/Math", name := "max", desc := "(II)I" } : Jvm.MethodName) prog_55_method_65_code (2 : Nat) (Option.some Jvm.ClassFile.FieldType.int)) ∈ lw_all := lw_g (lw_at lw_m4 140 rfl) rfl
theorem q1306 : (Jvm.Cond.constant "jdk/internal/util/ArraysSupport" (200 : Nat) (2147483639 : Int32)) ∈ lw_all := lw_g (lw_at lw_m4 141 rfl) rfl
theorem q1307 : (Jvm.Cond.methodLink "jdk/internal/util/ArraysSupport" (201 : Nat) ({ cls := "jdk/internal/util/ArraysSupport", name := "hugeLength", desc := "(II)I" } : Jvm.MethodName)) ∈ lw_all := lw_g (lw_at lw_m4 142 rfl) rfl
theorem q1308 : (Jvm.Cond.static ({ cls := "jdk/internal/util/ArraysSupport", name := "hugeLength", desc := "(II)I" } : Jvm.MethodName)) ∈ lw_all := lw_g (lw_at lw_m4 143 rfl) rfl
theorem q1309 : (Jvm.Cond.code ({ cls := "jdk/internal/util/ArraysSupport", name := "hugeLength", desc := "(II)I" } : Jvm.MethodName) prog_74_method_28_code (3 : Nat) (Option.some Jvm.ClassFile.FieldType.int)) ∈ lw_all := lw_g (lw_at lw_m4 144 rfl) rfl
theorem q1310 : (Jvm.Cond.methodLink "java/util/ArrayList" (66 : Nat) ({ cls := "java/util/Arrays", name := "copyOf", desc := "([Ljava/lang/Object;I)[Ljava/lang/Object;" } : Jvm.MethodName)) ∈ lw_all := lw_g (lw_at lw_m4 145 rfl) rfl
theorem q1311 : (Jvm.Cond.static ({ cls := "java/util/Arrays", name := "copyOf", desc := "([Ljava/lang/Object;I)[Ljava/lang/Object;" } : Jvm.MethodName)) ∈ lw_all := lw_g (lw_at lw_m4 146 rfl) rfl
theorem q1312 : (Jvm.Cond.code ({ cls := "java/util/Arrays", name := "copyOf", desc := "([Ljava/lang/Object;I)[Ljava/lang/Object;" } : Jvm.MethodName) prog_68_method_119_code (2 : Nat) (Option.some (Jvm.ClassFile.FieldType.array (Jvm.ClassFile.FieldType.object "java/lang/Object")))) ∈ lw_all := lw_g (lw_at lw_m4 147 rfl) rfl
theorem q1313 : (Jvm.Cond.methodLink "java/util/Arrays" (86 : Nat) ({ cls := "java/lang/Object", name := "getClass", desc := "()Ljava/lang/Class;" } : Jvm.MethodName)) ∈ lw_all := lw_g (lw_at lw_m4 148 rfl) rfl
theorem q1314 : (Jvm.Cond.instanceMethod ({ cls := "java/lang/Object", name := "getClass", desc := "()Ljava/lang/Class;" } : Jvm.MethodName)) ∈ lw_all := lw_g (lw_at lw_m4 149 rfl) rfl
theorem q1315 : (Jvm.Cond.sameMethod "java/lang/Object" "java/lang/Object" "getClass" "()Ljava/lang/Class;") ∈ lw_all := lw_g (lw_at lw_m4 150 rfl) rfl
theorem q1316 : (Jvm.Cond.selects "ScriptTypes" ({ cls := "java/lang/Object", name := "getClass", desc := "()Ljava/lang/Class;" } : Jvm.MethodName) ({ cls := "java/lang/Object", name := "getClass", desc := "()Ljava/lang/Class;" } : Jvm.MethodName)) ∈ lw_all := lw_g (lw_at lw_m4 151 rfl) rfl
theorem q1317 : (Jvm.Cond.selects "ScriptTypes$Ahead" ({ cls := "java/lang/Object", name := "getClass", desc := "()Ljava/lang/Class;" } : Jvm.MethodName) ({ cls := "java/lang/Object", name := "getClass", desc := "()Ljava/lang/Class;" } : Jvm.MethodName)) ∈ lw_all := lw_g (lw_at lw_m4 152 rfl) rfl
theorem q1318 : (Jvm.Cond.selects "ScriptTypes$Around" ({ cls := "java/lang/Object", name := "getClass", desc := "()Ljava/lang/Class;" } : Jvm.MethodName) ({ cls := "java/lang/Object", name := "getClass", desc := "()Ljava/lang/Class;" } : Jvm.MethodName)) ∈ lw_all := lw_g (lw_at lw_m4 153 rfl) rfl
theorem q1319 : (Jvm.Cond.selects "ScriptTypes$Bag" ({ cls := "java/lang/Object", name := "getClass", desc := "()Ljava/lang/Class;" } : Jvm.MethodName) ({ cls := "java/lang/Object", name := "getClass", desc := "()Ljava/lang/Class;" } : Jvm.MethodName)) ∈ lw_all := lw_g (lw_at lw_m4 154 rfl) rfl
theorem q1320 : (Jvm.Cond.selects "ScriptTypes$Block" ({ cls := "java/lang/Object", name := "getClass", desc := "()Ljava/lang/Class;" } : Jvm.MethodName) ({ cls := "java/lang/Object", name := "getClass", desc := "()Ljava/lang/Class;" } : Jvm.MethodName)) ∈ lw_all := lw_g (lw_at lw_m4 155 rfl) rfl
theorem q1321 : (Jvm.Cond.selects "ScriptTypes$Both" ({ cls := "java/lang/Object", name := "getClass", desc := "()Ljava/lang/Class;" } : Jvm.MethodName) ({ cls := "java/lang/Object", name := "getClass", desc := "()Ljava/lang/Class;" } : Jvm.MethodName)) ∈ lw_all := lw_g (lw_at lw_m4 156 rfl) rfl
theorem q1322 : (Jvm.Cond.selects "ScriptTypes$Bracketed" ({ cls := "java/lang/Object", name := "getClass", desc := "()Ljava/lang/Class;" } : Jvm.MethodName) ({ cls := "java/lang/Object", name := "getClass", desc := "()Ljava/lang/Class;" } : Jvm.MethodName)) ∈ lw_all := lw_g (lw_at lw_m4 157 rfl) rfl
theorem q1323 : (Jvm.Cond.selects "ScriptTypes$Choice" ({ cls := "java/lang/Object", name := "getClass", desc := "()Ljava/lang/Class;" } : Jvm.MethodName) ({ cls := "java/lang/Object", name := "getClass", desc := "()Ljava/lang/Class;" } : Jvm.MethodName)) ∈ lw_all := lw_g (lw_at lw_m4 158 rfl) rfl
theorem q1324 : (Jvm.Cond.selects "ScriptTypes$Code" ({ cls := "java/lang/Object", name := "getClass", desc := "()Ljava/lang/Class;" } : Jvm.MethodName) ({ cls := "java/lang/Object", name := "getClass", desc := "()Ljava/lang/Class;" } : Jvm.MethodName)) ∈ lw_all := lw_g (lw_at lw_m4 159 rfl) rfl
theorem q1325 : (Jvm.Cond.selects "ScriptTypes$Coder" ({ cls := "java/lang/Object", name := "getClass", desc := "()Ljava/lang/Class;" } : Jvm.MethodName) ({ cls := "java/lang/Object", name := "getClass", desc := "()Ljava/lang/Class;" } : Jvm.MethodName)) ∈ lw_all := lw_g (lw_at lw_m4 160 rfl) rfl
theorem q1326 : (Jvm.Cond.selects "ScriptTypes$Commas" ({ cls := "java/lang/Object", name := "getClass", desc := "()Ljava/lang/Class;" } : Jvm.MethodName) ({ cls := "java/lang/Object", name := "getClass", desc := "()Ljava/lang/Class;" } : Jvm.MethodName)) ∈ lw_all := lw_g (lw_at lw_m4 161 rfl) rfl
theorem q1327 : (Jvm.Cond.selects "ScriptTypes$Counts" ({ cls := "java/lang/Object", name := "getClass", desc := "()Ljava/lang/Class;" } : Jvm.MethodName) ({ cls := "java/lang/Object", name := "getClass", desc := "()Ljava/lang/Class;" } : Jvm.MethodName)) ∈ lw_all := lw_g (lw_at lw_m4 162 rfl) rfl
theorem q1328 : (Jvm.Cond.selects "ScriptTypes$Drops" ({ cls := "java/lang/Object", name := "getClass", desc := "()Ljava/lang/Class;" } : Jvm.MethodName) ({ cls := "java/lang/Object", name := "getClass", desc := "()Ljava/lang/Class;" } : Jvm.MethodName)) ∈ lw_all := lw_g (lw_at lw_m4 163 rfl) rfl
theorem q1329 : (Jvm.Cond.selects "ScriptTypes$Each" ({ cls := "java/lang/Object", name := "getClass", desc := "()Ljava/lang/Class;" } : Jvm.MethodName) ({ cls := "java/lang/Object", name := "getClass", desc := "()Ljava/lang/Class;" } : Jvm.MethodName)) ∈ lw_all := lw_g (lw_at lw_m4 164 rfl) rfl
theorem q1330 : (Jvm.Cond.selects "ScriptTypes$Fault" ({ cls := "java/lang/Object", name := "getClass", desc := "()Ljava/lang/Class;" } : Jvm.MethodName) ({ cls := "java/lang/Object", name := "getClass", desc := "()Ljava/lang/Class;" } : Jvm.MethodName)) ∈ lw_all := lw_g (lw_at lw_m4 165 rfl) rfl
theorem q1331 : (Jvm.Cond.selects "ScriptTypes$Goes" ({ cls := "java/lang/Object", name := "getClass", desc := "()Ljava/lang/Class;" } : Jvm.MethodName) ({ cls := "java/lang/Object", name := "getClass", desc := "()Ljava/lang/Class;" } : Jvm.MethodName)) ∈ lw_all := lw_g (lw_at lw_m4 166 rfl) rfl
theorem q1332 : (Jvm.Cond.selects "ScriptTypes$If" ({ cls := "java/lang/Object", name := "getClass", desc := "()Ljava/lang/Class;" } : Jvm.MethodName) ({ cls := "java/lang/Object", name := "getClass", desc := "()Ljava/lang/Class;" } : Jvm.MethodName)) ∈ lw_all := lw_g (lw_at lw_m4 167 rfl) rfl
theorem q1333 : (Jvm.Cond.selects "ScriptTypes$Items" ({ cls := "java/lang/Object", name := "getClass", desc := "()Ljava/lang/Class;" } : Jvm.MethodName) ({ cls := "java/lang/Object", name := "getClass", desc := "()Ljava/lang/Class;" } : Jvm.MethodName)) ∈ lw_all := lw_g (lw_at lw_m4 168 rfl) rfl
theorem q1334 : (Jvm.Cond.selects "ScriptTypes$Jumps" ({ cls := "java/lang/Object", name := "getClass", desc := "()Ljava/lang/Class;" } : Jvm.MethodName) ({ cls := "java/lang/Object", name := "getClass", desc := "()Ljava/lang/Class;" } : Jvm.MethodName)) ∈ lw_all := lw_g (lw_at lw_m4 169 rfl) rfl
theorem q1335 : (Jvm.Cond.selects "ScriptTypes$Kept" ({ cls := "java/lang/Object", name := "getClass", desc := "()Ljava/lang/Class;" } : Jvm.MethodName) ({ cls := "java/lang/Object", name := "getClass", desc := "()Ljava/lang/Class;" } : Jvm.MethodName)) ∈ lw_all := lw_g (lw_at lw_m4 170 rfl) rfl
theorem q1336 : (Jvm.Cond.selects "ScriptTypes$Left" ({ cls := "java/lang/Object", name := "getClass", desc := "()Ljava/lang/Class;" } : Jvm.MethodName) ({ cls := "java/lang/Object", name := "getClass", desc := "()Ljava/lang/Class;" } : Jvm.MethodName)) ∈ lw_all := lw_g (lw_at lw_m4 171 rfl) rfl
theorem q1337 : (Jvm.Cond.selects "ScriptTypes$Literal" ({ cls := "java/lang/Object", name := "getClass", desc := "()Ljava/lang/Class;" } : Jvm.MethodName) ({ cls := "java/lang/Object", name := "getClass", desc := "()Ljava/lang/Class;" } : Jvm.MethodName)) ∈ lw_all := lw_g (lw_at lw_m4 172 rfl) rfl
theorem q1338 : (Jvm.Cond.selects "ScriptTypes$Loop" ({ cls := "java/lang/Object", name := "getClass", desc := "()Ljava/lang/Class;" } : Jvm.MethodName) ({ cls := "java/lang/Object", name := "getClass", desc := "()Ljava/lang/Class;" } : Jvm.MethodName)) ∈ lw_all := lw_g (lw_at lw_m4 173 rfl) rfl
theorem q1339 : (Jvm.Cond.selects "ScriptTypes$Made" ({ cls := "java/lang/Object", name := "getClass", desc := "()Ljava/lang/Class;" } : Jvm.MethodName) ({ cls := "java/lang/Object", name := "getClass", desc := "()Ljava/lang/Class;" } : Jvm.MethodName)) ∈ lw_all := lw_g (lw_at lw_m4 174 rfl) rfl
theorem q1340 : (Jvm.Cond.selects "ScriptTypes$Name" ({ cls := "java/lang/Object", name := "getClass", desc := "()Ljava/lang/Class;" } : Jvm.MethodName) ({ cls := "java/lang/Object", name := "getClass", desc := "()Ljava/lang/Class;" } : Jvm.MethodName)) ∈ lw_all := lw_g (lw_at lw_m4 175 rfl) rfl
theorem q1341 : (Jvm.Cond.selects "ScriptTypes$New" ({ cls := "java/lang/Object", name := "getClass", desc := "()Ljava/lang/Class;" } : Jvm.MethodName) ({ cls := "java/lang/Object", name := "getClass", desc := "()Ljava/lang/Class;" } : Jvm.MethodName)) ∈ lw_all := lw_g (lw_at lw_m4 176 rfl) rfl
theorem q1342 : (Jvm.Cond.selects "ScriptTypes$NoRoom" ({ cls := "java/lang/Object", name := "getClass", desc := "()Ljava/lang/Class;" } : Jvm.MethodName) ({ cls := "java/lang/Object", name := "getClass", desc := "()Ljava/lang/Class;" } : Jvm.MethodName)) ∈ lw_all := lw_g (lw_at lw_m4 177 rfl) rfl
theorem q1343 : (Jvm.Cond.selects "ScriptTypes$Parser" ({ cls := "java/lang/Object", name := "getClass", desc := "()Ljava/lang/Class;" } : Jvm.MethodName) ({ cls := "java/lang/Object", name := "getClass", desc := "()Ljava/lang/Class;" } : Jvm.MethodName)) ∈ lw_all := lw_g (lw_at lw_m4 178 rfl) rfl
theorem q1344 : (Jvm.Cond.selects "ScriptTypes$Return" ({ cls := "java/lang/Object", name := "getClass", desc := "()Ljava/lang/Class;" } : Jvm.MethodName) ({ cls := "java/lang/Object", name := "getClass", desc := "()Ljava/lang/Class;" } : Jvm.MethodName)) ∈ lw_all := lw_g (lw_at lw_m4 179 rfl) rfl
theorem q1345 : (Jvm.Cond.selects "ScriptTypes$Row" ({ cls := "java/lang/Object", name := "getClass", desc := "()Ljava/lang/Class;" } : Jvm.MethodName) ({ cls := "java/lang/Object", name := "getClass", desc := "()Ljava/lang/Class;" } : Jvm.MethodName)) ∈ lw_all := lw_g (lw_at lw_m4 180 rfl) rfl
theorem q1346 : (Jvm.Cond.selects "ScriptTypes$Sets" ({ cls := "java/lang/Object", name := "getClass", desc := "()Ljava/lang/Class;" } : Jvm.MethodName) ({ cls := "java/lang/Object", name := "getClass", desc := "()Ljava/lang/Class;" } : Jvm.MethodName)) ∈ lw_all := lw_g (lw_at lw_m4 181 rfl) rfl
theorem q1347 : (Jvm.Cond.selects "ScriptTypes$Suffix" ({ cls := "java/lang/Object", name := "getClass", desc := "()Ljava/lang/Class;" } : Jvm.MethodName) ({ cls := "java/lang/Object", name := "getClass", desc := "()Ljava/lang/Class;" } : Jvm.MethodName)) ∈ lw_all := lw_g (lw_at lw_m4 182 rfl) rfl
theorem q1348 : (Jvm.Cond.selects "ScriptTypes$Switch" ({ cls := "java/lang/Object", name := "getClass", desc := "()Ljava/lang/Class;" } : Jvm.MethodName) ({ cls := "java/lang/Object", name := "getClass", desc := "()Ljava/lang/Class;" } : Jvm.MethodName)) ∈ lw_all := lw_g (lw_at lw_m4 183 rfl) rfl
theorem q1349 : (Jvm.Cond.selects "ScriptTypes$Table" ({ cls := "java/lang/Object", name := "getClass", desc := "()Ljava/lang/Class;" } : Jvm.MethodName) ({ cls := "java/lang/Object", name := "getClass", desc := "()Ljava/lang/Class;" } : Jvm.MethodName)) ∈ lw_all := lw_g (lw_at lw_m4 184 rfl) rfl
theorem q1350 : (Jvm.Cond.selects "ScriptTypes$Texts" ({ cls := "java/lang/Object", name := "getClass", desc := "()Ljava/lang/Class;" } : Jvm.MethodName) ({ cls := "java/lang/Object", name := "getClass", desc := "()Ljava/lang/Class;" } : Jvm.MethodName)) ∈ lw_all := lw_g (lw_at lw_m4 185 rfl) rfl
theorem q1351 : (Jvm.Cond.selects "ScriptTypes$This" ({ cls := "java/lang/Object", name := "getClass", desc := "()Ljava/lang/Class;" } : Jvm.MethodName) ({ cls := "java/lang/Object", name := "getClass", desc := "()Ljava/lang/Class;" } : Jvm.MethodName)) ∈ lw_all := lw_g (lw_at lw_m4 186 rfl) rfl
theorem q1352 : (Jvm.Cond.selects "ScriptTypes$Throw" ({ cls := "java/lang/Object", name := "getClass", desc := "()Ljava/lang/Class;" } : Jvm.MethodName) ({ cls := "java/lang/Object", name := "getClass", desc := "()Ljava/lang/Class;" } : Jvm.MethodName)) ∈ lw_all := lw_g (lw_at lw_m4 187 rfl) rfl
theorem q1353 : (Jvm.Cond.selects "ScriptTypes$Thrown" ({ cls := "java/lang/Object", name := "getClass", desc := "()Ljava/lang/Class;" } : Jvm.MethodName) ({ cls := "java/lang/Object", name := "getClass", desc := "()Ljava/lang/Class;" } : Jvm.MethodName)) ∈ lw_all := lw_g (lw_at lw_m4 188 rfl) rfl
theorem q1354 : (Jvm.Cond.selects "ScriptTypes$Tokens" ({ cls := "java/lang/Object", name := "getClass", desc := "()Ljava/lang/Class;" } : Jvm.MethodName) ({ cls := "java/lang/Object", name := "getClass", desc := "()Ljava/lang/Class;" } : Jvm.MethodName)) ∈ lw_all := lw_g (lw_at lw_m4 189 rfl) rfl
theorem q1355 : (Jvm.Cond.selects "ScriptTypes$Try" ({ cls := "java/lang/Object", name := "getClass", desc := "()Ljava/lang/Class;" } : Jvm.MethodName) ({ cls := "java/lang/Object", name := "getClass", desc := "()Ljava/lang/Class;" } : Jvm.MethodName)) ∈ lw_all := lw_g (lw_at lw_m4 190 rfl) rfl
theorem q1356 : (Jvm.Cond.selects "ScriptTypes$Work" ({ cls := "java/lang/Object", name := "getClass", desc := "()Ljava/lang/Class;" } : Jvm.MethodName) ({ cls := "java/lang/Object", name := "getClass", desc := "()Ljava/lang/Class;" } : Jvm.MethodName)) ∈ lw_all := lw_g (lw_at lw_m4 191 rfl) rfl
theorem q1357 : (Jvm.Cond.selects "ScriptTypesModel" ({ cls := "java/lang/Object", name := "getClass", desc := "()Ljava/lang/Class;" } : Jvm.MethodName) ({ cls := "java/lang/Object", name := "getClass", desc := "()Ljava/lang/Class;" } : Jvm.MethodName)) ∈ lw_all := lw_g (lw_at lw_m4 192 rfl) rfl
theorem q1358 : (Jvm.Cond.selects "java/lang/IllegalArgumentException" ({ cls := "java/lang/Object", name := "getClass", desc := "()Ljava/lang/Class;" } : Jvm.MethodName) ({ cls := "java/lang/Object", name := "getClass", desc := "()Ljava/lang/Class;" } : Jvm.MethodName)) ∈ lw_all := lw_g (lw_at lw_m4 193 rfl) rfl
theorem q1359 : (Jvm.Cond.selects "java/lang/IllegalStateException" ({ cls := "java/lang/Object", name := "getClass", desc := "()Ljava/lang/Class;" } : Jvm.MethodName) ({ cls := "java/lang/Object", name := "getClass", desc := "()Ljava/lang/Class;" } : Jvm.MethodName)) ∈ lw_all := lw_g (lw_at lw_m4 194 rfl) rfl
theorem q1360 : (Jvm.Cond.selects "java/util/ArrayList" ({ cls := "java/lang/Object", name := "getClass", desc := "()Ljava/lang/Class;" } : Jvm.MethodName) ({ cls := "java/lang/Object", name := "getClass", desc := "()Ljava/lang/Class;" } : Jvm.MethodName)) ∈ lw_all := lw_g (lw_at lw_m4 195 rfl) rfl
theorem q1361 : (Jvm.Cond.native ({ cls := "java/lang/Object", name := "getClass", desc := "()Ljava/lang/Class;" } : Jvm.MethodName)) ∈ lw_all := lw_g (lw_at lw_m4 196 rfl) rfl
theorem q1362 : (Jvm.Cond.methodLink "java/util/Arrays" (300 : Nat) ({ cls := "java/util/Arrays", name := "copyOf", desc := "([Ljava/lang/Object;ILjava/lang/Class;)[Ljava/lang/Object;" } : Jvm.MethodName)) ∈ lw_all := lw_g (lw_at lw_m4 197 rfl) rfl
theorem q1363 : (Jvm.Cond.static ({ cls := "java/util/Arrays", name := "copyOf", desc := "([Ljava/lang/Object;ILjava/lang/Class;)[Ljava/lang/Object;" } : Jvm.MethodName)) ∈ lw_all := lw_g (lw_at lw_m4 198 rfl) rfl
theorem q1364 : (Jvm.Cond.code ({ cls := "java/util/Arrays", name := "copyOf", desc := "([Ljava/lang/Object;ILjava/lang/Class;)[Ljava/lang/Object;" } : Jvm.MethodName) prog_68_method_120_code (4 : Nat) (Option.some (Jvm.ClassFile.FieldType.array (Jvm.ClassFile.FieldType.object "java/lang/Object")))) ∈ lw_all := lw_g (lw_at lw_m4 199 rfl) rfl
theorem q1365 : (Jvm.Cond.classLink "java/util/Arrays" (110 : Nat) "[Ljava/lang/Object;") ∈ lw_all := lw_g (lw_at lw_m4 200 rfl) rfl
theorem q1366 : (Jvm.Cond.arrayOver (Jvm.ClassFile.FieldType.object "java/lang/Object")) ∈ lw_tbl := lw_at lw_m4 201 rfl
theorem q1367 : (Jvm.Cond.classLink "java/util/Arrays" (2 : Nat) "java/lang/Object") ∈ lw_all := lw_g (lw_at lw_m4 202 rfl) rfl
theorem q1368 : (Jvm.Cond.methodLink "java/util/Arrays" (304 : Nat) ({ cls := "java/lang/Math", name := "min", desc := "(II)I" } : Jvm.MethodName)) ∈ lw_all := lw_g (lw_at lw_m4 203 rfl) rfl
theorem q1369 : (Jvm.Cond.static ({ cls := "java/lang/Math", name := "min", desc := "(II)I" } : Jvm.MethodName)) ∈ lw_all := lw_g (lw_at lw_m4 204 rfl) rfl
theorem q1370 : (Jvm.Cond.code ({ cls := "java/lang/Math", name := "min", desc := "(II)I" } : Jvm.MethodName) prog_55_method_69_code (2 : Nat) (Option.some Jvm.ClassFile.FieldType.int)) ∈ lw_all := lw_g (lw_at lw_m4 205 rfl) rfl
theorem q1371 : (Jvm.Cond.methodLink "java/util/Arrays" (150 : Nat) ({ cls := "java/lang/System", name := "arraycopy", desc := "(Ljava/lang/Object;ILjava/lang/Object;II)V" } : Jvm.MethodName)) ∈ lw_all := lw_g (lw_at lw_m4 206 rfl) rfl
theorem q1372 : (Jvm.Cond.static ({ cls := "java/lang/System", name := "arraycopy", desc := "(Ljava/lang/Object;ILjava/lang/Object;II)V" } : Jvm.MethodName)) ∈ lw_all := lw_g (lw_at lw_m4 207 rfl) rfl
theorem q1373 : (Jvm.Cond.native ({ cls := "java/lang/System", name := "arraycopy", desc := "(Ljava/lang/Object;ILjava/lang/Object;II)V" } : Jvm.MethodName)) ∈ lw_all := lw_g (lw_at lw_m4 208 rfl) rfl
theorem q1374 : (Jvm.Cond.methodLink "java/util/ArrayList" (79 : Nat) ({ cls := "java/lang/Math", name := "max", desc := "(II)I" } : Jvm.MethodName)) ∈ lw_all := lw_g (lw_at lw_m4 209 rfl) rfl
theorem q1375 : (Jvm.Cond.classLink "java/util/ArrayList" (7 : Nat) "java/lang/Object") ∈ lw_all := lw_g (lw_at lw_m4 210 rfl) rfl
theorem q1376 : (Jvm.Cond.methodLink "ScriptTypes$Parser" (52 : Nat) ({ cls := "ScriptTypes$Tokens", name := "next", desc := "()V" } : Jvm.MethodName)) ∈ lw_all := lw_g (lw_at lw_m4 211 rfl) rfl
theorem q1377 : (Jvm.Cond.instanceMethod ({ cls := "ScriptTypes$Tokens", name := "next", desc := "()V" } : Jvm.MethodName)) ∈ lw_all := lw_g (lw_at lw_m4 212 rfl) rfl
theorem q1378 : (Jvm.Cond.selects "ScriptTypes$Tokens" ({ cls := "ScriptTypes$Tokens", name := "next", desc := "()V" } : Jvm.MethodName) ({ cls := "ScriptTypes$Tokens", name := "next", desc := "()V" } : Jvm.MethodName)) ∈ lw_all := lw_g (lw_at lw_m4 213 rfl) rfl
theorem q1379 : (Jvm.Cond.code ({ cls := "ScriptTypes$Tokens", name := "next", desc := "()V" } : Jvm.MethodName) prog_40_method_6_code (2 : Nat) (Option.none : Option Jvm.ClassFile.FieldType)) ∈ lw_all := lw_g (lw_at lw_m4 214 rfl) rfl
theorem q1380 : (Jvm.Cond.methodLink "ScriptTypes$Tokens" (47 : Nat) ({ cls := "ScriptTypes$Tokens", name := "space", desc := "()V" } : Jvm.MethodName)) ∈ lw_all := lw_g (lw_at lw_m4 215 rfl) rfl
theorem q1381 : (Jvm.Cond.privateMethod ({ cls := "ScriptTypes$Tokens", name := "space", desc := "()V" } : Jvm.MethodName)) ∈ lw_tbl := lw_at lw_m4 216 rfl
theorem q1382 : (Jvm.Cond.instanceMethod ({ cls := "ScriptTypes$Tokens", name := "space", desc := "()V" } : Jvm.MethodName)) ∈ lw_all := lw_g (lw_at lw_m4 217 rfl) rfl
theorem q1383 : (Jvm.Cond.code ({ cls := "ScriptTypes$Tokens", name := "space", desc := "()V" } : Jvm.MethodName) prog_40_method_4_code (2 : Nat) (Option.none : Option Jvm.ClassFile.FieldType)) ∈ lw_all := lw_g (lw_at lw_m4 218 rfl) rfl
theorem q1384 : (Jvm.Cond.methodLink "ScriptTypes$Tokens" (37 : Nat) ({ cls := "ScriptTypes$Tokens", name := "sign", desc := "(I)I" } : Jvm.MethodName)) ∈ lw_all := lw_g (lw_at lw_m4 219 rfl) rfl
theorem q1385 : (Jvm.Cond.privateMethod ({ cls := "ScriptTypes$Tokens", name := "sign", desc := "(I)I" } : Jvm.MethodName)) ∈ lw_tbl := lw_at lw_m4 220 rfl
theorem q1386 : (Jvm.Cond.instanceMethod ({ cls := "ScriptTypes$Tokens", name := "sign", desc := "(I)I" } : Jvm.MethodName)) ∈ lw_all := lw_g (lw_at lw_m4 221 rfl) rfl
theorem q1387 : (Jvm.Cond.code ({ cls := "ScriptTypes$Tokens", name := "sign", desc := "(I)I" } : Jvm.MethodName) prog_40_method_3_code (2 : Nat) (Option.some Jvm.ClassFile.FieldType.int)) ∈ lw_all := lw_g (lw_at lw_m4 222 rfl) rfl
theorem q1388 : (Jvm.Cond.methodLink "ScriptTypes$Tokens" (41 : Nat) ({ cls := "ScriptTypes$Tokens", name := "comment", desc := "()V" } : Jvm.MethodName)) ∈ lw_all := lw_g (lw_at lw_m4 223 rfl) rfl
theorem q1389 : (Jvm.Cond.privateMethod ({ cls := "ScriptTypes$Tokens", name := "comment", desc := "()V" } : Jvm.MethodName)) ∈ lw_tbl := lw_at lw_m4 224 rfl
theorem q1390 : (Jvm.Cond.instanceMethod ({ cls := "ScriptTypes$Tokens", name := "comment", desc := "()V" } : Jvm.MethodName)) ∈ lw_all := lw_g (lw_at lw_m4 225 rfl) rfl
theorem q1391 : (Jvm.Cond.code ({ cls := "ScriptTypes$Tokens", name := "comment", desc := "()V" } : Jvm.MethodName) prog_40_method_5_code (2 : Nat) (Option.none : Option Jvm.ClassFile.FieldType)) ∈ lw_all := lw_g (lw_at lw_m4 226 rfl) rfl
theorem q1392 : (Jvm.Cond.classLink "ScriptTypes$Tokens" (19 : Nat) "ScriptTypes$Fault") ∈ lw_all := lw_g (lw_at lw_m4 227 rfl) rfl
theorem q1393 : (Jvm.Cond.instantiable "ScriptTypes$Fault" (7 : Nat)) ∈ lw_all := lw_g (lw_at lw_m4 228 rfl) rfl
theorem q1394 : (Jvm.Cond.castable "ScriptTypes$Fault" "ScriptTypes$Fault") ∈ lw_tbl := lw_at lw_m4 229 rfl
theorem q1395 : (Jvm.Cond.selects "ScriptTypes$Fault" ({ cls := "java/lang/Throwable", name := "fillInStackTrace", desc := "(I)Ljava/lang/Throwable;" } : Jvm.MethodName) ({ cls := "java/lang/Throwable", name := "fillInStackTrace", desc := "(I)Ljava/lang/Throwable;" } : Jvm.MethodName)) ∈ lw_all := lw_g (lw_at lw_m4 230 rfl) rfl
theorem q1396 : (Jvm.Cond.lays "ScriptTypes$Fault" "java/lang/Throwable" "cause" "Ljava/lang/Throwable;") ∈ lw_all := lw_g (lw_at lw_m4 231 rfl) rfl
theorem q1397 : (Jvm.Cond.lays "ScriptTypes$Fault" "java/lang/Throwable" "stackTrace" "[Ljava/lang/StackTraceElement;") ∈ lw_all := lw_g (lw_at lw_m4 232 rfl) rfl
theorem q1398 : (Jvm.Cond.lays "ScriptTypes$Fault" "java/lang/Throwable" "suppressedExceptions" "Ljava/util/List;") ∈ lw_all := lw_g (lw_at lw_m4 233 rfl) rfl
theorem q1399 : (Jvm.Cond.lays "ScriptTypes$Fault" "java/lang/Throwable" "detailMessage" "Ljava/lang/String;") ∈ lw_all := lw_g (lw_at lw_m4 234 rfl) rfl
theorem q1400 : (Jvm.Cond.lays "ScriptTypes$Fault" "java/lang/Throwable" "backtrace" "Ljava/lang/Object;") ∈ lw_all := lw_g (lw_at lw_m4 235 rfl) rfl
theorem q1401 : (Jvm.Cond.methodLink "ScriptTypes$Tokens" (24 : Nat) ({ cls := "ScriptTypes$Fault", name := "<init>", desc := "(I)V" } : Jvm.MethodName)) ∈ lw_all := lw_g (lw_at lw_m4 236 rfl) rfl
theorem q1402 : (Jvm.Cond.instanceMethod ({ cls := "ScriptTypes$Fault", name := "<init>", desc := "(I)V" } : Jvm.MethodName)) ∈ lw_all := lw_g (lw_at lw_m4 237 rfl) rfl
theorem q1403 : (Jvm.Cond.code ({ cls := "ScriptTypes$Fault", name := "<init>", desc := "(I)V" } : Jvm.MethodName) prog_15_method_1_code (2 : Nat) (Option.none : Option Jvm.ClassFile.FieldType)) ∈ lw_all := lw_g (lw_at lw_m4 238 rfl) rfl
theorem q1404 : (Jvm.Cond.methodLink "ScriptTypes$Fault" (1 : Nat) ({ cls := "java/lang/RuntimeException", name := "<init>", desc := "(Ljava/lang/String;Ljava/lang/Throwable;ZZ)V" } : Jvm.MethodName)) ∈ lw_all := lw_g (lw_at lw_m4 239 rfl) rfl
theorem q1405 : (Jvm.Cond.fieldLink "ScriptTypes$Fault" (7 : Nat) "ScriptTypes$Fault" "what" "I") ∈ lw_all := lw_g (lw_at lw_m5 0 rfl) rfl
theorem q1406 : (Jvm.Cond.fieldLink "ScriptTypes" (310 : Nat) "ScriptTypes$Fault" "what" "I") ∈ lw_all := lw_g (lw_at lw_m5 1 rfl) rfl
theorem q1407 : (Jvm.Cond.laysFinal "ScriptTypes$Fault" "ScriptTypes$Fault" "what" "I") ∈ lw_all := lw_g (lw_at lw_m5 2 rfl) rfl
theorem q1408 : (Jvm.Cond.soleField "ScriptTypes$Fault" "what") ∈ lw_all := lw_g (lw_at lw_m5 3 rfl) rfl
theorem q1409 : (Jvm.Cond.lays "ScriptTypes$Fault" "java/lang/Throwable" "depth" "I") ∈ lw_all := lw_g (lw_at lw_m5 4 rfl) rfl
theorem q1410 : (Jvm.Cond.superclass "ScriptTypes$Fault" "java/lang/RuntimeException") ∈ lw_all := lw_g (lw_at lw_m5 5 rfl) rfl
theorem q1411 : (Jvm.Cond.methodLinkNest "ScriptTypes$Tokens" (53 : Nat) ({ cls := "ScriptTypes", name := "starts", desc := "(I)Z" } : Jvm.MethodName) "ScriptTypes") ∈ lw_tbl := lw_at lw_m5 6 rfl
theorem q1412 : (Jvm.Cond.static ({ cls := "ScriptTypes", name := "starts", desc := "(I)Z" } : Jvm.MethodName)) ∈ lw_all := lw_g (lw_at lw_m5 7 rfl) rfl
theorem q1413 : (Jvm.Cond.code ({ cls := "ScriptTypes", name := "starts", desc := "(I)Z" } : Jvm.MethodName) prog_1_method_11_code (1 : Nat) (Option.some Jvm.ClassFile.FieldType.boolean)) ∈ lw_all := lw_g (lw_at lw_m5 8 rfl) rfl
theorem q1414 : (Jvm.Cond.methodLink "ScriptTypes$Tokens" (57 : Nat) ({ cls := "ScriptTypes$Tokens", name := "word", desc := "()V" } : Jvm.MethodName)) ∈ lw_all := lw_g (lw_at lw_m5 9 rfl) rfl
theorem q1415 : (Jvm.Cond.privateMethod ({ cls := "ScriptTypes$Tokens", name := "word", desc := "()V" } : Jvm.MethodName)) ∈ lw_tbl := lw_at lw_m5 10 rfl
theorem q1416 : (Jvm.Cond.instanceMethod ({ cls := "ScriptTypes$Tokens", name := "word", desc := "()V" } : Jvm.MethodName)) ∈ lw_all := lw_g (lw_at lw_m5 11 rfl) rfl
theorem q1417 : (Jvm.Cond.code ({ cls := "ScriptTypes$Tokens", name := "word", desc := "()V" } : Jvm.MethodName) prog_40_method_7_code (1 : Nat) (Option.none : Option Jvm.ClassFile.FieldType)) ∈ lw_all := lw_g (lw_at lw_m5 12 rfl) rfl
theorem q1418 : (Jvm.Cond.methodLinkNest "ScriptTypes$Tokens" (76 : Nat) ({ cls := "ScriptTypes", name := "clearRow", desc := "()V" } : Jvm.MethodName) "ScriptTypes") ∈ lw_tbl := lw_at lw_m5 13 rfl
theorem q1419 : (Jvm.Cond.methodLinkNest "ScriptTypes$Tokens" (79 : Nat) ({ cls := "ScriptTypes", name := "inner", desc := "(I)Z" } : Jvm.MethodName) "ScriptTypes") ∈ lw_tbl := lw_at lw_m5 14 rfl
theorem q1420 : (Jvm.Cond.static ({ cls := "ScriptTypes", name := "inner", desc := "(I)Z" } : Jvm.MethodName)) ∈ lw_all := lw_g (lw_at lw_m5 15 rfl) rfl
theorem q1421 : (Jvm.Cond.code ({ cls := "ScriptTypes", name := "inner", desc := "(I)Z" } : Jvm.MethodName) prog_1_method_13_code (1 : Nat) (Option.some Jvm.ClassFile.FieldType.boolean)) ∈ lw_all := lw_g (lw_at lw_m5 16 rfl) rfl
theorem q1422 : (Jvm.Cond.methodLink "ScriptTypes" (263 : Nat) ({ cls := "ScriptTypes", name := "starts", desc := "(I)Z" } : Jvm.MethodName)) ∈ lw_all := lw_g (lw_at lw_m5 17 rfl) rfl
theorem q1423 : (Jvm.Cond.methodLink "ScriptTypes" (267 : Nat) ({ cls := "ScriptTypes", name := "digit", desc := "(I)Z" } : Jvm.MethodName)) ∈ lw_all := lw_g (lw_at lw_m5 18 rfl) rfl
theorem q1424 : (Jvm.Cond.static ({ cls := "ScriptTypes", name := "digit", desc := "(I)Z" } : Jvm.MethodName)) ∈ lw_all := lw_g (lw_at lw_m5 19 rfl) rfl
theorem q1425 : (Jvm.Cond.code ({ cls := "ScriptTypes", name := "digit", desc := "(I)Z" } : Jvm.MethodName) prog_1_method_12_code (1 : Nat) (Option.some Jvm.ClassFile.FieldType.boolean)) ∈ lw_all := lw_g (lw_at lw_m5 20 rfl) rfl
theorem q1426 : (Jvm.Cond.methodLinkNest "ScriptTypes$Tokens" (82 : Nat) ({ cls := "ScriptTypes", name := "write", desc := "(I)V" } : Jvm.MethodName) "ScriptTypes") ∈ lw_tbl := lw_at lw_m5 21 rfl
theorem q1427 : (Jvm.Cond.methodLink "ScriptTypes$Tokens" (95 : Nat) ({ cls := "ScriptTypes$Texts", name := "find", desc := "([BI)I" } : Jvm.MethodName)) ∈ lw_all := lw_g (lw_at lw_m5 22 rfl) rfl
theorem q1428 : (Jvm.Cond.instanceMethod ({ cls := "ScriptTypes$Texts", name := "find", desc := "([BI)I" } : Jvm.MethodName)) ∈ lw_all := lw_g (lw_at lw_m5 23 rfl) rfl
theorem q1429 : (Jvm.Cond.selects "ScriptTypes$Texts" ({ cls := "ScriptTypes$Texts", name := "find", desc := "([BI)I" } : Jvm.MethodName) ({ cls := "ScriptTypes$Texts", name := "find", desc := "([BI)I" } : Jvm.MethodName)) ∈ lw_all := lw_g (lw_at lw_m5 24 rfl) rfl
theorem q1430 : (Jvm.Cond.code ({ cls := "ScriptTypes$Texts", name := "find", desc := "([BI)I" } : Jvm.MethodName) prog_36_method_4_code (6 : Nat) (Option.some Jvm.ClassFile.FieldType.int)) ∈ lw_all := lw_g (lw_at lw_m5 25 rfl) rfl
theorem q1431 : (Jvm.Cond.methodLink "ScriptTypes$Texts" (23 : Nat) ({ cls := "ScriptTypes$Texts", name := "length", desc := "(I)I" } : Jvm.MethodName)) ∈ lw_all := lw_g (lw_at lw_m5 26 rfl) rfl
theorem q1432 : (Jvm.Cond.instanceMethod ({ cls := "ScriptTypes$Texts", name := "length", desc := "(I)I" } : Jvm.MethodName)) ∈ lw_all := lw_g (lw_at lw_m5 27 rfl) rfl
theorem q1433 : (Jvm.Cond.selects "ScriptTypes$Texts" ({ cls := "ScriptTypes$Texts", name := "length", desc := "(I)I" } : Jvm.MethodName) ({ cls := "ScriptTypes$Texts", name := "length", desc := "(I)I" } : Jvm.MethodName)) ∈ lw_all := lw_g (lw_at lw_m5 28 rfl) rfl
theorem q1434 : (Jvm.Cond.code ({ cls := "ScriptTypes$Texts", name := "length", desc := "(I)I" } : Jvm.MethodName) prog_36_method_2_code (2 : Nat) (Option.some Jvm.ClassFile.FieldType.int)) ∈ lw_all := lw_g (lw_at lw_m5 29 rfl) rfl
theorem q1435 : (Jvm.Cond.methodLink "ScriptTypes$Tokens" (104 : Nat) ({ cls := "ScriptTypes$Tokens", name := "name", desc := "()I" } : Jvm.MethodName)) ∈ lw_all := lw_g (lw_at lw_m5 30 rfl) rfl
theorem q1436 : (Jvm.Cond.instanceMethod ({ cls := "ScriptTypes$Tokens", name := "name", desc := "()I" } : Jvm.MethodName)) ∈ lw_all := lw_g (lw_at lw_m5 31 rfl) rfl
theorem q1437 : (Jvm.Cond.selects "ScriptTypes$Tokens" ({ cls := "ScriptTypes$Tokens", name := "name", desc := "()I" } : Jvm.MethodName) ({ cls := "ScriptTypes$Tokens", name := "name", desc := "()I" } : Jvm.MethodName)) ∈ lw_all := lw_g (lw_at lw_m5 32 rfl) rfl
theorem q1438 : (Jvm.Cond.code ({ cls := "ScriptTypes$Tokens", name := "name", desc := "()I" } : Jvm.MethodName) prog_40_method_11_code (2 : Nat) (Option.some Jvm.ClassFile.FieldType.int)) ∈ lw_all := lw_g (lw_at lw_m5 33 rfl) rfl
theorem q1439 : (Jvm.Cond.methodLink "ScriptTypes$Tokens" (127 : Nat) ({ cls := "ScriptTypes$Texts", name := "add", desc := "([BI)I" } : Jvm.MethodName)) ∈ lw_all := lw_g (lw_at lw_m5 34 rfl) rfl
theorem q1440 : (Jvm.Cond.methodLinkNest "ScriptTypes$Tokens" (60 : Nat) ({ cls := "ScriptTypes", name := "digit", desc := "(I)Z" } : Jvm.MethodName) "ScriptTypes") ∈ lw_tbl := lw_at lw_m5 35 rfl
theorem q1441 : (Jvm.Cond.methodLink "ScriptTypes$Tokens" (63 : Nat) ({ cls := "ScriptTypes$Tokens", name := "digits", desc := "()V" } : Jvm.MethodName)) ∈ lw_all := lw_g (lw_at lw_m5 36 rfl) rfl
theorem q1442 : (Jvm.Cond.privateMethod ({ cls := "ScriptTypes$Tokens", name := "digits", desc := "()V" } : Jvm.MethodName)) ∈ lw_tbl := lw_at lw_m5 37 rfl
theorem q1443 : (Jvm.Cond.instanceMethod ({ cls := "ScriptTypes$Tokens", name := "digits", desc := "()V" } : Jvm.MethodName)) ∈ lw_all := lw_g (lw_at lw_m5 38 rfl) rfl
theorem q1444 : (Jvm.Cond.code ({ cls := "ScriptTypes$Tokens", name := "digits", desc := "()V" } : Jvm.MethodName) prog_40_method_8_code (4 : Nat) (Option.none : Option Jvm.ClassFile.FieldType)) ∈ lw_all := lw_g (lw_at lw_m5 39 rfl) rfl
theorem q1445 : (Jvm.Cond.constantLong "ScriptTypes$Tokens" (108 : Nat) (10 : Int64)) ∈ lw_all := lw_g (lw_at lw_m5 40 rfl) rfl
theorem q1446 : (Jvm.Cond.constantLong "ScriptTypes$Tokens" (110 : Nat) (48 : Int64)) ∈ lw_all := lw_g (lw_at lw_m5 41 rfl) rfl
theorem q1447 : (Jvm.Cond.constantLong "ScriptTypes$Tokens" (117 : Nat) (2147483647 : Int64)) ∈ lw_all := lw_g (lw_at lw_m5 42 rfl) rfl
theorem q1448 : (Jvm.Cond.methodLink "ScriptTypes$Tokens" (66 : Nat) ({ cls := "ScriptTypes$Tokens", name := "string", desc := "(I)V" } : Jvm.MethodName)) ∈ lw_all := lw_g (lw_at lw_m5 43 rfl) rfl
theorem q1449 : (Jvm.Cond.privateMethod ({ cls := "ScriptTypes$Tokens", name := "string", desc := "(I)V" } : Jvm.MethodName)) ∈ lw_tbl := lw_at lw_m5 44 rfl
theorem q1450 : (Jvm.Cond.instanceMethod ({ cls := "ScriptTypes$Tokens", name := "string", desc := "(I)V" } : Jvm.MethodName)) ∈ lw_all := lw_g (lw_at lw_m5 45 rfl) rfl
theorem q1451 : (Jvm.Cond.code ({ cls := "ScriptTypes$Tokens", name := "string", desc := "(I)V" } : Jvm.MethodName) prog_40_method_9_code (5 : Nat) (Option.none : Option Jvm.ClassFile.FieldType)) ∈ lw_all := lw_g (lw_at lw_m5 46 rfl) rfl
theorem q1452 : (Jvm.Cond.methodLink "ScriptTypes$Tokens" (69 : Nat) ({ cls := "ScriptTypes$Tokens", name := "longest", desc := "()V" } : Jvm.MethodName)) ∈ lw_all := lw_g (lw_at lw_m5 47 rfl) rfl
theorem q1453 : (Jvm.Cond.privateMethod ({ cls := "ScriptTypes$Tokens", name := "longest", desc := "()V" } : Jvm.MethodName)) ∈ lw_tbl := lw_at lw_m5 48 rfl
theorem q1454 : (Jvm.Cond.instanceMethod ({ cls := "ScriptTypes$Tokens", name := "longest", desc := "()V" } : Jvm.MethodName)) ∈ lw_all := lw_g (lw_at lw_m5 49 rfl) rfl
theorem q1455 : (Jvm.Cond.code ({ cls := "ScriptTypes$Tokens", name := "longest", desc := "()V" } : Jvm.MethodName) prog_40_method_10_code (4 : Nat) (Option.none : Option Jvm.ClassFile.FieldType)) ∈ lw_all := lw_g (lw_at lw_m5 50 rfl) rfl
theorem q1456 : (Jvm.Cond.methodLink "ScriptTypes$Tokens" (122 : Nat) ({ cls := "ScriptTypes$Texts", name := "length", desc := "(I)I" } : Jvm.MethodName)) ∈ lw_all := lw_g (lw_at lw_m5 51 rfl) rfl
theorem q1457 : (Jvm.Cond.methodLink "ScriptTypes$Tokens" (72 : Nat) ({ cls := "ScriptTypes$Tokens", name := "fault", desc := "(I)LScriptTypes$Fault;" } : Jvm.MethodName)) ∈ lw_all := lw_g (lw_at lw_m5 52 rfl) rfl
theorem q1458 : (Jvm.Cond.instanceMethod ({ cls := "ScriptTypes$Tokens", name := "fault", desc := "(I)LScriptTypes$Fault;" } : Jvm.MethodName)) ∈ lw_all := lw_g (lw_at lw_m5 53 rfl) rfl
theorem q1459 : (Jvm.Cond.selects "ScriptTypes$Tokens" ({ cls := "ScriptTypes$Tokens", name := "fault", desc := "(I)LScriptTypes$Fault;" } : Jvm.MethodName) ({ cls := "ScriptTypes$Tokens", name := "fault", desc := "(I)LScriptTypes$Fault;" } : Jvm.MethodName)) ∈ lw_all := lw_g (lw_at lw_m5 54 rfl) rfl
theorem q1460 : (Jvm.Cond.code ({ cls := "ScriptTypes$Tokens", name := "fault", desc := "(I)LScriptTypes$Fault;" } : Jvm.MethodName) prog_40_method_2_code (2 : Nat) (Option.some (Jvm.ClassFile.FieldType.object "ScriptTypes$Fault"))) ∈ lw_all := lw_g (lw_at lw_m5 55 rfl) rfl
theorem q1461 : (Jvm.Cond.methodLink "ScriptTypes$Parser" (58 : Nat) ({ cls := "ScriptTypes$Parser", name := "part", desc := "()V" } : Jvm.MethodName)) ∈ lw_all := lw_g (lw_at lw_m5 56 rfl) rfl
theorem q1462 : (Jvm.Cond.privateMethod ({ cls := "ScriptTypes$Parser", name := "part", desc := "()V" } : Jvm.MethodName)) ∈ lw_tbl := lw_at lw_m5 57 rfl
theorem q1463 : (Jvm.Cond.instanceMethod ({ cls := "ScriptTypes$Parser", name := "part", desc := "()V" } : Jvm.MethodName)) ∈ lw_all := lw_g (lw_at lw_m5 58 rfl) rfl
theorem q1464 : (Jvm.Cond.code ({ cls := "ScriptTypes$Parser", name := "part", desc := "()V" } : Jvm.MethodName) prog_29_method_4_code (2 : Nat) (Option.none : Option Jvm.ClassFile.FieldType)) ∈ lw_all := lw_g (lw_at lw_m5 59 rfl) rfl
theorem q1465 : (Jvm.Cond.methodLink "ScriptTypes$Parser" (61 : Nat) ({ cls := "ScriptTypes$Tokens", name := "isWord", desc := "(I)Z" } : Jvm.MethodName)) ∈ lw_all := lw_g (lw_at lw_m5 60 rfl) rfl
theorem q1466 : (Jvm.Cond.instanceMethod ({ cls := "ScriptTypes$Tokens", name := "isWord", desc := "(I)Z" } : Jvm.MethodName)) ∈ lw_all := lw_g (lw_at lw_m5 61 rfl) rfl
theorem q1467 : (Jvm.Cond.selects "ScriptTypes$Tokens" ({ cls := "ScriptTypes$Tokens", name := "isWord", desc := "(I)Z" } : Jvm.MethodName) ({ cls := "ScriptTypes$Tokens", name := "isWord", desc := "(I)Z" } : Jvm.MethodName)) ∈ lw_all := lw_g (lw_at lw_m5 62 rfl) rfl
theorem q1468 : (Jvm.Cond.code ({ cls := "ScriptTypes$Tokens", name := "isWord", desc := "(I)Z" } : Jvm.MethodName) prog_40_method_13_code (2 : Nat) (Option.some Jvm.ClassFile.FieldType.boolean)) ∈ lw_all := lw_g (lw_at lw_m5 63 rfl) rfl
theorem q1469 : (Jvm.Cond.methodLink "ScriptTypes$Parser" (68 : Nat) ({ cls := "ScriptTypes$Parser", name := "statement", desc := "()LScriptTypes$Node;" } : Jvm.MethodName)) ∈ lw_all := lw_g (lw_at lw_m5 64 rfl) rfl
theorem q1470 : (Jvm.Cond.privateMethod ({ cls := "ScriptTypes$Parser", name := "statement", desc := "()LScriptTypes$Node;" } : Jvm.MethodName)) ∈ lw_tbl := lw_at lw_m5 65 rfl
theorem q1471 : (Jvm.Cond.instanceMethod ({ cls := "ScriptTypes$Parser", name := "statement", desc := "()LScriptTypes$Node;" } : Jvm.MethodName)) ∈ lw_all := lw_g (lw_at lw_m5 66 rfl) rfl
theorem q1472 : (Jvm.Cond.code ({ cls := "ScriptTypes$Parser", name := "statement", desc := "()LScriptTypes$Node;" } : Jvm.MethodName) prog_29_method_7_code (2 : Nat) (Option.some (Jvm.ClassFile.FieldType.object "ScriptTypes$Node"))) ∈ lw_all := lw_g (lw_at lw_m5 67 rfl) rfl
theorem q1473 : (Jvm.Cond.methodLink "ScriptTypes$Parser" (35 : Nat) ({ cls := "ScriptTypes$Tokens", name := "fault", desc := "(I)LScriptTypes$Fault;" } : Jvm.MethodName)) ∈ lw_all := lw_g (lw_at lw_m5 68 rfl) rfl
theorem q1474 : (Jvm.Cond.methodLink "ScriptTypes$Parser" (126 : Nat) ({ cls := "ScriptTypes$Parser", name := "byWord", desc := "()LScriptTypes$Node;" } : Jvm.MethodName)) ∈ lw_all := lw_g (lw_at lw_m5 69 rfl) rfl
theorem q1475 : (Jvm.Cond.privateMethod ({ cls := "ScriptTypes$Parser", name := "byWord", desc := "()LScriptTypes$Node;" } : Jvm.MethodName)) ∈ lw_tbl := lw_at lw_m5 70 rfl
theorem q1476 : (Jvm.Cond.instanceMethod ({ cls := "ScriptTypes$Parser", name := "byWord", desc := "()LScriptTypes$Node;" } : Jvm.MethodName)) ∈ lw_all := lw_g (lw_at lw_m5 71 rfl) rfl
theorem q1477 : (Jvm.Cond.code ({ cls := "ScriptTypes$Parser", name := "byWord", desc := "()LScriptTypes$Node;" } : Jvm.MethodName) prog_29_method_11_code (4 : Nat) (Option.some (Jvm.ClassFile.FieldType.object "ScriptTypes$Node"))) ∈ lw_all := lw_g (lw_at lw_m5 72 rfl) rfl
theorem q1478 : (Jvm.Cond.methodLink "ScriptTypes$Parser" (160 : Nat) ({ cls := "ScriptTypes$Parser", name := "beginsByWord", desc := "(I)Z" } : Jvm.MethodName)) ∈ lw_all := lw_g (lw_at lw_m5 73 rfl) rfl
theorem q1479 : (Jvm.Cond.static ({ cls := "ScriptTypes$Parser", name := "beginsByWord", desc := "(I)Z" } : Jvm.MethodName)) ∈ lw_all := lw_g (lw_at lw_m5 74 rfl) rfl
theorem q1480 : (Jvm.Cond.code ({ cls := "ScriptTypes$Parser", name := "beginsByWord", desc := "(I)Z" } : Jvm.MethodName) prog_29_method_25_code (1 : Nat) (Option.some Jvm.ClassFile.FieldType.boolean)) ∈ lw_all := lw_g (lw_at lw_m5 75 rfl) rfl
theorem q1481 : (Jvm.Cond.methodLink "ScriptTypes$Parser" (72 : Nat) ({ cls := "ScriptTypes$Parser", name := "opens", desc := "()V" } : Jvm.MethodName)) ∈ lw_all := lw_g (lw_at lw_m5 76 rfl) rfl
theorem q1482 : (Jvm.Cond.privateMethod ({ cls := "ScriptTypes$Parser", name := "opens", desc := "()V" } : Jvm.MethodName)) ∈ lw_tbl := lw_at lw_m5 77 rfl
theorem q1483 : (Jvm.Cond.instanceMethod ({ cls := "ScriptTypes$Parser", name := "opens", desc := "()V" } : Jvm.MethodName)) ∈ lw_all := lw_g (lw_at lw_m5 78 rfl) rfl
theorem q1484 : (Jvm.Cond.code ({ cls := "ScriptTypes$Parser", name := "opens", desc := "()V" } : Jvm.MethodName) prog_29_method_2_code (1 : Nat) (Option.none : Option Jvm.ClassFile.FieldType)) ∈ lw_all := lw_g (lw_at lw_m5 79 rfl) rfl
theorem q1485 : (Jvm.Cond.methodLink "ScriptTypes$Parser" (163 : Nat) ({ cls := "ScriptTypes$Parser", name := "inner", desc := "(I)LScriptTypes$Node;" } : Jvm.MethodName)) ∈ lw_all := lw_g (lw_at lw_m5 80 rfl) rfl
theorem q1486 : (Jvm.Cond.privateMethod ({ cls := "ScriptTypes$Parser", name := "inner", desc := "(I)LScriptTypes$Node;" } : Jvm.MethodName)) ∈ lw_tbl := lw_at lw_m5 81 rfl
theorem q1487 : (Jvm.Cond.instanceMethod ({ cls := "ScriptTypes$Parser", name := "inner", desc := "(I)LScriptTypes$Node;" } : Jvm.MethodName)) ∈ lw_all := lw_g (lw_at lw_m5 82 rfl) rfl
theorem q1488 : (Jvm.Cond.code ({ cls := "ScriptTypes$Parser", name := "inner", desc := "(I)LScriptTypes$Node;" } : Jvm.MethodName) prog_29_method_12_code (4 : Nat) (Option.some (Jvm.ClassFile.FieldType.object "ScriptTypes$Node"))) ∈ lw_all := lw_g (lw_at lw_m5 83 rfl) rfl
theorem q1489 : (Jvm.Cond.methodLink "ScriptTypes$Parser" (167 : Nat) ({ cls := "ScriptTypes$Parser", name := "variables", desc := "(Z)LScriptTypes$Node;" } : Jvm.MethodName)) ∈ lw_all := lw_g (lw_at lw_m5 84 rfl) rfl
theorem q1490 : (Jvm.Cond.privateMethod ({ cls := "ScriptTypes$Parser", name := "variables", desc := "(Z)LScriptTypes$Node;" } : Jvm.MethodName)) ∈ lw_tbl := lw_at lw_m5 85 rfl
theorem q1491 : (Jvm.Cond.instanceMethod ({ cls := "ScriptTypes$Parser", name := "variables", desc := "(Z)LScriptTypes$Node;" } : Jvm.MethodName)) ∈ lw_all := lw_g (lw_at lw_m5 86 rfl) rfl
theorem q1492 : (Jvm.Cond.code ({ cls := "ScriptTypes$Parser", name := "variables", desc := "(Z)LScriptTypes$Node;" } : Jvm.MethodName) prog_29_method_15_code (5 : Nat) (Option.some (Jvm.ClassFile.FieldType.object "ScriptTypes$Node"))) ∈ lw_all := lw_g (lw_at lw_m5 87 rfl) rfl
theorem q1493 : (Jvm.Cond.classLink "ScriptTypes$Parser" (140 : Nat) "ScriptTypes$Block") ∈ lw_all := lw_g (lw_at lw_m5 88 rfl) rfl
theorem q1494 : (Jvm.Cond.instantiable "ScriptTypes$Block" (1 : Nat)) ∈ lw_all := lw_g (lw_at lw_m5 89 rfl) rfl
theorem q1495 : (Jvm.Cond.methodLinkNest "ScriptTypes$Parser" (142 : Nat) ({ cls := "ScriptTypes$Block", name := "<init>", desc := "()V" } : Jvm.MethodName) "ScriptTypes") ∈ lw_tbl := lw_at lw_m5 90 rfl
theorem q1496 : (Jvm.Cond.instanceMethod ({ cls := "ScriptTypes$Block", name := "<init>", desc := "()V" } : Jvm.MethodName)) ∈ lw_all := lw_g (lw_at lw_m5 91 rfl) rfl
theorem q1497 : (Jvm.Cond.code ({ cls := "ScriptTypes$Block", name := "<init>", desc := "()V" } : Jvm.MethodName) prog_5_method_1_code (1 : Nat) (Option.none : Option Jvm.ClassFile.FieldType)) ∈ lw_all := lw_g (lw_at lw_m5 92 rfl) rfl
theorem q1498 : (Jvm.Cond.methodLinkNest "ScriptTypes$Block" (1 : Nat) ({ cls := "ScriptTypes$Node", name := "<init>", desc := "()V" } : Jvm.MethodName) "ScriptTypes") ∈ lw_tbl := lw_at lw_m5 93 rfl
theorem q1499 : (Jvm.Cond.instanceMethod ({ cls := "ScriptTypes$Node", name := "<init>", desc := "()V" } : Jvm.MethodName)) ∈ lw_all := lw_g (lw_at lw_m5 94 rfl) rfl
theorem q1500 : (Jvm.Cond.code ({ cls := "ScriptTypes$Node", name := "<init>", desc := "()V" } : Jvm.MethodName) prog_28_method_1_code (1 : Nat) (Option.none : Option Jvm.ClassFile.FieldType)) ∈ lw_all := lw_g (lw_at lw_m5 95 rfl) rfl
theorem q1501 : (Jvm.Cond.methodLink "ScriptTypes$Node" (1 : Nat) ({ cls := "java/lang/Object", name := "<init>", desc := "()V" } : Jvm.MethodName)) ∈ lw_all := lw_g (lw_at lw_m5 96 rfl) rfl
theorem q1502 : (Jvm.Cond.classLink "ScriptTypes$Block" (7 : Nat) "java/util/ArrayList") ∈ lw_all := lw_g (lw_at lw_m5 97 rfl) rfl
theorem q1503 : (Jvm.Cond.methodLink "ScriptTypes$Block" (9 : Nat) ({ cls := "java/util/ArrayList", name := "<init>", desc := "()V" } : Jvm.MethodName)) ∈ lw_all := lw_g (lw_at lw_m5 98 rfl) rfl
theorem q1504 : (Jvm.Cond.fieldLink "ScriptTypes$Block" (10 : Nat) "ScriptTypes$Block" "all" "Ljava/util/ArrayList;") ∈ lw_all := lw_g (lw_at lw_m5 99 rfl) rfl
theorem q1505 : (Jvm.Cond.fieldLinkNest "ScriptTypes$Parser" (158 : Nat) "ScriptTypes$Block" "all" "Ljava/util/ArrayList;" "ScriptTypes") ∈ lw_tbl := lw_at lw_m5 100 rfl
theorem q1506 : (Jvm.Cond.laysFinal "ScriptTypes$Block" "ScriptTypes$Block" "all" "Ljava/util/ArrayList;") ∈ lw_all := lw_g (lw_at lw_m5 101 rfl) rfl
theorem q1507 : (Jvm.Cond.soleField "ScriptTypes$Block" "all") ∈ lw_all := lw_g (lw_at lw_m5 102 rfl) rfl
theorem q1508 : (Jvm.Cond.superclass "ScriptTypes$Block" "ScriptTypes$Node") ∈ lw_all := lw_g (lw_at lw_m5 103 rfl) rfl
theorem q1509 : (Jvm.Cond.methodLink "ScriptTypes$Parser" (79 : Nat) ({ cls := "ScriptTypes$Tokens", name := "needName", desc := "()I" } : Jvm.MethodName)) ∈ lw_all := lw_g (lw_at lw_m5 104 rfl) rfl
theorem q1510 : (Jvm.Cond.instanceMethod ({ cls := "ScriptTypes$Tokens", name := "needName", desc := "()I" } : Jvm.MethodName)) ∈ lw_all := lw_g (lw_at lw_m5 105 rfl) rfl
theorem q1511 : (Jvm.Cond.selects "ScriptTypes$Tokens" ({ cls := "ScriptTypes$Tokens", name := "needName", desc := "()I" } : Jvm.MethodName) ({ cls := "ScriptTypes$Tokens", name := "needName", desc := "()I" } : Jvm.MethodName)) ∈ lw_all := lw_g (lw_at lw_m5 106 rfl) rfl
theorem q1512 : (Jvm.Cond.code ({ cls := "ScriptTypes$Tokens", name := "needName", desc := "()I" } : Jvm.MethodName) prog_40_method_19_code (2 : Nat) (Option.some Jvm.ClassFile.FieldType.int)) ∈ lw_all := lw_g (lw_at lw_m5 107 rfl) rfl
theorem q1513 : (Jvm.Cond.methodLink "ScriptTypes$Tokens" (133 : Nat) ({ cls := "ScriptTypes$Tokens", name := "next", desc := "()V" } : Jvm.MethodName)) ∈ lw_all := lw_g (lw_at lw_m5 108 rfl) rfl
theorem q1514 : (Jvm.Cond.methodLink "ScriptTypes$Parser" (89 : Nat) ({ cls := "ScriptTypes$Code", name := "add", desc := "(I)V" } : Jvm.MethodName)) ∈ lw_all := lw_g (lw_at lw_m5 109 rfl) rfl
theorem q1515 : (Jvm.Cond.instanceMethod ({ cls := "ScriptTypes$Code", name := "add", desc := "(I)V" } : Jvm.MethodName)) ∈ lw_all := lw_g (lw_at lw_m5 110 rfl) rfl
theorem q1516 : (Jvm.Cond.selects "ScriptTypes$Code" ({ cls := "ScriptTypes$Code", name := "add", desc := "(I)V" } : Jvm.MethodName) ({ cls := "ScriptTypes$Code", name := "add", desc := "(I)V" } : Jvm.MethodName)) ∈ lw_all := lw_g (lw_at lw_m5 111 rfl) rfl
theorem q1517 : (Jvm.Cond.code ({ cls := "ScriptTypes$Code", name := "add", desc := "(I)V" } : Jvm.MethodName) prog_9_method_3_code (3 : Nat) (Option.none : Option Jvm.ClassFile.FieldType)) ∈ lw_all := lw_g (lw_at lw_m5 112 rfl) rfl
theorem q1518 : (Jvm.Cond.methodLink "ScriptTypes$Code" (42 : Nat) ({ cls := "ScriptTypes$Code", name := "has", desc := "(I)Z" } : Jvm.MethodName)) ∈ lw_all := lw_g (lw_at lw_m5 113 rfl) rfl
theorem q1519 : (Jvm.Cond.instanceMethod ({ cls := "ScriptTypes$Code", name := "has", desc := "(I)Z" } : Jvm.MethodName)) ∈ lw_all := lw_g (lw_at lw_m5 114 rfl) rfl
theorem q1520 : (Jvm.Cond.selects "ScriptTypes$Code" ({ cls := "ScriptTypes$Code", name := "has", desc := "(I)Z" } : Jvm.MethodName) ({ cls := "ScriptTypes$Code", name := "has", desc := "(I)Z" } : Jvm.MethodName)) ∈ lw_all := lw_g (lw_at lw_m5 115 rfl) rfl
theorem q1521 : (Jvm.Cond.code ({ cls := "ScriptTypes$Code", name := "has", desc := "(I)Z" } : Jvm.MethodName) prog_9_method_2_code (3 : Nat) (Option.some Jvm.ClassFile.FieldType.boolean)) ∈ lw_all := lw_g (lw_at lw_m5 116 rfl) rfl
theorem q1522 : (Jvm.Cond.methodLink "ScriptTypes$Code" (46 : Nat) ({ cls := "java/lang/System", name := "arraycopy", desc := "(Ljava/lang/Object;ILjava/lang/Object;II)V" } : Jvm.MethodName)) ∈ lw_all := lw_g (lw_at lw_m5 117 rfl) rfl
theorem q1523 : (Jvm.Cond.methodLink "ScriptTypes$Parser" (111 : Nat) ({ cls := "ScriptTypes$Tokens", name := "is", desc := "(I)Z" } : Jvm.MethodName)) ∈ lw_all := lw_g (lw_at lw_m5 118 rfl) rfl
theorem q1524 : (Jvm.Cond.instanceMethod ({ cls := "ScriptTypes$Tokens", name := "is", desc := "(I)Z" } : Jvm.MethodName)) ∈ lw_all := lw_g (lw_at lw_m5 119 rfl) rfl
theorem q1525 : (Jvm.Cond.selects "ScriptTypes$Tokens" ({ cls := "ScriptTypes$Tokens", name := "is", desc := "(I)Z" } : Jvm.MethodName) ({ cls := "ScriptTypes$Tokens", name := "is", desc := "(I)Z" } : Jvm.MethodName)) ∈ lw_all := lw_g (lw_at lw_m5 120 rfl) rfl
theorem q1526 : (Jvm.Cond.code ({ cls := "ScriptTypes$Tokens", name := "is", desc := "(I)Z" } : Jvm.MethodName) prog_40_method_12_code (2 : Nat) (Option.some Jvm.ClassFile.FieldType.boolean)) ∈ lw_all := lw_g (lw_at lw_m5 121 rfl) rfl
theorem q1527 : (Jvm.Cond.classLink "ScriptTypes$Parser" (143 : Nat) "ScriptTypes$Drops") ∈ lw_all := lw_g (lw_at lw_m5 122 rfl) rfl
theorem q1528 : (Jvm.Cond.instantiable "ScriptTypes$Drops" (1 : Nat)) ∈ lw_all := lw_g (lw_at lw_m5 123 rfl) rfl
theorem q1529 : (Jvm.Cond.classLink "ScriptTypes$Parser" (212 : Nat) "ScriptTypes$Sets") ∈ lw_all := lw_g (lw_at lw_m5 124 rfl) rfl
theorem q1530 : (Jvm.Cond.instantiable "ScriptTypes$Sets" (3 : Nat)) ∈ lw_all := lw_g (lw_at lw_m5 125 rfl) rfl
theorem q1531 : (Jvm.Cond.classLink "ScriptTypes$Parser" (214 : Nat) "ScriptTypes$Name") ∈ lw_all := lw_g (lw_at lw_m5 126 rfl) rfl
theorem q1532 : (Jvm.Cond.instantiable "ScriptTypes$Name" (1 : Nat)) ∈ lw_all := lw_g (lw_at lw_m5 127 rfl) rfl
theorem q1533 : (Jvm.Cond.methodLink "ScriptTypes$Parser" (216 : Nat) ({ cls := "ScriptTypes$Name", name := "<init>", desc := "(I)V" } : Jvm.MethodName)) ∈ lw_all := lw_g (lw_at lw_m5 128 rfl) rfl
theorem q1534 : (Jvm.Cond.instanceMethod ({ cls := "ScriptTypes$Name", name := "<init>", desc := "(I)V" } : Jvm.MethodName)) ∈ lw_all := lw_g (lw_at lw_m5 129 rfl) rfl
theorem q1535 : (Jvm.Cond.code ({ cls := "ScriptTypes$Name", name := "<init>", desc := "(I)V" } : Jvm.MethodName) prog_25_method_1_code (2 : Nat) (Option.none : Option Jvm.ClassFile.FieldType)) ∈ lw_all := lw_g (lw_at lw_m5 130 rfl) rfl
theorem q1536 : (Jvm.Cond.methodLinkNest "ScriptTypes$Name" (1 : Nat) ({ cls := "ScriptTypes$Node", name := "<init>", desc := "()V" } : Jvm.MethodName) "ScriptTypes") ∈ lw_tbl := lw_at lw_m5 131 rfl
theorem q1537 : (Jvm.Cond.fieldLink "ScriptTypes$Name" (7 : Nat) "ScriptTypes$Name" "name" "I") ∈ lw_all := lw_g (lw_at lw_m5 132 rfl) rfl
theorem q1538 : (Jvm.Cond.fieldLink "ScriptTypes$Ahead" (37 : Nat) "ScriptTypes$Name" "name" "I") ∈ lw_all := lw_g (lw_at lw_m5 133 rfl) rfl
theorem q1539 : (Jvm.Cond.fieldLink "ScriptTypes$Counts" (44 : Nat) "ScriptTypes$Name" "name" "I") ∈ lw_all := lw_g (lw_at lw_m5 134 rfl) rfl
theorem q1540 : (Jvm.Cond.fieldLink "ScriptTypes$Sets" (43 : Nat) "ScriptTypes$Name" "name" "I") ∈ lw_all := lw_g (lw_at lw_m5 135 rfl) rfl
theorem q1541 : (Jvm.Cond.fieldLink "ScriptTypes$Parser" (239 : Nat) "ScriptTypes$Name" "name" "I") ∈ lw_all := lw_g (lw_at lw_m5 136 rfl) rfl
theorem q1542 : (Jvm.Cond.laysFinal "ScriptTypes$Name" "ScriptTypes$Name" "name" "I") ∈ lw_all := lw_g (lw_at lw_m5 137 rfl) rfl
theorem q1543 : (Jvm.Cond.soleField "ScriptTypes$Name" "name") ∈ lw_all := lw_g (lw_at lw_m5 138 rfl) rfl
theorem q1544 : (Jvm.Cond.superclass "ScriptTypes$Name" "ScriptTypes$Node") ∈ lw_all := lw_g (lw_at lw_m5 139 rfl) rfl
theorem q1545 : (Jvm.Cond.methodLink "ScriptTypes$Parser" (218 : Nat) ({ cls := "ScriptTypes$Parser", name := "within", desc := "(Z)LScriptTypes$Node;" } : Jvm.MethodName)) ∈ lw_all := lw_g (lw_at lw_m5 140 rfl) rfl
theorem q1546 : (Jvm.Cond.privateMethod ({ cls := "ScriptTypes$Parser", name := "within", desc := "(Z)LScriptTypes$Node;" } : Jvm.MethodName)) ∈ lw_tbl := lw_at lw_m5 141 rfl
theorem q1547 : (Jvm.Cond.instanceMethod ({ cls := "ScriptTypes$Parser", name := "within", desc := "(Z)LScriptTypes$Node;" } : Jvm.MethodName)) ∈ lw_all := lw_g (lw_at lw_m5 142 rfl) rfl
theorem q1548 : (Jvm.Cond.code ({ cls := "ScriptTypes$Parser", name := "within", desc := "(Z)LScriptTypes$Node;" } : Jvm.MethodName) prog_29_method_23_code (3 : Nat) (Option.some (Jvm.ClassFile.FieldType.object "ScriptTypes$Node"))) ∈ lw_all := lw_g (lw_at lw_m5 143 rfl) rfl
theorem q1549 : (Jvm.Cond.methodLink "ScriptTypes$Parser" (277 : Nat) ({ cls := "ScriptTypes$Parser", name := "beginsExpression", desc := "()Z" } : Jvm.MethodName)) ∈ lw_all := lw_g (lw_at lw_m5 144 rfl) rfl
theorem q1550 : (Jvm.Cond.privateMethod ({ cls := "ScriptTypes$Parser", name := "beginsExpression", desc := "()Z" } : Jvm.MethodName)) ∈ lw_tbl := lw_at lw_m5 145 rfl
theorem q1551 : (Jvm.Cond.instanceMethod ({ cls := "ScriptTypes$Parser", name := "beginsExpression", desc := "()Z" } : Jvm.MethodName)) ∈ lw_all := lw_g (lw_at lw_m5 146 rfl) rfl
theorem q1552 : (Jvm.Cond.code ({ cls := "ScriptTypes$Parser", name := "beginsExpression", desc := "()Z" } : Jvm.MethodName) prog_29_method_24_code (1 : Nat) (Option.some Jvm.ClassFile.FieldType.boolean)) ∈ lw_all := lw_g (lw_at lw_m5 147 rfl) rfl
theorem q1553 : (Jvm.Cond.methodLink "ScriptTypes$Parser" (129 : Nat) ({ cls := "ScriptTypes$Parser", name := "startsExpression", desc := "()Z" } : Jvm.MethodName)) ∈ lw_all := lw_g (lw_at lw_m5 148 rfl) rfl
theorem q1554 : (Jvm.Cond.privateMethod ({ cls := "ScriptTypes$Parser", name := "startsExpression", desc := "()Z" } : Jvm.MethodName)) ∈ lw_tbl := lw_at lw_m5 149 rfl
theorem q1555 : (Jvm.Cond.instanceMethod ({ cls := "ScriptTypes$Parser", name := "startsExpression", desc := "()Z" } : Jvm.MethodName)) ∈ lw_all := lw_g (lw_at lw_m5 150 rfl) rfl
theorem q1556 : (Jvm.Cond.code ({ cls := "ScriptTypes$Parser", name := "startsExpression", desc := "()Z" } : Jvm.MethodName) prog_29_method_8_code (1 : Nat) (Option.some Jvm.ClassFile.FieldType.boolean)) ∈ lw_all := lw_g (lw_at lw_m5 151 rfl) rfl
theorem q1557 : (Jvm.Cond.methodLink "ScriptTypes$Parser" (257 : Nat) ({ cls := "ScriptTypes$Parser", name := "assignment", desc := "(Z)LScriptTypes$Node;" } : Jvm.MethodName)) ∈ lw_all := lw_g (lw_at lw_m5 152 rfl) rfl
theorem q1558 : (Jvm.Cond.privateMethod ({ cls := "ScriptTypes$Parser", name := "assignment", desc := "(Z)LScriptTypes$Node;" } : Jvm.MethodName)) ∈ lw_tbl := lw_at lw_m5 153 rfl
theorem q1559 : (Jvm.Cond.instanceMethod ({ cls := "ScriptTypes$Parser", name := "assignment", desc := "(Z)LScriptTypes$Node;" } : Jvm.MethodName)) ∈ lw_all := lw_g (lw_at lw_m5 154 rfl) rfl
theorem q1560 : (Jvm.Cond.code ({ cls := "ScriptTypes$Parser", name := "assignment", desc := "(Z)LScriptTypes$Node;" } : Jvm.MethodName) prog_29_method_22_code (4 : Nat) (Option.some (Jvm.ClassFile.FieldType.object "ScriptTypes$Node"))) ∈ lw_all := lw_g (lw_at lw_m5 155 rfl) rfl
theorem q1561 : (Jvm.Cond.methodLink "ScriptTypes$Parser" (264 : Nat) ({ cls := "ScriptTypes$Parser", name := "binary", desc := "(IZ)LScriptTypes$Node;" } : Jvm.MethodName)) ∈ lw_all := lw_g (lw_at lw_m5 156 rfl) rfl
theorem q1562 : (Jvm.Cond.privateMethod ({ cls := "ScriptTypes$Parser", name := "binary", desc := "(IZ)LScriptTypes$Node;" } : Jvm.MethodName)) ∈ lw_tbl := lw_at lw_m5 157 rfl
theorem q1563 : (Jvm.Cond.instanceMethod ({ cls := "ScriptTypes$Parser", name := "binary", desc := "(IZ)LScriptTypes$Node;" } : Jvm.MethodName)) ∈ lw_all := lw_g (lw_at lw_m5 158 rfl) rfl
theorem q1564 : (Jvm.Cond.code ({ cls := "ScriptTypes$Parser", name := "binary", desc := "(IZ)LScriptTypes$Node;" } : Jvm.MethodName) prog_29_method_27_code (6 : Nat) (Option.some (Jvm.ClassFile.FieldType.object "ScriptTypes$Node"))) ∈ lw_all := lw_g (lw_at lw_m5 159 rfl) rfl
theorem q1565 : (Jvm.Cond.methodLink "ScriptTypes$Parser" (283 : Nat) ({ cls := "ScriptTypes$Parser", name := "unit", desc := "()LScriptTypes$Node;" } : Jvm.MethodName)) ∈ lw_all := lw_g (lw_at lw_m5 160 rfl) rfl
theorem q1566 : (Jvm.Cond.privateMethod ({ cls := "ScriptTypes$Parser", name := "unit", desc := "()LScriptTypes$Node;" } : Jvm.MethodName)) ∈ lw_tbl := lw_at lw_m5 161 rfl
theorem q1567 : (Jvm.Cond.instanceMethod ({ cls := "ScriptTypes$Parser", name := "unit", desc := "()LScriptTypes$Node;" } : Jvm.MethodName)) ∈ lw_all := lw_g (lw_at lw_m5 162 rfl) rfl
theorem q1568 : (Jvm.Cond.code ({ cls := "ScriptTypes$Parser", name := "unit", desc := "()LScriptTypes$Node;" } : Jvm.MethodName) prog_29_method_29_code (3 : Nat) (Option.some (Jvm.ClassFile.FieldType.object "ScriptTypes$Node"))) ∈ lw_all := lw_g (lw_at lw_m5 163 rfl) rfl
theorem q1569 : (Jvm.Cond.methodLink "ScriptTypes$Parser" (303 : Nat) ({ cls := "ScriptTypes$Parser", name := "ahead", desc := "()I" } : Jvm.MethodName)) ∈ lw_all := lw_g (lw_at lw_m5 164 rfl) rfl
theorem q1570 : (Jvm.Cond.privateMethod ({ cls := "ScriptTypes$Parser", name := "ahead", desc := "()I" } : Jvm.MethodName)) ∈ lw_tbl := lw_at lw_m5 165 rfl
theorem q1571 : (Jvm.Cond.instanceMethod ({ cls := "ScriptTypes$Parser", name := "ahead", desc := "()I" } : Jvm.MethodName)) ∈ lw_all := lw_g (lw_at lw_m5 166 rfl) rfl
theorem q1572 : (Jvm.Cond.code ({ cls := "ScriptTypes$Parser", name := "ahead", desc := "()I" } : Jvm.MethodName) prog_29_method_28_code (1 : Nat) (Option.some Jvm.ClassFile.FieldType.int)) ∈ lw_all := lw_g (lw_at lw_m5 167 rfl) rfl
theorem q1573 : (Jvm.Cond.methodLink "ScriptTypes$Parser" (306 : Nat) ({ cls := "ScriptTypes$Parser", name := "counted", desc := "()LScriptTypes$Node;" } : Jvm.MethodName)) ∈ lw_all := lw_g (lw_at lw_m5 168 rfl) rfl
theorem q1574 : (Jvm.Cond.privateMethod ({ cls := "ScriptTypes$Parser", name := "counted", desc := "()LScriptTypes$Node;" } : Jvm.MethodName)) ∈ lw_tbl := lw_at lw_m5 169 rfl
theorem q1575 : (Jvm.Cond.instanceMethod ({ cls := "ScriptTypes$Parser", name := "counted", desc := "()LScriptTypes$Node;" } : Jvm.MethodName)) ∈ lw_all := lw_g (lw_at lw_m5 170 rfl) rfl
theorem q1576 : (Jvm.Cond.code ({ cls := "ScriptTypes$Parser", name := "counted", desc := "()LScriptTypes$Node;" } : Jvm.MethodName) prog_29_method_30_code (2 : Nat) (Option.some (Jvm.ClassFile.FieldType.object "ScriptTypes$Node"))) ∈ lw_all := lw_g (lw_at lw_m5 171 rfl) rfl
theorem q1577 : (Jvm.Cond.methodLink "ScriptTypes$Parser" (317 : Nat) ({ cls := "ScriptTypes$Parser", name := "left", desc := "()LScriptTypes$Node;" } : Jvm.MethodName)) ∈ lw_all := lw_g (lw_at lw_m5 172 rfl) rfl
theorem q1578 : (Jvm.Cond.privateMethod ({ cls := "ScriptTypes$Parser", name := "left", desc := "()LScriptTypes$Node;" } : Jvm.MethodName)) ∈ lw_tbl := lw_at lw_m5 173 rfl
theorem q1579 : (Jvm.Cond.instanceMethod ({ cls := "ScriptTypes$Parser", name := "left", desc := "()LScriptTypes$Node;" } : Jvm.MethodName)) ∈ lw_all := lw_g (lw_at lw_m5 174 rfl) rfl
theorem q1580 : (Jvm.Cond.code ({ cls := "ScriptTypes$Parser", name := "left", desc := "()LScriptTypes$Node;" } : Jvm.MethodName) prog_29_method_31_code (3 : Nat) (Option.some (Jvm.ClassFile.FieldType.object "ScriptTypes$Node"))) ∈ lw_all := lw_g (lw_at lw_m5 175 rfl) rfl
theorem q1581 : (Jvm.Cond.methodLink "ScriptTypes$Parser" (320 : Nat) ({ cls := "ScriptTypes$Parser", name := "made", desc := "()LScriptTypes$Node;" } : Jvm.MethodName)) ∈ lw_all := lw_g (lw_at lw_m5 176 rfl) rfl
theorem q1582 : (Jvm.Cond.privateMethod ({ cls := "ScriptTypes$Parser", name := "made", desc := "()LScriptTypes$Node;" } : Jvm.MethodName)) ∈ lw_tbl := lw_at lw_m5 177 rfl
theorem q1583 : (Jvm.Cond.instanceMethod ({ cls := "ScriptTypes$Parser", name := "made", desc := "()LScriptTypes$Node;" } : Jvm.MethodName)) ∈ lw_all := lw_g (lw_at lw_m5 178 rfl) rfl
theorem q1584 : (Jvm.Cond.code ({ cls := "ScriptTypes$Parser", name := "made", desc := "()LScriptTypes$Node;" } : Jvm.MethodName) prog_29_method_34_code (4 : Nat) (Option.some (Jvm.ClassFile.FieldType.object "ScriptTypes$Node"))) ∈ lw_all := lw_g (lw_at lw_m5 179 rfl) rfl
theorem q1585 : (Jvm.Cond.methodLink "ScriptTypes$Parser" (323 : Nat) ({ cls := "ScriptTypes$Parser", name := "primary", desc := "()LScriptTypes$Node;" } : Jvm.MethodName)) ∈ lw_all := lw_g (lw_at lw_m5 180 rfl) rfl
theorem q1586 : (Jvm.Cond.privateMethod ({ cls := "ScriptTypes$Parser", name := "primary", desc := "()LScriptTypes$Node;" } : Jvm.MethodName)) ∈ lw_tbl := lw_at lw_m5 181 rfl
theorem q1587 : (Jvm.Cond.instanceMethod ({ cls := "ScriptTypes$Parser", name := "primary", desc := "()LScriptTypes$Node;" } : Jvm.MethodName)) ∈ lw_all := lw_g (lw_at lw_m5 182 rfl) rfl
theorem q1588 : (Jvm.Cond.code ({ cls := "ScriptTypes$Parser", name := "primary", desc := "()LScriptTypes$Node;" } : Jvm.MethodName) prog_29_method_35_code (2 : Nat) (Option.some (Jvm.ClassFile.FieldType.object "ScriptTypes$Node"))) ∈ lw_all := lw_g (lw_at lw_m5 183 rfl) rfl
theorem q1589 : (Jvm.Cond.classLink "ScriptTypes$Parser" (353 : Nat) "ScriptTypes$Literal") ∈ lw_all := lw_g (lw_at lw_m5 184 rfl) rfl
theorem q1590 : (Jvm.Cond.instantiable "ScriptTypes$Literal" (2 : Nat)) ∈ lw_all := lw_g (lw_at lw_m5 185 rfl) rfl
theorem q1591 : (Jvm.Cond.methodLink "ScriptTypes$Parser" (358 : Nat) ({ cls := "ScriptTypes$Literal", name := "<init>", desc := "(II)V" } : Jvm.MethodName)) ∈ lw_all := lw_g (lw_at lw_m5 186 rfl) rfl
theorem q1592 : (Jvm.Cond.instanceMethod ({ cls := "ScriptTypes$Literal", name := "<init>", desc := "(II)V" } : Jvm.MethodName)) ∈ lw_all := lw_g (lw_at lw_m5 187 rfl) rfl
theorem q1593 : (Jvm.Cond.code ({ cls := "ScriptTypes$Literal", name := "<init>", desc := "(II)V" } : Jvm.MethodName) prog_22_method_1_code (3 : Nat) (Option.none : Option Jvm.ClassFile.FieldType)) ∈ lw_all := lw_g (lw_at lw_m5 188 rfl) rfl
theorem q1594 : (Jvm.Cond.methodLinkNest "ScriptTypes$Literal" (3 : Nat) ({ cls := "ScriptTypes$Node", name := "<init>", desc := "()V" } : Jvm.MethodName) "ScriptTypes") ∈ lw_tbl := lw_at lw_m5 189 rfl
theorem q1595 : (Jvm.Cond.fieldLink "ScriptTypes$Literal" (9 : Nat) "ScriptTypes$Literal" "sort" "I") ∈ lw_all := lw_g (lw_at lw_m5 190 rfl) rfl
theorem q1596 : (Jvm.Cond.fieldLink "ScriptTypes$Literal" (15 : Nat) "ScriptTypes$Literal" "value" "I") ∈ lw_all := lw_g (lw_at lw_m5 191 rfl) rfl
theorem q1597 : (Jvm.Cond.laysFinal "ScriptTypes$Literal" "ScriptTypes$Literal" "sort" "I") ∈ lw_all := lw_g (lw_at lw_m5 192 rfl) rfl
theorem q1598 : (Jvm.Cond.soleField "ScriptTypes$Literal" "sort") ∈ lw_all := lw_g (lw_at lw_m5 193 rfl) rfl
theorem q1599 : (Jvm.Cond.laysFinal "ScriptTypes$Literal" "ScriptTypes$Literal" "value" "I") ∈ lw_all := lw_g (lw_at lw_m5 194 rfl) rfl
theorem q1600 : (Jvm.Cond.soleField "ScriptTypes$Literal" "value") ∈ lw_all := lw_g (lw_at lw_m5 195 rfl) rfl
theorem q1601 : (Jvm.Cond.superclass "ScriptTypes$Literal" "ScriptTypes$Node") ∈ lw_all := lw_g (lw_at lw_m5 196 rfl) rfl
theorem q1602 : (Jvm.Cond.methodLink "ScriptTypes$Parser" (361 : Nat) ({ cls := "ScriptTypes$Parser", name := "wordAlone", desc := "()LScriptTypes$Node;" } : Jvm.MethodName)) ∈ lw_all := lw_g (lw_at lw_m5 197 rfl) rfl
theorem q1603 : (Jvm.Cond.privateMethod ({ cls := "ScriptTypes$Parser", name := "wordAlone", desc := "()LScriptTypes$Node;" } : Jvm.MethodName)) ∈ lw_tbl := lw_at lw_m5 198 rfl
theorem q1604 : (Jvm.Cond.instanceMethod ({ cls := "ScriptTypes$Parser", name := "wordAlone", desc := "()LScriptTypes$Node;" } : Jvm.MethodName)) ∈ lw_all := lw_g (lw_at lw_m5 199 rfl) rfl
theorem q1605 : (Jvm.Cond.code ({ cls := "ScriptTypes$Parser", name := "wordAlone", desc := "()LScriptTypes$Node;" } : Jvm.MethodName) prog_29_method_36_code (3 : Nat) (Option.some (Jvm.ClassFile.FieldType.object "ScriptTypes$Node"))) ∈ lw_all := lw_g (lw_at lw_m5 200 rfl) rfl
theorem q1606 : (Jvm.Cond.classLink "ScriptTypes$Parser" (370 : Nat) "ScriptTypes$This") ∈ lw_all := lw_g (lw_at lw_m5 201 rfl) rfl
theorem q1607 : (Jvm.Cond.instantiable "ScriptTypes$This" (0 : Nat)) ∈ lw_all := lw_g (lw_at lw_m5 202 rfl) rfl
theorem q1608 : (Jvm.Cond.methodLinkNest "ScriptTypes$Parser" (372 : Nat) ({ cls := "ScriptTypes$This", name := "<init>", desc := "()V" } : Jvm.MethodName) "ScriptTypes") ∈ lw_tbl := lw_at lw_m5 203 rfl
theorem q1609 : (Jvm.Cond.instanceMethod ({ cls := "ScriptTypes$This", name := "<init>", desc := "()V" } : Jvm.MethodName)) ∈ lw_all := lw_g (lw_at lw_m5 204 rfl) rfl
theorem q1610 : (Jvm.Cond.code ({ cls := "ScriptTypes$This", name := "<init>", desc := "()V" } : Jvm.MethodName) prog_37_method_1_code (1 : Nat) (Option.none : Option Jvm.ClassFile.FieldType)) ∈ lw_all := lw_g (lw_at lw_m5 205 rfl) rfl
theorem q1611 : (Jvm.Cond.methodLinkNest "ScriptTypes$This" (3 : Nat) ({ cls := "ScriptTypes$Node", name := "<init>", desc := "()V" } : Jvm.MethodName) "ScriptTypes") ∈ lw_tbl := lw_at lw_m5 206 rfl
theorem q1612 : (Jvm.Cond.superclass "ScriptTypes$This" "ScriptTypes$Node") ∈ lw_all := lw_g (lw_at lw_m5 207 rfl) rfl
theorem q1613 : (Jvm.Cond.methodLink "ScriptTypes$Parser" (75 : Nat) ({ cls := "ScriptTypes$Parser", name := "begun", desc := "()LScriptTypes$Code;" } : Jvm.MethodName)) ∈ lw_all := lw_g (lw_at lw_m5 208 rfl) rfl
theorem q1614 : (Jvm.Cond.privateMethod ({ cls := "ScriptTypes$Parser", name := "begun", desc := "()LScriptTypes$Code;" } : Jvm.MethodName)) ∈ lw_tbl := lw_at lw_m5 209 rfl
theorem q1615 : (Jvm.Cond.instanceMethod ({ cls := "ScriptTypes$Parser", name := "begun", desc := "()LScriptTypes$Code;" } : Jvm.MethodName)) ∈ lw_all := lw_g (lw_at lw_m5 210 rfl) rfl
theorem q1616 : (Jvm.Cond.code ({ cls := "ScriptTypes$Parser", name := "begun", desc := "()LScriptTypes$Code;" } : Jvm.MethodName) prog_29_method_5_code (2 : Nat) (Option.some (Jvm.ClassFile.FieldType.object "ScriptTypes$Code"))) ∈ lw_all := lw_g (lw_at lw_m5 211 rfl) rfl
theorem q1617 : (Jvm.Cond.methodLink "ScriptTypes$Parser" (99 : Nat) ({ cls := "java/util/ArrayList", name := "size", desc := "()I" } : Jvm.MethodName)) ∈ lw_all := lw_g (lw_at lw_m5 212 rfl) rfl
theorem q1618 : (Jvm.Cond.instanceMethod ({ cls := "java/util/ArrayList", name := "size", desc := "()I" } : Jvm.MethodName)) ∈ lw_all := lw_g (lw_at lw_m5 213 rfl) rfl
theorem q1619 : (Jvm.Cond.selects "java/util/ArrayList" ({ cls := "java/util/ArrayList", name := "size", desc := "()I" } : Jvm.MethodName) ({ cls := "java/util/ArrayList", name := "size", desc := "()I" } : Jvm.MethodName)) ∈ lw_all := lw_g (lw_at lw_m5 214 rfl) rfl
theorem q1620 : (Jvm.Cond.code ({ cls := "java/util/ArrayList", name := "size", desc := "()I" } : Jvm.MethodName) prog_67_method_8_code (1 : Nat) (Option.some Jvm.ClassFile.FieldType.int)) ∈ lw_all := lw_g (lw_at lw_m5 215 rfl) rfl
theorem q1621 : (Jvm.Cond.methodLink "ScriptTypes$Parser" (95 : Nat) ({ cls := "ScriptTypes$Parser", name := "inside", desc := "(LScriptTypes$Code;)V" } : Jvm.MethodName)) ∈ lw_all := lw_g (lw_at lw_m5 216 rfl) rfl
theorem q1622 : (Jvm.Cond.privateMethod ({ cls := "ScriptTypes$Parser", name := "inside", desc := "(LScriptTypes$Code;)V" } : Jvm.MethodName)) ∈ lw_tbl := lw_at lw_m5 217 rfl
theorem q1623 : (Jvm.Cond.instanceMethod ({ cls := "ScriptTypes$Parser", name := "inside", desc := "(LScriptTypes$Code;)V" } : Jvm.MethodName)) ∈ lw_all := lw_g (lw_at lw_m5 218 rfl) rfl
theorem q1624 : (Jvm.Cond.code ({ cls := "ScriptTypes$Parser", name := "inside", desc := "(LScriptTypes$Code;)V" } : Jvm.MethodName) prog_29_method_6_code (4 : Nat) (Option.none : Option Jvm.ClassFile.FieldType)) ∈ lw_all := lw_g (lw_at lw_m5 219 rfl) rfl
theorem q1625 : (Jvm.Cond.methodLink "ScriptTypes$Parser" (108 : Nat) ({ cls := "ScriptTypes$Tokens", name := "need", desc := "(I)V" } : Jvm.MethodName)) ∈ lw_all := lw_g (lw_at lw_m5 220 rfl) rfl
theorem q1626 : (Jvm.Cond.instanceMethod ({ cls := "ScriptTypes$Tokens", name := "need", desc := "(I)V" } : Jvm.MethodName)) ∈ lw_all := lw_g (lw_at lw_m5 221 rfl) rfl
theorem q1627 : (Jvm.Cond.selects "ScriptTypes$Tokens" ({ cls := "ScriptTypes$Tokens", name := "need", desc := "(I)V" } : Jvm.MethodName) ({ cls := "ScriptTypes$Tokens", name := "need", desc := "(I)V" } : Jvm.MethodName)) ∈ lw_all := lw_g (lw_at lw_m5 222 rfl) rfl
theorem q1628 : (Jvm.Cond.code ({ cls := "ScriptTypes$Tokens", name := "need", desc := "(I)V" } : Jvm.MethodName) prog_40_method_17_code (2 : Nat) (Option.none : Option Jvm.ClassFile.FieldType)) ∈ lw_all := lw_g (lw_at lw_m5 223 rfl) rfl
theorem q1629 : (Jvm.Cond.methodLink "ScriptTypes$Tokens" (139 : Nat) ({ cls := "ScriptTypes$Tokens", name := "takes", desc := "(I)Z" } : Jvm.MethodName)) ∈ lw_all := lw_g (lw_at lw_m5 224 rfl) rfl
theorem q1630 : (Jvm.Cond.instanceMethod ({ cls := "ScriptTypes$Tokens", name := "takes", desc := "(I)Z" } : Jvm.MethodName)) ∈ lw_all := lw_g (lw_at lw_m5 225 rfl) rfl
theorem q1631 : (Jvm.Cond.selects "ScriptTypes$Tokens" ({ cls := "ScriptTypes$Tokens", name := "takes", desc := "(I)Z" } : Jvm.MethodName) ({ cls := "ScriptTypes$Tokens", name := "takes", desc := "(I)Z" } : Jvm.MethodName)) ∈ lw_all := lw_g (lw_at lw_m5 226 rfl) rfl
theorem q1632 : (Jvm.Cond.code ({ cls := "ScriptTypes$Tokens", name := "takes", desc := "(I)Z" } : Jvm.MethodName) prog_40_method_15_code (2 : Nat) (Option.some Jvm.ClassFile.FieldType.boolean)) ∈ lw_all := lw_g (lw_at lw_m5 227 rfl) rfl
theorem q1633 : (Jvm.Cond.methodLink "ScriptTypes$Tokens" (130 : Nat) ({ cls := "ScriptTypes$Tokens", name := "is", desc := "(I)Z" } : Jvm.MethodName)) ∈ lw_all := lw_g (lw_at lw_m5 228 rfl) rfl
theorem q1634 : (Jvm.Cond.methodLink "ScriptTypes$Parser" (117 : Nat) ({ cls := "ScriptTypes$Code", name := "has", desc := "(I)Z" } : Jvm.MethodName)) ∈ lw_all := lw_g (lw_at lw_m5 229 rfl) rfl
theorem q1635 : (Jvm.Cond.classLink "ScriptTypes$Parser" (373 : Nat) "ScriptTypes$Made") ∈ lw_all := lw_g (lw_at lw_m5 230 rfl) rfl
theorem q1636 : (Jvm.Cond.instantiable "ScriptTypes$Made" (1 : Nat)) ∈ lw_all := lw_g (lw_at lw_m5 231 rfl) rfl
theorem q1637 : (Jvm.Cond.methodLink "ScriptTypes$Parser" (378 : Nat) ({ cls := "ScriptTypes$Made", name := "<init>", desc := "(I)V" } : Jvm.MethodName)) ∈ lw_all := lw_g (lw_at lw_m5 232 rfl) rfl
theorem q1638 : (Jvm.Cond.instanceMethod ({ cls := "ScriptTypes$Made", name := "<init>", desc := "(I)V" } : Jvm.MethodName)) ∈ lw_all := lw_g (lw_at lw_m5 233 rfl) rfl
theorem q1639 : (Jvm.Cond.code ({ cls := "ScriptTypes$Made", name := "<init>", desc := "(I)V" } : Jvm.MethodName) prog_24_method_1_code (2 : Nat) (Option.none : Option Jvm.ClassFile.FieldType)) ∈ lw_all := lw_g (lw_at lw_m5 234 rfl) rfl
theorem q1640 : (Jvm.Cond.methodLinkNest "ScriptTypes$Made" (3 : Nat) ({ cls := "ScriptTypes$Node", name := "<init>", desc := "()V" } : Jvm.MethodName) "ScriptTypes") ∈ lw_tbl := lw_at lw_m5 235 rfl
theorem q1641 : (Jvm.Cond.fieldLink "ScriptTypes$Made" (9 : Nat) "ScriptTypes$Made" "function" "I") ∈ lw_all := lw_g (lw_at lw_m5 236 rfl) rfl
theorem q1642 : (Jvm.Cond.laysFinal "ScriptTypes$Made" "ScriptTypes$Made" "function" "I") ∈ lw_all := lw_g (lw_at lw_m5 237 rfl) rfl
theorem q1643 : (Jvm.Cond.soleField "ScriptTypes$Made" "function") ∈ lw_all := lw_g (lw_at lw_m5 238 rfl) rfl
theorem q1644 : (Jvm.Cond.superclass "ScriptTypes$Made" "ScriptTypes$Node") ∈ lw_all := lw_g (lw_at lw_m5 239 rfl) rfl
theorem q1645 : (Jvm.Cond.classLink "ScriptTypes$Parser" (364 : Nat) "ScriptTypes$Bracketed") ∈ lw_all := lw_g (lw_at lw_m6 0 rfl) rfl
theorem q1646 : (Jvm.Cond.instantiable "ScriptTypes$Bracketed" (1 : Nat)) ∈ lw_all := lw_g (lw_at lw_m6 1 rfl) rfl
theorem q1647 : (Jvm.Cond.methodLink "ScriptTypes$Parser" (145 : Nat) ({ cls := "ScriptTypes$Parser", name := "expression", desc := "(Z)LScriptTypes$Node;" } : Jvm.MethodName)) ∈ lw_all := lw_g (lw_at lw_m6 2 rfl) rfl
theorem q1648 : (Jvm.Cond.privateMethod ({ cls := "ScriptTypes$Parser", name := "expression", desc := "(Z)LScriptTypes$Node;" } : Jvm.MethodName)) ∈ lw_tbl := lw_at lw_m6 3 rfl
theorem q1649 : (Jvm.Cond.instanceMethod ({ cls := "ScriptTypes$Parser", name := "expression", desc := "(Z)LScriptTypes$Node;" } : Jvm.MethodName)) ∈ lw_all := lw_g (lw_at lw_m6 4 rfl) rfl
theorem q1650 : (Jvm.Cond.code ({ cls := "ScriptTypes$Parser", name := "expression", desc := "(Z)LScriptTypes$Node;" } : Jvm.MethodName) prog_29_method_20_code (4 : Nat) (Option.some (Jvm.ClassFile.FieldType.object "ScriptTypes$Node"))) ∈ lw_all := lw_g (lw_at lw_m6 5 rfl) rfl
theorem q1651 : (Jvm.Cond.classLink "ScriptTypes$Parser" (260 : Nat) "ScriptTypes$Commas") ∈ lw_all := lw_g (lw_at lw_m6 6 rfl) rfl
theorem q1652 : (Jvm.Cond.instantiable "ScriptTypes$Commas" (1 : Nat)) ∈ lw_all := lw_g (lw_at lw_m6 7 rfl) rfl
theorem q1653 : (Jvm.Cond.methodLinkNest "ScriptTypes$Parser" (262 : Nat) ({ cls := "ScriptTypes$Commas", name := "<init>", desc := "()V" } : Jvm.MethodName) "ScriptTypes") ∈ lw_tbl := lw_at lw_m6 8 rfl
theorem q1654 : (Jvm.Cond.instanceMethod ({ cls := "ScriptTypes$Commas", name := "<init>", desc := "()V" } : Jvm.MethodName)) ∈ lw_all := lw_g (lw_at lw_m6 9 rfl) rfl
theorem q1655 : (Jvm.Cond.code ({ cls := "ScriptTypes$Commas", name := "<init>", desc := "()V" } : Jvm.MethodName) prog_11_method_1_code (1 : Nat) (Option.none : Option Jvm.ClassFile.FieldType)) ∈ lw_all := lw_g (lw_at lw_m6 10 rfl) rfl
theorem q1656 : (Jvm.Cond.methodLinkNest "ScriptTypes$Commas" (3 : Nat) ({ cls := "ScriptTypes$Node", name := "<init>", desc := "()V" } : Jvm.MethodName) "ScriptTypes") ∈ lw_tbl := lw_at lw_m6 11 rfl
theorem q1657 : (Jvm.Cond.classLink "ScriptTypes$Commas" (9 : Nat) "java/util/ArrayList") ∈ lw_all := lw_g (lw_at lw_m6 12 rfl) rfl
theorem q1658 : (Jvm.Cond.methodLink "ScriptTypes$Commas" (11 : Nat) ({ cls := "java/util/ArrayList", name := "<init>", desc := "()V" } : Jvm.MethodName)) ∈ lw_all := lw_g (lw_at lw_m6 13 rfl) rfl
theorem q1659 : (Jvm.Cond.fieldLink "ScriptTypes$Commas" (12 : Nat) "ScriptTypes$Commas" "all" "Ljava/util/ArrayList;") ∈ lw_all := lw_g (lw_at lw_m6 14 rfl) rfl
theorem q1660 : (Jvm.Cond.fieldLinkNest "ScriptTypes$Parser" (263 : Nat) "ScriptTypes$Commas" "all" "Ljava/util/ArrayList;" "ScriptTypes") ∈ lw_tbl := lw_at lw_m6 15 rfl
theorem q1661 : (Jvm.Cond.laysFinal "ScriptTypes$Commas" "ScriptTypes$Commas" "all" "Ljava/util/ArrayList;") ∈ lw_all := lw_g (lw_at lw_m6 16 rfl) rfl
theorem q1662 : (Jvm.Cond.soleField "ScriptTypes$Commas" "all") ∈ lw_all := lw_g (lw_at lw_m6 17 rfl) rfl
theorem q1663 : (Jvm.Cond.superclass "ScriptTypes$Commas" "ScriptTypes$Node") ∈ lw_all := lw_g (lw_at lw_m6 18 rfl) rfl
theorem q1664 : (Jvm.Cond.methodLink "ScriptTypes$Parser" (137 : Nat) ({ cls := "ScriptTypes$Tokens", name := "takes", desc := "(I)Z" } : Jvm.MethodName)) ∈ lw_all := lw_g (lw_at lw_m6 19 rfl) rfl
theorem q1665 : (Jvm.Cond.methodLink "ScriptTypes$Parser" (366 : Nat) ({ cls := "ScriptTypes$Bracketed", name := "<init>", desc := "(LScriptTypes$Node;)V" } : Jvm.MethodName)) ∈ lw_all := lw_g (lw_at lw_m6 20 rfl) rfl
theorem q1666 : (Jvm.Cond.instanceMethod ({ cls := "ScriptTypes$Bracketed", name := "<init>", desc := "(LScriptTypes$Node;)V" } : Jvm.MethodName)) ∈ lw_all := lw_g (lw_at lw_m6 21 rfl) rfl
theorem q1667 : (Jvm.Cond.code ({ cls := "ScriptTypes$Bracketed", name := "<init>", desc := "(LScriptTypes$Node;)V" } : Jvm.MethodName) prog_7_method_1_code (2 : Nat) (Option.none : Option Jvm.ClassFile.FieldType)) ∈ lw_all := lw_g (lw_at lw_m6 22 rfl) rfl
theorem q1668 : (Jvm.Cond.methodLinkNest "ScriptTypes$Bracketed" (1 : Nat) ({ cls := "ScriptTypes$Node", name := "<init>", desc := "()V" } : Jvm.MethodName) "ScriptTypes") ∈ lw_tbl := lw_at lw_m6 23 rfl
theorem q1669 : (Jvm.Cond.fieldLink "ScriptTypes$Bracketed" (7 : Nat) "ScriptTypes$Bracketed" "inner" "LScriptTypes$Node;") ∈ lw_all := lw_g (lw_at lw_m6 24 rfl) rfl
theorem q1670 : (Jvm.Cond.laysFinal "ScriptTypes$Bracketed" "ScriptTypes$Bracketed" "inner" "LScriptTypes$Node;") ∈ lw_all := lw_g (lw_at lw_m6 25 rfl) rfl
theorem q1671 : (Jvm.Cond.soleField "ScriptTypes$Bracketed" "inner") ∈ lw_all := lw_g (lw_at lw_m6 26 rfl) rfl
theorem q1672 : (Jvm.Cond.superclass "ScriptTypes$Bracketed" "ScriptTypes$Node") ∈ lw_all := lw_g (lw_at lw_m6 27 rfl) rfl
theorem q1673 : (Jvm.Cond.methodLink "ScriptTypes$Parser" (367 : Nat) ({ cls := "ScriptTypes$Parser", name := "items", desc := "(Z)LScriptTypes$Node;" } : Jvm.MethodName)) ∈ lw_all := lw_g (lw_at lw_m6 28 rfl) rfl
theorem q1674 : (Jvm.Cond.privateMethod ({ cls := "ScriptTypes$Parser", name := "items", desc := "(Z)LScriptTypes$Node;" } : Jvm.MethodName)) ∈ lw_tbl := lw_at lw_m6 29 rfl
theorem q1675 : (Jvm.Cond.instanceMethod ({ cls := "ScriptTypes$Parser", name := "items", desc := "(Z)LScriptTypes$Node;" } : Jvm.MethodName)) ∈ lw_all := lw_g (lw_at lw_m6 30 rfl) rfl
theorem q1676 : (Jvm.Cond.code ({ cls := "ScriptTypes$Parser", name := "items", desc := "(Z)LScriptTypes$Node;" } : Jvm.MethodName) prog_29_method_37_code (4 : Nat) (Option.some (Jvm.ClassFile.FieldType.object "ScriptTypes$Node"))) ∈ lw_all := lw_g (lw_at lw_m6 31 rfl) rfl
theorem q1677 : (Jvm.Cond.classLink "ScriptTypes$Parser" (379 : Nat) "ScriptTypes$Items") ∈ lw_all := lw_g (lw_at lw_m6 32 rfl) rfl
theorem q1678 : (Jvm.Cond.instantiable "ScriptTypes$Items" (3 : Nat)) ∈ lw_all := lw_g (lw_at lw_m6 33 rfl) rfl
theorem q1679 : (Jvm.Cond.methodLink "ScriptTypes$Parser" (381 : Nat) ({ cls := "ScriptTypes$Items", name := "<init>", desc := "(Z)V" } : Jvm.MethodName)) ∈ lw_all := lw_g (lw_at lw_m6 34 rfl) rfl
theorem q1680 : (Jvm.Cond.instanceMethod ({ cls := "ScriptTypes$Items", name := "<init>", desc := "(Z)V" } : Jvm.MethodName)) ∈ lw_all := lw_g (lw_at lw_m6 35 rfl) rfl
theorem q1681 : (Jvm.Cond.code ({ cls := "ScriptTypes$Items", name := "<init>", desc := "(Z)V" } : Jvm.MethodName) prog_18_method_1_code (2 : Nat) (Option.none : Option Jvm.ClassFile.FieldType)) ∈ lw_all := lw_g (lw_at lw_m6 36 rfl) rfl
theorem q1682 : (Jvm.Cond.methodLinkNest "ScriptTypes$Items" (3 : Nat) ({ cls := "ScriptTypes$Node", name := "<init>", desc := "()V" } : Jvm.MethodName) "ScriptTypes") ∈ lw_tbl := lw_at lw_m6 37 rfl
theorem q1683 : (Jvm.Cond.classLink "ScriptTypes$Items" (9 : Nat) "java/util/ArrayList") ∈ lw_all := lw_g (lw_at lw_m6 38 rfl) rfl
theorem q1684 : (Jvm.Cond.methodLink "ScriptTypes$Items" (11 : Nat) ({ cls := "java/util/ArrayList", name := "<init>", desc := "()V" } : Jvm.MethodName)) ∈ lw_all := lw_g (lw_at lw_m6 39 rfl) rfl
theorem q1685 : (Jvm.Cond.fieldLink "ScriptTypes$Items" (18 : Nat) "ScriptTypes$Items" "array" "Z") ∈ lw_all := lw_g (lw_at lw_m6 40 rfl) rfl
theorem q1686 : (Jvm.Cond.fieldLink "ScriptTypes$Items" (12 : Nat) "ScriptTypes$Items" "items" "Ljava/util/ArrayList;") ∈ lw_all := lw_g (lw_at lw_m6 41 rfl) rfl
theorem q1687 : (Jvm.Cond.fieldLinkNest "ScriptTypes$Parser" (382 : Nat) "ScriptTypes$Items" "items" "Ljava/util/ArrayList;" "ScriptTypes") ∈ lw_tbl := lw_at lw_m6 42 rfl
theorem q1688 : (Jvm.Cond.fieldLink "ScriptTypes$Items" (22 : Nat) "ScriptTypes$Items" "keys" "[I") ∈ lw_all := lw_g (lw_at lw_m6 43 rfl) rfl
theorem q1689 : (Jvm.Cond.fieldLinkNest "ScriptTypes$Parser" (384 : Nat) "ScriptTypes$Items" "keys" "[I" "ScriptTypes") ∈ lw_tbl := lw_at lw_m6 44 rfl
theorem q1690 : (Jvm.Cond.laysFinal "ScriptTypes$Items" "ScriptTypes$Items" "array" "Z") ∈ lw_all := lw_g (lw_at lw_m6 45 rfl) rfl
theorem q1691 : (Jvm.Cond.soleField "ScriptTypes$Items" "array") ∈ lw_all := lw_g (lw_at lw_m6 46 rfl) rfl
theorem q1692 : (Jvm.Cond.laysFinal "ScriptTypes$Items" "ScriptTypes$Items" "items" "Ljava/util/ArrayList;") ∈ lw_all := lw_g (lw_at lw_m6 47 rfl) rfl
theorem q1693 : (Jvm.Cond.soleField "ScriptTypes$Items" "items") ∈ lw_all := lw_g (lw_at lw_m6 48 rfl) rfl
theorem q1694 : (Jvm.Cond.laysFinal "ScriptTypes$Items" "ScriptTypes$Items" "keys" "[I") ∈ lw_all := lw_g (lw_at lw_m6 49 rfl) rfl
theorem q1695 : (Jvm.Cond.soleField "ScriptTypes$Items" "keys") ∈ lw_all := lw_g (lw_at lw_m6 50 rfl) rfl
theorem q1696 : (Jvm.Cond.superclass "ScriptTypes$Items" "ScriptTypes$Node") ∈ lw_all := lw_g (lw_at lw_m6 51 rfl) rfl
theorem q1697 : (Jvm.Cond.methodLink "ScriptTypes$Parser" (388 : Nat) ({ cls := "ScriptTypes$Parser", name := "itemKey", desc := "()I" } : Jvm.MethodName)) ∈ lw_all := lw_g (lw_at lw_m6 52 rfl) rfl
theorem q1698 : (Jvm.Cond.privateMethod ({ cls := "ScriptTypes$Parser", name := "itemKey", desc := "()I" } : Jvm.MethodName)) ∈ lw_tbl := lw_at lw_m6 53 rfl
theorem q1699 : (Jvm.Cond.instanceMethod ({ cls := "ScriptTypes$Parser", name := "itemKey", desc := "()I" } : Jvm.MethodName)) ∈ lw_all := lw_g (lw_at lw_m6 54 rfl) rfl
theorem q1700 : (Jvm.Cond.code ({ cls := "ScriptTypes$Parser", name := "itemKey", desc := "()I" } : Jvm.MethodName) prog_29_method_38_code (2 : Nat) (Option.some Jvm.ClassFile.FieldType.int)) ∈ lw_all := lw_g (lw_at lw_m6 55 rfl) rfl
theorem q1701 : (Jvm.Cond.methodLink "ScriptTypes$Parser" (345 : Nat) ({ cls := "ScriptTypes$Tokens", name := "key", desc := "()I" } : Jvm.MethodName)) ∈ lw_all := lw_g (lw_at lw_m6 56 rfl) rfl
theorem q1702 : (Jvm.Cond.instanceMethod ({ cls := "ScriptTypes$Tokens", name := "key", desc := "()I" } : Jvm.MethodName)) ∈ lw_all := lw_g (lw_at lw_m6 57 rfl) rfl
theorem q1703 : (Jvm.Cond.selects "ScriptTypes$Tokens" ({ cls := "ScriptTypes$Tokens", name := "key", desc := "()I" } : Jvm.MethodName) ({ cls := "ScriptTypes$Tokens", name := "key", desc := "()I" } : Jvm.MethodName)) ∈ lw_all := lw_g (lw_at lw_m6 58 rfl) rfl
theorem q1704 : (Jvm.Cond.code ({ cls := "ScriptTypes$Tokens", name := "key", desc := "()I" } : Jvm.MethodName) prog_40_method_20_code (2 : Nat) (Option.some Jvm.ClassFile.FieldType.int)) ∈ lw_all := lw_g (lw_at lw_m6 59 rfl) rfl
theorem q1705 : (Jvm.Cond.methodLink "ScriptTypes$Tokens" (145 : Nat) ({ cls := "ScriptTypes$Texts", name := "sign", desc := "(II)I" } : Jvm.MethodName)) ∈ lw_all := lw_g (lw_at lw_m6 60 rfl) rfl
theorem q1706 : (Jvm.Cond.instanceMethod ({ cls := "ScriptTypes$Texts", name := "sign", desc := "(II)I" } : Jvm.MethodName)) ∈ lw_all := lw_g (lw_at lw_m6 61 rfl) rfl
theorem q1707 : (Jvm.Cond.selects "ScriptTypes$Texts" ({ cls := "ScriptTypes$Texts", name := "sign", desc := "(II)I" } : Jvm.MethodName) ({ cls := "ScriptTypes$Texts", name := "sign", desc := "(II)I" } : Jvm.MethodName)) ∈ lw_all := lw_g (lw_at lw_m6 62 rfl) rfl
theorem q1708 : (Jvm.Cond.code ({ cls := "ScriptTypes$Texts", name := "sign", desc := "(II)I" } : Jvm.MethodName) prog_36_method_3_code (3 : Nat) (Option.some Jvm.ClassFile.FieldType.int)) ∈ lw_all := lw_g (lw_at lw_m6 63 rfl) rfl
theorem q1709 : (Jvm.Cond.methodLinkNest "ScriptTypes$Parser" (391 : Nat) ({ cls := "ScriptTypes", name := "clearRow", desc := "()V" } : Jvm.MethodName) "ScriptTypes") ∈ lw_tbl := lw_at lw_m6 64 rfl
theorem q1710 : (Jvm.Cond.methodLinkNest "ScriptTypes$Parser" (394 : Nat) ({ cls := "ScriptTypes", name := "putDigits", desc := "(I)V" } : Jvm.MethodName) "ScriptTypes") ∈ lw_tbl := lw_at lw_m6 65 rfl
theorem q1711 : (Jvm.Cond.privateMethod ({ cls := "ScriptTypes", name := "putDigits", desc := "(I)V" } : Jvm.MethodName)) ∈ lw_tbl := lw_at lw_m6 66 rfl
theorem q1712 : (Jvm.Cond.instanceMethod ({ cls := "ScriptTypes", name := "putDigits", desc := "(I)V" } : Jvm.MethodName)) ∈ lw_all := lw_g (lw_at lw_m6 67 rfl) rfl
theorem q1713 : (Jvm.Cond.code ({ cls := "ScriptTypes", name := "putDigits", desc := "(I)V" } : Jvm.MethodName) prog_1_method_3_code (6 : Nat) (Option.none : Option Jvm.ClassFile.FieldType)) ∈ lw_all := lw_g (lw_at lw_m6 68 rfl) rfl
theorem q1714 : (Jvm.Cond.constantLong "ScriptTypes" (15 : Nat) (10 : Int64)) ∈ lw_all := lw_g (lw_at lw_m6 69 rfl) rfl
theorem q1715 : (Jvm.Cond.constantLong "ScriptTypes" (17 : Nat) (48 : Int64)) ∈ lw_all := lw_g (lw_at lw_m6 70 rfl) rfl
theorem q1716 : (Jvm.Cond.methodLink "ScriptTypes$Parser" (397 : Nat) ({ cls := "ScriptTypes$Tokens", name := "name", desc := "()I" } : Jvm.MethodName)) ∈ lw_all := lw_g (lw_at lw_m6 71 rfl) rfl
theorem q1717 : (Jvm.Cond.classLink "ScriptTypes$Parser" (326 : Nat) "ScriptTypes$Left") ∈ lw_all := lw_g (lw_at lw_m6 72 rfl) rfl
theorem q1718 : (Jvm.Cond.instantiable "ScriptTypes$Left" (2 : Nat)) ∈ lw_all := lw_g (lw_at lw_m6 73 rfl) rfl
theorem q1719 : (Jvm.Cond.methodLink "ScriptTypes$Parser" (328 : Nat) ({ cls := "ScriptTypes$Left", name := "<init>", desc := "(LScriptTypes$Node;)V" } : Jvm.MethodName)) ∈ lw_all := lw_g (lw_at lw_m6 74 rfl) rfl
theorem q1720 : (Jvm.Cond.instanceMethod ({ cls := "ScriptTypes$Left", name := "<init>", desc := "(LScriptTypes$Node;)V" } : Jvm.MethodName)) ∈ lw_all := lw_g (lw_at lw_m6 75 rfl) rfl
theorem q1721 : (Jvm.Cond.code ({ cls := "ScriptTypes$Left", name := "<init>", desc := "(LScriptTypes$Node;)V" } : Jvm.MethodName) prog_21_method_1_code (2 : Nat) (Option.none : Option Jvm.ClassFile.FieldType)) ∈ lw_all := lw_g (lw_at lw_m6 76 rfl) rfl
theorem q1722 : (Jvm.Cond.methodLinkNest "ScriptTypes$Left" (3 : Nat) ({ cls := "ScriptTypes$Node", name := "<init>", desc := "()V" } : Jvm.MethodName) "ScriptTypes") ∈ lw_tbl := lw_at lw_m6 77 rfl
theorem q1723 : (Jvm.Cond.classLink "ScriptTypes$Left" (9 : Nat) "java/util/ArrayList") ∈ lw_all := lw_g (lw_at lw_m6 78 rfl) rfl
theorem q1724 : (Jvm.Cond.methodLink "ScriptTypes$Left" (11 : Nat) ({ cls := "java/util/ArrayList", name := "<init>", desc := "()V" } : Jvm.MethodName)) ∈ lw_all := lw_g (lw_at lw_m6 79 rfl) rfl
theorem q1725 : (Jvm.Cond.fieldLink "ScriptTypes$Left" (18 : Nat) "ScriptTypes$Left" "first" "LScriptTypes$Node;") ∈ lw_all := lw_g (lw_at lw_m6 80 rfl) rfl
theorem q1726 : (Jvm.Cond.fieldLink "ScriptTypes$Left" (12 : Nat) "ScriptTypes$Left" "behind" "Ljava/util/ArrayList;") ∈ lw_all := lw_g (lw_at lw_m6 81 rfl) rfl
theorem q1727 : (Jvm.Cond.fieldLinkNest "ScriptTypes$Parser" (329 : Nat) "ScriptTypes$Left" "behind" "Ljava/util/ArrayList;" "ScriptTypes") ∈ lw_tbl := lw_at lw_m6 82 rfl
theorem q1728 : (Jvm.Cond.laysFinal "ScriptTypes$Left" "ScriptTypes$Left" "first" "LScriptTypes$Node;") ∈ lw_all := lw_g (lw_at lw_m6 83 rfl) rfl
theorem q1729 : (Jvm.Cond.soleField "ScriptTypes$Left" "first") ∈ lw_all := lw_g (lw_at lw_m6 84 rfl) rfl
theorem q1730 : (Jvm.Cond.laysFinal "ScriptTypes$Left" "ScriptTypes$Left" "behind" "Ljava/util/ArrayList;") ∈ lw_all := lw_g (lw_at lw_m6 85 rfl) rfl
theorem q1731 : (Jvm.Cond.soleField "ScriptTypes$Left" "behind") ∈ lw_all := lw_g (lw_at lw_m6 86 rfl) rfl
theorem q1732 : (Jvm.Cond.superclass "ScriptTypes$Left" "ScriptTypes$Node") ∈ lw_all := lw_g (lw_at lw_m6 87 rfl) rfl
theorem q1733 : (Jvm.Cond.methodLink "ScriptTypes$Parser" (341 : Nat) ({ cls := "ScriptTypes$Parser", name := "member", desc := "()LScriptTypes$Suffix;" } : Jvm.MethodName)) ∈ lw_all := lw_g (lw_at lw_m6 88 rfl) rfl
theorem q1734 : (Jvm.Cond.privateMethod ({ cls := "ScriptTypes$Parser", name := "member", desc := "()LScriptTypes$Suffix;" } : Jvm.MethodName)) ∈ lw_tbl := lw_at lw_m6 89 rfl
theorem q1735 : (Jvm.Cond.instanceMethod ({ cls := "ScriptTypes$Parser", name := "member", desc := "()LScriptTypes$Suffix;" } : Jvm.MethodName)) ∈ lw_all := lw_g (lw_at lw_m6 90 rfl) rfl
theorem q1736 : (Jvm.Cond.code ({ cls := "ScriptTypes$Parser", name := "member", desc := "()LScriptTypes$Suffix;" } : Jvm.MethodName) prog_29_method_32_code (2 : Nat) (Option.some (Jvm.ClassFile.FieldType.object "ScriptTypes$Suffix"))) ∈ lw_all := lw_g (lw_at lw_m6 91 rfl) rfl
theorem q1737 : (Jvm.Cond.classLink "ScriptTypes$Parser" (332 : Nat) "ScriptTypes$Suffix") ∈ lw_all := lw_g (lw_at lw_m6 92 rfl) rfl
theorem q1738 : (Jvm.Cond.instantiable "ScriptTypes$Suffix" (3 : Nat)) ∈ lw_all := lw_g (lw_at lw_m6 93 rfl) rfl
theorem q1739 : (Jvm.Cond.methodLink "ScriptTypes$Parser" (338 : Nat) ({ cls := "ScriptTypes$Suffix", name := "<init>", desc := "(ILScriptTypes$Node;Ljava/util/ArrayList;)V" } : Jvm.MethodName)) ∈ lw_all := lw_g (lw_at lw_m6 94 rfl) rfl
theorem q1740 : (Jvm.Cond.instanceMethod ({ cls := "ScriptTypes$Suffix", name := "<init>", desc := "(ILScriptTypes$Node;Ljava/util/ArrayList;)V" } : Jvm.MethodName)) ∈ lw_all := lw_g (lw_at lw_m6 95 rfl) rfl
theorem q1741 : (Jvm.Cond.code ({ cls := "ScriptTypes$Suffix", name := "<init>", desc := "(ILScriptTypes$Node;Ljava/util/ArrayList;)V" } : Jvm.MethodName) prog_33_method_1_code (4 : Nat) (Option.none : Option Jvm.ClassFile.FieldType)) ∈ lw_all := lw_g (lw_at lw_m6 96 rfl) rfl
theorem q1742 : (Jvm.Cond.methodLink "ScriptTypes$Suffix" (3 : Nat) ({ cls := "java/lang/Object", name := "<init>", desc := "()V" } : Jvm.MethodName)) ∈ lw_all := lw_g (lw_at lw_m6 97 rfl) rfl
theorem q1743 : (Jvm.Cond.fieldLink "ScriptTypes$Suffix" (9 : Nat) "ScriptTypes$Suffix" "name" "I") ∈ lw_all := lw_g (lw_at lw_m6 98 rfl) rfl
theorem q1744 : (Jvm.Cond.fieldLink "ScriptTypes$Suffix" (15 : Nat) "ScriptTypes$Suffix" "value" "LScriptTypes$Node;") ∈ lw_all := lw_g (lw_at lw_m6 99 rfl) rfl
theorem q1745 : (Jvm.Cond.fieldLink "ScriptTypes$Suffix" (19 : Nat) "ScriptTypes$Suffix" "arguments" "Ljava/util/ArrayList;") ∈ lw_all := lw_g (lw_at lw_m6 100 rfl) rfl
theorem q1746 : (Jvm.Cond.fieldLinkNest "ScriptTypes$Left" (32 : Nat) "ScriptTypes$Suffix" "arguments" "Ljava/util/ArrayList;" "ScriptTypes") ∈ lw_tbl := lw_at lw_m6 101 rfl
theorem q1747 : (Jvm.Cond.laysFinal "ScriptTypes$Suffix" "ScriptTypes$Suffix" "name" "I") ∈ lw_all := lw_g (lw_at lw_m6 102 rfl) rfl
theorem q1748 : (Jvm.Cond.soleField "ScriptTypes$Suffix" "name") ∈ lw_all := lw_g (lw_at lw_m6 103 rfl) rfl
theorem q1749 : (Jvm.Cond.laysFinal "ScriptTypes$Suffix" "ScriptTypes$Suffix" "value" "LScriptTypes$Node;") ∈ lw_all := lw_g (lw_at lw_m6 104 rfl) rfl
theorem q1750 : (Jvm.Cond.soleField "ScriptTypes$Suffix" "value") ∈ lw_all := lw_g (lw_at lw_m6 105 rfl) rfl
theorem q1751 : (Jvm.Cond.laysFinal "ScriptTypes$Suffix" "ScriptTypes$Suffix" "arguments" "Ljava/util/ArrayList;") ∈ lw_all := lw_g (lw_at lw_m6 106 rfl) rfl
theorem q1752 : (Jvm.Cond.soleField "ScriptTypes$Suffix" "arguments") ∈ lw_all := lw_g (lw_at lw_m6 107 rfl) rfl
theorem q1753 : (Jvm.Cond.superclass "ScriptTypes$Suffix" "java/lang/Object") ∈ lw_all := lw_g (lw_at lw_m6 108 rfl) rfl
theorem q1754 : (Jvm.Cond.classLink "ScriptTypes$Parser" (348 : Nat) "ScriptTypes$New") ∈ lw_all := lw_g (lw_at lw_m6 109 rfl) rfl
theorem q1755 : (Jvm.Cond.instantiable "ScriptTypes$New" (2 : Nat)) ∈ lw_all := lw_g (lw_at lw_m6 110 rfl) rfl
theorem q1756 : (Jvm.Cond.methodLink "ScriptTypes$Parser" (334 : Nat) ({ cls := "ScriptTypes$Parser", name := "arguments", desc := "()Ljava/util/ArrayList;" } : Jvm.MethodName)) ∈ lw_all := lw_g (lw_at lw_m6 111 rfl) rfl
theorem q1757 : (Jvm.Cond.privateMethod ({ cls := "ScriptTypes$Parser", name := "arguments", desc := "()Ljava/util/ArrayList;" } : Jvm.MethodName)) ∈ lw_tbl := lw_at lw_m6 112 rfl
theorem q1758 : (Jvm.Cond.instanceMethod ({ cls := "ScriptTypes$Parser", name := "arguments", desc := "()Ljava/util/ArrayList;" } : Jvm.MethodName)) ∈ lw_all := lw_g (lw_at lw_m6 113 rfl) rfl
theorem q1759 : (Jvm.Cond.code ({ cls := "ScriptTypes$Parser", name := "arguments", desc := "()Ljava/util/ArrayList;" } : Jvm.MethodName) prog_29_method_33_code (2 : Nat) (Option.some (Jvm.ClassFile.FieldType.object "java/util/ArrayList"))) ∈ lw_all := lw_g (lw_at lw_m6 114 rfl) rfl
theorem q1760 : (Jvm.Cond.methodLink "ScriptTypes$Parser" (350 : Nat) ({ cls := "ScriptTypes$New", name := "<init>", desc := "(LScriptTypes$Node;Ljava/util/ArrayList;)V" } : Jvm.MethodName)) ∈ lw_all := lw_g (lw_at lw_m6 115 rfl) rfl
theorem q1761 : (Jvm.Cond.instanceMethod ({ cls := "ScriptTypes$New", name := "<init>", desc := "(LScriptTypes$Node;Ljava/util/ArrayList;)V" } : Jvm.MethodName)) ∈ lw_all := lw_g (lw_at lw_m6 116 rfl) rfl
theorem q1762 : (Jvm.Cond.code ({ cls := "ScriptTypes$New", name := "<init>", desc := "(LScriptTypes$Node;Ljava/util/ArrayList;)V" } : Jvm.MethodName) prog_26_method_1_code (3 : Nat) (Option.none : Option Jvm.ClassFile.FieldType)) ∈ lw_all := lw_g (lw_at lw_m6 117 rfl) rfl
theorem q1763 : (Jvm.Cond.methodLinkNest "ScriptTypes$New" (3 : Nat) ({ cls := "ScriptTypes$Node", name := "<init>", desc := "()V" } : Jvm.MethodName) "ScriptTypes") ∈ lw_tbl := lw_at lw_m6 118 rfl
theorem q1764 : (Jvm.Cond.fieldLink "ScriptTypes$New" (9 : Nat) "ScriptTypes$New" "what" "LScriptTypes$Node;") ∈ lw_all := lw_g (lw_at lw_m6 119 rfl) rfl
theorem q1765 : (Jvm.Cond.fieldLink "ScriptTypes$New" (15 : Nat) "ScriptTypes$New" "arguments" "Ljava/util/ArrayList;") ∈ lw_all := lw_g (lw_at lw_m6 120 rfl) rfl
theorem q1766 : (Jvm.Cond.laysFinal "ScriptTypes$New" "ScriptTypes$New" "what" "LScriptTypes$Node;") ∈ lw_all := lw_g (lw_at lw_m6 121 rfl) rfl
theorem q1767 : (Jvm.Cond.soleField "ScriptTypes$New" "what") ∈ lw_all := lw_g (lw_at lw_m6 122 rfl) rfl
theorem q1768 : (Jvm.Cond.laysFinal "ScriptTypes$New" "ScriptTypes$New" "arguments" "Ljava/util/ArrayList;") ∈ lw_all := lw_g (lw_at lw_m6 123 rfl) rfl
theorem q1769 : (Jvm.Cond.soleField "ScriptTypes$New" "arguments") ∈ lw_all := lw_g (lw_at lw_m6 124 rfl) rfl
theorem q1770 : (Jvm.Cond.superclass "ScriptTypes$New" "ScriptTypes$Node") ∈ lw_all := lw_g (lw_at lw_m6 125 rfl) rfl
theorem q1771 : (Jvm.Cond.methodLink "ScriptTypes$Parser" (155 : Nat) ({ cls := "ScriptTypes$Tokens", name := "onLaterLine", desc := "()Z" } : Jvm.MethodName)) ∈ lw_all := lw_g (lw_at lw_m6 126 rfl) rfl
theorem q1772 : (Jvm.Cond.instanceMethod ({ cls := "ScriptTypes$Tokens", name := "onLaterLine", desc := "()Z" } : Jvm.MethodName)) ∈ lw_all := lw_g (lw_at lw_m6 127 rfl) rfl
theorem q1773 : (Jvm.Cond.selects "ScriptTypes$Tokens" ({ cls := "ScriptTypes$Tokens", name := "onLaterLine", desc := "()Z" } : Jvm.MethodName) ({ cls := "ScriptTypes$Tokens", name := "onLaterLine", desc := "()Z" } : Jvm.MethodName)) ∈ lw_all := lw_g (lw_at lw_m6 128 rfl) rfl
theorem q1774 : (Jvm.Cond.code ({ cls := "ScriptTypes$Tokens", name := "onLaterLine", desc := "()Z" } : Jvm.MethodName) prog_40_method_14_code (1 : Nat) (Option.some Jvm.ClassFile.FieldType.boolean)) ∈ lw_all := lw_g (lw_at lw_m6 129 rfl) rfl
theorem q1775 : (Jvm.Cond.methodLink "ScriptTypes$Parser" (234 : Nat) ({ cls := "ScriptTypes$Node", name := "isName", desc := "()Z" } : Jvm.MethodName)) ∈ lw_all := lw_g (lw_at lw_m6 130 rfl) rfl
theorem q1776 : (Jvm.Cond.instanceMethod ({ cls := "ScriptTypes$Node", name := "isName", desc := "()Z" } : Jvm.MethodName)) ∈ lw_all := lw_g (lw_at lw_m6 131 rfl) rfl
theorem q1777 : (Jvm.Cond.sameMethod "ScriptTypes$Node" "ScriptTypes$Node" "isName" "()Z") ∈ lw_all := lw_g (lw_at lw_m6 132 rfl) rfl
theorem q1778 : (Jvm.Cond.selects "ScriptTypes$Ahead" ({ cls := "ScriptTypes$Node", name := "isName", desc := "()Z" } : Jvm.MethodName) ({ cls := "ScriptTypes$Node", name := "isName", desc := "()Z" } : Jvm.MethodName)) ∈ lw_all := lw_g (lw_at lw_m6 133 rfl) rfl
theorem q1779 : (Jvm.Cond.selects "ScriptTypes$Block" ({ cls := "ScriptTypes$Node", name := "isName", desc := "()Z" } : Jvm.MethodName) ({ cls := "ScriptTypes$Node", name := "isName", desc := "()Z" } : Jvm.MethodName)) ∈ lw_all := lw_g (lw_at lw_m6 134 rfl) rfl
theorem q1780 : (Jvm.Cond.selects "ScriptTypes$Both" ({ cls := "ScriptTypes$Node", name := "isName", desc := "()Z" } : Jvm.MethodName) ({ cls := "ScriptTypes$Node", name := "isName", desc := "()Z" } : Jvm.MethodName)) ∈ lw_all := lw_g (lw_at lw_m6 135 rfl) rfl
theorem q1781 : (Jvm.Cond.selects "ScriptTypes$Bracketed" ({ cls := "ScriptTypes$Node", name := "isName", desc := "()Z" } : Jvm.MethodName) ({ cls := "ScriptTypes$Node", name := "isName", desc := "()Z" } : Jvm.MethodName)) ∈ lw_all := lw_g (lw_at lw_m6 136 rfl) rfl
theorem q1782 : (Jvm.Cond.selects "ScriptTypes$Choice" ({ cls := "ScriptTypes$Node", name := "isName", desc := "()Z" } : Jvm.MethodName) ({ cls := "ScriptTypes$Node", name := "isName", desc := "()Z" } : Jvm.MethodName)) ∈ lw_all := lw_g (lw_at lw_m6 137 rfl) rfl
theorem q1783 : (Jvm.Cond.selects "ScriptTypes$Commas" ({ cls := "ScriptTypes$Node", name := "isName", desc := "()Z" } : Jvm.MethodName) ({ cls := "ScriptTypes$Node", name := "isName", desc := "()Z" } : Jvm.MethodName)) ∈ lw_all := lw_g (lw_at lw_m6 138 rfl) rfl
theorem q1784 : (Jvm.Cond.selects "ScriptTypes$Counts" ({ cls := "ScriptTypes$Node", name := "isName", desc := "()Z" } : Jvm.MethodName) ({ cls := "ScriptTypes$Node", name := "isName", desc := "()Z" } : Jvm.MethodName)) ∈ lw_all := lw_g (lw_at lw_m6 139 rfl) rfl
theorem q1785 : (Jvm.Cond.selects "ScriptTypes$Drops" ({ cls := "ScriptTypes$Node", name := "isName", desc := "()Z" } : Jvm.MethodName) ({ cls := "ScriptTypes$Node", name := "isName", desc := "()Z" } : Jvm.MethodName)) ∈ lw_all := lw_g (lw_at lw_m6 140 rfl) rfl
theorem q1786 : (Jvm.Cond.selects "ScriptTypes$Each" ({ cls := "ScriptTypes$Node", name := "isName", desc := "()Z" } : Jvm.MethodName) ({ cls := "ScriptTypes$Node", name := "isName", desc := "()Z" } : Jvm.MethodName)) ∈ lw_all := lw_g (lw_at lw_m6 141 rfl) rfl
theorem q1787 : (Jvm.Cond.selects "ScriptTypes$Goes" ({ cls := "ScriptTypes$Node", name := "isName", desc := "()Z" } : Jvm.MethodName) ({ cls := "ScriptTypes$Node", name := "isName", desc := "()Z" } : Jvm.MethodName)) ∈ lw_all := lw_g (lw_at lw_m6 142 rfl) rfl
theorem q1788 : (Jvm.Cond.selects "ScriptTypes$If" ({ cls := "ScriptTypes$Node", name := "isName", desc := "()Z" } : Jvm.MethodName) ({ cls := "ScriptTypes$Node", name := "isName", desc := "()Z" } : Jvm.MethodName)) ∈ lw_all := lw_g (lw_at lw_m6 143 rfl) rfl
theorem q1789 : (Jvm.Cond.selects "ScriptTypes$Items" ({ cls := "ScriptTypes$Node", name := "isName", desc := "()Z" } : Jvm.MethodName) ({ cls := "ScriptTypes$Node", name := "isName", desc := "()Z" } : Jvm.MethodName)) ∈ lw_all := lw_g (lw_at lw_m6 144 rfl) rfl
theorem q1790 : (Jvm.Cond.selects "ScriptTypes$Left" ({ cls := "ScriptTypes$Node", name := "isName", desc := "()Z" } : Jvm.MethodName) ({ cls := "ScriptTypes$Node", name := "isName", desc := "()Z" } : Jvm.MethodName)) ∈ lw_all := lw_g (lw_at lw_m6 145 rfl) rfl
theorem q1791 : (Jvm.Cond.selects "ScriptTypes$Literal" ({ cls := "ScriptTypes$Node", name := "isName", desc := "()Z" } : Jvm.MethodName) ({ cls := "ScriptTypes$Node", name := "isName", desc := "()Z" } : Jvm.MethodName)) ∈ lw_all := lw_g (lw_at lw_m6 146 rfl) rfl
theorem q1792 : (Jvm.Cond.selects "ScriptTypes$Loop" ({ cls := "ScriptTypes$Node", name := "isName", desc := "()Z" } : Jvm.MethodName) ({ cls := "ScriptTypes$Node", name := "isName", desc := "()Z" } : Jvm.MethodName)) ∈ lw_all := lw_g (lw_at lw_m6 147 rfl) rfl
theorem q1793 : (Jvm.Cond.selects "ScriptTypes$Made" ({ cls := "ScriptTypes$Node", name := "isName", desc := "()Z" } : Jvm.MethodName) ({ cls := "ScriptTypes$Node", name := "isName", desc := "()Z" } : Jvm.MethodName)) ∈ lw_all := lw_g (lw_at lw_m6 148 rfl) rfl
theorem q1794 : (Jvm.Cond.selects "ScriptTypes$Name" ({ cls := "ScriptTypes$Node", name := "isName", desc := "()Z" } : Jvm.MethodName) ({ cls := "ScriptTypes$Name", name := "isName", desc := "()Z" } : Jvm.MethodName)) ∈ lw_all := lw_g (lw_at lw_m6 149 rfl) rfl
theorem q1795 : (Jvm.Cond.instanceMethod ({ cls := "ScriptTypes$Name", name := "isName", desc := "()Z" } : Jvm.MethodName)) ∈ lw_all := lw_g (lw_at lw_m6 150 rfl) rfl
theorem q1796 : (Jvm.Cond.code ({ cls := "ScriptTypes$Name", name := "isName", desc := "()Z" } : Jvm.MethodName) prog_25_method_2_code (1 : Nat) (Option.some Jvm.ClassFile.FieldType.boolean)) ∈ lw_all := lw_g (lw_at lw_m6 151 rfl) rfl
theorem q1797 : (Jvm.Cond.selects "ScriptTypes$New" ({ cls := "ScriptTypes$Node", name := "isName", desc := "()Z" } : Jvm.MethodName) ({ cls := "ScriptTypes$Node", name := "isName", desc := "()Z" } : Jvm.MethodName)) ∈ lw_all := lw_g (lw_at lw_m6 152 rfl) rfl
theorem q1798 : (Jvm.Cond.selects "ScriptTypes$Return" ({ cls := "ScriptTypes$Node", name := "isName", desc := "()Z" } : Jvm.MethodName) ({ cls := "ScriptTypes$Node", name := "isName", desc := "()Z" } : Jvm.MethodName)) ∈ lw_all := lw_g (lw_at lw_m6 153 rfl) rfl
theorem q1799 : (Jvm.Cond.selects "ScriptTypes$Row" ({ cls := "ScriptTypes$Node", name := "isName", desc := "()Z" } : Jvm.MethodName) ({ cls := "ScriptTypes$Node", name := "isName", desc := "()Z" } : Jvm.MethodName)) ∈ lw_all := lw_g (lw_at lw_m6 154 rfl) rfl
theorem q1800 : (Jvm.Cond.selects "ScriptTypes$Sets" ({ cls := "ScriptTypes$Node", name := "isName", desc := "()Z" } : Jvm.MethodName) ({ cls := "ScriptTypes$Node", name := "isName", desc := "()Z" } : Jvm.MethodName)) ∈ lw_all := lw_g (lw_at lw_m6 155 rfl) rfl
theorem q1801 : (Jvm.Cond.selects "ScriptTypes$Switch" ({ cls := "ScriptTypes$Node", name := "isName", desc := "()Z" } : Jvm.MethodName) ({ cls := "ScriptTypes$Node", name := "isName", desc := "()Z" } : Jvm.MethodName)) ∈ lw_all := lw_g (lw_at lw_m6 156 rfl) rfl
theorem q1802 : (Jvm.Cond.selects "ScriptTypes$This" ({ cls := "ScriptTypes$Node", name := "isName", desc := "()Z" } : Jvm.MethodName) ({ cls := "ScriptTypes$Node", name := "isName", desc := "()Z" } : Jvm.MethodName)) ∈ lw_all := lw_g (lw_at lw_m6 157 rfl) rfl
theorem q1803 : (Jvm.Cond.selects "ScriptTypes$Throw" ({ cls := "ScriptTypes$Node", name := "isName", desc := "()Z" } : Jvm.MethodName) ({ cls := "ScriptTypes$Node", name := "isName", desc := "()Z" } : Jvm.MethodName)) ∈ lw_all := lw_g (lw_at lw_m6 158 rfl) rfl
theorem q1804 : (Jvm.Cond.selects "ScriptTypes$Try" ({ cls := "ScriptTypes$Node", name := "isName", desc := "()Z" } : Jvm.MethodName) ({ cls := "ScriptTypes$Node", name := "isName", desc := "()Z" } : Jvm.MethodName)) ∈ lw_all := lw_g (lw_at lw_m6 159 rfl) rfl
theorem q1805 : (Jvm.Cond.code ({ cls := "ScriptTypes$Node", name := "isName", desc := "()Z" } : Jvm.MethodName) prog_28_method_3_code (1 : Nat) (Option.some Jvm.ClassFile.FieldType.boolean)) ∈ lw_all := lw_g (lw_at lw_m6 160 rfl) rfl
theorem q1806 : (Jvm.Cond.methodLink "ScriptTypes$Parser" (274 : Nat) ({ cls := "ScriptTypes$Node", name := "isMember", desc := "()Z" } : Jvm.MethodName)) ∈ lw_all := lw_g (lw_at lw_m6 161 rfl) rfl
theorem q1807 : (Jvm.Cond.instanceMethod ({ cls := "ScriptTypes$Node", name := "isMember", desc := "()Z" } : Jvm.MethodName)) ∈ lw_all := lw_g (lw_at lw_m6 162 rfl) rfl
theorem q1808 : (Jvm.Cond.sameMethod "ScriptTypes$Node" "ScriptTypes$Node" "isMember" "()Z") ∈ lw_all := lw_g (lw_at lw_m6 163 rfl) rfl
theorem q1809 : (Jvm.Cond.selects "ScriptTypes$Ahead" ({ cls := "ScriptTypes$Node", name := "isMember", desc := "()Z" } : Jvm.MethodName) ({ cls := "ScriptTypes$Node", name := "isMember", desc := "()Z" } : Jvm.MethodName)) ∈ lw_all := lw_g (lw_at lw_m6 164 rfl) rfl
theorem q1810 : (Jvm.Cond.selects "ScriptTypes$Block" ({ cls := "ScriptTypes$Node", name := "isMember", desc := "()Z" } : Jvm.MethodName) ({ cls := "ScriptTypes$Node", name := "isMember", desc := "()Z" } : Jvm.MethodName)) ∈ lw_all := lw_g (lw_at lw_m6 165 rfl) rfl
theorem q1811 : (Jvm.Cond.selects "ScriptTypes$Both" ({ cls := "ScriptTypes$Node", name := "isMember", desc := "()Z" } : Jvm.MethodName) ({ cls := "ScriptTypes$Node", name := "isMember", desc := "()Z" } : Jvm.MethodName)) ∈ lw_all := lw_g (lw_at lw_m6 166 rfl) rfl
theorem q1812 : (Jvm.Cond.selects "ScriptTypes$Bracketed" ({ cls := "ScriptTypes$Node", name := "isMember", desc := "()Z" } : Jvm.MethodName) ({ cls := "ScriptTypes$Node", name := "isMember", desc := "()Z" } : Jvm.MethodName)) ∈ lw_all := lw_g (lw_at lw_m6 167 rfl) rfl
theorem q1813 : (Jvm.Cond.selects "ScriptTypes$Choice" ({ cls := "ScriptTypes$Node", name := "isMember", desc := "()Z" } : Jvm.MethodName) ({ cls := "ScriptTypes$Node", name := "isMember", desc := "()Z" } : Jvm.MethodName)) ∈ lw_all := lw_g (lw_at lw_m6 168 rfl) rfl
theorem q1814 : (Jvm.Cond.selects "ScriptTypes$Commas" ({ cls := "ScriptTypes$Node", name := "isMember", desc := "()Z" } : Jvm.MethodName) ({ cls := "ScriptTypes$Node", name := "isMember", desc := "()Z" } : Jvm.MethodName)) ∈ lw_all := lw_g (lw_at lw_m6 169 rfl) rfl
theorem q1815 : (Jvm.Cond.selects "ScriptTypes$Counts" ({ cls := "ScriptTypes$Node", name := "isMember", desc := "()Z" } : Jvm.MethodName) ({ cls := "ScriptTypes$Node", name := "isMember", desc := "()Z" } : Jvm.MethodName)) ∈ lw_all := lw_g (lw_at lw_m6 170 rfl) rfl
theorem q1816 : (Jvm.Cond.selects "ScriptTypes$Drops" ({ cls := "ScriptTypes$Node", name := "isMember", desc := "()Z" } : Jvm.MethodName) ({ cls := "ScriptTypes$Node", name := "isMember", desc := "()Z" } : Jvm.MethodName)) ∈ lw_all := lw_g (lw_at lw_m6 171 rfl) rfl
theorem q1817 : (Jvm.Cond.selects "ScriptTypes$Each" ({ cls := "ScriptTypes$Node", name := "isMember", desc := "()Z" } : Jvm.MethodName) ({ cls := "ScriptTypes$Node", name := "isMember", desc := "()Z" } : Jvm.MethodName)) ∈ lw_all := lw_g (lw_at lw_m6 172 rfl) rfl
theorem q1818 : (Jvm.Cond.selects "ScriptTypes$Goes" ({ cls := "ScriptTypes$Node", name := "isMember", desc := "()Z" } : Jvm.MethodName) ({ cls := "ScriptTypes$Node", name := "isMember", desc := "()Z" } : Jvm.MethodName)) ∈ lw_all := lw_g (lw_at lw_m6 173 rfl) rfl
theorem q1819 : (Jvm.Cond.selects "ScriptTypes$If" ({ cls := "ScriptTypes$Node", name := "isMember", desc := "()Z" } : Jvm.MethodName) ({ cls := "ScriptTypes$Node", name := "isMember", desc := "()Z" } : Jvm.MethodName)) ∈ lw_all := lw_g (lw_at lw_m6 174 rfl) rfl
theorem q1820 : (Jvm.Cond.selects "ScriptTypes$Items" ({ cls := "ScriptTypes$Node", name := "isMember", desc := "()Z" } : Jvm.MethodName) ({ cls := "ScriptTypes$Node", name := "isMember", desc := "()Z" } : Jvm.MethodName)) ∈ lw_all := lw_g (lw_at lw_m6 175 rfl) rfl
theorem q1821 : (Jvm.Cond.selects "ScriptTypes$Left" ({ cls := "ScriptTypes$Node", name := "isMember", desc := "()Z" } : Jvm.MethodName) ({ cls := "ScriptTypes$Left", name := "isMember", desc := "()Z" } : Jvm.MethodName)) ∈ lw_all := lw_g (lw_at lw_m6 176 rfl) rfl
theorem q1822 : (Jvm.Cond.instanceMethod ({ cls := "ScriptTypes$Left", name := "isMember", desc := "()Z" } : Jvm.MethodName)) ∈ lw_all := lw_g (lw_at lw_m6 177 rfl) rfl
theorem q1823 : (Jvm.Cond.code ({ cls := "ScriptTypes$Left", name := "isMember", desc := "()Z" } : Jvm.MethodName) prog_21_method_2_code (1 : Nat) (Option.some Jvm.ClassFile.FieldType.boolean)) ∈ lw_all := lw_g (lw_at lw_m6 178 rfl) rfl
theorem q1824 : (Jvm.Cond.methodLink "ScriptTypes$Left" (22 : Nat) ({ cls := "java/util/ArrayList", name := "size", desc := "()I" } : Jvm.MethodName)) ∈ lw_all := lw_g (lw_at lw_m6 179 rfl) rfl
theorem q1825 : (Jvm.Cond.methodLink "ScriptTypes$Left" (26 : Nat) ({ cls := "java/util/ArrayList", name := "get", desc := "(I)Ljava/lang/Object;" } : Jvm.MethodName)) ∈ lw_all := lw_g (lw_at lw_m6 180 rfl) rfl
theorem q1826 : (Jvm.Cond.instanceMethod ({ cls := "java/util/ArrayList", name := "get", desc := "(I)Ljava/lang/Object;" } : Jvm.MethodName)) ∈ lw_all := lw_g (lw_at lw_m6 181 rfl) rfl
theorem q1827 : (Jvm.Cond.selects "java/util/ArrayList" ({ cls := "java/util/ArrayList", name := "get", desc := "(I)Ljava/lang/Object;" } : Jvm.MethodName) ({ cls := "java/util/ArrayList", name := "get", desc := "(I)Ljava/lang/Object;" } : Jvm.MethodName)) ∈ lw_all := lw_g (lw_at lw_m6 182 rfl) rfl
theorem q1828 : (Jvm.Cond.code ({ cls := "java/util/ArrayList", name := "get", desc := "(I)Ljava/lang/Object;" } : Jvm.MethodName) prog_67_method_20_code (2 : Nat) (Option.some (Jvm.ClassFile.FieldType.object "java/lang/Object"))) ∈ lw_all := lw_g (lw_at lw_m6 183 rfl) rfl
theorem q1829 : (Jvm.Cond.methodLink "java/util/ArrayList" (118 : Nat) ({ cls := "java/util/Objects", name := "checkIndex", desc := "(II)I" } : Jvm.MethodName)) ∈ lw_all := lw_g (lw_at lw_m6 184 rfl) rfl
theorem q1830 : (Jvm.Cond.static ({ cls := "java/util/Objects", name := "checkIndex", desc := "(II)I" } : Jvm.MethodName)) ∈ lw_all := lw_g (lw_at lw_m6 185 rfl) rfl
theorem q1831 : (Jvm.Cond.code ({ cls := "java/util/Objects", name := "checkIndex", desc := "(II)I" } : Jvm.MethodName) prog_71_method_17_code (2 : Nat) (Option.some Jvm.ClassFile.FieldType.int)) ∈ lw_all := lw_g (lw_at lw_m6 186 rfl) rfl
theorem q1832 : (Jvm.Cond.methodLink "java/util/Objects" (105 : Nat) ({ cls := "jdk/internal/util/Preconditions", name := "checkIndex", desc := "(IILjava/util/function/BiFunction;)I" } : Jvm.MethodName)) ∈ lw_all := lw_g (lw_at lw_m6 187 rfl) rfl
theorem q1833 : (Jvm.Cond.methodLink "java/util/ArrayList" (123 : Nat) ({ cls := "java/util/ArrayList", name := "elementData", desc := "(I)Ljava/lang/Object;" } : Jvm.MethodName)) ∈ lw_all := lw_g (lw_at lw_m6 188 rfl) rfl
theorem q1834 : (Jvm.Cond.instanceMethod ({ cls := "java/util/ArrayList", name := "elementData", desc := "(I)Ljava/lang/Object;" } : Jvm.MethodName)) ∈ lw_all := lw_g (lw_at lw_m6 189 rfl) rfl
theorem q1835 : (Jvm.Cond.selects "java/util/ArrayList" ({ cls := "java/util/ArrayList", name := "elementData", desc := "(I)Ljava/lang/Object;" } : Jvm.MethodName) ({ cls := "java/util/ArrayList", name := "elementData", desc := "(I)Ljava/lang/Object;" } : Jvm.MethodName)) ∈ lw_all := lw_g (lw_at lw_m6 190 rfl) rfl
theorem q1836 : (Jvm.Cond.code ({ cls := "java/util/ArrayList", name := "elementData", desc := "(I)Ljava/lang/Object;" } : Jvm.MethodName) prog_67_method_18_code (2 : Nat) (Option.some (Jvm.ClassFile.FieldType.object "java/lang/Object"))) ∈ lw_all := lw_g (lw_at lw_m6 191 rfl) rfl
theorem q1837 : (Jvm.Cond.classLink "ScriptTypes$Left" (30 : Nat) "ScriptTypes$Suffix") ∈ lw_all := lw_g (lw_at lw_m6 192 rfl) rfl
theorem q1838 : (Jvm.Cond.selects "ScriptTypes$Literal" ({ cls := "ScriptTypes$Node", name := "isMember", desc := "()Z" } : Jvm.MethodName) ({ cls := "ScriptTypes$Node", name := "isMember", desc := "()Z" } : Jvm.MethodName)) ∈ lw_all := lw_g (lw_at lw_m6 193 rfl) rfl
theorem q1839 : (Jvm.Cond.selects "ScriptTypes$Loop" ({ cls := "ScriptTypes$Node", name := "isMember", desc := "()Z" } : Jvm.MethodName) ({ cls := "ScriptTypes$Node", name := "isMember", desc := "()Z" } : Jvm.MethodName)) ∈ lw_all := lw_g (lw_at lw_m6 194 rfl) rfl
theorem q1840 : (Jvm.Cond.selects "ScriptTypes$Made" ({ cls := "ScriptTypes$Node", name := "isMember", desc := "()Z" } : Jvm.MethodName) ({ cls := "ScriptTypes$Node", name := "isMember", desc := "()Z" } : Jvm.MethodName)) ∈ lw_all := lw_g (lw_at lw_m6 195 rfl) rfl
theorem q1841 : (Jvm.Cond.selects "ScriptTypes$Name" ({ cls := "ScriptTypes$Node", name := "isMember", desc := "()Z" } : Jvm.MethodName) ({ cls := "ScriptTypes$Node", name := "isMember", desc := "()Z" } : Jvm.MethodName)) ∈ lw_all := lw_g (lw_at lw_m6 196 rfl) rfl
theorem q1842 : (Jvm.Cond.selects "ScriptTypes$New" ({ cls := "ScriptTypes$Node", name := "isMember", desc := "()Z" } : Jvm.MethodName) ({ cls := "ScriptTypes$Node", name := "isMember", desc := "()Z" } : Jvm.MethodName)) ∈ lw_all := lw_g (lw_at lw_m6 197 rfl) rfl
theorem q1843 : (Jvm.Cond.selects "ScriptTypes$Return" ({ cls := "ScriptTypes$Node", name := "isMember", desc := "()Z" } : Jvm.MethodName) ({ cls := "ScriptTypes$Node", name := "isMember", desc := "()Z" } : Jvm.MethodName)) ∈ lw_all := lw_g (lw_at lw_m6 198 rfl) rfl
theorem q1844 : (Jvm.Cond.selects "ScriptTypes$Row" ({ cls := "ScriptTypes$Node", name := "isMember", desc := "()Z" } : Jvm.MethodName) ({ cls := "ScriptTypes$Node", name := "isMember", desc := "()Z" } : Jvm.MethodName)) ∈ lw_all := lw_g (lw_at lw_m6 199 rfl) rfl
theorem q1845 : (Jvm.Cond.selects "ScriptTypes$Sets" ({ cls := "ScriptTypes$Node", name := "isMember", desc := "()Z" } : Jvm.MethodName) ({ cls := "ScriptTypes$Node", name := "isMember", desc := "()Z" } : Jvm.MethodName)) ∈ lw_all := lw_g (lw_at lw_m6 200 rfl) rfl
theorem q1846 : (Jvm.Cond.selects "ScriptTypes$Switch" ({ cls := "ScriptTypes$Node", name := "isMember", desc := "()Z" } : Jvm.MethodName) ({ cls := "ScriptTypes$Node", name := "isMember", desc := "()Z" } : Jvm.MethodName)) ∈ lw_all := lw_g (lw_at lw_m6 201 rfl) rfl
theorem q1847 : (Jvm.Cond.selects "ScriptTypes$This" ({ cls := "ScriptTypes$Node", name := "isMember", desc := "()Z" } : Jvm.MethodName) ({ cls := "ScriptTypes$Node", name := "isMember", desc := "()Z" } : Jvm.MethodName)) ∈ lw_all := lw_g (lw_at lw_m6 202 rfl) rfl
theorem q1848 : (Jvm.Cond.selects "ScriptTypes$Throw" ({ cls := "ScriptTypes$Node", name := "isMember", desc := "()Z" } : Jvm.MethodName) ({ cls := "ScriptTypes$Node", name := "isMember", desc := "()Z" } : Jvm.MethodName)) ∈ lw_all := lw_g (lw_at lw_m6 203 rfl) rfl
theorem q1849 : (Jvm.Cond.selects "ScriptTypes$Try" ({ cls := "ScriptTypes$Node", name := "isMember", desc := "()Z" } : Jvm.MethodName) ({ cls := "ScriptTypes$Node", name := "isMember", desc := "()Z" } : Jvm.MethodName)) ∈ lw_all := lw_g (lw_at lw_m6 204 rfl) rfl
theorem q1850 : (Jvm.Cond.code ({ cls := "ScriptTypes$Node", name := "isMember", desc := "()Z" } : Jvm.MethodName) prog_28_method_4_code (1 : Nat) (Option.some Jvm.ClassFile.FieldType.boolean)) ∈ lw_all := lw_g (lw_at lw_m6 205 rfl) rfl
theorem q1851 : (Jvm.Cond.classLink "ScriptTypes$Parser" (309 : Nat) "ScriptTypes$Counts") ∈ lw_all := lw_g (lw_at lw_m6 206 rfl) rfl
theorem q1852 : (Jvm.Cond.instantiable "ScriptTypes$Counts" (3 : Nat)) ∈ lw_all := lw_g (lw_at lw_m6 207 rfl) rfl
theorem q1853 : (Jvm.Cond.methodLink "ScriptTypes$Parser" (311 : Nat) ({ cls := "ScriptTypes$Counts", name := "<init>", desc := "(IZLScriptTypes$Node;)V" } : Jvm.MethodName)) ∈ lw_all := lw_g (lw_at lw_m6 208 rfl) rfl
theorem q1854 : (Jvm.Cond.instanceMethod ({ cls := "ScriptTypes$Counts", name := "<init>", desc := "(IZLScriptTypes$Node;)V" } : Jvm.MethodName)) ∈ lw_all := lw_g (lw_at lw_m6 209 rfl) rfl
theorem q1855 : (Jvm.Cond.code ({ cls := "ScriptTypes$Counts", name := "<init>", desc := "(IZLScriptTypes$Node;)V" } : Jvm.MethodName) prog_12_method_1_code (4 : Nat) (Option.none : Option Jvm.ClassFile.FieldType)) ∈ lw_all := lw_g (lw_at lw_m6 210 rfl) rfl
theorem q1856 : (Jvm.Cond.methodLinkNest "ScriptTypes$Counts" (3 : Nat) ({ cls := "ScriptTypes$Node", name := "<init>", desc := "()V" } : Jvm.MethodName) "ScriptTypes") ∈ lw_tbl := lw_at lw_m6 211 rfl
theorem q1857 : (Jvm.Cond.fieldLink "ScriptTypes$Counts" (9 : Nat) "ScriptTypes$Counts" "sign" "I") ∈ lw_all := lw_g (lw_at lw_m6 212 rfl) rfl
theorem q1858 : (Jvm.Cond.fieldLink "ScriptTypes$Counts" (15 : Nat) "ScriptTypes$Counts" "behind" "Z") ∈ lw_all := lw_g (lw_at lw_m6 213 rfl) rfl
theorem q1859 : (Jvm.Cond.fieldLink "ScriptTypes$Counts" (19 : Nat) "ScriptTypes$Counts" "target" "LScriptTypes$Node;") ∈ lw_all := lw_g (lw_at lw_m6 214 rfl) rfl
theorem q1860 : (Jvm.Cond.laysFinal "ScriptTypes$Counts" "ScriptTypes$Counts" "sign" "I") ∈ lw_all := lw_g (lw_at lw_m6 215 rfl) rfl
theorem q1861 : (Jvm.Cond.soleField "ScriptTypes$Counts" "sign") ∈ lw_all := lw_g (lw_at lw_m6 216 rfl) rfl
theorem q1862 : (Jvm.Cond.laysFinal "ScriptTypes$Counts" "ScriptTypes$Counts" "behind" "Z") ∈ lw_all := lw_g (lw_at lw_m6 217 rfl) rfl
theorem q1863 : (Jvm.Cond.soleField "ScriptTypes$Counts" "behind") ∈ lw_all := lw_g (lw_at lw_m6 218 rfl) rfl
theorem q1864 : (Jvm.Cond.laysFinal "ScriptTypes$Counts" "ScriptTypes$Counts" "target" "LScriptTypes$Node;") ∈ lw_all := lw_g (lw_at lw_m6 219 rfl) rfl
theorem q1865 : (Jvm.Cond.soleField "ScriptTypes$Counts" "target") ∈ lw_all := lw_g (lw_at lw_m6 220 rfl) rfl
theorem q1866 : (Jvm.Cond.superclass "ScriptTypes$Counts" "ScriptTypes$Node") ∈ lw_all := lw_g (lw_at lw_m6 221 rfl) rfl
theorem q1867 : (Jvm.Cond.classLink "ScriptTypes$Parser" (314 : Nat) "ScriptTypes$Ahead") ∈ lw_all := lw_g (lw_at lw_m6 222 rfl) rfl
theorem q1868 : (Jvm.Cond.instantiable "ScriptTypes$Ahead" (2 : Nat)) ∈ lw_all := lw_g (lw_at lw_m6 223 rfl) rfl
theorem q1869 : (Jvm.Cond.methodLink "ScriptTypes$Parser" (316 : Nat) ({ cls := "ScriptTypes$Ahead", name := "<init>", desc := "(ILScriptTypes$Node;)V" } : Jvm.MethodName)) ∈ lw_all := lw_g (lw_at lw_m6 224 rfl) rfl
theorem q1870 : (Jvm.Cond.instanceMethod ({ cls := "ScriptTypes$Ahead", name := "<init>", desc := "(ILScriptTypes$Node;)V" } : Jvm.MethodName)) ∈ lw_all := lw_g (lw_at lw_m6 225 rfl) rfl
theorem q1871 : (Jvm.Cond.code ({ cls := "ScriptTypes$Ahead", name := "<init>", desc := "(ILScriptTypes$Node;)V" } : Jvm.MethodName) prog_2_method_1_code (3 : Nat) (Option.none : Option Jvm.ClassFile.FieldType)) ∈ lw_all := lw_g (lw_at lw_m6 226 rfl) rfl
theorem q1872 : (Jvm.Cond.methodLinkNest "ScriptTypes$Ahead" (3 : Nat) ({ cls := "ScriptTypes$Node", name := "<init>", desc := "()V" } : Jvm.MethodName) "ScriptTypes") ∈ lw_tbl := lw_at lw_m6 227 rfl
theorem q1873 : (Jvm.Cond.fieldLink "ScriptTypes$Ahead" (9 : Nat) "ScriptTypes$Ahead" "sign" "I") ∈ lw_all := lw_g (lw_at lw_m6 228 rfl) rfl
theorem q1874 : (Jvm.Cond.fieldLink "ScriptTypes$Ahead" (15 : Nat) "ScriptTypes$Ahead" "of" "LScriptTypes$Node;") ∈ lw_all := lw_g (lw_at lw_m6 229 rfl) rfl
theorem q1875 : (Jvm.Cond.laysFinal "ScriptTypes$Ahead" "ScriptTypes$Ahead" "sign" "I") ∈ lw_all := lw_g (lw_at lw_m6 230 rfl) rfl
theorem q1876 : (Jvm.Cond.soleField "ScriptTypes$Ahead" "sign") ∈ lw_all := lw_g (lw_at lw_m6 231 rfl) rfl
theorem q1877 : (Jvm.Cond.laysFinal "ScriptTypes$Ahead" "ScriptTypes$Ahead" "of" "LScriptTypes$Node;") ∈ lw_all := lw_g (lw_at lw_m6 232 rfl) rfl
theorem q1878 : (Jvm.Cond.soleField "ScriptTypes$Ahead" "of") ∈ lw_all := lw_g (lw_at lw_m6 233 rfl) rfl
theorem q1879 : (Jvm.Cond.superclass "ScriptTypes$Ahead" "ScriptTypes$Node") ∈ lw_all := lw_g (lw_at lw_m6 234 rfl) rfl
theorem q1880 : (Jvm.Cond.methodLink "ScriptTypes$Parser" (286 : Nat) ({ cls := "ScriptTypes$Parser", name := "strength", desc := "(Z)I" } : Jvm.MethodName)) ∈ lw_all := lw_g (lw_at lw_m6 235 rfl) rfl
theorem q1881 : (Jvm.Cond.privateMethod ({ cls := "ScriptTypes$Parser", name := "strength", desc := "(Z)I" } : Jvm.MethodName)) ∈ lw_tbl := lw_at lw_m6 236 rfl
theorem q1882 : (Jvm.Cond.instanceMethod ({ cls := "ScriptTypes$Parser", name := "strength", desc := "(Z)I" } : Jvm.MethodName)) ∈ lw_all := lw_g (lw_at lw_m6 237 rfl) rfl
theorem q1883 : (Jvm.Cond.code ({ cls := "ScriptTypes$Parser", name := "strength", desc := "(Z)I" } : Jvm.MethodName) prog_29_method_26_code (2 : Nat) (Option.some Jvm.ClassFile.FieldType.int)) ∈ lw_all := lw_g (lw_at lw_m6 238 rfl) rfl
theorem q1884 : (Jvm.Cond.classLink "ScriptTypes$Parser" (290 : Nat) "ScriptTypes$Both") ∈ lw_all := lw_g (lw_at lw_m6 239 rfl) rfl
theorem q1885 : (Jvm.Cond.instantiable "ScriptTypes$Both" (2 : Nat)) ∈ lw_all := lw_g (lw_at lw_m7 0 rfl) rfl
theorem q1886 : (Jvm.Cond.methodLink "ScriptTypes$Parser" (292 : Nat) ({ cls := "ScriptTypes$Both", name := "<init>", desc := "(ILScriptTypes$Node;)V" } : Jvm.MethodName)) ∈ lw_all := lw_g (lw_at lw_m7 1 rfl) rfl
theorem q1887 : (Jvm.Cond.instanceMethod ({ cls := "ScriptTypes$Both", name := "<init>", desc := "(ILScriptTypes$Node;)V" } : Jvm.MethodName)) ∈ lw_all := lw_g (lw_at lw_m7 2 rfl) rfl
theorem q1888 : (Jvm.Cond.code ({ cls := "ScriptTypes$Both", name := "<init>", desc := "(ILScriptTypes$Node;)V" } : Jvm.MethodName) prog_6_method_1_code (3 : Nat) (Option.none : Option Jvm.ClassFile.FieldType)) ∈ lw_all := lw_g (lw_at lw_m7 3 rfl) rfl
theorem q1889 : (Jvm.Cond.methodLinkNest "ScriptTypes$Both" (1 : Nat) ({ cls := "ScriptTypes$Node", name := "<init>", desc := "()V" } : Jvm.MethodName) "ScriptTypes") ∈ lw_tbl := lw_at lw_m7 4 rfl
theorem q1890 : (Jvm.Cond.classLink "ScriptTypes$Both" (7 : Nat) "java/util/ArrayList") ∈ lw_all := lw_g (lw_at lw_m7 5 rfl) rfl
theorem q1891 : (Jvm.Cond.methodLink "ScriptTypes$Both" (9 : Nat) ({ cls := "java/util/ArrayList", name := "<init>", desc := "()V" } : Jvm.MethodName)) ∈ lw_all := lw_g (lw_at lw_m7 6 rfl) rfl
theorem q1892 : (Jvm.Cond.methodLink "ScriptTypes$Both" (20 : Nat) ({ cls := "java/util/ArrayList", name := "add", desc := "(Ljava/lang/Object;)Z" } : Jvm.MethodName)) ∈ lw_all := lw_g (lw_at lw_m7 7 rfl) rfl
theorem q1893 : (Jvm.Cond.fieldLink "ScriptTypes$Both" (16 : Nat) "ScriptTypes$Both" "operation" "I") ∈ lw_all := lw_g (lw_at lw_m7 8 rfl) rfl
theorem q1894 : (Jvm.Cond.fieldLink "ScriptTypes$Both" (10 : Nat) "ScriptTypes$Both" "units" "Ljava/util/ArrayList;") ∈ lw_all := lw_g (lw_at lw_m7 9 rfl) rfl
theorem q1895 : (Jvm.Cond.fieldLinkNest "ScriptTypes$Parser" (295 : Nat) "ScriptTypes$Both" "units" "Ljava/util/ArrayList;" "ScriptTypes") ∈ lw_tbl := lw_at lw_m7 10 rfl
theorem q1896 : (Jvm.Cond.laysFinal "ScriptTypes$Both" "ScriptTypes$Both" "operation" "I") ∈ lw_all := lw_g (lw_at lw_m7 11 rfl) rfl
theorem q1897 : (Jvm.Cond.soleField "ScriptTypes$Both" "operation") ∈ lw_all := lw_g (lw_at lw_m7 12 rfl) rfl
theorem q1898 : (Jvm.Cond.laysFinal "ScriptTypes$Both" "ScriptTypes$Both" "units" "Ljava/util/ArrayList;") ∈ lw_all := lw_g (lw_at lw_m7 13 rfl) rfl
theorem q1899 : (Jvm.Cond.soleField "ScriptTypes$Both" "units") ∈ lw_all := lw_g (lw_at lw_m7 14 rfl) rfl
theorem q1900 : (Jvm.Cond.superclass "ScriptTypes$Both" "ScriptTypes$Node") ∈ lw_all := lw_g (lw_at lw_m7 15 rfl) rfl
theorem q1901 : (Jvm.Cond.classLink "ScriptTypes$Parser" (298 : Nat) "ScriptTypes$Row") ∈ lw_all := lw_g (lw_at lw_m7 16 rfl) rfl
theorem q1902 : (Jvm.Cond.instantiable "ScriptTypes$Row" (2 : Nat)) ∈ lw_all := lw_g (lw_at lw_m7 17 rfl) rfl
theorem q1903 : (Jvm.Cond.methodLink "ScriptTypes$Parser" (300 : Nat) ({ cls := "ScriptTypes$Row", name := "<init>", desc := "(LScriptTypes$Node;)V" } : Jvm.MethodName)) ∈ lw_all := lw_g (lw_at lw_m7 18 rfl) rfl
theorem q1904 : (Jvm.Cond.instanceMethod ({ cls := "ScriptTypes$Row", name := "<init>", desc := "(LScriptTypes$Node;)V" } : Jvm.MethodName)) ∈ lw_all := lw_g (lw_at lw_m7 19 rfl) rfl
theorem q1905 : (Jvm.Cond.code ({ cls := "ScriptTypes$Row", name := "<init>", desc := "(LScriptTypes$Node;)V" } : Jvm.MethodName) prog_31_method_1_code (2 : Nat) (Option.none : Option Jvm.ClassFile.FieldType)) ∈ lw_all := lw_g (lw_at lw_m7 20 rfl) rfl
theorem q1906 : (Jvm.Cond.methodLinkNest "ScriptTypes$Row" (3 : Nat) ({ cls := "ScriptTypes$Node", name := "<init>", desc := "()V" } : Jvm.MethodName) "ScriptTypes") ∈ lw_tbl := lw_at lw_m7 21 rfl
theorem q1907 : (Jvm.Cond.classLink "ScriptTypes$Row" (9 : Nat) "java/util/ArrayList") ∈ lw_all := lw_g (lw_at lw_m7 22 rfl) rfl
theorem q1908 : (Jvm.Cond.methodLink "ScriptTypes$Row" (11 : Nat) ({ cls := "java/util/ArrayList", name := "<init>", desc := "()V" } : Jvm.MethodName)) ∈ lw_all := lw_g (lw_at lw_m7 23 rfl) rfl
theorem q1909 : (Jvm.Cond.methodLink "ScriptTypes$Row" (22 : Nat) ({ cls := "java/util/ArrayList", name := "add", desc := "(Ljava/lang/Object;)Z" } : Jvm.MethodName)) ∈ lw_all := lw_g (lw_at lw_m7 24 rfl) rfl
theorem q1910 : (Jvm.Cond.fieldLink "ScriptTypes$Row" (12 : Nat) "ScriptTypes$Row" "units" "Ljava/util/ArrayList;") ∈ lw_all := lw_g (lw_at lw_m7 25 rfl) rfl
theorem q1911 : (Jvm.Cond.fieldLink "ScriptTypes$Row" (18 : Nat) "ScriptTypes$Row" "signs" "[I") ∈ lw_all := lw_g (lw_at lw_m7 26 rfl) rfl
theorem q1912 : (Jvm.Cond.laysFinal "ScriptTypes$Row" "ScriptTypes$Row" "units" "Ljava/util/ArrayList;") ∈ lw_all := lw_g (lw_at lw_m7 27 rfl) rfl
theorem q1913 : (Jvm.Cond.soleField "ScriptTypes$Row" "units") ∈ lw_all := lw_g (lw_at lw_m7 28 rfl) rfl
theorem q1914 : (Jvm.Cond.lays "ScriptTypes$Row" "ScriptTypes$Row" "signs" "[I") ∈ lw_all := lw_g (lw_at lw_m7 29 rfl) rfl
theorem q1915 : (Jvm.Cond.soleField "ScriptTypes$Row" "signs") ∈ lw_all := lw_g (lw_at lw_m7 30 rfl) rfl
theorem q1916 : (Jvm.Cond.superclass "ScriptTypes$Row" "ScriptTypes$Node") ∈ lw_all := lw_g (lw_at lw_m7 31 rfl) rfl
theorem q1917 : (Jvm.Cond.methodLink "ScriptTypes$Parser" (301 : Nat) ({ cls := "ScriptTypes$Row", name := "add", desc := "(ILScriptTypes$Node;)V" } : Jvm.MethodName)) ∈ lw_all := lw_g (lw_at lw_m7 32 rfl) rfl
theorem q1918 : (Jvm.Cond.instanceMethod ({ cls := "ScriptTypes$Row", name := "add", desc := "(ILScriptTypes$Node;)V" } : Jvm.MethodName)) ∈ lw_all := lw_g (lw_at lw_m7 33 rfl) rfl
theorem q1919 : (Jvm.Cond.selects "ScriptTypes$Row" ({ cls := "ScriptTypes$Row", name := "add", desc := "(ILScriptTypes$Node;)V" } : Jvm.MethodName) ({ cls := "ScriptTypes$Row", name := "add", desc := "(ILScriptTypes$Node;)V" } : Jvm.MethodName)) ∈ lw_all := lw_g (lw_at lw_m7 34 rfl) rfl
theorem q1920 : (Jvm.Cond.code ({ cls := "ScriptTypes$Row", name := "add", desc := "(ILScriptTypes$Node;)V" } : Jvm.MethodName) prog_31_method_2_code (5 : Nat) (Option.none : Option Jvm.ClassFile.FieldType)) ∈ lw_all := lw_g (lw_at lw_m7 35 rfl) rfl
theorem q1921 : (Jvm.Cond.methodLink "ScriptTypes$Row" (26 : Nat) ({ cls := "java/util/ArrayList", name := "size", desc := "()I" } : Jvm.MethodName)) ∈ lw_all := lw_g (lw_at lw_m7 36 rfl) rfl
theorem q1922 : (Jvm.Cond.methodLink "ScriptTypes$Row" (30 : Nat) ({ cls := "java/lang/System", name := "arraycopy", desc := "(Ljava/lang/Object;ILjava/lang/Object;II)V" } : Jvm.MethodName)) ∈ lw_all := lw_g (lw_at lw_m7 37 rfl) rfl
theorem q1923 : (Jvm.Cond.classLink "ScriptTypes$Parser" (268 : Nat) "ScriptTypes$Choice") ∈ lw_all := lw_g (lw_at lw_m7 38 rfl) rfl
theorem q1924 : (Jvm.Cond.instantiable "ScriptTypes$Choice" (3 : Nat)) ∈ lw_all := lw_g (lw_at lw_m7 39 rfl) rfl
theorem q1925 : (Jvm.Cond.methodLink "ScriptTypes$Parser" (270 : Nat) ({ cls := "ScriptTypes$Choice", name := "<init>", desc := "(LScriptTypes$Node;LScriptTypes$Node;LScriptTypes$Node;)V" } : Jvm.MethodName)) ∈ lw_all := lw_g (lw_at lw_m7 40 rfl) rfl
theorem q1926 : (Jvm.Cond.instanceMethod ({ cls := "ScriptTypes$Choice", name := "<init>", desc := "(LScriptTypes$Node;LScriptTypes$Node;LScriptTypes$Node;)V" } : Jvm.MethodName)) ∈ lw_all := lw_g (lw_at lw_m7 41 rfl) rfl
theorem q1927 : (Jvm.Cond.code ({ cls := "ScriptTypes$Choice", name := "<init>", desc := "(LScriptTypes$Node;LScriptTypes$Node;LScriptTypes$Node;)V" } : Jvm.MethodName) prog_8_method_1_code (4 : Nat) (Option.none : Option Jvm.ClassFile.FieldType)) ∈ lw_all := lw_g (lw_at lw_m7 42 rfl) rfl
theorem q1928 : (Jvm.Cond.methodLinkNest "ScriptTypes$Choice" (3 : Nat) ({ cls := "ScriptTypes$Node", name := "<init>", desc := "()V" } : Jvm.MethodName) "ScriptTypes") ∈ lw_tbl := lw_at lw_m7 43 rfl
theorem q1929 : (Jvm.Cond.fieldLink "ScriptTypes$Choice" (9 : Nat) "ScriptTypes$Choice" "test" "LScriptTypes$Node;") ∈ lw_all := lw_g (lw_at lw_m7 44 rfl) rfl
theorem q1930 : (Jvm.Cond.fieldLink "ScriptTypes$Choice" (15 : Nat) "ScriptTypes$Choice" "yes" "LScriptTypes$Node;") ∈ lw_all := lw_g (lw_at lw_m7 45 rfl) rfl
theorem q1931 : (Jvm.Cond.fieldLink "ScriptTypes$Choice" (18 : Nat) "ScriptTypes$Choice" "no" "LScriptTypes$Node;") ∈ lw_all := lw_g (lw_at lw_m7 46 rfl) rfl
theorem q1932 : (Jvm.Cond.laysFinal "ScriptTypes$Choice" "ScriptTypes$Choice" "test" "LScriptTypes$Node;") ∈ lw_all := lw_g (lw_at lw_m7 47 rfl) rfl
theorem q1933 : (Jvm.Cond.soleField "ScriptTypes$Choice" "test") ∈ lw_all := lw_g (lw_at lw_m7 48 rfl) rfl
theorem q1934 : (Jvm.Cond.laysFinal "ScriptTypes$Choice" "ScriptTypes$Choice" "yes" "LScriptTypes$Node;") ∈ lw_all := lw_g (lw_at lw_m7 49 rfl) rfl
theorem q1935 : (Jvm.Cond.soleField "ScriptTypes$Choice" "yes") ∈ lw_all := lw_g (lw_at lw_m7 50 rfl) rfl
theorem q1936 : (Jvm.Cond.laysFinal "ScriptTypes$Choice" "ScriptTypes$Choice" "no" "LScriptTypes$Node;") ∈ lw_all := lw_g (lw_at lw_m7 51 rfl) rfl
theorem q1937 : (Jvm.Cond.soleField "ScriptTypes$Choice" "no") ∈ lw_all := lw_g (lw_at lw_m7 52 rfl) rfl
theorem q1938 : (Jvm.Cond.superclass "ScriptTypes$Choice" "ScriptTypes$Node") ∈ lw_all := lw_g (lw_at lw_m7 53 rfl) rfl
theorem q1939 : (Jvm.Cond.methodLink "ScriptTypes$Parser" (271 : Nat) ({ cls := "ScriptTypes$Parser", name := "assigns", desc := "()I" } : Jvm.MethodName)) ∈ lw_all := lw_g (lw_at lw_m7 54 rfl) rfl
theorem q1940 : (Jvm.Cond.privateMethod ({ cls := "ScriptTypes$Parser", name := "assigns", desc := "()I" } : Jvm.MethodName)) ∈ lw_tbl := lw_at lw_m7 55 rfl
theorem q1941 : (Jvm.Cond.instanceMethod ({ cls := "ScriptTypes$Parser", name := "assigns", desc := "()I" } : Jvm.MethodName)) ∈ lw_all := lw_g (lw_at lw_m7 56 rfl) rfl
theorem q1942 : (Jvm.Cond.code ({ cls := "ScriptTypes$Parser", name := "assigns", desc := "()I" } : Jvm.MethodName) prog_29_method_21_code (1 : Nat) (Option.some Jvm.ClassFile.FieldType.int)) ∈ lw_all := lw_g (lw_at lw_m7 57 rfl) rfl
theorem q1943 : (Jvm.Cond.methodLink "ScriptTypes$Parser" (221 : Nat) ({ cls := "ScriptTypes$Sets", name := "<init>", desc := "(ILScriptTypes$Node;LScriptTypes$Node;)V" } : Jvm.MethodName)) ∈ lw_all := lw_g (lw_at lw_m7 58 rfl) rfl
theorem q1944 : (Jvm.Cond.instanceMethod ({ cls := "ScriptTypes$Sets", name := "<init>", desc := "(ILScriptTypes$Node;LScriptTypes$Node;)V" } : Jvm.MethodName)) ∈ lw_all := lw_g (lw_at lw_m7 59 rfl) rfl
theorem q1945 : (Jvm.Cond.code ({ cls := "ScriptTypes$Sets", name := "<init>", desc := "(ILScriptTypes$Node;LScriptTypes$Node;)V" } : Jvm.MethodName) prog_32_method_1_code (4 : Nat) (Option.none : Option Jvm.ClassFile.FieldType)) ∈ lw_all := lw_g (lw_at lw_m7 60 rfl) rfl
theorem q1946 : (Jvm.Cond.methodLinkNest "ScriptTypes$Sets" (3 : Nat) ({ cls := "ScriptTypes$Node", name := "<init>", desc := "()V" } : Jvm.MethodName) "ScriptTypes") ∈ lw_tbl := lw_at lw_m7 61 rfl
theorem q1947 : (Jvm.Cond.fieldLink "ScriptTypes$Sets" (9 : Nat) "ScriptTypes$Sets" "sign" "I") ∈ lw_all := lw_g (lw_at lw_m7 62 rfl) rfl
theorem q1948 : (Jvm.Cond.fieldLink "ScriptTypes$Sets" (15 : Nat) "ScriptTypes$Sets" "target" "LScriptTypes$Node;") ∈ lw_all := lw_g (lw_at lw_m7 63 rfl) rfl
theorem q1949 : (Jvm.Cond.fieldLink "ScriptTypes$Sets" (19 : Nat) "ScriptTypes$Sets" "value" "LScriptTypes$Node;") ∈ lw_all := lw_g (lw_at lw_m7 64 rfl) rfl
theorem q1950 : (Jvm.Cond.laysFinal "ScriptTypes$Sets" "ScriptTypes$Sets" "sign" "I") ∈ lw_all := lw_g (lw_at lw_m7 65 rfl) rfl
theorem q1951 : (Jvm.Cond.soleField "ScriptTypes$Sets" "sign") ∈ lw_all := lw_g (lw_at lw_m7 66 rfl) rfl
theorem q1952 : (Jvm.Cond.laysFinal "ScriptTypes$Sets" "ScriptTypes$Sets" "target" "LScriptTypes$Node;") ∈ lw_all := lw_g (lw_at lw_m7 67 rfl) rfl
theorem q1953 : (Jvm.Cond.soleField "ScriptTypes$Sets" "target") ∈ lw_all := lw_g (lw_at lw_m7 68 rfl) rfl
theorem q1954 : (Jvm.Cond.laysFinal "ScriptTypes$Sets" "ScriptTypes$Sets" "value" "LScriptTypes$Node;") ∈ lw_all := lw_g (lw_at lw_m7 69 rfl) rfl
theorem q1955 : (Jvm.Cond.soleField "ScriptTypes$Sets" "value") ∈ lw_all := lw_g (lw_at lw_m7 70 rfl) rfl
theorem q1956 : (Jvm.Cond.superclass "ScriptTypes$Sets" "ScriptTypes$Node") ∈ lw_all := lw_g (lw_at lw_m7 71 rfl) rfl
theorem q1957 : (Jvm.Cond.methodLink "ScriptTypes$Parser" (149 : Nat) ({ cls := "ScriptTypes$Drops", name := "<init>", desc := "(LScriptTypes$Node;)V" } : Jvm.MethodName)) ∈ lw_all := lw_g (lw_at lw_m7 72 rfl) rfl
theorem q1958 : (Jvm.Cond.instanceMethod ({ cls := "ScriptTypes$Drops", name := "<init>", desc := "(LScriptTypes$Node;)V" } : Jvm.MethodName)) ∈ lw_all := lw_g (lw_at lw_m7 73 rfl) rfl
theorem q1959 : (Jvm.Cond.code ({ cls := "ScriptTypes$Drops", name := "<init>", desc := "(LScriptTypes$Node;)V" } : Jvm.MethodName) prog_13_method_1_code (2 : Nat) (Option.none : Option Jvm.ClassFile.FieldType)) ∈ lw_all := lw_g (lw_at lw_m7 74 rfl) rfl
theorem q1960 : (Jvm.Cond.methodLinkNest "ScriptTypes$Drops" (3 : Nat) ({ cls := "ScriptTypes$Node", name := "<init>", desc := "()V" } : Jvm.MethodName) "ScriptTypes") ∈ lw_tbl := lw_at lw_m7 75 rfl
theorem q1961 : (Jvm.Cond.fieldLink "ScriptTypes$Drops" (9 : Nat) "ScriptTypes$Drops" "value" "LScriptTypes$Node;") ∈ lw_all := lw_g (lw_at lw_m7 76 rfl) rfl
theorem q1962 : (Jvm.Cond.laysFinal "ScriptTypes$Drops" "ScriptTypes$Drops" "value" "LScriptTypes$Node;") ∈ lw_all := lw_g (lw_at lw_m7 77 rfl) rfl
theorem q1963 : (Jvm.Cond.soleField "ScriptTypes$Drops" "value") ∈ lw_all := lw_g (lw_at lw_m7 78 rfl) rfl
theorem q1964 : (Jvm.Cond.superclass "ScriptTypes$Drops" "ScriptTypes$Node") ∈ lw_all := lw_g (lw_at lw_m7 79 rfl) rfl
theorem q1965 : (Jvm.Cond.methodLink "ScriptTypes$Parser" (152 : Nat) ({ cls := "ScriptTypes$Parser", name := "semicolon", desc := "()V" } : Jvm.MethodName)) ∈ lw_all := lw_g (lw_at lw_m7 80 rfl) rfl
theorem q1966 : (Jvm.Cond.privateMethod ({ cls := "ScriptTypes$Parser", name := "semicolon", desc := "()V" } : Jvm.MethodName)) ∈ lw_tbl := lw_at lw_m7 81 rfl
theorem q1967 : (Jvm.Cond.instanceMethod ({ cls := "ScriptTypes$Parser", name := "semicolon", desc := "()V" } : Jvm.MethodName)) ∈ lw_all := lw_g (lw_at lw_m7 82 rfl) rfl
theorem q1968 : (Jvm.Cond.code ({ cls := "ScriptTypes$Parser", name := "semicolon", desc := "()V" } : Jvm.MethodName) prog_29_method_9_code (1 : Nat) (Option.none : Option Jvm.ClassFile.FieldType)) ∈ lw_all := lw_g (lw_at lw_m7 83 rfl) rfl
theorem q1969 : (Jvm.Cond.methodLink "ScriptTypes$Parser" (170 : Nat) ({ cls := "ScriptTypes$Parser", name := "inRound", desc := "()LScriptTypes$Node;" } : Jvm.MethodName)) ∈ lw_all := lw_g (lw_at lw_m7 84 rfl) rfl
theorem q1970 : (Jvm.Cond.privateMethod ({ cls := "ScriptTypes$Parser", name := "inRound", desc := "()LScriptTypes$Node;" } : Jvm.MethodName)) ∈ lw_tbl := lw_at lw_m7 85 rfl
theorem q1971 : (Jvm.Cond.instanceMethod ({ cls := "ScriptTypes$Parser", name := "inRound", desc := "()LScriptTypes$Node;" } : Jvm.MethodName)) ∈ lw_all := lw_g (lw_at lw_m7 86 rfl) rfl
theorem q1972 : (Jvm.Cond.code ({ cls := "ScriptTypes$Parser", name := "inRound", desc := "()LScriptTypes$Node;" } : Jvm.MethodName) prog_29_method_13_code (2 : Nat) (Option.some (Jvm.ClassFile.FieldType.object "ScriptTypes$Node"))) ∈ lw_all := lw_g (lw_at lw_m7 87 rfl) rfl
theorem q1973 : (Jvm.Cond.classLink "ScriptTypes$Parser" (173 : Nat) "ScriptTypes$If") ∈ lw_all := lw_g (lw_at lw_m7 88 rfl) rfl
theorem q1974 : (Jvm.Cond.instantiable "ScriptTypes$If" (3 : Nat)) ∈ lw_all := lw_g (lw_at lw_m7 89 rfl) rfl
theorem q1975 : (Jvm.Cond.methodLink "ScriptTypes$Parser" (175 : Nat) ({ cls := "ScriptTypes$Tokens", name := "takesWord", desc := "(I)Z" } : Jvm.MethodName)) ∈ lw_all := lw_g (lw_at lw_m7 90 rfl) rfl
theorem q1976 : (Jvm.Cond.instanceMethod ({ cls := "ScriptTypes$Tokens", name := "takesWord", desc := "(I)Z" } : Jvm.MethodName)) ∈ lw_all := lw_g (lw_at lw_m7 91 rfl) rfl
theorem q1977 : (Jvm.Cond.selects "ScriptTypes$Tokens" ({ cls := "ScriptTypes$Tokens", name := "takesWord", desc := "(I)Z" } : Jvm.MethodName) ({ cls := "ScriptTypes$Tokens", name := "takesWord", desc := "(I)Z" } : Jvm.MethodName)) ∈ lw_all := lw_g (lw_at lw_m7 92 rfl) rfl
theorem q1978 : (Jvm.Cond.code ({ cls := "ScriptTypes$Tokens", name := "takesWord", desc := "(I)Z" } : Jvm.MethodName) prog_40_method_16_code (2 : Nat) (Option.some Jvm.ClassFile.FieldType.boolean)) ∈ lw_all := lw_g (lw_at lw_m7 93 rfl) rfl
theorem q1979 : (Jvm.Cond.methodLink "ScriptTypes$Tokens" (136 : Nat) ({ cls := "ScriptTypes$Tokens", name := "isWord", desc := "(I)Z" } : Jvm.MethodName)) ∈ lw_all := lw_g (lw_at lw_m7 94 rfl) rfl
theorem q1980 : (Jvm.Cond.methodLink "ScriptTypes$Parser" (178 : Nat) ({ cls := "ScriptTypes$If", name := "<init>", desc := "(LScriptTypes$Node;LScriptTypes$Node;LScriptTypes$Node;)V" } : Jvm.MethodName)) ∈ lw_all := lw_g (lw_at lw_m7 95 rfl) rfl
theorem q1981 : (Jvm.Cond.instanceMethod ({ cls := "ScriptTypes$If", name := "<init>", desc := "(LScriptTypes$Node;LScriptTypes$Node;LScriptTypes$Node;)V" } : Jvm.MethodName)) ∈ lw_all := lw_g (lw_at lw_m7 96 rfl) rfl
theorem q1982 : (Jvm.Cond.code ({ cls := "ScriptTypes$If", name := "<init>", desc := "(LScriptTypes$Node;LScriptTypes$Node;LScriptTypes$Node;)V" } : Jvm.MethodName) prog_17_method_1_code (4 : Nat) (Option.none : Option Jvm.ClassFile.FieldType)) ∈ lw_all := lw_g (lw_at lw_m7 97 rfl) rfl
theorem q1983 : (Jvm.Cond.methodLinkNest "ScriptTypes$If" (3 : Nat) ({ cls := "ScriptTypes$Node", name := "<init>", desc := "()V" } : Jvm.MethodName) "ScriptTypes") ∈ lw_tbl := lw_at lw_m7 98 rfl
theorem q1984 : (Jvm.Cond.fieldLink "ScriptTypes$If" (9 : Nat) "ScriptTypes$If" "test" "LScriptTypes$Node;") ∈ lw_all := lw_g (lw_at lw_m7 99 rfl) rfl
theorem q1985 : (Jvm.Cond.fieldLink "ScriptTypes$If" (15 : Nat) "ScriptTypes$If" "yes" "LScriptTypes$Node;") ∈ lw_all := lw_g (lw_at lw_m7 100 rfl) rfl
theorem q1986 : (Jvm.Cond.fieldLink "ScriptTypes$If" (18 : Nat) "ScriptTypes$If" "no" "LScriptTypes$Node;") ∈ lw_all := lw_g (lw_at lw_m7 101 rfl) rfl
theorem q1987 : (Jvm.Cond.laysFinal "ScriptTypes$If" "ScriptTypes$If" "test" "LScriptTypes$Node;") ∈ lw_all := lw_g (lw_at lw_m7 102 rfl) rfl
theorem q1988 : (Jvm.Cond.soleField "ScriptTypes$If" "test") ∈ lw_all := lw_g (lw_at lw_m7 103 rfl) rfl
theorem q1989 : (Jvm.Cond.laysFinal "ScriptTypes$If" "ScriptTypes$If" "yes" "LScriptTypes$Node;") ∈ lw_all := lw_g (lw_at lw_m7 104 rfl) rfl
theorem q1990 : (Jvm.Cond.soleField "ScriptTypes$If" "yes") ∈ lw_all := lw_g (lw_at lw_m7 105 rfl) rfl
theorem q1991 : (Jvm.Cond.laysFinal "ScriptTypes$If" "ScriptTypes$If" "no" "LScriptTypes$Node;") ∈ lw_all := lw_g (lw_at lw_m7 106 rfl) rfl
theorem q1992 : (Jvm.Cond.soleField "ScriptTypes$If" "no") ∈ lw_all := lw_g (lw_at lw_m7 107 rfl) rfl
theorem q1993 : (Jvm.Cond.superclass "ScriptTypes$If" "ScriptTypes$Node") ∈ lw_all := lw_g (lw_at lw_m7 108 rfl) rfl
theorem q1994 : (Jvm.Cond.classLink "ScriptTypes$Parser" (181 : Nat) "ScriptTypes$Loop") ∈ lw_all := lw_g (lw_at lw_m7 109 rfl) rfl
theorem q1995 : (Jvm.Cond.instantiable "ScriptTypes$Loop" (5 : Nat)) ∈ lw_all := lw_g (lw_at lw_m7 110 rfl) rfl
theorem q1996 : (Jvm.Cond.methodLink "ScriptTypes$Parser" (183 : Nat) ({ cls := "ScriptTypes$Parser", name := "looped", desc := "()LScriptTypes$Node;" } : Jvm.MethodName)) ∈ lw_all := lw_g (lw_at lw_m7 111 rfl) rfl
theorem q1997 : (Jvm.Cond.privateMethod ({ cls := "ScriptTypes$Parser", name := "looped", desc := "()LScriptTypes$Node;" } : Jvm.MethodName)) ∈ lw_tbl := lw_at lw_m7 112 rfl
theorem q1998 : (Jvm.Cond.instanceMethod ({ cls := "ScriptTypes$Parser", name := "looped", desc := "()LScriptTypes$Node;" } : Jvm.MethodName)) ∈ lw_all := lw_g (lw_at lw_m7 113 rfl) rfl
theorem q1999 : (Jvm.Cond.code ({ cls := "ScriptTypes$Parser", name := "looped", desc := "()LScriptTypes$Node;" } : Jvm.MethodName) prog_29_method_14_code (2 : Nat) (Option.some (Jvm.ClassFile.FieldType.object "ScriptTypes$Node"))) ∈ lw_all := lw_g (lw_at lw_m7 114 rfl) rfl
theorem q2000 : (Jvm.Cond.methodLink "ScriptTypes$Parser" (186 : Nat) ({ cls := "ScriptTypes$Loop", name := "<init>", desc := "(ILScriptTypes$Node;LScriptTypes$Node;LScriptTypes$Node;LScriptTypes$Node;)V" } : Jvm.MethodName)) ∈ lw_all := lw_g (lw_at lw_m7 115 rfl) rfl
theorem q2001 : (Jvm.Cond.instanceMethod ({ cls := "ScriptTypes$Loop", name := "<init>", desc := "(ILScriptTypes$Node;LScriptTypes$Node;LScriptTypes$Node;LScriptTypes$Node;)V" } : Jvm.MethodName)) ∈ lw_all := lw_g (lw_at lw_m7 116 rfl) rfl
theorem q2002 : (Jvm.Cond.code ({ cls := "ScriptTypes$Loop", name := "<init>", desc := "(ILScriptTypes$Node;LScriptTypes$Node;LScriptTypes$Node;LScriptTypes$Node;)V" } : Jvm.MethodName) prog_23_method_1_code (6 : Nat) (Option.none : Option Jvm.ClassFile.FieldType)) ∈ lw_all := lw_g (lw_at lw_m7 117 rfl) rfl
theorem q2003 : (Jvm.Cond.methodLinkNest "ScriptTypes$Loop" (3 : Nat) ({ cls := "ScriptTypes$Node", name := "<init>", desc := "()V" } : Jvm.MethodName) "ScriptTypes") ∈ lw_tbl := lw_at lw_m7 118 rfl
theorem q2004 : (Jvm.Cond.fieldLink "ScriptTypes$Loop" (9 : Nat) "ScriptTypes$Loop" "sort" "I") ∈ lw_all := lw_g (lw_at lw_m7 119 rfl) rfl
theorem q2005 : (Jvm.Cond.fieldLink "ScriptTypes$Loop" (15 : Nat) "ScriptTypes$Loop" "begin" "LScriptTypes$Node;") ∈ lw_all := lw_g (lw_at lw_m7 120 rfl) rfl
theorem q2006 : (Jvm.Cond.fieldLink "ScriptTypes$Loop" (19 : Nat) "ScriptTypes$Loop" "test" "LScriptTypes$Node;") ∈ lw_all := lw_g (lw_at lw_m7 121 rfl) rfl
theorem q2007 : (Jvm.Cond.fieldLink "ScriptTypes$Loop" (22 : Nat) "ScriptTypes$Loop" "step" "LScriptTypes$Node;") ∈ lw_all := lw_g (lw_at lw_m7 122 rfl) rfl
theorem q2008 : (Jvm.Cond.fieldLink "ScriptTypes$Loop" (25 : Nat) "ScriptTypes$Loop" "body" "LScriptTypes$Node;") ∈ lw_all := lw_g (lw_at lw_m7 123 rfl) rfl
theorem q2009 : (Jvm.Cond.laysFinal "ScriptTypes$Loop" "ScriptTypes$Loop" "sort" "I") ∈ lw_all := lw_g (lw_at lw_m7 124 rfl) rfl
theorem q2010 : (Jvm.Cond.soleField "ScriptTypes$Loop" "sort") ∈ lw_all := lw_g (lw_at lw_m7 125 rfl) rfl
theorem q2011 : (Jvm.Cond.laysFinal "ScriptTypes$Loop" "ScriptTypes$Loop" "begin" "LScriptTypes$Node;") ∈ lw_all := lw_g (lw_at lw_m7 126 rfl) rfl
theorem q2012 : (Jvm.Cond.soleField "ScriptTypes$Loop" "begin") ∈ lw_all := lw_g (lw_at lw_m7 127 rfl) rfl
theorem q2013 : (Jvm.Cond.laysFinal "ScriptTypes$Loop" "ScriptTypes$Loop" "test" "LScriptTypes$Node;") ∈ lw_all := lw_g (lw_at lw_m7 128 rfl) rfl
theorem q2014 : (Jvm.Cond.soleField "ScriptTypes$Loop" "test") ∈ lw_all := lw_g (lw_at lw_m7 129 rfl) rfl
theorem q2015 : (Jvm.Cond.laysFinal "ScriptTypes$Loop" "ScriptTypes$Loop" "step" "LScriptTypes$Node;") ∈ lw_all := lw_g (lw_at lw_m7 130 rfl) rfl
theorem q2016 : (Jvm.Cond.soleField "ScriptTypes$Loop" "step") ∈ lw_all := lw_g (lw_at lw_m7 131 rfl) rfl
theorem q2017 : (Jvm.Cond.laysFinal "ScriptTypes$Loop" "ScriptTypes$Loop" "body" "LScriptTypes$Node;") ∈ lw_all := lw_g (lw_at lw_m7 132 rfl) rfl
theorem q2018 : (Jvm.Cond.soleField "ScriptTypes$Loop" "body") ∈ lw_all := lw_g (lw_at lw_m7 133 rfl) rfl
theorem q2019 : (Jvm.Cond.superclass "ScriptTypes$Loop" "ScriptTypes$Node") ∈ lw_all := lw_g (lw_at lw_m7 134 rfl) rfl
theorem q2020 : (Jvm.Cond.methodLink "ScriptTypes$Parser" (189 : Nat) ({ cls := "ScriptTypes$Tokens", name := "needWord", desc := "(I)V" } : Jvm.MethodName)) ∈ lw_all := lw_g (lw_at lw_m7 135 rfl) rfl
theorem q2021 : (Jvm.Cond.instanceMethod ({ cls := "ScriptTypes$Tokens", name := "needWord", desc := "(I)V" } : Jvm.MethodName)) ∈ lw_all := lw_g (lw_at lw_m7 136 rfl) rfl
theorem q2022 : (Jvm.Cond.selects "ScriptTypes$Tokens" ({ cls := "ScriptTypes$Tokens", name := "needWord", desc := "(I)V" } : Jvm.MethodName) ({ cls := "ScriptTypes$Tokens", name := "needWord", desc := "(I)V" } : Jvm.MethodName)) ∈ lw_all := lw_g (lw_at lw_m7 137 rfl) rfl
theorem q2023 : (Jvm.Cond.code ({ cls := "ScriptTypes$Tokens", name := "needWord", desc := "(I)V" } : Jvm.MethodName) prog_40_method_18_code (2 : Nat) (Option.none : Option Jvm.ClassFile.FieldType)) ∈ lw_all := lw_g (lw_at lw_m7 138 rfl) rfl
theorem q2024 : (Jvm.Cond.methodLink "ScriptTypes$Tokens" (142 : Nat) ({ cls := "ScriptTypes$Tokens", name := "takesWord", desc := "(I)Z" } : Jvm.MethodName)) ∈ lw_all := lw_g (lw_at lw_m7 139 rfl) rfl
theorem q2025 : (Jvm.Cond.methodLink "ScriptTypes$Parser" (192 : Nat) ({ cls := "ScriptTypes$Parser", name := "loop", desc := "()LScriptTypes$Node;" } : Jvm.MethodName)) ∈ lw_all := lw_g (lw_at lw_m7 140 rfl) rfl
theorem q2026 : (Jvm.Cond.privateMethod ({ cls := "ScriptTypes$Parser", name := "loop", desc := "()LScriptTypes$Node;" } : Jvm.MethodName)) ∈ lw_tbl := lw_at lw_m7 141 rfl
theorem q2027 : (Jvm.Cond.instanceMethod ({ cls := "ScriptTypes$Parser", name := "loop", desc := "()LScriptTypes$Node;" } : Jvm.MethodName)) ∈ lw_all := lw_g (lw_at lw_m7 142 rfl) rfl
theorem q2028 : (Jvm.Cond.code ({ cls := "ScriptTypes$Parser", name := "loop", desc := "()LScriptTypes$Node;" } : Jvm.MethodName) prog_29_method_16_code (4 : Nat) (Option.some (Jvm.ClassFile.FieldType.object "ScriptTypes$Node"))) ∈ lw_all := lw_g (lw_at lw_m7 143 rfl) rfl
theorem q2029 : (Jvm.Cond.methodLink "ScriptTypes$Parser" (228 : Nat) ({ cls := "java/util/ArrayList", name := "isEmpty", desc := "()Z" } : Jvm.MethodName)) ∈ lw_all := lw_g (lw_at lw_m7 144 rfl) rfl
theorem q2030 : (Jvm.Cond.instanceMethod ({ cls := "java/util/ArrayList", name := "isEmpty", desc := "()Z" } : Jvm.MethodName)) ∈ lw_all := lw_g (lw_at lw_m7 145 rfl) rfl
theorem q2031 : (Jvm.Cond.selects "java/util/ArrayList" ({ cls := "java/util/ArrayList", name := "isEmpty", desc := "()Z" } : Jvm.MethodName) ({ cls := "java/util/ArrayList", name := "isEmpty", desc := "()Z" } : Jvm.MethodName)) ∈ lw_all := lw_g (lw_at lw_m7 146 rfl) rfl
theorem q2032 : (Jvm.Cond.code ({ cls := "java/util/ArrayList", name := "isEmpty", desc := "()Z" } : Jvm.MethodName) prog_67_method_9_code (1 : Nat) (Option.some Jvm.ClassFile.FieldType.boolean)) ∈ lw_all := lw_g (lw_at lw_m7 147 rfl) rfl
theorem q2033 : (Jvm.Cond.methodLink "ScriptTypes$Parser" (231 : Nat) ({ cls := "ScriptTypes$Parser", name := "each", desc := "(I)LScriptTypes$Node;" } : Jvm.MethodName)) ∈ lw_all := lw_g (lw_at lw_m7 148 rfl) rfl
theorem q2034 : (Jvm.Cond.privateMethod ({ cls := "ScriptTypes$Parser", name := "each", desc := "(I)LScriptTypes$Node;" } : Jvm.MethodName)) ∈ lw_tbl := lw_at lw_m7 149 rfl
theorem q2035 : (Jvm.Cond.instanceMethod ({ cls := "ScriptTypes$Parser", name := "each", desc := "(I)LScriptTypes$Node;" } : Jvm.MethodName)) ∈ lw_all := lw_g (lw_at lw_m7 150 rfl) rfl
theorem q2036 : (Jvm.Cond.code ({ cls := "ScriptTypes$Parser", name := "each", desc := "(I)LScriptTypes$Node;" } : Jvm.MethodName) prog_29_method_17_code (3 : Nat) (Option.some (Jvm.ClassFile.FieldType.object "ScriptTypes$Node"))) ∈ lw_all := lw_g (lw_at lw_m7 151 rfl) rfl
theorem q2037 : (Jvm.Cond.classLink "ScriptTypes$Parser" (240 : Nat) "ScriptTypes$Each") ∈ lw_all := lw_g (lw_at lw_m7 152 rfl) rfl
theorem q2038 : (Jvm.Cond.instantiable "ScriptTypes$Each" (3 : Nat)) ∈ lw_all := lw_g (lw_at lw_m7 153 rfl) rfl
theorem q2039 : (Jvm.Cond.methodLink "ScriptTypes$Parser" (242 : Nat) ({ cls := "ScriptTypes$Each", name := "<init>", desc := "(ILScriptTypes$Node;LScriptTypes$Node;)V" } : Jvm.MethodName)) ∈ lw_all := lw_g (lw_at lw_m7 154 rfl) rfl
theorem q2040 : (Jvm.Cond.instanceMethod ({ cls := "ScriptTypes$Each", name := "<init>", desc := "(ILScriptTypes$Node;LScriptTypes$Node;)V" } : Jvm.MethodName)) ∈ lw_all := lw_g (lw_at lw_m7 155 rfl) rfl
theorem q2041 : (Jvm.Cond.code ({ cls := "ScriptTypes$Each", name := "<init>", desc := "(ILScriptTypes$Node;LScriptTypes$Node;)V" } : Jvm.MethodName) prog_14_method_1_code (4 : Nat) (Option.none : Option Jvm.ClassFile.FieldType)) ∈ lw_all := lw_g (lw_at lw_m7 156 rfl) rfl
theorem q2042 : (Jvm.Cond.methodLinkNest "ScriptTypes$Each" (3 : Nat) ({ cls := "ScriptTypes$Node", name := "<init>", desc := "()V" } : Jvm.MethodName) "ScriptTypes") ∈ lw_tbl := lw_at lw_m7 157 rfl
theorem q2043 : (Jvm.Cond.fieldLink "ScriptTypes$Each" (9 : Nat) "ScriptTypes$Each" "name" "I") ∈ lw_all := lw_g (lw_at lw_m7 158 rfl) rfl
theorem q2044 : (Jvm.Cond.fieldLink "ScriptTypes$Each" (15 : Nat) "ScriptTypes$Each" "of" "LScriptTypes$Node;") ∈ lw_all := lw_g (lw_at lw_m7 159 rfl) rfl
theorem q2045 : (Jvm.Cond.fieldLink "ScriptTypes$Each" (19 : Nat) "ScriptTypes$Each" "body" "LScriptTypes$Node;") ∈ lw_all := lw_g (lw_at lw_m7 160 rfl) rfl
theorem q2046 : (Jvm.Cond.laysFinal "ScriptTypes$Each" "ScriptTypes$Each" "name" "I") ∈ lw_all := lw_g (lw_at lw_m7 161 rfl) rfl
theorem q2047 : (Jvm.Cond.soleField "ScriptTypes$Each" "name") ∈ lw_all := lw_g (lw_at lw_m7 162 rfl) rfl
theorem q2048 : (Jvm.Cond.laysFinal "ScriptTypes$Each" "ScriptTypes$Each" "of" "LScriptTypes$Node;") ∈ lw_all := lw_g (lw_at lw_m7 163 rfl) rfl
theorem q2049 : (Jvm.Cond.soleField "ScriptTypes$Each" "of") ∈ lw_all := lw_g (lw_at lw_m7 164 rfl) rfl
theorem q2050 : (Jvm.Cond.laysFinal "ScriptTypes$Each" "ScriptTypes$Each" "body" "LScriptTypes$Node;") ∈ lw_all := lw_g (lw_at lw_m7 165 rfl) rfl
theorem q2051 : (Jvm.Cond.soleField "ScriptTypes$Each" "body") ∈ lw_all := lw_g (lw_at lw_m7 166 rfl) rfl
theorem q2052 : (Jvm.Cond.superclass "ScriptTypes$Each" "ScriptTypes$Node") ∈ lw_all := lw_g (lw_at lw_m7 167 rfl) rfl
theorem q2053 : (Jvm.Cond.classLink "ScriptTypes$Parser" (195 : Nat) "ScriptTypes$Goes") ∈ lw_all := lw_g (lw_at lw_m7 168 rfl) rfl
theorem q2054 : (Jvm.Cond.instantiable "ScriptTypes$Goes" (1 : Nat)) ∈ lw_all := lw_g (lw_at lw_m7 169 rfl) rfl
theorem q2055 : (Jvm.Cond.methodLink "ScriptTypes$Parser" (197 : Nat) ({ cls := "ScriptTypes$Goes", name := "<init>", desc := "(Z)V" } : Jvm.MethodName)) ∈ lw_all := lw_g (lw_at lw_m7 170 rfl) rfl
theorem q2056 : (Jvm.Cond.instanceMethod ({ cls := "ScriptTypes$Goes", name := "<init>", desc := "(Z)V" } : Jvm.MethodName)) ∈ lw_all := lw_g (lw_at lw_m7 171 rfl) rfl
theorem q2057 : (Jvm.Cond.code ({ cls := "ScriptTypes$Goes", name := "<init>", desc := "(Z)V" } : Jvm.MethodName) prog_16_method_1_code (2 : Nat) (Option.none : Option Jvm.ClassFile.FieldType)) ∈ lw_all := lw_g (lw_at lw_m7 172 rfl) rfl
theorem q2058 : (Jvm.Cond.methodLinkNest "ScriptTypes$Goes" (1 : Nat) ({ cls := "ScriptTypes$Node", name := "<init>", desc := "()V" } : Jvm.MethodName) "ScriptTypes") ∈ lw_tbl := lw_at lw_m7 173 rfl
theorem q2059 : (Jvm.Cond.fieldLink "ScriptTypes$Goes" (7 : Nat) "ScriptTypes$Goes" "again" "Z") ∈ lw_all := lw_g (lw_at lw_m7 174 rfl) rfl
theorem q2060 : (Jvm.Cond.laysFinal "ScriptTypes$Goes" "ScriptTypes$Goes" "again" "Z") ∈ lw_all := lw_g (lw_at lw_m7 175 rfl) rfl
theorem q2061 : (Jvm.Cond.soleField "ScriptTypes$Goes" "again") ∈ lw_all := lw_g (lw_at lw_m7 176 rfl) rfl
theorem q2062 : (Jvm.Cond.superclass "ScriptTypes$Goes" "ScriptTypes$Node") ∈ lw_all := lw_g (lw_at lw_m7 177 rfl) rfl
theorem q2063 : (Jvm.Cond.classLink "ScriptTypes$Parser" (200 : Nat) "ScriptTypes$Return") ∈ lw_all := lw_g (lw_at lw_m7 178 rfl) rfl
theorem q2064 : (Jvm.Cond.instantiable "ScriptTypes$Return" (1 : Nat)) ∈ lw_all := lw_g (lw_at lw_m7 179 rfl) rfl
theorem q2065 : (Jvm.Cond.methodLink "ScriptTypes$Parser" (202 : Nat) ({ cls := "ScriptTypes$Return", name := "<init>", desc := "(LScriptTypes$Node;)V" } : Jvm.MethodName)) ∈ lw_all := lw_g (lw_at lw_m7 180 rfl) rfl
theorem q2066 : (Jvm.Cond.instanceMethod ({ cls := "ScriptTypes$Return", name := "<init>", desc := "(LScriptTypes$Node;)V" } : Jvm.MethodName)) ∈ lw_all := lw_g (lw_at lw_m7 181 rfl) rfl
theorem q2067 : (Jvm.Cond.code ({ cls := "ScriptTypes$Return", name := "<init>", desc := "(LScriptTypes$Node;)V" } : Jvm.MethodName) prog_30_method_1_code (2 : Nat) (Option.none : Option Jvm.ClassFile.FieldType)) ∈ lw_all := lw_g (lw_at lw_m7 182 rfl) rfl
theorem q2068 : (Jvm.Cond.methodLinkNest "ScriptTypes$Return" (3 : Nat) ({ cls := "ScriptTypes$Node", name := "<init>", desc := "()V" } : Jvm.MethodName) "ScriptTypes") ∈ lw_tbl := lw_at lw_m7 183 rfl
theorem q2069 : (Jvm.Cond.fieldLink "ScriptTypes$Return" (9 : Nat) "ScriptTypes$Return" "value" "LScriptTypes$Node;") ∈ lw_all := lw_g (lw_at lw_m7 184 rfl) rfl
theorem q2070 : (Jvm.Cond.laysFinal "ScriptTypes$Return" "ScriptTypes$Return" "value" "LScriptTypes$Node;") ∈ lw_all := lw_g (lw_at lw_m7 185 rfl) rfl
theorem q2071 : (Jvm.Cond.soleField "ScriptTypes$Return" "value") ∈ lw_all := lw_g (lw_at lw_m7 186 rfl) rfl
theorem q2072 : (Jvm.Cond.superclass "ScriptTypes$Return" "ScriptTypes$Node") ∈ lw_all := lw_g (lw_at lw_m7 187 rfl) rfl
theorem q2073 : (Jvm.Cond.classLink "ScriptTypes$Parser" (203 : Nat) "ScriptTypes$Throw") ∈ lw_all := lw_g (lw_at lw_m7 188 rfl) rfl
theorem q2074 : (Jvm.Cond.instantiable "ScriptTypes$Throw" (1 : Nat)) ∈ lw_all := lw_g (lw_at lw_m7 189 rfl) rfl
theorem q2075 : (Jvm.Cond.methodLink "ScriptTypes$Parser" (205 : Nat) ({ cls := "ScriptTypes$Throw", name := "<init>", desc := "(LScriptTypes$Node;)V" } : Jvm.MethodName)) ∈ lw_all := lw_g (lw_at lw_m7 190 rfl) rfl
theorem q2076 : (Jvm.Cond.instanceMethod ({ cls := "ScriptTypes$Throw", name := "<init>", desc := "(LScriptTypes$Node;)V" } : Jvm.MethodName)) ∈ lw_all := lw_g (lw_at lw_m7 191 rfl) rfl
theorem q2077 : (Jvm.Cond.code ({ cls := "ScriptTypes$Throw", name := "<init>", desc := "(LScriptTypes$Node;)V" } : Jvm.MethodName) prog_38_method_1_code (2 : Nat) (Option.none : Option Jvm.ClassFile.FieldType)) ∈ lw_all := lw_g (lw_at lw_m7 192 rfl) rfl
theorem q2078 : (Jvm.Cond.methodLinkNest "ScriptTypes$Throw" (3 : Nat) ({ cls := "ScriptTypes$Node", name := "<init>", desc := "()V" } : Jvm.MethodName) "ScriptTypes") ∈ lw_tbl := lw_at lw_m7 193 rfl
theorem q2079 : (Jvm.Cond.fieldLink "ScriptTypes$Throw" (9 : Nat) "ScriptTypes$Throw" "value" "LScriptTypes$Node;") ∈ lw_all := lw_g (lw_at lw_m7 194 rfl) rfl
theorem q2080 : (Jvm.Cond.laysFinal "ScriptTypes$Throw" "ScriptTypes$Throw" "value" "LScriptTypes$Node;") ∈ lw_all := lw_g (lw_at lw_m7 195 rfl) rfl
theorem q2081 : (Jvm.Cond.soleField "ScriptTypes$Throw" "value") ∈ lw_all := lw_g (lw_at lw_m7 196 rfl) rfl
theorem q2082 : (Jvm.Cond.superclass "ScriptTypes$Throw" "ScriptTypes$Node") ∈ lw_all := lw_g (lw_at lw_m7 197 rfl) rfl
theorem q2083 : (Jvm.Cond.methodLink "ScriptTypes$Parser" (206 : Nat) ({ cls := "ScriptTypes$Parser", name := "tried", desc := "()LScriptTypes$Node;" } : Jvm.MethodName)) ∈ lw_all := lw_g (lw_at lw_m7 198 rfl) rfl
theorem q2084 : (Jvm.Cond.privateMethod ({ cls := "ScriptTypes$Parser", name := "tried", desc := "()LScriptTypes$Node;" } : Jvm.MethodName)) ∈ lw_tbl := lw_at lw_m7 199 rfl
theorem q2085 : (Jvm.Cond.instanceMethod ({ cls := "ScriptTypes$Parser", name := "tried", desc := "()LScriptTypes$Node;" } : Jvm.MethodName)) ∈ lw_all := lw_g (lw_at lw_m7 200 rfl) rfl
theorem q2086 : (Jvm.Cond.code ({ cls := "ScriptTypes$Parser", name := "tried", desc := "()LScriptTypes$Node;" } : Jvm.MethodName) prog_29_method_18_code (4 : Nat) (Option.some (Jvm.ClassFile.FieldType.object "ScriptTypes$Node"))) ∈ lw_all := lw_g (lw_at lw_m7 201 rfl) rfl
theorem q2087 : (Jvm.Cond.methodLink "ScriptTypes$Parser" (133 : Nat) ({ cls := "ScriptTypes$Parser", name := "block", desc := "()LScriptTypes$Block;" } : Jvm.MethodName)) ∈ lw_all := lw_g (lw_at lw_m7 202 rfl) rfl
theorem q2088 : (Jvm.Cond.privateMethod ({ cls := "ScriptTypes$Parser", name := "block", desc := "()LScriptTypes$Block;" } : Jvm.MethodName)) ∈ lw_tbl := lw_at lw_m7 203 rfl
theorem q2089 : (Jvm.Cond.instanceMethod ({ cls := "ScriptTypes$Parser", name := "block", desc := "()LScriptTypes$Block;" } : Jvm.MethodName)) ∈ lw_all := lw_g (lw_at lw_m7 204 rfl) rfl
theorem q2090 : (Jvm.Cond.code ({ cls := "ScriptTypes$Parser", name := "block", desc := "()LScriptTypes$Block;" } : Jvm.MethodName) prog_29_method_10_code (2 : Nat) (Option.some (Jvm.ClassFile.FieldType.object "ScriptTypes$Block"))) ∈ lw_all := lw_g (lw_at lw_m7 205 rfl) rfl
theorem q2091 : (Jvm.Cond.classLink "ScriptTypes$Parser" (243 : Nat) "ScriptTypes$Try") ∈ lw_all := lw_g (lw_at lw_m7 206 rfl) rfl
theorem q2092 : (Jvm.Cond.instantiable "ScriptTypes$Try" (3 : Nat)) ∈ lw_all := lw_g (lw_at lw_m7 207 rfl) rfl
theorem q2093 : (Jvm.Cond.methodLink "ScriptTypes$Parser" (245 : Nat) ({ cls := "ScriptTypes$Try", name := "<init>", desc := "(LScriptTypes$Node;ILScriptTypes$Node;)V" } : Jvm.MethodName)) ∈ lw_all := lw_g (lw_at lw_m7 208 rfl) rfl
theorem q2094 : (Jvm.Cond.instanceMethod ({ cls := "ScriptTypes$Try", name := "<init>", desc := "(LScriptTypes$Node;ILScriptTypes$Node;)V" } : Jvm.MethodName)) ∈ lw_all := lw_g (lw_at lw_m7 209 rfl) rfl
theorem q2095 : (Jvm.Cond.code ({ cls := "ScriptTypes$Try", name := "<init>", desc := "(LScriptTypes$Node;ILScriptTypes$Node;)V" } : Jvm.MethodName) prog_41_method_1_code (4 : Nat) (Option.none : Option Jvm.ClassFile.FieldType)) ∈ lw_all := lw_g (lw_at lw_m7 210 rfl) rfl
theorem q2096 : (Jvm.Cond.methodLinkNest "ScriptTypes$Try" (3 : Nat) ({ cls := "ScriptTypes$Node", name := "<init>", desc := "()V" } : Jvm.MethodName) "ScriptTypes") ∈ lw_tbl := lw_at lw_m7 211 rfl
theorem q2097 : (Jvm.Cond.fieldLink "ScriptTypes$Try" (9 : Nat) "ScriptTypes$Try" "body" "LScriptTypes$Node;") ∈ lw_all := lw_g (lw_at lw_m7 212 rfl) rfl
theorem q2098 : (Jvm.Cond.fieldLink "ScriptTypes$Try" (19 : Nat) "ScriptTypes$Try" "then" "LScriptTypes$Node;") ∈ lw_all := lw_g (lw_at lw_m7 213 rfl) rfl
theorem q2099 : (Jvm.Cond.fieldLink "ScriptTypes$Try" (15 : Nat) "ScriptTypes$Try" "name" "I") ∈ lw_all := lw_g (lw_at lw_m7 214 rfl) rfl
theorem q2100 : (Jvm.Cond.laysFinal "ScriptTypes$Try" "ScriptTypes$Try" "body" "LScriptTypes$Node;") ∈ lw_all := lw_g (lw_at lw_m7 215 rfl) rfl
theorem q2101 : (Jvm.Cond.soleField "ScriptTypes$Try" "body") ∈ lw_all := lw_g (lw_at lw_m7 216 rfl) rfl
theorem q2102 : (Jvm.Cond.laysFinal "ScriptTypes$Try" "ScriptTypes$Try" "then" "LScriptTypes$Node;") ∈ lw_all := lw_g (lw_at lw_m7 217 rfl) rfl
theorem q2103 : (Jvm.Cond.soleField "ScriptTypes$Try" "then") ∈ lw_all := lw_g (lw_at lw_m7 218 rfl) rfl
theorem q2104 : (Jvm.Cond.laysFinal "ScriptTypes$Try" "ScriptTypes$Try" "name" "I") ∈ lw_all := lw_g (lw_at lw_m7 219 rfl) rfl
theorem q2105 : (Jvm.Cond.soleField "ScriptTypes$Try" "name") ∈ lw_all := lw_g (lw_at lw_m7 220 rfl) rfl
theorem q2106 : (Jvm.Cond.superclass "ScriptTypes$Try" "ScriptTypes$Node") ∈ lw_all := lw_g (lw_at lw_m7 221 rfl) rfl
theorem q2107 : (Jvm.Cond.methodLink "ScriptTypes$Parser" (209 : Nat) ({ cls := "ScriptTypes$Parser", name := "chosen", desc := "()LScriptTypes$Node;" } : Jvm.MethodName)) ∈ lw_all := lw_g (lw_at lw_m7 222 rfl) rfl
theorem q2108 : (Jvm.Cond.privateMethod ({ cls := "ScriptTypes$Parser", name := "chosen", desc := "()LScriptTypes$Node;" } : Jvm.MethodName)) ∈ lw_tbl := lw_at lw_m7 223 rfl
theorem q2109 : (Jvm.Cond.instanceMethod ({ cls := "ScriptTypes$Parser", name := "chosen", desc := "()LScriptTypes$Node;" } : Jvm.MethodName)) ∈ lw_all := lw_g (lw_at lw_m7 224 rfl) rfl
theorem q2110 : (Jvm.Cond.code ({ cls := "ScriptTypes$Parser", name := "chosen", desc := "()LScriptTypes$Node;" } : Jvm.MethodName) prog_29_method_19_code (5 : Nat) (Option.some (Jvm.ClassFile.FieldType.object "ScriptTypes$Node"))) ∈ lw_all := lw_g (lw_at lw_m7 225 rfl) rfl
theorem q2111 : (Jvm.Cond.classLink "ScriptTypes$Parser" (248 : Nat) "ScriptTypes$Switch") ∈ lw_all := lw_g (lw_at lw_m7 226 rfl) rfl
theorem q2112 : (Jvm.Cond.instantiable "ScriptTypes$Switch" (4 : Nat)) ∈ lw_all := lw_g (lw_at lw_m7 227 rfl) rfl
theorem q2113 : (Jvm.Cond.methodLink "ScriptTypes$Parser" (250 : Nat) ({ cls := "ScriptTypes$Switch", name := "<init>", desc := "(LScriptTypes$Node;)V" } : Jvm.MethodName)) ∈ lw_all := lw_g (lw_at lw_m7 228 rfl) rfl
theorem q2114 : (Jvm.Cond.instanceMethod ({ cls := "ScriptTypes$Switch", name := "<init>", desc := "(LScriptTypes$Node;)V" } : Jvm.MethodName)) ∈ lw_all := lw_g (lw_at lw_m7 229 rfl) rfl
theorem q2115 : (Jvm.Cond.code ({ cls := "ScriptTypes$Switch", name := "<init>", desc := "(LScriptTypes$Node;)V" } : Jvm.MethodName) prog_34_method_1_code (2 : Nat) (Option.none : Option Jvm.ClassFile.FieldType)) ∈ lw_all := lw_g (lw_at lw_m7 230 rfl) rfl
theorem q2116 : (Jvm.Cond.methodLinkNest "ScriptTypes$Switch" (3 : Nat) ({ cls := "ScriptTypes$Node", name := "<init>", desc := "()V" } : Jvm.MethodName) "ScriptTypes") ∈ lw_tbl := lw_at lw_m7 231 rfl
theorem q2117 : (Jvm.Cond.classLink "ScriptTypes$Switch" (9 : Nat) "java/util/ArrayList") ∈ lw_all := lw_g (lw_at lw_m7 232 rfl) rfl
theorem q2118 : (Jvm.Cond.methodLink "ScriptTypes$Switch" (11 : Nat) ({ cls := "java/util/ArrayList", name := "<init>", desc := "()V" } : Jvm.MethodName)) ∈ lw_all := lw_g (lw_at lw_m7 233 rfl) rfl
theorem q2119 : (Jvm.Cond.fieldLink "ScriptTypes$Switch" (21 : Nat) "ScriptTypes$Switch" "value" "LScriptTypes$Node;") ∈ lw_all := lw_g (lw_at lw_m7 234 rfl) rfl
theorem q2120 : (Jvm.Cond.fieldLink "ScriptTypes$Switch" (12 : Nat) "ScriptTypes$Switch" "tests" "Ljava/util/ArrayList;") ∈ lw_all := lw_g (lw_at lw_m7 235 rfl) rfl
theorem q2121 : (Jvm.Cond.fieldLinkNest "ScriptTypes$Parser" (251 : Nat) "ScriptTypes$Switch" "tests" "Ljava/util/ArrayList;" "ScriptTypes") ∈ lw_tbl := lw_at lw_m7 236 rfl
theorem q2122 : (Jvm.Cond.fieldLink "ScriptTypes$Switch" (18 : Nat) "ScriptTypes$Switch" "bodies" "Ljava/util/ArrayList;") ∈ lw_all := lw_g (lw_at lw_m7 237 rfl) rfl
theorem q2123 : (Jvm.Cond.fieldLinkNest "ScriptTypes$Parser" (254 : Nat) "ScriptTypes$Switch" "bodies" "Ljava/util/ArrayList;" "ScriptTypes") ∈ lw_tbl := lw_at lw_m7 238 rfl
theorem q2124 : (Jvm.Cond.fieldLink "ScriptTypes$Switch" (37 : Nat) "ScriptTypes$Switch" "jumps" "[I") ∈ lw_all := lw_g (lw_at lw_m7 239 rfl) rfl
theorem q2125 : (Jvm.Cond.laysFinal "ScriptTypes$Switch" "ScriptTypes$Switch" "value" "LScriptTypes$Node;") ∈ lw_all := lw_g (lw_at lw_m8 0 rfl) rfl
theorem q2126 : (Jvm.Cond.soleField "ScriptTypes$Switch" "value") ∈ lw_all := lw_g (lw_at lw_m8 1 rfl) rfl
theorem q2127 : (Jvm.Cond.laysFinal "ScriptTypes$Switch" "ScriptTypes$Switch" "tests" "Ljava/util/ArrayList;") ∈ lw_all := lw_g (lw_at lw_m8 2 rfl) rfl
theorem q2128 : (Jvm.Cond.soleField "ScriptTypes$Switch" "tests") ∈ lw_all := lw_g (lw_at lw_m8 3 rfl) rfl
theorem q2129 : (Jvm.Cond.laysFinal "ScriptTypes$Switch" "ScriptTypes$Switch" "bodies" "Ljava/util/ArrayList;") ∈ lw_all := lw_g (lw_at lw_m8 4 rfl) rfl
theorem q2130 : (Jvm.Cond.soleField "ScriptTypes$Switch" "bodies") ∈ lw_all := lw_g (lw_at lw_m8 5 rfl) rfl
theorem q2131 : (Jvm.Cond.lays "ScriptTypes$Switch" "ScriptTypes$Switch" "jumps" "[I") ∈ lw_all := lw_g (lw_at lw_m8 6 rfl) rfl
theorem q2132 : (Jvm.Cond.soleField "ScriptTypes$Switch" "jumps") ∈ lw_all := lw_g (lw_at lw_m8 7 rfl) rfl
theorem q2133 : (Jvm.Cond.superclass "ScriptTypes$Switch" "ScriptTypes$Node") ∈ lw_all := lw_g (lw_at lw_m8 8 rfl) rfl
theorem q2134 : (Jvm.Cond.methodLink "ScriptTypes" (291 : Nat) ({ cls := "java/util/ArrayList", name := "size", desc := "()I" } : Jvm.MethodName)) ∈ lw_all := lw_g (lw_at lw_m8 9 rfl) rfl
theorem q2135 : (Jvm.Cond.methodLink "ScriptTypes" (294 : Nat) ({ cls := "java/util/ArrayList", name := "get", desc := "(I)Ljava/lang/Object;" } : Jvm.MethodName)) ∈ lw_all := lw_g (lw_at lw_m8 10 rfl) rfl
theorem q2136 : (Jvm.Cond.classLink "ScriptTypes" (298 : Nat) "ScriptTypes$Code") ∈ lw_all := lw_g (lw_at lw_m8 11 rfl) rfl
theorem q2137 : (Jvm.Cond.methodLink "ScriptTypes" (300 : Nat) ({ cls := "ScriptTypes$Coder", name := "code", desc := "(LScriptTypes$Code;)V" } : Jvm.MethodName)) ∈ lw_all := lw_g (lw_at lw_m8 12 rfl) rfl
theorem q2138 : (Jvm.Cond.instanceMethod ({ cls := "ScriptTypes$Coder", name := "code", desc := "(LScriptTypes$Code;)V" } : Jvm.MethodName)) ∈ lw_all := lw_g (lw_at lw_m8 13 rfl) rfl
theorem q2139 : (Jvm.Cond.selects "ScriptTypes$Coder" ({ cls := "ScriptTypes$Coder", name := "code", desc := "(LScriptTypes$Code;)V" } : Jvm.MethodName) ({ cls := "ScriptTypes$Coder", name := "code", desc := "(LScriptTypes$Code;)V" } : Jvm.MethodName)) ∈ lw_all := lw_g (lw_at lw_m8 14 rfl) rfl
theorem q2140 : (Jvm.Cond.code ({ cls := "ScriptTypes$Coder", name := "code", desc := "(LScriptTypes$Code;)V" } : Jvm.MethodName) prog_10_method_17_code (3 : Nat) (Option.none : Option Jvm.ClassFile.FieldType)) ∈ lw_all := lw_g (lw_at lw_m8 15 rfl) rfl
theorem q2141 : (Jvm.Cond.methodLink "ScriptTypes$Coder" (83 : Nat) ({ cls := "ScriptTypes$Coder", name := "put", desc := "(III)I" } : Jvm.MethodName)) ∈ lw_all := lw_g (lw_at lw_m8 16 rfl) rfl
theorem q2142 : (Jvm.Cond.instanceMethod ({ cls := "ScriptTypes$Coder", name := "put", desc := "(III)I" } : Jvm.MethodName)) ∈ lw_all := lw_g (lw_at lw_m8 17 rfl) rfl
theorem q2143 : (Jvm.Cond.selects "ScriptTypes$Coder" ({ cls := "ScriptTypes$Coder", name := "put", desc := "(III)I" } : Jvm.MethodName) ({ cls := "ScriptTypes$Coder", name := "put", desc := "(III)I" } : Jvm.MethodName)) ∈ lw_all := lw_g (lw_at lw_m8 18 rfl) rfl
theorem q2144 : (Jvm.Cond.code ({ cls := "ScriptTypes$Coder", name := "put", desc := "(III)I" } : Jvm.MethodName) prog_10_method_5_code (4 : Nat) (Option.some Jvm.ClassFile.FieldType.int)) ∈ lw_all := lw_g (lw_at lw_m8 19 rfl) rfl
theorem q2145 : (Jvm.Cond.methodLink "ScriptTypes$Coder" (64 : Nat) ({ cls := "ScriptTypes$Coder", name := "openTry", desc := "()I" } : Jvm.MethodName)) ∈ lw_all := lw_g (lw_at lw_m8 20 rfl) rfl
theorem q2146 : (Jvm.Cond.privateMethod ({ cls := "ScriptTypes$Coder", name := "openTry", desc := "()I" } : Jvm.MethodName)) ∈ lw_tbl := lw_at lw_m8 21 rfl
theorem q2147 : (Jvm.Cond.instanceMethod ({ cls := "ScriptTypes$Coder", name := "openTry", desc := "()I" } : Jvm.MethodName)) ∈ lw_all := lw_g (lw_at lw_m8 22 rfl) rfl
theorem q2148 : (Jvm.Cond.code ({ cls := "ScriptTypes$Coder", name := "openTry", desc := "()I" } : Jvm.MethodName) prog_10_method_4_code (2 : Nat) (Option.some Jvm.ClassFile.FieldType.int)) ∈ lw_all := lw_g (lw_at lw_m8 23 rfl) rfl
theorem q2149 : (Jvm.Cond.methodLink "ScriptTypes$Coder" (68 : Nat) ({ cls := "ScriptTypes$Coder", name := "values", desc := "()I" } : Jvm.MethodName)) ∈ lw_all := lw_g (lw_at lw_m8 24 rfl) rfl
theorem q2150 : (Jvm.Cond.privateMethod ({ cls := "ScriptTypes$Coder", name := "values", desc := "()I" } : Jvm.MethodName)) ∈ lw_tbl := lw_at lw_m8 25 rfl
theorem q2151 : (Jvm.Cond.instanceMethod ({ cls := "ScriptTypes$Coder", name := "values", desc := "()I" } : Jvm.MethodName)) ∈ lw_all := lw_g (lw_at lw_m8 26 rfl) rfl
theorem q2152 : (Jvm.Cond.code ({ cls := "ScriptTypes$Coder", name := "values", desc := "()I" } : Jvm.MethodName) prog_10_method_3_code (3 : Nat) (Option.some Jvm.ClassFile.FieldType.int)) ∈ lw_all := lw_g (lw_at lw_m8 27 rfl) rfl
theorem q2153 : (Jvm.Cond.methodLink "ScriptTypes$Coder" (94 : Nat) ({ cls := "java/util/ArrayList", name := "size", desc := "()I" } : Jvm.MethodName)) ∈ lw_all := lw_g (lw_at lw_m8 28 rfl) rfl
theorem q2154 : (Jvm.Cond.methodLink "ScriptTypes$Coder" (104 : Nat) ({ cls := "java/util/ArrayList", name := "get", desc := "(I)Ljava/lang/Object;" } : Jvm.MethodName)) ∈ lw_all := lw_g (lw_at lw_m8 29 rfl) rfl
theorem q2155 : (Jvm.Cond.classLink "ScriptTypes$Coder" (76 : Nat) "ScriptTypes$Code") ∈ lw_all := lw_g (lw_at lw_m8 30 rfl) rfl
theorem q2156 : (Jvm.Cond.methodLink "ScriptTypes$Coder" (164 : Nat) ({ cls := "ScriptTypes$Coder", name := "set", desc := "(I)V" } : Jvm.MethodName)) ∈ lw_all := lw_g (lw_at lw_m8 31 rfl) rfl
theorem q2157 : (Jvm.Cond.instanceMethod ({ cls := "ScriptTypes$Coder", name := "set", desc := "(I)V" } : Jvm.MethodName)) ∈ lw_all := lw_g (lw_at lw_m8 32 rfl) rfl
theorem q2158 : (Jvm.Cond.selects "ScriptTypes$Coder" ({ cls := "ScriptTypes$Coder", name := "set", desc := "(I)V" } : Jvm.MethodName) ({ cls := "ScriptTypes$Coder", name := "set", desc := "(I)V" } : Jvm.MethodName)) ∈ lw_all := lw_g (lw_at lw_m8 33 rfl) rfl
theorem q2159 : (Jvm.Cond.code ({ cls := "ScriptTypes$Coder", name := "set", desc := "(I)V" } : Jvm.MethodName) prog_10_method_14_code (3 : Nat) (Option.none : Option Jvm.ClassFile.FieldType)) ∈ lw_all := lw_g (lw_at lw_m8 34 rfl) rfl
theorem q2160 : (Jvm.Cond.methodLink "ScriptTypes$Coder" (119 : Nat) ({ cls := "ScriptTypes$Coder", name := "hops", desc := "(I)I" } : Jvm.MethodName)) ∈ lw_all := lw_g (lw_at lw_m8 35 rfl) rfl
theorem q2161 : (Jvm.Cond.privateMethod ({ cls := "ScriptTypes$Coder", name := "hops", desc := "(I)I" } : Jvm.MethodName)) ∈ lw_tbl := lw_at lw_m8 36 rfl
theorem q2162 : (Jvm.Cond.instanceMethod ({ cls := "ScriptTypes$Coder", name := "hops", desc := "(I)I" } : Jvm.MethodName)) ∈ lw_all := lw_g (lw_at lw_m8 37 rfl) rfl
theorem q2163 : (Jvm.Cond.code ({ cls := "ScriptTypes$Coder", name := "hops", desc := "(I)I" } : Jvm.MethodName) prog_10_method_11_code (4 : Nat) (Option.some Jvm.ClassFile.FieldType.int)) ∈ lw_all := lw_g (lw_at lw_m8 38 rfl) rfl
theorem q2164 : (Jvm.Cond.methodLink "ScriptTypes$Coder" (115 : Nat) ({ cls := "ScriptTypes$Code", name := "has", desc := "(I)Z" } : Jvm.MethodName)) ∈ lw_all := lw_g (lw_at lw_m8 39 rfl) rfl
theorem q2165 : (Jvm.Cond.classLink "ScriptTypes$Coder" (131 : Nat) "ScriptTypes$Node") ∈ lw_all := lw_g (lw_at lw_m8 40 rfl) rfl
theorem q2166 : (Jvm.Cond.methodLink "ScriptTypes$Coder" (130 : Nat) ({ cls := "ScriptTypes$Node", name := "code", desc := "(LScriptTypes$Coder;)V" } : Jvm.MethodName)) ∈ lw_all := lw_g (lw_at lw_m8 41 rfl) rfl
theorem q2167 : (Jvm.Cond.declares ({ cls := "ScriptTypes$Node", name := "code", desc := "(LScriptTypes$Coder;)V" } : Jvm.MethodName)) ∈ lw_tbl := lw_at lw_m8 42 rfl
theorem q2168 : (Jvm.Cond.sameMethod "ScriptTypes$Node" "ScriptTypes$Node" "code" "(LScriptTypes$Coder;)V") ∈ lw_all := lw_g (lw_at lw_m8 43 rfl) rfl
theorem q2169 : (Jvm.Cond.selects "ScriptTypes$Ahead" ({ cls := "ScriptTypes$Node", name := "code", desc := "(LScriptTypes$Coder;)V" } : Jvm.MethodName) ({ cls := "ScriptTypes$Ahead", name := "code", desc := "(LScriptTypes$Coder;)V" } : Jvm.MethodName)) ∈ lw_all := lw_g (lw_at lw_m8 44 rfl) rfl
theorem q2170 : (Jvm.Cond.instanceMethod ({ cls := "ScriptTypes$Ahead", name := "code", desc := "(LScriptTypes$Coder;)V" } : Jvm.MethodName)) ∈ lw_all := lw_g (lw_at lw_m8 45 rfl) rfl
theorem q2171 : (Jvm.Cond.code ({ cls := "ScriptTypes$Ahead", name := "code", desc := "(LScriptTypes$Coder;)V" } : Jvm.MethodName) prog_2_method_2_code (2 : Nat) (Option.none : Option Jvm.ClassFile.FieldType)) ∈ lw_all := lw_g (lw_at lw_m8 46 rfl) rfl
theorem q2172 : (Jvm.Cond.classLink "ScriptTypes$Ahead" (19 : Nat) "ScriptTypes$Left") ∈ lw_all := lw_g (lw_at lw_m8 47 rfl) rfl
theorem q2173 : (Jvm.Cond.methodLink "ScriptTypes$Ahead" (21 : Nat) ({ cls := "ScriptTypes$Left", name := "place", desc := "(LScriptTypes$Coder;)V" } : Jvm.MethodName)) ∈ lw_all := lw_g (lw_at lw_m8 48 rfl) rfl
theorem q2174 : (Jvm.Cond.instanceMethod ({ cls := "ScriptTypes$Left", name := "place", desc := "(LScriptTypes$Coder;)V" } : Jvm.MethodName)) ∈ lw_all := lw_g (lw_at lw_m8 49 rfl) rfl
theorem q2175 : (Jvm.Cond.selects "ScriptTypes$Left" ({ cls := "ScriptTypes$Left", name := "place", desc := "(LScriptTypes$Coder;)V" } : Jvm.MethodName) ({ cls := "ScriptTypes$Left", name := "place", desc := "(LScriptTypes$Coder;)V" } : Jvm.MethodName)) ∈ lw_all := lw_g (lw_at lw_m8 50 rfl) rfl
theorem q2176 : (Jvm.Cond.code ({ cls := "ScriptTypes$Left", name := "place", desc := "(LScriptTypes$Coder;)V" } : Jvm.MethodName) prog_21_method_4_code (2 : Nat) (Option.none : Option Jvm.ClassFile.FieldType)) ∈ lw_all := lw_g (lw_at lw_m8 51 rfl) rfl
theorem q2177 : (Jvm.Cond.methodLink "ScriptTypes$Left" (35 : Nat) ({ cls := "ScriptTypes$Left", name := "upTo", desc := "(LScriptTypes$Coder;I)V" } : Jvm.MethodName)) ∈ lw_all := lw_g (lw_at lw_m8 52 rfl) rfl
theorem q2178 : (Jvm.Cond.privateMethod ({ cls := "ScriptTypes$Left", name := "upTo", desc := "(LScriptTypes$Coder;I)V" } : Jvm.MethodName)) ∈ lw_tbl := lw_at lw_m8 53 rfl
theorem q2179 : (Jvm.Cond.instanceMethod ({ cls := "ScriptTypes$Left", name := "upTo", desc := "(LScriptTypes$Coder;I)V" } : Jvm.MethodName)) ∈ lw_all := lw_g (lw_at lw_m8 54 rfl) rfl
theorem q2180 : (Jvm.Cond.code ({ cls := "ScriptTypes$Left", name := "upTo", desc := "(LScriptTypes$Coder;I)V" } : Jvm.MethodName) prog_21_method_6_code (6 : Nat) (Option.none : Option Jvm.ClassFile.FieldType)) ∈ lw_all := lw_g (lw_at lw_m8 55 rfl) rfl
theorem q2181 : (Jvm.Cond.methodLink "ScriptTypes$Left" (43 : Nat) ({ cls := "ScriptTypes$Left", name := "isPlainCall", desc := "(I)Z" } : Jvm.MethodName)) ∈ lw_all := lw_g (lw_at lw_m8 56 rfl) rfl
theorem q2182 : (Jvm.Cond.privateMethod ({ cls := "ScriptTypes$Left", name := "isPlainCall", desc := "(I)Z" } : Jvm.MethodName)) ∈ lw_tbl := lw_at lw_m8 57 rfl
theorem q2183 : (Jvm.Cond.instanceMethod ({ cls := "ScriptTypes$Left", name := "isPlainCall", desc := "(I)Z" } : Jvm.MethodName)) ∈ lw_all := lw_g (lw_at lw_m8 58 rfl) rfl
theorem q2184 : (Jvm.Cond.code ({ cls := "ScriptTypes$Left", name := "isPlainCall", desc := "(I)Z" } : Jvm.MethodName) prog_21_method_5_code (2 : Nat) (Option.some Jvm.ClassFile.FieldType.boolean)) ∈ lw_all := lw_g (lw_at lw_m8 59 rfl) rfl
theorem q2185 : (Jvm.Cond.methodLink "ScriptTypes$Left" (47 : Nat) ({ cls := "ScriptTypes$Coder", name := "put", desc := "(III)I" } : Jvm.MethodName)) ∈ lw_all := lw_g (lw_at lw_m8 60 rfl) rfl
theorem q2186 : (Jvm.Cond.methodLink "ScriptTypes$Left" (53 : Nat) ({ cls := "ScriptTypes$Node", name := "code", desc := "(LScriptTypes$Coder;)V" } : Jvm.MethodName)) ∈ lw_all := lw_g (lw_at lw_m8 61 rfl) rfl
theorem q2187 : (Jvm.Cond.instanceMethod ({ cls := "ScriptTypes$Block", name := "code", desc := "(LScriptTypes$Coder;)V" } : Jvm.MethodName)) ∈ lw_all := lw_g (lw_at lw_m8 62 rfl) rfl
theorem q2188 : (Jvm.Cond.code ({ cls := "ScriptTypes$Block", name := "code", desc := "(LScriptTypes$Coder;)V" } : Jvm.MethodName) prog_5_method_2_code (3 : Nat) (Option.none : Option Jvm.ClassFile.FieldType)) ∈ lw_all := lw_g (lw_at lw_m8 63 rfl) rfl
theorem q2189 : (Jvm.Cond.methodLink "ScriptTypes$Block" (16 : Nat) ({ cls := "java/util/ArrayList", name := "size", desc := "()I" } : Jvm.MethodName)) ∈ lw_all := lw_g (lw_at lw_m8 64 rfl) rfl
theorem q2190 : (Jvm.Cond.methodLink "ScriptTypes$Block" (20 : Nat) ({ cls := "java/util/ArrayList", name := "get", desc := "(I)Ljava/lang/Object;" } : Jvm.MethodName)) ∈ lw_all := lw_g (lw_at lw_m8 65 rfl) rfl
theorem q2191 : (Jvm.Cond.classLink "ScriptTypes$Block" (2 : Nat) "ScriptTypes$Node") ∈ lw_all := lw_g (lw_at lw_m8 66 rfl) rfl
theorem q2192 : (Jvm.Cond.methodLink "ScriptTypes$Block" (24 : Nat) ({ cls := "ScriptTypes$Node", name := "code", desc := "(LScriptTypes$Coder;)V" } : Jvm.MethodName)) ∈ lw_all := lw_g (lw_at lw_m8 67 rfl) rfl
theorem q2193 : (Jvm.Cond.instanceMethod ({ cls := "ScriptTypes$Both", name := "code", desc := "(LScriptTypes$Coder;)V" } : Jvm.MethodName)) ∈ lw_all := lw_g (lw_at lw_m8 68 rfl) rfl
theorem q2194 : (Jvm.Cond.code ({ cls := "ScriptTypes$Both", name := "code", desc := "(LScriptTypes$Coder;)V" } : Jvm.MethodName) prog_6_method_2_code (4 : Nat) (Option.none : Option Jvm.ClassFile.FieldType)) ∈ lw_all := lw_g (lw_at lw_m8 69 rfl) rfl
theorem q2195 : (Jvm.Cond.methodLink "ScriptTypes$Both" (24 : Nat) ({ cls := "java/util/ArrayList", name := "get", desc := "(I)Ljava/lang/Object;" } : Jvm.MethodName)) ∈ lw_all := lw_g (lw_at lw_m8 70 rfl) rfl
theorem q2196 : (Jvm.Cond.classLink "ScriptTypes$Both" (2 : Nat) "ScriptTypes$Node") ∈ lw_all := lw_g (lw_at lw_m8 71 rfl) rfl
theorem q2197 : (Jvm.Cond.methodLink "ScriptTypes$Both" (28 : Nat) ({ cls := "ScriptTypes$Node", name := "code", desc := "(LScriptTypes$Coder;)V" } : Jvm.MethodName)) ∈ lw_all := lw_g (lw_at lw_m8 72 rfl) rfl
theorem q2198 : (Jvm.Cond.instanceMethod ({ cls := "ScriptTypes$Bracketed", name := "code", desc := "(LScriptTypes$Coder;)V" } : Jvm.MethodName)) ∈ lw_all := lw_g (lw_at lw_m8 73 rfl) rfl
theorem q2199 : (Jvm.Cond.code ({ cls := "ScriptTypes$Bracketed", name := "code", desc := "(LScriptTypes$Coder;)V" } : Jvm.MethodName) prog_7_method_2_code (2 : Nat) (Option.none : Option Jvm.ClassFile.FieldType)) ∈ lw_all := lw_g (lw_at lw_m8 74 rfl) rfl
theorem q2200 : (Jvm.Cond.methodLink "ScriptTypes$Bracketed" (13 : Nat) ({ cls := "ScriptTypes$Node", name := "code", desc := "(LScriptTypes$Coder;)V" } : Jvm.MethodName)) ∈ lw_all := lw_g (lw_at lw_m8 75 rfl) rfl
theorem q2201 : (Jvm.Cond.instanceMethod ({ cls := "ScriptTypes$Choice", name := "code", desc := "(LScriptTypes$Coder;)V" } : Jvm.MethodName)) ∈ lw_all := lw_g (lw_at lw_m8 76 rfl) rfl
theorem q2202 : (Jvm.Cond.code ({ cls := "ScriptTypes$Choice", name := "code", desc := "(LScriptTypes$Coder;)V" } : Jvm.MethodName) prog_8_method_2_code (4 : Nat) (Option.none : Option Jvm.ClassFile.FieldType)) ∈ lw_all := lw_g (lw_at lw_m8 77 rfl) rfl
theorem q2203 : (Jvm.Cond.methodLink "ScriptTypes$Choice" (21 : Nat) ({ cls := "ScriptTypes$Node", name := "code", desc := "(LScriptTypes$Coder;)V" } : Jvm.MethodName)) ∈ lw_all := lw_g (lw_at lw_m8 78 rfl) rfl
theorem q2204 : (Jvm.Cond.instanceMethod ({ cls := "ScriptTypes$Commas", name := "code", desc := "(LScriptTypes$Coder;)V" } : Jvm.MethodName)) ∈ lw_all := lw_g (lw_at lw_m8 79 rfl) rfl
theorem q2205 : (Jvm.Cond.code ({ cls := "ScriptTypes$Commas", name := "code", desc := "(LScriptTypes$Coder;)V" } : Jvm.MethodName) prog_11_method_2_code (3 : Nat) (Option.none : Option Jvm.ClassFile.FieldType)) ∈ lw_all := lw_g (lw_at lw_m8 80 rfl) rfl
theorem q2206 : (Jvm.Cond.methodLink "ScriptTypes$Commas" (18 : Nat) ({ cls := "java/util/ArrayList", name := "size", desc := "()I" } : Jvm.MethodName)) ∈ lw_all := lw_g (lw_at lw_m8 81 rfl) rfl
theorem q2207 : (Jvm.Cond.methodLink "ScriptTypes$Commas" (22 : Nat) ({ cls := "ScriptTypes$Coder", name := "put", desc := "(III)I" } : Jvm.MethodName)) ∈ lw_all := lw_g (lw_at lw_m8 82 rfl) rfl
theorem q2208 : (Jvm.Cond.methodLink "ScriptTypes$Commas" (28 : Nat) ({ cls := "java/util/ArrayList", name := "get", desc := "(I)Ljava/lang/Object;" } : Jvm.MethodName)) ∈ lw_all := lw_g (lw_at lw_m8 83 rfl) rfl
theorem q2209 : (Jvm.Cond.classLink "ScriptTypes$Commas" (4 : Nat) "ScriptTypes$Node") ∈ lw_all := lw_g (lw_at lw_m8 84 rfl) rfl
theorem q2210 : (Jvm.Cond.methodLink "ScriptTypes$Commas" (32 : Nat) ({ cls := "ScriptTypes$Node", name := "code", desc := "(LScriptTypes$Coder;)V" } : Jvm.MethodName)) ∈ lw_all := lw_g (lw_at lw_m8 85 rfl) rfl
theorem q2211 : (Jvm.Cond.instanceMethod ({ cls := "ScriptTypes$Counts", name := "code", desc := "(LScriptTypes$Coder;)V" } : Jvm.MethodName)) ∈ lw_all := lw_g (lw_at lw_m8 86 rfl) rfl
theorem q2212 : (Jvm.Cond.code ({ cls := "ScriptTypes$Counts", name := "code", desc := "(LScriptTypes$Coder;)V" } : Jvm.MethodName) prog_12_method_2_code (3 : Nat) (Option.none : Option Jvm.ClassFile.FieldType)) ∈ lw_all := lw_g (lw_at lw_m8 87 rfl) rfl
theorem q2213 : (Jvm.Cond.methodLink "ScriptTypes$Counts" (23 : Nat) ({ cls := "ScriptTypes$Node", name := "isMember", desc := "()Z" } : Jvm.MethodName)) ∈ lw_all := lw_g (lw_at lw_m8 88 rfl) rfl
theorem q2214 : (Jvm.Cond.classLink "ScriptTypes$Counts" (27 : Nat) "ScriptTypes$Left") ∈ lw_all := lw_g (lw_at lw_m8 89 rfl) rfl
theorem q2215 : (Jvm.Cond.methodLink "ScriptTypes$Counts" (29 : Nat) ({ cls := "ScriptTypes$Left", name := "place", desc := "(LScriptTypes$Coder;)V" } : Jvm.MethodName)) ∈ lw_all := lw_g (lw_at lw_m8 90 rfl) rfl
theorem q2216 : (Jvm.Cond.methodLink "ScriptTypes$Counts" (33 : Nat) ({ cls := "ScriptTypes$Coder", name := "put", desc := "(III)I" } : Jvm.MethodName)) ∈ lw_all := lw_g (lw_at lw_m8 91 rfl) rfl
theorem q2217 : (Jvm.Cond.methodLink "ScriptTypes$Counts" (39 : Nat) ({ cls := "ScriptTypes$Node", name := "code", desc := "(LScriptTypes$Coder;)V" } : Jvm.MethodName)) ∈ lw_all := lw_g (lw_at lw_m8 92 rfl) rfl
theorem q2218 : (Jvm.Cond.instanceMethod ({ cls := "ScriptTypes$Drops", name := "code", desc := "(LScriptTypes$Coder;)V" } : Jvm.MethodName)) ∈ lw_all := lw_g (lw_at lw_m8 93 rfl) rfl
theorem q2219 : (Jvm.Cond.code ({ cls := "ScriptTypes$Drops", name := "code", desc := "(LScriptTypes$Coder;)V" } : Jvm.MethodName) prog_13_method_2_code (2 : Nat) (Option.none : Option Jvm.ClassFile.FieldType)) ∈ lw_all := lw_g (lw_at lw_m8 94 rfl) rfl
theorem q2220 : (Jvm.Cond.methodLink "ScriptTypes$Drops" (15 : Nat) ({ cls := "ScriptTypes$Node", name := "code", desc := "(LScriptTypes$Coder;)V" } : Jvm.MethodName)) ∈ lw_all := lw_g (lw_at lw_m8 95 rfl) rfl
theorem q2221 : (Jvm.Cond.instanceMethod ({ cls := "ScriptTypes$Each", name := "code", desc := "(LScriptTypes$Coder;)V" } : Jvm.MethodName)) ∈ lw_all := lw_g (lw_at lw_m8 96 rfl) rfl
theorem q2222 : (Jvm.Cond.code ({ cls := "ScriptTypes$Each", name := "code", desc := "(LScriptTypes$Coder;)V" } : Jvm.MethodName) prog_14_method_2_code (5 : Nat) (Option.none : Option Jvm.ClassFile.FieldType)) ∈ lw_all := lw_g (lw_at lw_m8 97 rfl) rfl
theorem q2223 : (Jvm.Cond.methodLink "ScriptTypes$Each" (24 : Nat) ({ cls := "ScriptTypes$Coder", name := "enter", desc := "(I)LScriptTypes$Around;" } : Jvm.MethodName)) ∈ lw_all := lw_g (lw_at lw_m8 98 rfl) rfl
theorem q2224 : (Jvm.Cond.instanceMethod ({ cls := "ScriptTypes$Coder", name := "enter", desc := "(I)LScriptTypes$Around;" } : Jvm.MethodName)) ∈ lw_all := lw_g (lw_at lw_m8 99 rfl) rfl
theorem q2225 : (Jvm.Cond.selects "ScriptTypes$Coder" ({ cls := "ScriptTypes$Coder", name := "enter", desc := "(I)LScriptTypes$Around;" } : Jvm.MethodName) ({ cls := "ScriptTypes$Coder", name := "enter", desc := "(I)LScriptTypes$Around;" } : Jvm.MethodName)) ∈ lw_all := lw_g (lw_at lw_m8 100 rfl) rfl
theorem q2226 : (Jvm.Cond.code ({ cls := "ScriptTypes$Coder", name := "enter", desc := "(I)LScriptTypes$Around;" } : Jvm.MethodName) prog_10_method_9_code (3 : Nat) (Option.some (Jvm.ClassFile.FieldType.object "ScriptTypes$Around"))) ∈ lw_all := lw_g (lw_at lw_m8 101 rfl) rfl
theorem q2227 : (Jvm.Cond.classLink "ScriptTypes$Coder" (51 : Nat) "ScriptTypes$Around") ∈ lw_all := lw_g (lw_at lw_m8 102 rfl) rfl
theorem q2228 : (Jvm.Cond.instantiable "ScriptTypes$Around" (9 : Nat)) ∈ lw_all := lw_g (lw_at lw_m8 103 rfl) rfl
theorem q2229 : (Jvm.Cond.methodLink "ScriptTypes$Coder" (97 : Nat) ({ cls := "ScriptTypes$Around", name := "<init>", desc := "(I)V" } : Jvm.MethodName)) ∈ lw_all := lw_g (lw_at lw_m8 104 rfl) rfl
theorem q2230 : (Jvm.Cond.instanceMethod ({ cls := "ScriptTypes$Around", name := "<init>", desc := "(I)V" } : Jvm.MethodName)) ∈ lw_all := lw_g (lw_at lw_m8 105 rfl) rfl
theorem q2231 : (Jvm.Cond.code ({ cls := "ScriptTypes$Around", name := "<init>", desc := "(I)V" } : Jvm.MethodName) prog_3_method_1_code (2 : Nat) (Option.none : Option Jvm.ClassFile.FieldType)) ∈ lw_all := lw_g (lw_at lw_m8 106 rfl) rfl
theorem q2232 : (Jvm.Cond.methodLink "ScriptTypes$Around" (1 : Nat) ({ cls := "java/lang/Object", name := "<init>", desc := "()V" } : Jvm.MethodName)) ∈ lw_all := lw_g (lw_at lw_m8 107 rfl) rfl
theorem q2233 : (Jvm.Cond.classLink "ScriptTypes$Around" (7 : Nat) "ScriptTypes$Jumps") ∈ lw_all := lw_g (lw_at lw_m8 108 rfl) rfl
theorem q2234 : (Jvm.Cond.instantiable "ScriptTypes$Jumps" (2 : Nat)) ∈ lw_all := lw_g (lw_at lw_m8 109 rfl) rfl
theorem q2235 : (Jvm.Cond.methodLinkNest "ScriptTypes$Around" (9 : Nat) ({ cls := "ScriptTypes$Jumps", name := "<init>", desc := "()V" } : Jvm.MethodName) "ScriptTypes") ∈ lw_tbl := lw_at lw_m8 110 rfl
theorem q2236 : (Jvm.Cond.instanceMethod ({ cls := "ScriptTypes$Jumps", name := "<init>", desc := "()V" } : Jvm.MethodName)) ∈ lw_all := lw_g (lw_at lw_m8 111 rfl) rfl
theorem q2237 : (Jvm.Cond.code ({ cls := "ScriptTypes$Jumps", name := "<init>", desc := "()V" } : Jvm.MethodName) prog_19_method_1_code (1 : Nat) (Option.none : Option Jvm.ClassFile.FieldType)) ∈ lw_all := lw_g (lw_at lw_m8 112 rfl) rfl
theorem q2238 : (Jvm.Cond.methodLink "ScriptTypes$Jumps" (1 : Nat) ({ cls := "java/lang/Object", name := "<init>", desc := "()V" } : Jvm.MethodName)) ∈ lw_all := lw_g (lw_at lw_m8 113 rfl) rfl
theorem q2239 : (Jvm.Cond.fieldLink "ScriptTypes$Jumps" (7 : Nat) "ScriptTypes$Jumps" "all" "[I") ∈ lw_all := lw_g (lw_at lw_m8 114 rfl) rfl
theorem q2240 : (Jvm.Cond.fieldLink "ScriptTypes$Jumps" (13 : Nat) "ScriptTypes$Jumps" "many" "I") ∈ lw_all := lw_g (lw_at lw_m8 115 rfl) rfl
theorem q2241 : (Jvm.Cond.fieldLinkNest "ScriptTypes$Around" (43 : Nat) "ScriptTypes$Jumps" "many" "I" "ScriptTypes") ∈ lw_tbl := lw_at lw_m8 116 rfl
theorem q2242 : (Jvm.Cond.lays "ScriptTypes$Jumps" "ScriptTypes$Jumps" "all" "[I") ∈ lw_all := lw_g (lw_at lw_m8 117 rfl) rfl
theorem q2243 : (Jvm.Cond.soleField "ScriptTypes$Jumps" "all") ∈ lw_all := lw_g (lw_at lw_m8 118 rfl) rfl
theorem q2244 : (Jvm.Cond.lays "ScriptTypes$Jumps" "ScriptTypes$Jumps" "many" "I") ∈ lw_all := lw_g (lw_at lw_m8 119 rfl) rfl
theorem q2245 : (Jvm.Cond.soleField "ScriptTypes$Jumps" "many") ∈ lw_all := lw_g (lw_at lw_m8 120 rfl) rfl
theorem q2246 : (Jvm.Cond.superclass "ScriptTypes$Jumps" "java/lang/Object") ∈ lw_all := lw_g (lw_at lw_m8 121 rfl) rfl
theorem q2247 : (Jvm.Cond.fieldLink "ScriptTypes$Around" (19 : Nat) "ScriptTypes$Around" "number" "I") ∈ lw_all := lw_g (lw_at lw_m8 122 rfl) rfl
theorem q2248 : (Jvm.Cond.fieldLink "ScriptTypes$Coder" (112 : Nat) "ScriptTypes$Around" "number" "I") ∈ lw_all := lw_g (lw_at lw_m8 123 rfl) rfl
theorem q2249 : (Jvm.Cond.fieldLink "ScriptTypes$Around" (10 : Nat) "ScriptTypes$Around" "out" "LScriptTypes$Jumps;") ∈ lw_all := lw_g (lw_at lw_m8 124 rfl) rfl
theorem q2250 : (Jvm.Cond.fieldLink "ScriptTypes$Each" (63 : Nat) "ScriptTypes$Around" "out" "LScriptTypes$Jumps;") ∈ lw_all := lw_g (lw_at lw_m8 125 rfl) rfl
theorem q2251 : (Jvm.Cond.fieldLink "ScriptTypes$Loop" (62 : Nat) "ScriptTypes$Around" "out" "LScriptTypes$Jumps;") ∈ lw_all := lw_g (lw_at lw_m8 126 rfl) rfl
theorem q2252 : (Jvm.Cond.fieldLink "ScriptTypes$Switch" (60 : Nat) "ScriptTypes$Around" "out" "LScriptTypes$Jumps;") ∈ lw_all := lw_g (lw_at lw_m8 127 rfl) rfl
theorem q2253 : (Jvm.Cond.fieldLink "ScriptTypes$Coder" (140 : Nat) "ScriptTypes$Around" "out" "LScriptTypes$Jumps;") ∈ lw_all := lw_g (lw_at lw_m8 128 rfl) rfl
theorem q2254 : (Jvm.Cond.fieldLink "ScriptTypes$Around" (16 : Nat) "ScriptTypes$Around" "again" "LScriptTypes$Jumps;") ∈ lw_all := lw_g (lw_at lw_m8 129 rfl) rfl
theorem q2255 : (Jvm.Cond.fieldLink "ScriptTypes$Loop" (48 : Nat) "ScriptTypes$Around" "again" "LScriptTypes$Jumps;") ∈ lw_all := lw_g (lw_at lw_m8 130 rfl) rfl
theorem q2256 : (Jvm.Cond.fieldLink "ScriptTypes$Each" (50 : Nat) "ScriptTypes$Around" "again" "LScriptTypes$Jumps;") ∈ lw_all := lw_g (lw_at lw_m8 131 rfl) rfl
theorem q2257 : (Jvm.Cond.fieldLink "ScriptTypes$Coder" (136 : Nat) "ScriptTypes$Around" "again" "LScriptTypes$Jumps;") ∈ lw_all := lw_g (lw_at lw_m8 132 rfl) rfl
theorem q2258 : (Jvm.Cond.fieldLink "ScriptTypes$Around" (23 : Nat) "ScriptTypes$Around" "sort" "I") ∈ lw_all := lw_g (lw_at lw_m8 133 rfl) rfl
theorem q2259 : (Jvm.Cond.fieldLink "ScriptTypes$Coder" (50 : Nat) "ScriptTypes$Around" "sort" "I") ∈ lw_all := lw_g (lw_at lw_m8 134 rfl) rfl
theorem q2260 : (Jvm.Cond.fieldLink "ScriptTypes$Around" (26 : Nat) "ScriptTypes$Around" "outer" "LScriptTypes$Around;") ∈ lw_all := lw_g (lw_at lw_m8 135 rfl) rfl
theorem q2261 : (Jvm.Cond.fieldLink "ScriptTypes$Coder" (58 : Nat) "ScriptTypes$Around" "outer" "LScriptTypes$Around;") ∈ lw_all := lw_g (lw_at lw_m8 136 rfl) rfl
theorem q2262 : (Jvm.Cond.fieldLink "ScriptTypes$Around" (30 : Nat) "ScriptTypes$Around" "own" "LScriptTypes$Around;") ∈ lw_all := lw_g (lw_at lw_m8 137 rfl) rfl
theorem q2263 : (Jvm.Cond.fieldLink "ScriptTypes$Each" (38 : Nat) "ScriptTypes$Around" "own" "LScriptTypes$Around;") ∈ lw_all := lw_g (lw_at lw_m8 138 rfl) rfl
theorem q2264 : (Jvm.Cond.fieldLink "ScriptTypes$Coder" (123 : Nat) "ScriptTypes$Around" "own" "LScriptTypes$Around;") ∈ lw_all := lw_g (lw_at lw_m8 139 rfl) rfl
theorem q2265 : (Jvm.Cond.fieldLink "ScriptTypes$Around" (33 : Nat) "ScriptTypes$Around" "last" "LScriptTypes$Node;") ∈ lw_all := lw_g (lw_at lw_m8 140 rfl) rfl
theorem q2266 : (Jvm.Cond.fieldLink "ScriptTypes$Try" (40 : Nat) "ScriptTypes$Around" "last" "LScriptTypes$Node;") ∈ lw_all := lw_g (lw_at lw_m8 141 rfl) rfl
theorem q2267 : (Jvm.Cond.fieldLink "ScriptTypes$Coder" (126 : Nat) "ScriptTypes$Around" "last" "LScriptTypes$Node;") ∈ lw_all := lw_g (lw_at lw_m8 142 rfl) rfl
theorem q2268 : (Jvm.Cond.fieldLink "ScriptTypes$Around" (37 : Nat) "ScriptTypes$Around" "instruction" "I") ∈ lw_all := lw_g (lw_at lw_m8 143 rfl) rfl
theorem q2269 : (Jvm.Cond.fieldLink "ScriptTypes$Try" (37 : Nat) "ScriptTypes$Around" "instruction" "I") ∈ lw_all := lw_g (lw_at lw_m8 144 rfl) rfl
theorem q2270 : (Jvm.Cond.fieldLink "ScriptTypes$Coder" (61 : Nat) "ScriptTypes$Around" "instruction" "I") ∈ lw_all := lw_g (lw_at lw_m8 145 rfl) rfl
theorem q2271 : (Jvm.Cond.fieldLink "ScriptTypes$Around" (40 : Nat) "ScriptTypes$Around" "count" "I") ∈ lw_all := lw_g (lw_at lw_m8 146 rfl) rfl
theorem q2272 : (Jvm.Cond.fieldLink "ScriptTypes$Coder" (55 : Nat) "ScriptTypes$Around" "count" "I") ∈ lw_all := lw_g (lw_at lw_m8 147 rfl) rfl
theorem q2273 : (Jvm.Cond.laysFinal "ScriptTypes$Around" "ScriptTypes$Around" "number" "I") ∈ lw_all := lw_g (lw_at lw_m8 148 rfl) rfl
theorem q2274 : (Jvm.Cond.soleField "ScriptTypes$Around" "number") ∈ lw_all := lw_g (lw_at lw_m8 149 rfl) rfl
theorem q2275 : (Jvm.Cond.laysFinal "ScriptTypes$Around" "ScriptTypes$Around" "out" "LScriptTypes$Jumps;") ∈ lw_all := lw_g (lw_at lw_m8 150 rfl) rfl
theorem q2276 : (Jvm.Cond.soleField "ScriptTypes$Around" "out") ∈ lw_all := lw_g (lw_at lw_m8 151 rfl) rfl
theorem q2277 : (Jvm.Cond.laysFinal "ScriptTypes$Around" "ScriptTypes$Around" "again" "LScriptTypes$Jumps;") ∈ lw_all := lw_g (lw_at lw_m8 152 rfl) rfl
theorem q2278 : (Jvm.Cond.soleField "ScriptTypes$Around" "again") ∈ lw_all := lw_g (lw_at lw_m8 153 rfl) rfl
theorem q2279 : (Jvm.Cond.lays "ScriptTypes$Around" "ScriptTypes$Around" "sort" "I") ∈ lw_all := lw_g (lw_at lw_m8 154 rfl) rfl
theorem q2280 : (Jvm.Cond.soleField "ScriptTypes$Around" "sort") ∈ lw_all := lw_g (lw_at lw_m8 155 rfl) rfl
theorem q2281 : (Jvm.Cond.lays "ScriptTypes$Around" "ScriptTypes$Around" "outer" "LScriptTypes$Around;") ∈ lw_all := lw_g (lw_at lw_m8 156 rfl) rfl
theorem q2282 : (Jvm.Cond.soleField "ScriptTypes$Around" "outer") ∈ lw_all := lw_g (lw_at lw_m8 157 rfl) rfl
theorem q2283 : (Jvm.Cond.lays "ScriptTypes$Around" "ScriptTypes$Around" "own" "LScriptTypes$Around;") ∈ lw_all := lw_g (lw_at lw_m8 158 rfl) rfl
theorem q2284 : (Jvm.Cond.soleField "ScriptTypes$Around" "own") ∈ lw_all := lw_g (lw_at lw_m8 159 rfl) rfl
theorem q2285 : (Jvm.Cond.lays "ScriptTypes$Around" "ScriptTypes$Around" "last" "LScriptTypes$Node;") ∈ lw_all := lw_g (lw_at lw_m8 160 rfl) rfl
theorem q2286 : (Jvm.Cond.soleField "ScriptTypes$Around" "last") ∈ lw_all := lw_g (lw_at lw_m8 161 rfl) rfl
theorem q2287 : (Jvm.Cond.lays "ScriptTypes$Around" "ScriptTypes$Around" "instruction" "I") ∈ lw_all := lw_g (lw_at lw_m8 162 rfl) rfl
theorem q2288 : (Jvm.Cond.soleField "ScriptTypes$Around" "instruction") ∈ lw_all := lw_g (lw_at lw_m8 163 rfl) rfl
theorem q2289 : (Jvm.Cond.lays "ScriptTypes$Around" "ScriptTypes$Around" "count" "I") ∈ lw_all := lw_g (lw_at lw_m8 164 rfl) rfl
theorem q2290 : (Jvm.Cond.soleField "ScriptTypes$Around" "count") ∈ lw_all := lw_g (lw_at lw_m8 165 rfl) rfl
theorem q2291 : (Jvm.Cond.superclass "ScriptTypes$Around" "java/lang/Object") ∈ lw_all := lw_g (lw_at lw_m8 166 rfl) rfl
theorem q2292 : (Jvm.Cond.methodLink "ScriptTypes$Coder" (100 : Nat) ({ cls := "java/util/ArrayList", name := "add", desc := "(Ljava/lang/Object;)Z" } : Jvm.MethodName)) ∈ lw_all := lw_g (lw_at lw_m8 167 rfl) rfl
theorem q2293 : (Jvm.Cond.methodLink "ScriptTypes$Coder" (108 : Nat) ({ cls := "ScriptTypes$Around", name := "begin", desc := "(ILScriptTypes$Around;)V" } : Jvm.MethodName)) ∈ lw_all := lw_g (lw_at lw_m8 168 rfl) rfl
theorem q2294 : (Jvm.Cond.instanceMethod ({ cls := "ScriptTypes$Around", name := "begin", desc := "(ILScriptTypes$Around;)V" } : Jvm.MethodName)) ∈ lw_all := lw_g (lw_at lw_m8 169 rfl) rfl
theorem q2295 : (Jvm.Cond.selects "ScriptTypes$Around" ({ cls := "ScriptTypes$Around", name := "begin", desc := "(ILScriptTypes$Around;)V" } : Jvm.MethodName) ({ cls := "ScriptTypes$Around", name := "begin", desc := "(ILScriptTypes$Around;)V" } : Jvm.MethodName)) ∈ lw_all := lw_g (lw_at lw_m8 170 rfl) rfl
theorem q2296 : (Jvm.Cond.code ({ cls := "ScriptTypes$Around", name := "begin", desc := "(ILScriptTypes$Around;)V" } : Jvm.MethodName) prog_3_method_2_code (3 : Nat) (Option.none : Option Jvm.ClassFile.FieldType)) ∈ lw_all := lw_g (lw_at lw_m8 171 rfl) rfl
theorem q2297 : (Jvm.Cond.methodLink "ScriptTypes$Each" (30 : Nat) ({ cls := "ScriptTypes$Node", name := "code", desc := "(LScriptTypes$Coder;)V" } : Jvm.MethodName)) ∈ lw_all := lw_g (lw_at lw_m8 172 rfl) rfl
theorem q2298 : (Jvm.Cond.instanceMethod ({ cls := "ScriptTypes$Goes", name := "code", desc := "(LScriptTypes$Coder;)V" } : Jvm.MethodName)) ∈ lw_all := lw_g (lw_at lw_m8 173 rfl) rfl
theorem q2299 : (Jvm.Cond.code ({ cls := "ScriptTypes$Goes", name := "code", desc := "(LScriptTypes$Coder;)V" } : Jvm.MethodName) prog_16_method_2_code (2 : Nat) (Option.none : Option Jvm.ClassFile.FieldType)) ∈ lw_all := lw_g (lw_at lw_m8 174 rfl) rfl
theorem q2300 : (Jvm.Cond.methodLink "ScriptTypes$Goes" (13 : Nat) ({ cls := "ScriptTypes$Coder", name := "goOut", desc := "(Z)V" } : Jvm.MethodName)) ∈ lw_all := lw_g (lw_at lw_m8 175 rfl) rfl
theorem q2301 : (Jvm.Cond.instanceMethod ({ cls := "ScriptTypes$Coder", name := "goOut", desc := "(Z)V" } : Jvm.MethodName)) ∈ lw_all := lw_g (lw_at lw_m8 176 rfl) rfl
theorem q2302 : (Jvm.Cond.selects "ScriptTypes$Coder" ({ cls := "ScriptTypes$Coder", name := "goOut", desc := "(Z)V" } : Jvm.MethodName) ({ cls := "ScriptTypes$Coder", name := "goOut", desc := "(Z)V" } : Jvm.MethodName)) ∈ lw_all := lw_g (lw_at lw_m8 177 rfl) rfl
theorem q2303 : (Jvm.Cond.code ({ cls := "ScriptTypes$Coder", name := "goOut", desc := "(Z)V" } : Jvm.MethodName) prog_10_method_15_code (6 : Nat) (Option.none : Option Jvm.ClassFile.FieldType)) ∈ lw_all := lw_g (lw_at lw_m8 178 rfl) rfl
theorem q2304 : (Jvm.Cond.instanceMethod ({ cls := "ScriptTypes$If", name := "code", desc := "(LScriptTypes$Coder;)V" } : Jvm.MethodName)) ∈ lw_all := lw_g (lw_at lw_m8 179 rfl) rfl
theorem q2305 : (Jvm.Cond.code ({ cls := "ScriptTypes$If", name := "code", desc := "(LScriptTypes$Coder;)V" } : Jvm.MethodName) prog_17_method_2_code (4 : Nat) (Option.none : Option Jvm.ClassFile.FieldType)) ∈ lw_all := lw_g (lw_at lw_m8 180 rfl) rfl
theorem q2306 : (Jvm.Cond.methodLink "ScriptTypes$If" (21 : Nat) ({ cls := "ScriptTypes$Node", name := "code", desc := "(LScriptTypes$Coder;)V" } : Jvm.MethodName)) ∈ lw_all := lw_g (lw_at lw_m8 181 rfl) rfl
theorem q2307 : (Jvm.Cond.instanceMethod ({ cls := "ScriptTypes$Items", name := "code", desc := "(LScriptTypes$Coder;)V" } : Jvm.MethodName)) ∈ lw_all := lw_g (lw_at lw_m8 182 rfl) rfl
theorem q2308 : (Jvm.Cond.code ({ cls := "ScriptTypes$Items", name := "code", desc := "(LScriptTypes$Coder;)V" } : Jvm.MethodName) prog_18_method_2_code (3 : Nat) (Option.none : Option Jvm.ClassFile.FieldType)) ∈ lw_all := lw_g (lw_at lw_m8 183 rfl) rfl
theorem q2309 : (Jvm.Cond.methodLink "ScriptTypes$Items" (26 : Nat) ({ cls := "ScriptTypes$Coder", name := "site", desc := "(II)V" } : Jvm.MethodName)) ∈ lw_all := lw_g (lw_at lw_m8 184 rfl) rfl
theorem q2310 : (Jvm.Cond.instanceMethod ({ cls := "ScriptTypes$Coder", name := "site", desc := "(II)V" } : Jvm.MethodName)) ∈ lw_all := lw_g (lw_at lw_m8 185 rfl) rfl
theorem q2311 : (Jvm.Cond.selects "ScriptTypes$Coder" ({ cls := "ScriptTypes$Coder", name := "site", desc := "(II)V" } : Jvm.MethodName) ({ cls := "ScriptTypes$Coder", name := "site", desc := "(II)V" } : Jvm.MethodName)) ∈ lw_all := lw_g (lw_at lw_m8 186 rfl) rfl
theorem q2312 : (Jvm.Cond.code ({ cls := "ScriptTypes$Coder", name := "site", desc := "(II)V" } : Jvm.MethodName) prog_10_method_6_code (3 : Nat) (Option.none : Option Jvm.ClassFile.FieldType)) ∈ lw_all := lw_g (lw_at lw_m8 187 rfl) rfl
theorem q2313 : (Jvm.Cond.methodLink "ScriptTypes$Items" (32 : Nat) ({ cls := "java/util/ArrayList", name := "size", desc := "()I" } : Jvm.MethodName)) ∈ lw_all := lw_g (lw_at lw_m8 188 rfl) rfl
theorem q2314 : (Jvm.Cond.methodLink "ScriptTypes$Items" (36 : Nat) ({ cls := "ScriptTypes$Coder", name := "put", desc := "(III)I" } : Jvm.MethodName)) ∈ lw_all := lw_g (lw_at lw_m8 189 rfl) rfl
theorem q2315 : (Jvm.Cond.methodLink "ScriptTypes$Items" (40 : Nat) ({ cls := "java/util/ArrayList", name := "get", desc := "(I)Ljava/lang/Object;" } : Jvm.MethodName)) ∈ lw_all := lw_g (lw_at lw_m8 190 rfl) rfl
theorem q2316 : (Jvm.Cond.classLink "ScriptTypes$Items" (4 : Nat) "ScriptTypes$Node") ∈ lw_all := lw_g (lw_at lw_m8 191 rfl) rfl
theorem q2317 : (Jvm.Cond.methodLink "ScriptTypes$Items" (44 : Nat) ({ cls := "ScriptTypes$Node", name := "code", desc := "(LScriptTypes$Coder;)V" } : Jvm.MethodName)) ∈ lw_all := lw_g (lw_at lw_m8 192 rfl) rfl
theorem q2318 : (Jvm.Cond.instanceMethod ({ cls := "ScriptTypes$Left", name := "code", desc := "(LScriptTypes$Coder;)V" } : Jvm.MethodName)) ∈ lw_all := lw_g (lw_at lw_m8 193 rfl) rfl
theorem q2319 : (Jvm.Cond.code ({ cls := "ScriptTypes$Left", name := "code", desc := "(LScriptTypes$Coder;)V" } : Jvm.MethodName) prog_21_method_3_code (2 : Nat) (Option.none : Option Jvm.ClassFile.FieldType)) ∈ lw_all := lw_g (lw_at lw_m8 194 rfl) rfl
theorem q2320 : (Jvm.Cond.instanceMethod ({ cls := "ScriptTypes$Literal", name := "code", desc := "(LScriptTypes$Coder;)V" } : Jvm.MethodName)) ∈ lw_all := lw_g (lw_at lw_m8 195 rfl) rfl
theorem q2321 : (Jvm.Cond.code ({ cls := "ScriptTypes$Literal", name := "code", desc := "(LScriptTypes$Coder;)V" } : Jvm.MethodName) prog_22_method_2_code (2 : Nat) (Option.none : Option Jvm.ClassFile.FieldType)) ∈ lw_all := lw_g (lw_at lw_m8 196 rfl) rfl
theorem q2322 : (Jvm.Cond.methodLink "ScriptTypes$Literal" (18 : Nat) ({ cls := "ScriptTypes$Coder", name := "put", desc := "(III)I" } : Jvm.MethodName)) ∈ lw_all := lw_g (lw_at lw_m8 197 rfl) rfl
theorem q2323 : (Jvm.Cond.instanceMethod ({ cls := "ScriptTypes$Loop", name := "code", desc := "(LScriptTypes$Coder;)V" } : Jvm.MethodName)) ∈ lw_all := lw_g (lw_at lw_m8 198 rfl) rfl
theorem q2324 : (Jvm.Cond.code ({ cls := "ScriptTypes$Loop", name := "code", desc := "(LScriptTypes$Coder;)V" } : Jvm.MethodName) prog_23_method_2_code (5 : Nat) (Option.none : Option Jvm.ClassFile.FieldType)) ∈ lw_all := lw_g (lw_at lw_m8 199 rfl) rfl
theorem q2325 : (Jvm.Cond.methodLink "ScriptTypes$Loop" (28 : Nat) ({ cls := "ScriptTypes$Node", name := "code", desc := "(LScriptTypes$Coder;)V" } : Jvm.MethodName)) ∈ lw_all := lw_g (lw_at lw_m8 200 rfl) rfl
theorem q2326 : (Jvm.Cond.instanceMethod ({ cls := "ScriptTypes$Made", name := "code", desc := "(LScriptTypes$Coder;)V" } : Jvm.MethodName)) ∈ lw_all := lw_g (lw_at lw_m8 201 rfl) rfl
theorem q2327 : (Jvm.Cond.code ({ cls := "ScriptTypes$Made", name := "code", desc := "(LScriptTypes$Coder;)V" } : Jvm.MethodName) prog_24_method_2_code (2 : Nat) (Option.none : Option Jvm.ClassFile.FieldType)) ∈ lw_all := lw_g (lw_at lw_m8 202 rfl) rfl
theorem q2328 : (Jvm.Cond.methodLink "ScriptTypes$Made" (15 : Nat) ({ cls := "ScriptTypes$Coder", name := "put", desc := "(III)I" } : Jvm.MethodName)) ∈ lw_all := lw_g (lw_at lw_m8 203 rfl) rfl
theorem q2329 : (Jvm.Cond.instanceMethod ({ cls := "ScriptTypes$Name", name := "code", desc := "(LScriptTypes$Coder;)V" } : Jvm.MethodName)) ∈ lw_all := lw_g (lw_at lw_m8 204 rfl) rfl
theorem q2330 : (Jvm.Cond.code ({ cls := "ScriptTypes$Name", name := "code", desc := "(LScriptTypes$Coder;)V" } : Jvm.MethodName) prog_25_method_3_code (2 : Nat) (Option.none : Option Jvm.ClassFile.FieldType)) ∈ lw_all := lw_g (lw_at lw_m8 205 rfl) rfl
theorem q2331 : (Jvm.Cond.methodLink "ScriptTypes$Name" (13 : Nat) ({ cls := "ScriptTypes$Coder", name := "get", desc := "(I)V" } : Jvm.MethodName)) ∈ lw_all := lw_g (lw_at lw_m8 206 rfl) rfl
theorem q2332 : (Jvm.Cond.instanceMethod ({ cls := "ScriptTypes$Coder", name := "get", desc := "(I)V" } : Jvm.MethodName)) ∈ lw_all := lw_g (lw_at lw_m8 207 rfl) rfl
theorem q2333 : (Jvm.Cond.selects "ScriptTypes$Coder" ({ cls := "ScriptTypes$Coder", name := "get", desc := "(I)V" } : Jvm.MethodName) ({ cls := "ScriptTypes$Coder", name := "get", desc := "(I)V" } : Jvm.MethodName)) ∈ lw_all := lw_g (lw_at lw_m8 208 rfl) rfl
theorem q2334 : (Jvm.Cond.code ({ cls := "ScriptTypes$Coder", name := "get", desc := "(I)V" } : Jvm.MethodName) prog_10_method_13_code (3 : Nat) (Option.none : Option Jvm.ClassFile.FieldType)) ∈ lw_all := lw_g (lw_at lw_m8 209 rfl) rfl
theorem q2335 : (Jvm.Cond.instanceMethod ({ cls := "ScriptTypes$New", name := "code", desc := "(LScriptTypes$Coder;)V" } : Jvm.MethodName)) ∈ lw_all := lw_g (lw_at lw_m8 210 rfl) rfl
theorem q2336 : (Jvm.Cond.code ({ cls := "ScriptTypes$New", name := "code", desc := "(LScriptTypes$Coder;)V" } : Jvm.MethodName) prog_26_method_2_code (3 : Nat) (Option.none : Option Jvm.ClassFile.FieldType)) ∈ lw_all := lw_g (lw_at lw_m8 211 rfl) rfl
theorem q2337 : (Jvm.Cond.methodLink "ScriptTypes$New" (19 : Nat) ({ cls := "ScriptTypes$Node", name := "code", desc := "(LScriptTypes$Coder;)V" } : Jvm.MethodName)) ∈ lw_all := lw_g (lw_at lw_m8 212 rfl) rfl
theorem q2338 : (Jvm.Cond.instanceMethod ({ cls := "ScriptTypes$Return", name := "code", desc := "(LScriptTypes$Coder;)V" } : Jvm.MethodName)) ∈ lw_all := lw_g (lw_at lw_m8 213 rfl) rfl
theorem q2339 : (Jvm.Cond.code ({ cls := "ScriptTypes$Return", name := "code", desc := "(LScriptTypes$Coder;)V" } : Jvm.MethodName) prog_30_method_2_code (2 : Nat) (Option.none : Option Jvm.ClassFile.FieldType)) ∈ lw_all := lw_g (lw_at lw_m8 214 rfl) rfl
theorem q2340 : (Jvm.Cond.methodLink "ScriptTypes$Return" (15 : Nat) ({ cls := "ScriptTypes$Coder", name := "put", desc := "(III)I" } : Jvm.MethodName)) ∈ lw_all := lw_g (lw_at lw_m8 215 rfl) rfl
theorem q2341 : (Jvm.Cond.methodLink "ScriptTypes$Return" (21 : Nat) ({ cls := "ScriptTypes$Node", name := "code", desc := "(LScriptTypes$Coder;)V" } : Jvm.MethodName)) ∈ lw_all := lw_g (lw_at lw_m8 216 rfl) rfl
theorem q2342 : (Jvm.Cond.instanceMethod ({ cls := "ScriptTypes$Row", name := "code", desc := "(LScriptTypes$Coder;)V" } : Jvm.MethodName)) ∈ lw_all := lw_g (lw_at lw_m8 217 rfl) rfl
theorem q2343 : (Jvm.Cond.code ({ cls := "ScriptTypes$Row", name := "code", desc := "(LScriptTypes$Coder;)V" } : Jvm.MethodName) prog_31_method_3_code (3 : Nat) (Option.none : Option Jvm.ClassFile.FieldType)) ∈ lw_all := lw_g (lw_at lw_m8 218 rfl) rfl
theorem q2344 : (Jvm.Cond.methodLink "ScriptTypes$Row" (36 : Nat) ({ cls := "java/util/ArrayList", name := "get", desc := "(I)Ljava/lang/Object;" } : Jvm.MethodName)) ∈ lw_all := lw_g (lw_at lw_m8 219 rfl) rfl
theorem q2345 : (Jvm.Cond.classLink "ScriptTypes$Row" (4 : Nat) "ScriptTypes$Node") ∈ lw_all := lw_g (lw_at lw_m8 220 rfl) rfl
theorem q2346 : (Jvm.Cond.methodLink "ScriptTypes$Row" (40 : Nat) ({ cls := "ScriptTypes$Node", name := "code", desc := "(LScriptTypes$Coder;)V" } : Jvm.MethodName)) ∈ lw_all := lw_g (lw_at lw_m8 221 rfl) rfl
theorem q2347 : (Jvm.Cond.instanceMethod ({ cls := "ScriptTypes$Sets", name := "code", desc := "(LScriptTypes$Coder;)V" } : Jvm.MethodName)) ∈ lw_all := lw_g (lw_at lw_m8 222 rfl) rfl
theorem q2348 : (Jvm.Cond.code ({ cls := "ScriptTypes$Sets", name := "code", desc := "(LScriptTypes$Coder;)V" } : Jvm.MethodName) prog_32_method_2_code (2 : Nat) (Option.none : Option Jvm.ClassFile.FieldType)) ∈ lw_all := lw_g (lw_at lw_m8 223 rfl) rfl
theorem q2349 : (Jvm.Cond.methodLink "ScriptTypes$Sets" (22 : Nat) ({ cls := "ScriptTypes$Node", name := "isMember", desc := "()Z" } : Jvm.MethodName)) ∈ lw_all := lw_g (lw_at lw_m8 224 rfl) rfl
theorem q2350 : (Jvm.Cond.classLink "ScriptTypes$Sets" (26 : Nat) "ScriptTypes$Left") ∈ lw_all := lw_g (lw_at lw_m8 225 rfl) rfl
theorem q2351 : (Jvm.Cond.methodLink "ScriptTypes$Sets" (28 : Nat) ({ cls := "ScriptTypes$Left", name := "place", desc := "(LScriptTypes$Coder;)V" } : Jvm.MethodName)) ∈ lw_all := lw_g (lw_at lw_m8 226 rfl) rfl
theorem q2352 : (Jvm.Cond.methodLink "ScriptTypes$Sets" (32 : Nat) ({ cls := "ScriptTypes$Coder", name := "put", desc := "(III)I" } : Jvm.MethodName)) ∈ lw_all := lw_g (lw_at lw_m8 227 rfl) rfl
theorem q2353 : (Jvm.Cond.methodLink "ScriptTypes$Sets" (38 : Nat) ({ cls := "ScriptTypes$Node", name := "code", desc := "(LScriptTypes$Coder;)V" } : Jvm.MethodName)) ∈ lw_all := lw_g (lw_at lw_m8 228 rfl) rfl
theorem q2354 : (Jvm.Cond.instanceMethod ({ cls := "ScriptTypes$Switch", name := "code", desc := "(LScriptTypes$Coder;)V" } : Jvm.MethodName)) ∈ lw_all := lw_g (lw_at lw_m8 229 rfl) rfl
theorem q2355 : (Jvm.Cond.code ({ cls := "ScriptTypes$Switch", name := "code", desc := "(LScriptTypes$Coder;)V" } : Jvm.MethodName) prog_34_method_2_code (6 : Nat) (Option.none : Option Jvm.ClassFile.FieldType)) ∈ lw_all := lw_g (lw_at lw_m8 230 rfl) rfl
theorem q2356 : (Jvm.Cond.methodLink "ScriptTypes$Switch" (27 : Nat) ({ cls := "ScriptTypes$Coder", name := "enter", desc := "(I)LScriptTypes$Around;" } : Jvm.MethodName)) ∈ lw_all := lw_g (lw_at lw_m8 231 rfl) rfl
theorem q2357 : (Jvm.Cond.methodLink "ScriptTypes$Switch" (33 : Nat) ({ cls := "ScriptTypes$Node", name := "code", desc := "(LScriptTypes$Coder;)V" } : Jvm.MethodName)) ∈ lw_all := lw_g (lw_at lw_m8 232 rfl) rfl
theorem q2358 : (Jvm.Cond.instanceMethod ({ cls := "ScriptTypes$This", name := "code", desc := "(LScriptTypes$Coder;)V" } : Jvm.MethodName)) ∈ lw_all := lw_g (lw_at lw_m8 233 rfl) rfl
theorem q2359 : (Jvm.Cond.code ({ cls := "ScriptTypes$This", name := "code", desc := "(LScriptTypes$Coder;)V" } : Jvm.MethodName) prog_37_method_2_code (2 : Nat) (Option.none : Option Jvm.ClassFile.FieldType)) ∈ lw_all := lw_g (lw_at lw_m8 234 rfl) rfl
theorem q2360 : (Jvm.Cond.methodLink "ScriptTypes$This" (9 : Nat) ({ cls := "ScriptTypes$Coder", name := "put", desc := "(III)I" } : Jvm.MethodName)) ∈ lw_all := lw_g (lw_at lw_m8 235 rfl) rfl
theorem q2361 : (Jvm.Cond.instanceMethod ({ cls := "ScriptTypes$Throw", name := "code", desc := "(LScriptTypes$Coder;)V" } : Jvm.MethodName)) ∈ lw_all := lw_g (lw_at lw_m8 236 rfl) rfl
theorem q2362 : (Jvm.Cond.code ({ cls := "ScriptTypes$Throw", name := "code", desc := "(LScriptTypes$Coder;)V" } : Jvm.MethodName) prog_38_method_2_code (2 : Nat) (Option.none : Option Jvm.ClassFile.FieldType)) ∈ lw_all := lw_g (lw_at lw_m8 237 rfl) rfl
theorem q2363 : (Jvm.Cond.methodLink "ScriptTypes$Throw" (15 : Nat) ({ cls := "ScriptTypes$Node", name := "code", desc := "(LScriptTypes$Coder;)V" } : Jvm.MethodName)) ∈ lw_all := lw_g (lw_at lw_m8 238 rfl) rfl
theorem q2364 : (Jvm.Cond.instanceMethod ({ cls := "ScriptTypes$Try", name := "code", desc := "(LScriptTypes$Coder;)V" } : Jvm.MethodName)) ∈ lw_all := lw_g (lw_at lw_m8 239 rfl) rfl
theorem q2365 : (Jvm.Cond.code ({ cls := "ScriptTypes$Try", name := "code", desc := "(LScriptTypes$Coder;)V" } : Jvm.MethodName) prog_41_method_2_code (6 : Nat) (Option.none : Option Jvm.ClassFile.FieldType)) ∈ lw_all := lw_g (lw_at lw_m9 0 rfl) rfl
theorem q2366 : (Jvm.Cond.methodLink "ScriptTypes$Try" (27 : Nat) ({ cls := "ScriptTypes$Coder", name := "put", desc := "(III)I" } : Jvm.MethodName)) ∈ lw_all := lw_g (lw_at lw_m9 1 rfl) rfl
theorem q2367 : (Jvm.Cond.methodLink "ScriptTypes$Try" (33 : Nat) ({ cls := "ScriptTypes$Coder", name := "enter", desc := "(I)LScriptTypes$Around;" } : Jvm.MethodName)) ∈ lw_all := lw_g (lw_at lw_m9 2 rfl) rfl
theorem q2368 : (Jvm.Cond.methodLink "ScriptTypes$Try" (43 : Nat) ({ cls := "ScriptTypes$Node", name := "code", desc := "(LScriptTypes$Coder;)V" } : Jvm.MethodName)) ∈ lw_all := lw_g (lw_at lw_m9 3 rfl) rfl
theorem q2369 : (Jvm.Cond.methodLink "ScriptTypes$Try" (47 : Nat) ({ cls := "ScriptTypes$Coder", name := "leave", desc := "(LScriptTypes$Around;)V" } : Jvm.MethodName)) ∈ lw_all := lw_g (lw_at lw_m9 4 rfl) rfl
theorem q2370 : (Jvm.Cond.instanceMethod ({ cls := "ScriptTypes$Coder", name := "leave", desc := "(LScriptTypes$Around;)V" } : Jvm.MethodName)) ∈ lw_all := lw_g (lw_at lw_m9 5 rfl) rfl
theorem q2371 : (Jvm.Cond.selects "ScriptTypes$Coder" ({ cls := "ScriptTypes$Coder", name := "leave", desc := "(LScriptTypes$Around;)V" } : Jvm.MethodName) ({ cls := "ScriptTypes$Coder", name := "leave", desc := "(LScriptTypes$Around;)V" } : Jvm.MethodName)) ∈ lw_all := lw_g (lw_at lw_m9 6 rfl) rfl
theorem q2372 : (Jvm.Cond.code ({ cls := "ScriptTypes$Coder", name := "leave", desc := "(LScriptTypes$Around;)V" } : Jvm.MethodName) prog_10_method_10_code (2 : Nat) (Option.none : Option Jvm.ClassFile.FieldType)) ∈ lw_all := lw_g (lw_at lw_m9 7 rfl) rfl
theorem q2373 : (Jvm.Cond.methodLink "ScriptTypes$Try" (51 : Nat) ({ cls := "ScriptTypes$Coder", name := "goal", desc := "(I)V" } : Jvm.MethodName)) ∈ lw_all := lw_g (lw_at lw_m9 8 rfl) rfl
theorem q2374 : (Jvm.Cond.instanceMethod ({ cls := "ScriptTypes$Coder", name := "goal", desc := "(I)V" } : Jvm.MethodName)) ∈ lw_all := lw_g (lw_at lw_m9 9 rfl) rfl
theorem q2375 : (Jvm.Cond.selects "ScriptTypes$Coder" ({ cls := "ScriptTypes$Coder", name := "goal", desc := "(I)V" } : Jvm.MethodName) ({ cls := "ScriptTypes$Coder", name := "goal", desc := "(I)V" } : Jvm.MethodName)) ∈ lw_all := lw_g (lw_at lw_m9 10 rfl) rfl
theorem q2376 : (Jvm.Cond.code ({ cls := "ScriptTypes$Coder", name := "goal", desc := "(I)V" } : Jvm.MethodName) prog_10_method_8_code (2 : Nat) (Option.none : Option Jvm.ClassFile.FieldType)) ∈ lw_all := lw_g (lw_at lw_m9 11 rfl) rfl
theorem q2377 : (Jvm.Cond.methodLink "ScriptTypes$Coder" (87 : Nat) ({ cls := "ScriptTypes$Coder", name := "goalAt", desc := "(II)V" } : Jvm.MethodName)) ∈ lw_all := lw_g (lw_at lw_m9 12 rfl) rfl
theorem q2378 : (Jvm.Cond.instanceMethod ({ cls := "ScriptTypes$Coder", name := "goalAt", desc := "(II)V" } : Jvm.MethodName)) ∈ lw_all := lw_g (lw_at lw_m9 13 rfl) rfl
theorem q2379 : (Jvm.Cond.selects "ScriptTypes$Coder" ({ cls := "ScriptTypes$Coder", name := "goalAt", desc := "(II)V" } : Jvm.MethodName) ({ cls := "ScriptTypes$Coder", name := "goalAt", desc := "(II)V" } : Jvm.MethodName)) ∈ lw_all := lw_g (lw_at lw_m9 14 rfl) rfl
theorem q2380 : (Jvm.Cond.code ({ cls := "ScriptTypes$Coder", name := "goalAt", desc := "(II)V" } : Jvm.MethodName) prog_10_method_7_code (3 : Nat) (Option.none : Option Jvm.ClassFile.FieldType)) ∈ lw_all := lw_g (lw_at lw_m9 15 rfl) rfl
theorem q2381 : (Jvm.Cond.methodLink "ScriptTypes$Try" (55 : Nat) ({ cls := "ScriptTypes$Coder", name := "set", desc := "(I)V" } : Jvm.MethodName)) ∈ lw_all := lw_g (lw_at lw_m9 16 rfl) rfl
theorem q2382 : (Jvm.Cond.methodLink "ScriptTypes$Throw" (19 : Nat) ({ cls := "ScriptTypes$Coder", name := "put", desc := "(III)I" } : Jvm.MethodName)) ∈ lw_all := lw_g (lw_at lw_m9 17 rfl) rfl
theorem q2383 : (Jvm.Cond.methodLink "ScriptTypes$Switch" (41 : Nat) ({ cls := "java/util/ArrayList", name := "size", desc := "()I" } : Jvm.MethodName)) ∈ lw_all := lw_g (lw_at lw_m9 18 rfl) rfl
theorem q2384 : (Jvm.Cond.methodLink "ScriptTypes$Switch" (45 : Nat) ({ cls := "java/util/ArrayList", name := "get", desc := "(I)Ljava/lang/Object;" } : Jvm.MethodName)) ∈ lw_all := lw_g (lw_at lw_m9 19 rfl) rfl
theorem q2385 : (Jvm.Cond.methodLink "ScriptTypes$Switch" (49 : Nat) ({ cls := "ScriptTypes$Coder", name := "put", desc := "(III)I" } : Jvm.MethodName)) ∈ lw_all := lw_g (lw_at lw_m9 20 rfl) rfl
theorem q2386 : (Jvm.Cond.classLink "ScriptTypes$Switch" (4 : Nat) "ScriptTypes$Node") ∈ lw_all := lw_g (lw_at lw_m9 21 rfl) rfl
theorem q2387 : (Jvm.Cond.methodLink "ScriptTypes$Switch" (53 : Nat) ({ cls := "ScriptTypes$Coder", name := "goal", desc := "(I)V" } : Jvm.MethodName)) ∈ lw_all := lw_g (lw_at lw_m9 22 rfl) rfl
theorem q2388 : (Jvm.Cond.classLink "ScriptTypes$Switch" (57 : Nat) "ScriptTypes$Block") ∈ lw_all := lw_g (lw_at lw_m9 23 rfl) rfl
theorem q2389 : (Jvm.Cond.methodLink "ScriptTypes$Switch" (59 : Nat) ({ cls := "ScriptTypes$Block", name := "code", desc := "(LScriptTypes$Coder;)V" } : Jvm.MethodName)) ∈ lw_all := lw_g (lw_at lw_m9 24 rfl) rfl
theorem q2390 : (Jvm.Cond.methodLink "ScriptTypes$Switch" (64 : Nat) ({ cls := "ScriptTypes$Coder", name := "place", desc := "()I" } : Jvm.MethodName)) ∈ lw_all := lw_g (lw_at lw_m9 25 rfl) rfl
theorem q2391 : (Jvm.Cond.instanceMethod ({ cls := "ScriptTypes$Coder", name := "place", desc := "()I" } : Jvm.MethodName)) ∈ lw_all := lw_g (lw_at lw_m9 26 rfl) rfl
theorem q2392 : (Jvm.Cond.selects "ScriptTypes$Coder" ({ cls := "ScriptTypes$Coder", name := "place", desc := "()I" } : Jvm.MethodName) ({ cls := "ScriptTypes$Coder", name := "place", desc := "()I" } : Jvm.MethodName)) ∈ lw_all := lw_g (lw_at lw_m9 27 rfl) rfl
theorem q2393 : (Jvm.Cond.code ({ cls := "ScriptTypes$Coder", name := "place", desc := "()I" } : Jvm.MethodName) prog_10_method_2_code (1 : Nat) (Option.some Jvm.ClassFile.FieldType.int)) ∈ lw_all := lw_g (lw_at lw_m9 28 rfl) rfl
theorem q2394 : (Jvm.Cond.methodLink "ScriptTypes$Switch" (67 : Nat) ({ cls := "ScriptTypes$Jumps", name := "goAll", desc := "(LScriptTypes$Coder;I)V" } : Jvm.MethodName)) ∈ lw_all := lw_g (lw_at lw_m9 29 rfl) rfl
theorem q2395 : (Jvm.Cond.instanceMethod ({ cls := "ScriptTypes$Jumps", name := "goAll", desc := "(LScriptTypes$Coder;I)V" } : Jvm.MethodName)) ∈ lw_all := lw_g (lw_at lw_m9 30 rfl) rfl
theorem q2396 : (Jvm.Cond.selects "ScriptTypes$Jumps" ({ cls := "ScriptTypes$Jumps", name := "goAll", desc := "(LScriptTypes$Coder;I)V" } : Jvm.MethodName) ({ cls := "ScriptTypes$Jumps", name := "goAll", desc := "(LScriptTypes$Coder;I)V" } : Jvm.MethodName)) ∈ lw_all := lw_g (lw_at lw_m9 31 rfl) rfl
theorem q2397 : (Jvm.Cond.code ({ cls := "ScriptTypes$Jumps", name := "goAll", desc := "(LScriptTypes$Coder;I)V" } : Jvm.MethodName) prog_19_method_3_code (4 : Nat) (Option.none : Option Jvm.ClassFile.FieldType)) ∈ lw_all := lw_g (lw_at lw_m9 32 rfl) rfl
theorem q2398 : (Jvm.Cond.methodLink "ScriptTypes$Jumps" (23 : Nat) ({ cls := "ScriptTypes$Coder", name := "goalAt", desc := "(II)V" } : Jvm.MethodName)) ∈ lw_all := lw_g (lw_at lw_m9 33 rfl) rfl
theorem q2399 : (Jvm.Cond.methodLink "ScriptTypes$Switch" (73 : Nat) ({ cls := "ScriptTypes$Coder", name := "leave", desc := "(LScriptTypes$Around;)V" } : Jvm.MethodName)) ∈ lw_all := lw_g (lw_at lw_m9 34 rfl) rfl
theorem q2400 : (Jvm.Cond.classLink "ScriptTypes$Sets" (41 : Nat) "ScriptTypes$Name") ∈ lw_all := lw_g (lw_at lw_m9 35 rfl) rfl
theorem q2401 : (Jvm.Cond.methodLink "ScriptTypes$Sets" (46 : Nat) ({ cls := "ScriptTypes$Coder", name := "set", desc := "(I)V" } : Jvm.MethodName)) ∈ lw_all := lw_g (lw_at lw_m9 36 rfl) rfl
theorem q2402 : (Jvm.Cond.methodLink "ScriptTypes$Row" (44 : Nat) ({ cls := "ScriptTypes$Coder", name := "put", desc := "(III)I" } : Jvm.MethodName)) ∈ lw_all := lw_g (lw_at lw_m9 37 rfl) rfl
theorem q2403 : (Jvm.Cond.methodLink "ScriptTypes$Return" (25 : Nat) ({ cls := "ScriptTypes$Coder", name := "goBack", desc := "()V" } : Jvm.MethodName)) ∈ lw_all := lw_g (lw_at lw_m9 38 rfl) rfl
theorem q2404 : (Jvm.Cond.instanceMethod ({ cls := "ScriptTypes$Coder", name := "goBack", desc := "()V" } : Jvm.MethodName)) ∈ lw_all := lw_g (lw_at lw_m9 39 rfl) rfl
theorem q2405 : (Jvm.Cond.selects "ScriptTypes$Coder" ({ cls := "ScriptTypes$Coder", name := "goBack", desc := "()V" } : Jvm.MethodName) ({ cls := "ScriptTypes$Coder", name := "goBack", desc := "()V" } : Jvm.MethodName)) ∈ lw_all := lw_g (lw_at lw_m9 40 rfl) rfl
theorem q2406 : (Jvm.Cond.code ({ cls := "ScriptTypes$Coder", name := "goBack", desc := "()V" } : Jvm.MethodName) prog_10_method_16_code (5 : Nat) (Option.none : Option Jvm.ClassFile.FieldType)) ∈ lw_all := lw_g (lw_at lw_m9 41 rfl) rfl
theorem q2407 : (Jvm.Cond.methodLink "ScriptTypes$Coder" (147 : Nat) ({ cls := "ScriptTypes$Coder", name := "enter", desc := "(I)LScriptTypes$Around;" } : Jvm.MethodName)) ∈ lw_all := lw_g (lw_at lw_m9 42 rfl) rfl
theorem q2408 : (Jvm.Cond.methodLink "ScriptTypes$New" (23 : Nat) ({ cls := "java/util/ArrayList", name := "size", desc := "()I" } : Jvm.MethodName)) ∈ lw_all := lw_g (lw_at lw_m9 43 rfl) rfl
theorem q2409 : (Jvm.Cond.methodLink "ScriptTypes$New" (29 : Nat) ({ cls := "java/util/ArrayList", name := "get", desc := "(I)Ljava/lang/Object;" } : Jvm.MethodName)) ∈ lw_all := lw_g (lw_at lw_m9 44 rfl) rfl
theorem q2410 : (Jvm.Cond.classLink "ScriptTypes$New" (4 : Nat) "ScriptTypes$Node") ∈ lw_all := lw_g (lw_at lw_m9 45 rfl) rfl
theorem q2411 : (Jvm.Cond.methodLink "ScriptTypes$New" (33 : Nat) ({ cls := "ScriptTypes$Coder", name := "site", desc := "(II)V" } : Jvm.MethodName)) ∈ lw_all := lw_g (lw_at lw_m9 46 rfl) rfl
theorem q2412 : (Jvm.Cond.methodLink "ScriptTypes$Loop" (34 : Nat) ({ cls := "ScriptTypes$Coder", name := "enter", desc := "(I)LScriptTypes$Around;" } : Jvm.MethodName)) ∈ lw_all := lw_g (lw_at lw_m9 47 rfl) rfl
theorem q2413 : (Jvm.Cond.methodLink "ScriptTypes$Loop" (40 : Nat) ({ cls := "ScriptTypes$Coder", name := "place", desc := "()I" } : Jvm.MethodName)) ∈ lw_all := lw_g (lw_at lw_m9 48 rfl) rfl
theorem q2414 : (Jvm.Cond.methodLink "ScriptTypes$Loop" (44 : Nat) ({ cls := "ScriptTypes$Coder", name := "put", desc := "(III)I" } : Jvm.MethodName)) ∈ lw_all := lw_g (lw_at lw_m9 49 rfl) rfl
theorem q2415 : (Jvm.Cond.methodLink "ScriptTypes$Loop" (52 : Nat) ({ cls := "ScriptTypes$Jumps", name := "goAll", desc := "(LScriptTypes$Coder;I)V" } : Jvm.MethodName)) ∈ lw_all := lw_g (lw_at lw_m9 50 rfl) rfl
theorem q2416 : (Jvm.Cond.methodLink "ScriptTypes$Loop" (58 : Nat) ({ cls := "ScriptTypes$Coder", name := "goal", desc := "(I)V" } : Jvm.MethodName)) ∈ lw_all := lw_g (lw_at lw_m9 51 rfl) rfl
theorem q2417 : (Jvm.Cond.methodLink "ScriptTypes$Loop" (65 : Nat) ({ cls := "ScriptTypes$Coder", name := "leave", desc := "(LScriptTypes$Around;)V" } : Jvm.MethodName)) ∈ lw_all := lw_g (lw_at lw_m9 52 rfl) rfl
theorem q2418 : (Jvm.Cond.methodLink "ScriptTypes$If" (25 : Nat) ({ cls := "ScriptTypes$Coder", name := "put", desc := "(III)I" } : Jvm.MethodName)) ∈ lw_all := lw_g (lw_at lw_m9 53 rfl) rfl
theorem q2419 : (Jvm.Cond.methodLink "ScriptTypes$If" (31 : Nat) ({ cls := "ScriptTypes$Coder", name := "goal", desc := "(I)V" } : Jvm.MethodName)) ∈ lw_all := lw_g (lw_at lw_m9 54 rfl) rfl
theorem q2420 : (Jvm.Cond.methodLink "ScriptTypes$Coder" (143 : Nat) ({ cls := "ScriptTypes$Jumps", name := "add", desc := "(I)V" } : Jvm.MethodName)) ∈ lw_all := lw_g (lw_at lw_m9 55 rfl) rfl
theorem q2421 : (Jvm.Cond.instanceMethod ({ cls := "ScriptTypes$Jumps", name := "add", desc := "(I)V" } : Jvm.MethodName)) ∈ lw_all := lw_g (lw_at lw_m9 56 rfl) rfl
theorem q2422 : (Jvm.Cond.selects "ScriptTypes$Jumps" ({ cls := "ScriptTypes$Jumps", name := "add", desc := "(I)V" } : Jvm.MethodName) ({ cls := "ScriptTypes$Jumps", name := "add", desc := "(I)V" } : Jvm.MethodName)) ∈ lw_all := lw_g (lw_at lw_m9 57 rfl) rfl
theorem q2423 : (Jvm.Cond.code ({ cls := "ScriptTypes$Jumps", name := "add", desc := "(I)V" } : Jvm.MethodName) prog_19_method_2_code (3 : Nat) (Option.none : Option Jvm.ClassFile.FieldType)) ∈ lw_all := lw_g (lw_at lw_m9 58 rfl) rfl
theorem q2424 : (Jvm.Cond.methodLink "ScriptTypes$Jumps" (17 : Nat) ({ cls := "java/lang/System", name := "arraycopy", desc := "(Ljava/lang/Object;ILjava/lang/Object;II)V" } : Jvm.MethodName)) ∈ lw_all := lw_g (lw_at lw_m9 59 rfl) rfl
theorem q2425 : (Jvm.Cond.methodLink "ScriptTypes$Each" (34 : Nat) ({ cls := "ScriptTypes$Coder", name := "put", desc := "(III)I" } : Jvm.MethodName)) ∈ lw_all := lw_g (lw_at lw_m9 60 rfl) rfl
theorem q2426 : (Jvm.Cond.methodLink "ScriptTypes$Each" (42 : Nat) ({ cls := "ScriptTypes$Coder", name := "place", desc := "()I" } : Jvm.MethodName)) ∈ lw_all := lw_g (lw_at lw_m9 61 rfl) rfl
theorem q2427 : (Jvm.Cond.methodLink "ScriptTypes$Each" (46 : Nat) ({ cls := "ScriptTypes$Coder", name := "set", desc := "(I)V" } : Jvm.MethodName)) ∈ lw_all := lw_g (lw_at lw_m9 62 rfl) rfl
theorem q2428 : (Jvm.Cond.methodLink "ScriptTypes$Each" (54 : Nat) ({ cls := "ScriptTypes$Jumps", name := "goAll", desc := "(LScriptTypes$Coder;I)V" } : Jvm.MethodName)) ∈ lw_all := lw_g (lw_at lw_m9 63 rfl) rfl
theorem q2429 : (Jvm.Cond.methodLink "ScriptTypes$Each" (60 : Nat) ({ cls := "ScriptTypes$Coder", name := "goal", desc := "(I)V" } : Jvm.MethodName)) ∈ lw_all := lw_g (lw_at lw_m9 64 rfl) rfl
theorem q2430 : (Jvm.Cond.methodLink "ScriptTypes$Each" (66 : Nat) ({ cls := "ScriptTypes$Coder", name := "leave", desc := "(LScriptTypes$Around;)V" } : Jvm.MethodName)) ∈ lw_all := lw_g (lw_at lw_m9 65 rfl) rfl
theorem q2431 : (Jvm.Cond.methodLink "ScriptTypes$Drops" (19 : Nat) ({ cls := "ScriptTypes$Coder", name := "put", desc := "(III)I" } : Jvm.MethodName)) ∈ lw_all := lw_g (lw_at lw_m9 66 rfl) rfl
theorem q2432 : (Jvm.Cond.classLink "ScriptTypes$Counts" (42 : Nat) "ScriptTypes$Name") ∈ lw_all := lw_g (lw_at lw_m9 67 rfl) rfl
theorem q2433 : (Jvm.Cond.methodLink "ScriptTypes$Counts" (47 : Nat) ({ cls := "ScriptTypes$Coder", name := "set", desc := "(I)V" } : Jvm.MethodName)) ∈ lw_all := lw_g (lw_at lw_m9 68 rfl) rfl
theorem q2434 : (Jvm.Cond.methodLink "ScriptTypes$Choice" (25 : Nat) ({ cls := "ScriptTypes$Coder", name := "put", desc := "(III)I" } : Jvm.MethodName)) ∈ lw_all := lw_g (lw_at lw_m9 69 rfl) rfl
theorem q2435 : (Jvm.Cond.methodLink "ScriptTypes$Choice" (31 : Nat) ({ cls := "ScriptTypes$Coder", name := "goal", desc := "(I)V" } : Jvm.MethodName)) ∈ lw_all := lw_g (lw_at lw_m9 70 rfl) rfl
theorem q2436 : (Jvm.Cond.methodLink "ScriptTypes$Both" (32 : Nat) ({ cls := "java/util/ArrayList", name := "size", desc := "()I" } : Jvm.MethodName)) ∈ lw_all := lw_g (lw_at lw_m9 71 rfl) rfl
theorem q2437 : (Jvm.Cond.methodLink "ScriptTypes$Both" (36 : Nat) ({ cls := "ScriptTypes$Coder", name := "put", desc := "(III)I" } : Jvm.MethodName)) ∈ lw_all := lw_g (lw_at lw_m9 72 rfl) rfl
theorem q2438 : (Jvm.Cond.methodLink "ScriptTypes$Both" (42 : Nat) ({ cls := "ScriptTypes$Coder", name := "goal", desc := "(I)V" } : Jvm.MethodName)) ∈ lw_all := lw_g (lw_at lw_m9 73 rfl) rfl
theorem q2439 : (Jvm.Cond.methodLink "ScriptTypes$Left" (39 : Nat) ({ cls := "ScriptTypes$Suffix", name := "key", desc := "(LScriptTypes$Coder;)V" } : Jvm.MethodName)) ∈ lw_all := lw_g (lw_at lw_m9 74 rfl) rfl
theorem q2440 : (Jvm.Cond.instanceMethod ({ cls := "ScriptTypes$Suffix", name := "key", desc := "(LScriptTypes$Coder;)V" } : Jvm.MethodName)) ∈ lw_all := lw_g (lw_at lw_m9 75 rfl) rfl
theorem q2441 : (Jvm.Cond.selects "ScriptTypes$Suffix" ({ cls := "ScriptTypes$Suffix", name := "key", desc := "(LScriptTypes$Coder;)V" } : Jvm.MethodName) ({ cls := "ScriptTypes$Suffix", name := "key", desc := "(LScriptTypes$Coder;)V" } : Jvm.MethodName)) ∈ lw_all := lw_g (lw_at lw_m9 76 rfl) rfl
theorem q2442 : (Jvm.Cond.code ({ cls := "ScriptTypes$Suffix", name := "key", desc := "(LScriptTypes$Coder;)V" } : Jvm.MethodName) prog_33_method_2_code (2 : Nat) (Option.none : Option Jvm.ClassFile.FieldType)) ∈ lw_all := lw_g (lw_at lw_m9 77 rfl) rfl
theorem q2443 : (Jvm.Cond.methodLink "ScriptTypes$Suffix" (23 : Nat) ({ cls := "ScriptTypes$Node", name := "code", desc := "(LScriptTypes$Coder;)V" } : Jvm.MethodName)) ∈ lw_all := lw_g (lw_at lw_m9 78 rfl) rfl
theorem q2444 : (Jvm.Cond.methodLink "ScriptTypes$Suffix" (29 : Nat) ({ cls := "ScriptTypes$Coder", name := "put", desc := "(III)I" } : Jvm.MethodName)) ∈ lw_all := lw_g (lw_at lw_m9 79 rfl) rfl
theorem q2445 : (Jvm.Cond.classLink "ScriptTypes$Left" (4 : Nat) "ScriptTypes$Node") ∈ lw_all := lw_g (lw_at lw_m9 80 rfl) rfl
theorem q2446 : (Jvm.Cond.methodLink "ScriptTypes$Ahead" (25 : Nat) ({ cls := "ScriptTypes$Coder", name := "put", desc := "(III)I" } : Jvm.MethodName)) ∈ lw_all := lw_g (lw_at lw_m9 81 rfl) rfl
theorem q2447 : (Jvm.Cond.methodLink "ScriptTypes$Ahead" (31 : Nat) ({ cls := "ScriptTypes$Node", name := "isName", desc := "()Z" } : Jvm.MethodName)) ∈ lw_all := lw_g (lw_at lw_m9 82 rfl) rfl
theorem q2448 : (Jvm.Cond.classLink "ScriptTypes$Ahead" (35 : Nat) "ScriptTypes$Name") ∈ lw_all := lw_g (lw_at lw_m9 83 rfl) rfl
theorem q2449 : (Jvm.Cond.methodLink "ScriptTypes$Ahead" (40 : Nat) ({ cls := "ScriptTypes$Coder", name := "isGlobal", desc := "(I)Z" } : Jvm.MethodName)) ∈ lw_all := lw_g (lw_at lw_m9 84 rfl) rfl
theorem q2450 : (Jvm.Cond.instanceMethod ({ cls := "ScriptTypes$Coder", name := "isGlobal", desc := "(I)Z" } : Jvm.MethodName)) ∈ lw_all := lw_g (lw_at lw_m9 85 rfl) rfl
theorem q2451 : (Jvm.Cond.selects "ScriptTypes$Coder" ({ cls := "ScriptTypes$Coder", name := "isGlobal", desc := "(I)Z" } : Jvm.MethodName) ({ cls := "ScriptTypes$Coder", name := "isGlobal", desc := "(I)Z" } : Jvm.MethodName)) ∈ lw_all := lw_g (lw_at lw_m9 86 rfl) rfl
theorem q2452 : (Jvm.Cond.code ({ cls := "ScriptTypes$Coder", name := "isGlobal", desc := "(I)Z" } : Jvm.MethodName) prog_10_method_12_code (2 : Nat) (Option.some Jvm.ClassFile.FieldType.boolean)) ∈ lw_all := lw_g (lw_at lw_m9 87 rfl) rfl
theorem q2453 : (Jvm.Cond.methodLink "ScriptTypes$Ahead" (44 : Nat) ({ cls := "ScriptTypes$Node", name := "code", desc := "(LScriptTypes$Coder;)V" } : Jvm.MethodName)) ∈ lw_all := lw_g (lw_at lw_m9 88 rfl) rfl
theorem q2454 : (Jvm.Cond.selects "ScriptTypes$Block" ({ cls := "ScriptTypes$Node", name := "code", desc := "(LScriptTypes$Coder;)V" } : Jvm.MethodName) ({ cls := "ScriptTypes$Block", name := "code", desc := "(LScriptTypes$Coder;)V" } : Jvm.MethodName)) ∈ lw_all := lw_g (lw_at lw_m9 89 rfl) rfl
theorem q2455 : (Jvm.Cond.selects "ScriptTypes$Both" ({ cls := "ScriptTypes$Node", name := "code", desc := "(LScriptTypes$Coder;)V" } : Jvm.MethodName) ({ cls := "ScriptTypes$Both", name := "code", desc := "(LScriptTypes$Coder;)V" } : Jvm.MethodName)) ∈ lw_all := lw_g (lw_at lw_m9 90 rfl) rfl
theorem q2456 : (Jvm.Cond.selects "ScriptTypes$Bracketed" ({ cls := "ScriptTypes$Node", name := "code", desc := "(LScriptTypes$Coder;)V" } : Jvm.MethodName) ({ cls := "ScriptTypes$Bracketed", name := "code", desc := "(LScriptTypes$Coder;)V" } : Jvm.MethodName)) ∈ lw_all := lw_g (lw_at lw_m9 91 rfl) rfl
theorem q2457 : (Jvm.Cond.selects "ScriptTypes$Choice" ({ cls := "ScriptTypes$Node", name := "code", desc := "(LScriptTypes$Coder;)V" } : Jvm.MethodName) ({ cls := "ScriptTypes$Choice", name := "code", desc := "(LScriptTypes$Coder;)V" } : Jvm.MethodName)) ∈ lw_all := lw_g (lw_at lw_m9 92 rfl) rfl
theorem q2458 : (Jvm.Cond.selects "ScriptTypes$Commas" ({ cls := "ScriptTypes$Node", name := "code", desc := "(LScriptTypes$Coder;)V" } : Jvm.MethodName) ({ cls := "ScriptTypes$Commas", name := "code", desc := "(LScriptTypes$Coder;)V" } : Jvm.MethodName)) ∈ lw_all := lw_g (lw_at lw_m9 93 rfl) rfl
theorem q2459 : (Jvm.Cond.selects "ScriptTypes$Counts" ({ cls := "ScriptTypes$Node", name := "code", desc := "(LScriptTypes$Coder;)V" } : Jvm.MethodName) ({ cls := "ScriptTypes$Counts", name := "code", desc := "(LScriptTypes$Coder;)V" } : Jvm.MethodName)) ∈ lw_all := lw_g (lw_at lw_m9 94 rfl) rfl
theorem q2460 : (Jvm.Cond.selects "ScriptTypes$Drops" ({ cls := "ScriptTypes$Node", name := "code", desc := "(LScriptTypes$Coder;)V" } : Jvm.MethodName) ({ cls := "ScriptTypes$Drops", name := "code", desc := "(LScriptTypes$Coder;)V" } : Jvm.MethodName)) ∈ lw_all := lw_g (lw_at lw_m9 95 rfl) rfl
theorem q2461 : (Jvm.Cond.selects "ScriptTypes$Each" ({ cls := "ScriptTypes$Node", name := "code", desc := "(LScriptTypes$Coder;)V" } : Jvm.MethodName) ({ cls := "ScriptTypes$Each", name := "code", desc := "(LScriptTypes$Coder;)V" } : Jvm.MethodName)) ∈ lw_all := lw_g (lw_at lw_m9 96 rfl) rfl
theorem q2462 : (Jvm.Cond.selects "ScriptTypes$Goes" ({ cls := "ScriptTypes$Node", name := "code", desc := "(LScriptTypes$Coder;)V" } : Jvm.MethodName) ({ cls := "ScriptTypes$Goes", name := "code", desc := "(LScriptTypes$Coder;)V" } : Jvm.MethodName)) ∈ lw_all := lw_g (lw_at lw_m9 97 rfl) rfl
theorem q2463 : (Jvm.Cond.selects "ScriptTypes$If" ({ cls := "ScriptTypes$Node", name := "code", desc := "(LScriptTypes$Coder;)V" } : Jvm.MethodName) ({ cls := "ScriptTypes$If", name := "code", desc := "(LScriptTypes$Coder;)V" } : Jvm.MethodName)) ∈ lw_all := lw_g (lw_at lw_m9 98 rfl) rfl
theorem q2464 : (Jvm.Cond.selects "ScriptTypes$Items" ({ cls := "ScriptTypes$Node", name := "code", desc := "(LScriptTypes$Coder;)V" } : Jvm.MethodName) ({ cls := "ScriptTypes$Items", name := "code", desc := "(LScriptTypes$Coder;)V" } : Jvm.MethodName)) ∈ lw_all := lw_g (lw_at lw_m9 99 rfl) rfl
theorem q2465 : (Jvm.Cond.selects "ScriptTypes$Left" ({ cls := "ScriptTypes$Node", name := "code", desc := "(LScriptTypes$Coder;)V" } : Jvm.MethodName) ({ cls := "ScriptTypes$Left", name := "code", desc := "(LScriptTypes$Coder;)V" } : Jvm.MethodName)) ∈ lw_all := lw_g (lw_at lw_m9 100 rfl) rfl
theorem q2466 : (Jvm.Cond.selects "ScriptTypes$Literal" ({ cls := "ScriptTypes$Node", name := "code", desc := "(LScriptTypes$Coder;)V" } : Jvm.MethodName) ({ cls := "ScriptTypes$Literal", name := "code", desc := "(LScriptTypes$Coder;)V" } : Jvm.MethodName)) ∈ lw_all := lw_g (lw_at lw_m9 101 rfl) rfl
theorem q2467 : (Jvm.Cond.selects "ScriptTypes$Loop" ({ cls := "ScriptTypes$Node", name := "code", desc := "(LScriptTypes$Coder;)V" } : Jvm.MethodName) ({ cls := "ScriptTypes$Loop", name := "code", desc := "(LScriptTypes$Coder;)V" } : Jvm.MethodName)) ∈ lw_all := lw_g (lw_at lw_m9 102 rfl) rfl
theorem q2468 : (Jvm.Cond.selects "ScriptTypes$Made" ({ cls := "ScriptTypes$Node", name := "code", desc := "(LScriptTypes$Coder;)V" } : Jvm.MethodName) ({ cls := "ScriptTypes$Made", name := "code", desc := "(LScriptTypes$Coder;)V" } : Jvm.MethodName)) ∈ lw_all := lw_g (lw_at lw_m9 103 rfl) rfl
theorem q2469 : (Jvm.Cond.selects "ScriptTypes$Name" ({ cls := "ScriptTypes$Node", name := "code", desc := "(LScriptTypes$Coder;)V" } : Jvm.MethodName) ({ cls := "ScriptTypes$Name", name := "code", desc := "(LScriptTypes$Coder;)V" } : Jvm.MethodName)) ∈ lw_all := lw_g (lw_at lw_m9 104 rfl) rfl
theorem q2470 : (Jvm.Cond.selects "ScriptTypes$New" ({ cls := "ScriptTypes$Node", name := "code", desc := "(LScriptTypes$Coder;)V" } : Jvm.MethodName) ({ cls := "ScriptTypes$New", name := "code", desc := "(LScriptTypes$Coder;)V" } : Jvm.MethodName)) ∈ lw_all := lw_g (lw_at lw_m9 105 rfl) rfl
theorem q2471 : (Jvm.Cond.selects "ScriptTypes$Return" ({ cls := "ScriptTypes$Node", name := "code", desc := "(LScriptTypes$Coder;)V" } : Jvm.MethodName) ({ cls := "ScriptTypes$Return", name := "code", desc := "(LScriptTypes$Coder;)V" } : Jvm.MethodName)) ∈ lw_all := lw_g (lw_at lw_m9 106 rfl) rfl
theorem q2472 : (Jvm.Cond.selects "ScriptTypes$Row" ({ cls := "ScriptTypes$Node", name := "code", desc := "(LScriptTypes$Coder;)V" } : Jvm.MethodName) ({ cls := "ScriptTypes$Row", name := "code", desc := "(LScriptTypes$Coder;)V" } : Jvm.MethodName)) ∈ lw_all := lw_g (lw_at lw_m9 107 rfl) rfl
theorem q2473 : (Jvm.Cond.selects "ScriptTypes$Sets" ({ cls := "ScriptTypes$Node", name := "code", desc := "(LScriptTypes$Coder;)V" } : Jvm.MethodName) ({ cls := "ScriptTypes$Sets", name := "code", desc := "(LScriptTypes$Coder;)V" } : Jvm.MethodName)) ∈ lw_all := lw_g (lw_at lw_m9 108 rfl) rfl
theorem q2474 : (Jvm.Cond.selects "ScriptTypes$Switch" ({ cls := "ScriptTypes$Node", name := "code", desc := "(LScriptTypes$Coder;)V" } : Jvm.MethodName) ({ cls := "ScriptTypes$Switch", name := "code", desc := "(LScriptTypes$Coder;)V" } : Jvm.MethodName)) ∈ lw_all := lw_g (lw_at lw_m9 109 rfl) rfl
theorem q2475 : (Jvm.Cond.selects "ScriptTypes$This" ({ cls := "ScriptTypes$Node", name := "code", desc := "(LScriptTypes$Coder;)V" } : Jvm.MethodName) ({ cls := "ScriptTypes$This", name := "code", desc := "(LScriptTypes$Coder;)V" } : Jvm.MethodName)) ∈ lw_all := lw_g (lw_at lw_m9 110 rfl) rfl
theorem q2476 : (Jvm.Cond.selects "ScriptTypes$Throw" ({ cls := "ScriptTypes$Node", name := "code", desc := "(LScriptTypes$Coder;)V" } : Jvm.MethodName) ({ cls := "ScriptTypes$Throw", name := "code", desc := "(LScriptTypes$Coder;)V" } : Jvm.MethodName)) ∈ lw_all := lw_g (lw_at lw_m9 111 rfl) rfl
theorem q2477 : (Jvm.Cond.selects "ScriptTypes$Try" ({ cls := "ScriptTypes$Node", name := "code", desc := "(LScriptTypes$Coder;)V" } : Jvm.MethodName) ({ cls := "ScriptTypes$Try", name := "code", desc := "(LScriptTypes$Coder;)V" } : Jvm.MethodName)) ∈ lw_all := lw_g (lw_at lw_m9 112 rfl) rfl
theorem q2478 : (Jvm.Cond.methodLink "ScriptTypes" (303 : Nat) ({ cls := "ScriptTypes", name := "tooLarge", desc := "()Z" } : Jvm.MethodName)) ∈ lw_all := lw_g (lw_at lw_m9 113 rfl) rfl
theorem q2479 : (Jvm.Cond.privateMethod ({ cls := "ScriptTypes", name := "tooLarge", desc := "()Z" } : Jvm.MethodName)) ∈ lw_tbl := lw_at lw_m9 114 rfl
theorem q2480 : (Jvm.Cond.instanceMethod ({ cls := "ScriptTypes", name := "tooLarge", desc := "()Z" } : Jvm.MethodName)) ∈ lw_all := lw_g (lw_at lw_m9 115 rfl) rfl
theorem q2481 : (Jvm.Cond.code ({ cls := "ScriptTypes", name := "tooLarge", desc := "()Z" } : Jvm.MethodName) prog_1_method_16_code (4 : Nat) (Option.some Jvm.ClassFile.FieldType.boolean)) ∈ lw_all := lw_g (lw_at lw_m9 116 rfl) rfl
theorem q2482 : (Jvm.Cond.constantLong "ScriptTypes" (317 : Nat) (450000 : Int64)) ∈ lw_all := lw_g (lw_at lw_m9 117 rfl) rfl
theorem q2483 : (Jvm.Cond.methodLink "ScriptTypesLaw" (41 : Nat) ({ cls := "ScriptTypes", name := "count", desc := "(I)I" } : Jvm.MethodName)) ∈ lw_all := lw_g (lw_at lw_m9 118 rfl) rfl
theorem q2484 : (Jvm.Cond.instanceMethod ({ cls := "ScriptTypes", name := "count", desc := "(I)I" } : Jvm.MethodName)) ∈ lw_all := lw_g (lw_at lw_m9 119 rfl) rfl
theorem q2485 : (Jvm.Cond.selects "ScriptTypes" ({ cls := "ScriptTypes", name := "count", desc := "(I)I" } : Jvm.MethodName) ({ cls := "ScriptTypes", name := "count", desc := "(I)I" } : Jvm.MethodName)) ∈ lw_all := lw_g (lw_at lw_m9 120 rfl) rfl
theorem q2486 : (Jvm.Cond.code ({ cls := "ScriptTypes", name := "count", desc := "(I)I" } : Jvm.MethodName) prog_1_method_17_code (3 : Nat) (Option.some Jvm.ClassFile.FieldType.int)) ∈ lw_all := lw_g (lw_at lw_m9 121 rfl) rfl
theorem q2487 : (Jvm.Cond.methodLink "ScriptTypesLaw" (45 : Nat) ({ cls := "ScriptTypes", name := "letter", desc := "(II)I" } : Jvm.MethodName)) ∈ lw_all := lw_g (lw_at lw_m9 122 rfl) rfl
theorem q2488 : (Jvm.Cond.instanceMethod ({ cls := "ScriptTypes", name := "letter", desc := "(II)I" } : Jvm.MethodName)) ∈ lw_all := lw_g (lw_at lw_m9 123 rfl) rfl
theorem q2489 : (Jvm.Cond.selects "ScriptTypes" ({ cls := "ScriptTypes", name := "letter", desc := "(II)I" } : Jvm.MethodName) ({ cls := "ScriptTypes", name := "letter", desc := "(II)I" } : Jvm.MethodName)) ∈ lw_all := lw_g (lw_at lw_m9 124 rfl) rfl
theorem q2490 : (Jvm.Cond.code ({ cls := "ScriptTypes", name := "letter", desc := "(II)I" } : Jvm.MethodName) prog_1_method_18_code (3 : Nat) (Option.some Jvm.ClassFile.FieldType.int)) ∈ lw_all := lw_g (lw_at lw_m9 125 rfl) rfl
theorem q2491 : (Jvm.Cond.methodLink "ScriptTypes" (23 : Nat) ({ cls := "ScriptTypes$Texts", name := "length", desc := "(I)I" } : Jvm.MethodName)) ∈ lw_all := lw_g (lw_at lw_m9 126 rfl) rfl
theorem q2492 : (Jvm.Cond.methodLink "ScriptTypes" (29 : Nat) ({ cls := "ScriptTypes$Texts", name := "sign", desc := "(II)I" } : Jvm.MethodName)) ∈ lw_all := lw_g (lw_at lw_m9 127 rfl) rfl
theorem q2493 : (Jvm.Cond.methodLink "ScriptTypesLaw" (50 : Nat) ({ cls := "ScriptTypes", name := "instruction", desc := "(II)I" } : Jvm.MethodName)) ∈ lw_all := lw_g (lw_at lw_m9 128 rfl) rfl
theorem q2494 : (Jvm.Cond.instanceMethod ({ cls := "ScriptTypes", name := "instruction", desc := "(II)I" } : Jvm.MethodName)) ∈ lw_all := lw_g (lw_at lw_m9 129 rfl) rfl
theorem q2495 : (Jvm.Cond.selects "ScriptTypes" ({ cls := "ScriptTypes", name := "instruction", desc := "(II)I" } : Jvm.MethodName) ({ cls := "ScriptTypes", name := "instruction", desc := "(II)I" } : Jvm.MethodName)) ∈ lw_all := lw_g (lw_at lw_m9 130 rfl) rfl
theorem q2496 : (Jvm.Cond.code ({ cls := "ScriptTypes", name := "instruction", desc := "(II)I" } : Jvm.MethodName) prog_1_method_19_code (3 : Nat) (Option.some Jvm.ClassFile.FieldType.int)) ∈ lw_all := lw_g (lw_at lw_m9 131 rfl) rfl
theorem q2497 : (Jvm.Cond.methodLink "ScriptTypesLaw" (67 : Nat) ({ cls := "ScriptTypes", name := "frame", desc := "(II)I" } : Jvm.MethodName)) ∈ lw_all := lw_g (lw_at lw_m9 132 rfl) rfl
theorem q2498 : (Jvm.Cond.instanceMethod ({ cls := "ScriptTypes", name := "frame", desc := "(II)I" } : Jvm.MethodName)) ∈ lw_all := lw_g (lw_at lw_m9 133 rfl) rfl
theorem q2499 : (Jvm.Cond.selects "ScriptTypes" ({ cls := "ScriptTypes", name := "frame", desc := "(II)I" } : Jvm.MethodName) ({ cls := "ScriptTypes", name := "frame", desc := "(II)I" } : Jvm.MethodName)) ∈ lw_all := lw_g (lw_at lw_m9 134 rfl) rfl
theorem q2500 : (Jvm.Cond.code ({ cls := "ScriptTypes", name := "frame", desc := "(II)I" } : Jvm.MethodName) prog_1_method_77_code (6 : Nat) (Option.some Jvm.ClassFile.FieldType.int)) ∈ lw_all := lw_g (lw_at lw_m9 135 rfl) rfl
theorem q2501 : (Jvm.Cond.methodLink "ScriptTypesLaw" (71 : Nat) ({ cls := "ScriptTypes", name := "value", desc := "(III)I" } : Jvm.MethodName)) ∈ lw_all := lw_g (lw_at lw_m9 136 rfl) rfl
theorem q2502 : (Jvm.Cond.instanceMethod ({ cls := "ScriptTypes", name := "value", desc := "(III)I" } : Jvm.MethodName)) ∈ lw_all := lw_g (lw_at lw_m9 137 rfl) rfl
theorem q2503 : (Jvm.Cond.selects "ScriptTypes" ({ cls := "ScriptTypes", name := "value", desc := "(III)I" } : Jvm.MethodName) ({ cls := "ScriptTypes", name := "value", desc := "(III)I" } : Jvm.MethodName)) ∈ lw_all := lw_g (lw_at lw_m9 138 rfl) rfl
theorem q2504 : (Jvm.Cond.code ({ cls := "ScriptTypes", name := "value", desc := "(III)I" } : Jvm.MethodName) prog_1_method_79_code (7 : Nat) (Option.some Jvm.ClassFile.FieldType.int)) ∈ lw_all := lw_g (lw_at lw_m9 139 rfl) rfl
theorem q2505 : (Jvm.Cond.methodLink "ScriptTypes" (588 : Nat) ({ cls := "ScriptTypes", name := "frame", desc := "(II)I" } : Jvm.MethodName)) ∈ lw_all := lw_g (lw_at lw_m9 140 rfl) rfl
theorem q2506 : (Jvm.Cond.methodLink "ScriptTypes" (591 : Nat) ({ cls := "ScriptTypes", name := "told", desc := "(III)I" } : Jvm.MethodName)) ∈ lw_all := lw_g (lw_at lw_m9 141 rfl) rfl
theorem q2507 : (Jvm.Cond.privateMethod ({ cls := "ScriptTypes", name := "told", desc := "(III)I" } : Jvm.MethodName)) ∈ lw_tbl := lw_at lw_m9 142 rfl
theorem q2508 : (Jvm.Cond.instanceMethod ({ cls := "ScriptTypes", name := "told", desc := "(III)I" } : Jvm.MethodName)) ∈ lw_all := lw_g (lw_at lw_m9 143 rfl) rfl
theorem q2509 : (Jvm.Cond.code ({ cls := "ScriptTypes", name := "told", desc := "(III)I" } : Jvm.MethodName) prog_1_method_78_code (4 : Nat) (Option.some Jvm.ClassFile.FieldType.int)) ∈ lw_all := lw_g (lw_at lw_m9 144 rfl) rfl
theorem q2510 : (Jvm.Cond.methodLink "ScriptTypes" (595 : Nat) ({ cls := "ScriptTypes", name := "leftOf", desc := "(I)I" } : Jvm.MethodName)) ∈ lw_all := lw_g (lw_at lw_m9 145 rfl) rfl
theorem q2511 : (Jvm.Cond.privateMethod ({ cls := "ScriptTypes", name := "leftOf", desc := "(I)I" } : Jvm.MethodName)) ∈ lw_tbl := lw_at lw_m9 146 rfl
theorem q2512 : (Jvm.Cond.instanceMethod ({ cls := "ScriptTypes", name := "leftOf", desc := "(I)I" } : Jvm.MethodName)) ∈ lw_all := lw_g (lw_at lw_m9 147 rfl) rfl
theorem q2513 : (Jvm.Cond.code ({ cls := "ScriptTypes", name := "leftOf", desc := "(I)I" } : Jvm.MethodName) prog_1_method_80_code (5 : Nat) (Option.some Jvm.ClassFile.FieldType.int)) ∈ lw_all := lw_g (lw_at lw_m9 148 rfl) rfl
theorem q2514 : (Jvm.Cond.methodLink "ScriptTypes" (535 : Nat) ({ cls := "ScriptTypes", name := "following", desc := "(I)I" } : Jvm.MethodName)) ∈ lw_all := lw_g (lw_at lw_m9 149 rfl) rfl
theorem q2515 : (Jvm.Cond.privateMethod ({ cls := "ScriptTypes", name := "following", desc := "(I)I" } : Jvm.MethodName)) ∈ lw_tbl := lw_at lw_m9 150 rfl
theorem q2516 : (Jvm.Cond.instanceMethod ({ cls := "ScriptTypes", name := "following", desc := "(I)I" } : Jvm.MethodName)) ∈ lw_all := lw_g (lw_at lw_m9 151 rfl) rfl
theorem q2517 : (Jvm.Cond.code ({ cls := "ScriptTypes", name := "following", desc := "(I)I" } : Jvm.MethodName) prog_1_method_58_code (3 : Nat) (Option.some Jvm.ClassFile.FieldType.int)) ∈ lw_all := lw_g (lw_at lw_m9 152 rfl) rfl
theorem q2518 : (Jvm.Cond.methodLink "ScriptTypesLaw" (76 : Nat) ({ cls := "ScriptTypes", name := "object", desc := "(II)I" } : Jvm.MethodName)) ∈ lw_all := lw_g (lw_at lw_m9 153 rfl) rfl
theorem q2519 : (Jvm.Cond.instanceMethod ({ cls := "ScriptTypes", name := "object", desc := "(II)I" } : Jvm.MethodName)) ∈ lw_all := lw_g (lw_at lw_m9 154 rfl) rfl
theorem q2520 : (Jvm.Cond.selects "ScriptTypes" ({ cls := "ScriptTypes", name := "object", desc := "(II)I" } : Jvm.MethodName) ({ cls := "ScriptTypes", name := "object", desc := "(II)I" } : Jvm.MethodName)) ∈ lw_all := lw_g (lw_at lw_m9 155 rfl) rfl
theorem q2521 : (Jvm.Cond.code ({ cls := "ScriptTypes", name := "object", desc := "(II)I" } : Jvm.MethodName) prog_1_method_82_code (5 : Nat) (Option.some Jvm.ClassFile.FieldType.int)) ∈ lw_all := lw_g (lw_at lw_m9 156 rfl) rfl
theorem q2522 : (Jvm.Cond.methodLink "ScriptTypes" (598 : Nat) ({ cls := "ScriptTypes", name := "isObject", desc := "(I)Z" } : Jvm.MethodName)) ∈ lw_all := lw_g (lw_at lw_m9 157 rfl) rfl
theorem q2523 : (Jvm.Cond.privateMethod ({ cls := "ScriptTypes", name := "isObject", desc := "(I)Z" } : Jvm.MethodName)) ∈ lw_tbl := lw_at lw_m9 158 rfl
theorem q2524 : (Jvm.Cond.instanceMethod ({ cls := "ScriptTypes", name := "isObject", desc := "(I)Z" } : Jvm.MethodName)) ∈ lw_all := lw_g (lw_at lw_m9 159 rfl) rfl
theorem q2525 : (Jvm.Cond.code ({ cls := "ScriptTypes", name := "isObject", desc := "(I)Z" } : Jvm.MethodName) prog_1_method_81_code (2 : Nat) (Option.some Jvm.ClassFile.FieldType.boolean)) ∈ lw_all := lw_g (lw_at lw_m9 160 rfl) rfl
theorem q2526 : (Jvm.Cond.methodLink "ScriptTypes" (601 : Nat) ({ cls := "ScriptTypes", name := "labelOf", desc := "(I)I" } : Jvm.MethodName)) ∈ lw_all := lw_g (lw_at lw_m9 161 rfl) rfl
theorem q2527 : (Jvm.Cond.privateMethod ({ cls := "ScriptTypes", name := "labelOf", desc := "(I)I" } : Jvm.MethodName)) ∈ lw_tbl := lw_at lw_m9 162 rfl
theorem q2528 : (Jvm.Cond.instanceMethod ({ cls := "ScriptTypes", name := "labelOf", desc := "(I)I" } : Jvm.MethodName)) ∈ lw_all := lw_g (lw_at lw_m9 163 rfl) rfl
theorem q2529 : (Jvm.Cond.code ({ cls := "ScriptTypes", name := "labelOf", desc := "(I)I" } : Jvm.MethodName) prog_1_method_21_code (2 : Nat) (Option.some Jvm.ClassFile.FieldType.int)) ∈ lw_all := lw_g (lw_at lw_m9 164 rfl) rfl
theorem q2530 : (Jvm.Cond.methodLink "ScriptTypesLaw" (80 : Nat) ({ cls := "ScriptTypes", name := "property", desc := "(III)I" } : Jvm.MethodName)) ∈ lw_all := lw_g (lw_at lw_m9 165 rfl) rfl
theorem q2531 : (Jvm.Cond.instanceMethod ({ cls := "ScriptTypes", name := "property", desc := "(III)I" } : Jvm.MethodName)) ∈ lw_all := lw_g (lw_at lw_m9 166 rfl) rfl
theorem q2532 : (Jvm.Cond.selects "ScriptTypes" ({ cls := "ScriptTypes", name := "property", desc := "(III)I" } : Jvm.MethodName) ({ cls := "ScriptTypes", name := "property", desc := "(III)I" } : Jvm.MethodName)) ∈ lw_all := lw_g (lw_at lw_m9 167 rfl) rfl
theorem q2533 : (Jvm.Cond.code ({ cls := "ScriptTypes", name := "property", desc := "(III)I" } : Jvm.MethodName) prog_1_method_83_code (6 : Nat) (Option.some Jvm.ClassFile.FieldType.int)) ∈ lw_all := lw_g (lw_at lw_m9 168 rfl) rfl
theorem q2534 : (Jvm.Cond.methodLink "ScriptTypesLaw" (84 : Nat) ({ cls := "ScriptTypes", name := "printed", desc := "(II)I" } : Jvm.MethodName)) ∈ lw_all := lw_g (lw_at lw_m9 169 rfl) rfl
theorem q2535 : (Jvm.Cond.instanceMethod ({ cls := "ScriptTypes", name := "printed", desc := "(II)I" } : Jvm.MethodName)) ∈ lw_all := lw_g (lw_at lw_m9 170 rfl) rfl
theorem q2536 : (Jvm.Cond.selects "ScriptTypes" ({ cls := "ScriptTypes", name := "printed", desc := "(II)I" } : Jvm.MethodName) ({ cls := "ScriptTypes", name := "printed", desc := "(II)I" } : Jvm.MethodName)) ∈ lw_all := lw_g (lw_at lw_m9 171 rfl) rfl
theorem q2537 : (Jvm.Cond.code ({ cls := "ScriptTypes", name := "printed", desc := "(II)I" } : Jvm.MethodName) prog_1_method_84_code (3 : Nat) (Option.some Jvm.ClassFile.FieldType.int)) ∈ lw_all := lw_g (lw_at lw_m9 172 rfl) rfl
theorem q2538 : (Jvm.Cond.methodLink "ScriptTypes" (604 : Nat) ({ cls := "ScriptTypes", name := "letter", desc := "(II)I" } : Jvm.MethodName)) ∈ lw_all := lw_g (lw_at lw_m9 173 rfl) rfl
theorem q2539 : (Jvm.Cond.methodLink "ScriptTypesLaw" (88 : Nat) ({ cls := "ScriptTypes", name := "uncaught", desc := "(I)I" } : Jvm.MethodName)) ∈ lw_all := lw_g (lw_at lw_m9 174 rfl) rfl
theorem q2540 : (Jvm.Cond.instanceMethod ({ cls := "ScriptTypes", name := "uncaught", desc := "(I)I" } : Jvm.MethodName)) ∈ lw_all := lw_g (lw_at lw_m9 175 rfl) rfl
theorem q2541 : (Jvm.Cond.selects "ScriptTypes" ({ cls := "ScriptTypes", name := "uncaught", desc := "(I)I" } : Jvm.MethodName) ({ cls := "ScriptTypes", name := "uncaught", desc := "(I)I" } : Jvm.MethodName)) ∈ lw_all := lw_g (lw_at lw_m9 176 rfl) rfl
theorem q2542 : (Jvm.Cond.code ({ cls := "ScriptTypes", name := "uncaught", desc := "(I)I" } : Jvm.MethodName) prog_1_method_85_code (2 : Nat) (Option.some Jvm.ClassFile.FieldType.int)) ∈ lw_all := lw_g (lw_at lw_m9 177 rfl) rfl
theorem q2543 : (Jvm.Cond.methodLink "ScriptTypesLaw" (96 : Nat) ({ cls := "ScriptTypes", name := "height", desc := "(I)I" } : Jvm.MethodName)) ∈ lw_all := lw_g (lw_at lw_m9 178 rfl) rfl
theorem q2544 : (Jvm.Cond.instanceMethod ({ cls := "ScriptTypes", name := "height", desc := "(I)I" } : Jvm.MethodName)) ∈ lw_all := lw_g (lw_at lw_m9 179 rfl) rfl
theorem q2545 : (Jvm.Cond.selects "ScriptTypes" ({ cls := "ScriptTypes", name := "height", desc := "(I)I" } : Jvm.MethodName) ({ cls := "ScriptTypes", name := "height", desc := "(I)I" } : Jvm.MethodName)) ∈ lw_all := lw_g (lw_at lw_m9 180 rfl) rfl
theorem q2546 : (Jvm.Cond.code ({ cls := "ScriptTypes", name := "height", desc := "(I)I" } : Jvm.MethodName) prog_1_method_148_code (2 : Nat) (Option.some Jvm.ClassFile.FieldType.int)) ∈ lw_all := lw_g (lw_at lw_m9 181 rfl) rfl
theorem q2547 : (Jvm.Cond.methodLink "ScriptTypes" (1113 : Nat) ({ cls := "ScriptTypes", name := "isReached", desc := "(I)Z" } : Jvm.MethodName)) ∈ lw_all := lw_g (lw_at lw_m9 182 rfl) rfl
theorem q2548 : (Jvm.Cond.privateMethod ({ cls := "ScriptTypes", name := "isReached", desc := "(I)Z" } : Jvm.MethodName)) ∈ lw_tbl := lw_at lw_m9 183 rfl
theorem q2549 : (Jvm.Cond.instanceMethod ({ cls := "ScriptTypes", name := "isReached", desc := "(I)Z" } : Jvm.MethodName)) ∈ lw_all := lw_g (lw_at lw_m9 184 rfl) rfl
theorem q2550 : (Jvm.Cond.code ({ cls := "ScriptTypes", name := "isReached", desc := "(I)Z" } : Jvm.MethodName) prog_1_method_147_code (2 : Nat) (Option.some Jvm.ClassFile.FieldType.boolean)) ∈ lw_all := lw_g (lw_at lw_m9 185 rfl) rfl
theorem q2551 : (Jvm.Cond.methodLink "ScriptTypesLaw" (100 : Nat) ({ cls := "ScriptTypes", name := "slot", desc := "(III)J" } : Jvm.MethodName)) ∈ lw_all := lw_g (lw_at lw_m9 186 rfl) rfl
theorem q2552 : (Jvm.Cond.instanceMethod ({ cls := "ScriptTypes", name := "slot", desc := "(III)J" } : Jvm.MethodName)) ∈ lw_all := lw_g (lw_at lw_m9 187 rfl) rfl
theorem q2553 : (Jvm.Cond.selects "ScriptTypes" ({ cls := "ScriptTypes", name := "slot", desc := "(III)J" } : Jvm.MethodName) ({ cls := "ScriptTypes", name := "slot", desc := "(III)J" } : Jvm.MethodName)) ∈ lw_all := lw_g (lw_at lw_m9 188 rfl) rfl
theorem q2554 : (Jvm.Cond.code ({ cls := "ScriptTypes", name := "slot", desc := "(III)J" } : Jvm.MethodName) prog_1_method_149_code (5 : Nat) (Option.some Jvm.ClassFile.FieldType.long)) ∈ lw_all := lw_g (lw_at lw_m9 189 rfl) rfl
theorem q2555 : (Jvm.Cond.methodLink "ScriptTypes" (892 : Nat) ({ cls := "ScriptTypes$Bag", name := "of", desc := "(J)LScriptTypes$Bag;" } : Jvm.MethodName)) ∈ lw_all := lw_g (lw_at lw_m9 190 rfl) rfl
theorem q2556 : (Jvm.Cond.instanceMethod ({ cls := "ScriptTypes$Bag", name := "of", desc := "(J)LScriptTypes$Bag;" } : Jvm.MethodName)) ∈ lw_all := lw_g (lw_at lw_m9 191 rfl) rfl
theorem q2557 : (Jvm.Cond.selects "ScriptTypes$Bag" ({ cls := "ScriptTypes$Bag", name := "of", desc := "(J)LScriptTypes$Bag;" } : Jvm.MethodName) ({ cls := "ScriptTypes$Bag", name := "of", desc := "(J)LScriptTypes$Bag;" } : Jvm.MethodName)) ∈ lw_all := lw_g (lw_at lw_m9 192 rfl) rfl
theorem q2558 : (Jvm.Cond.code ({ cls := "ScriptTypes$Bag", name := "of", desc := "(J)LScriptTypes$Bag;" } : Jvm.MethodName) prog_4_method_3_code (3 : Nat) (Option.some (Jvm.ClassFile.FieldType.object "ScriptTypes$Bag"))) ∈ lw_all := lw_g (lw_at lw_m9 193 rfl) rfl
theorem q2559 : (Jvm.Cond.methodLink "ScriptTypes" (871 : Nat) ({ cls := "ScriptTypes$Bag", name := "join3", desc := "(JJJ)LScriptTypes$Bag;" } : Jvm.MethodName)) ∈ lw_all := lw_g (lw_at lw_m9 194 rfl) rfl
theorem q2560 : (Jvm.Cond.instanceMethod ({ cls := "ScriptTypes$Bag", name := "join3", desc := "(JJJ)LScriptTypes$Bag;" } : Jvm.MethodName)) ∈ lw_all := lw_g (lw_at lw_m9 195 rfl) rfl
theorem q2561 : (Jvm.Cond.selects "ScriptTypes$Bag" ({ cls := "ScriptTypes$Bag", name := "join3", desc := "(JJJ)LScriptTypes$Bag;" } : Jvm.MethodName) ({ cls := "ScriptTypes$Bag", name := "join3", desc := "(JJJ)LScriptTypes$Bag;" } : Jvm.MethodName)) ∈ lw_all := lw_g (lw_at lw_m9 196 rfl) rfl
theorem q2562 : (Jvm.Cond.code ({ cls := "ScriptTypes$Bag", name := "join3", desc := "(JJJ)LScriptTypes$Bag;" } : Jvm.MethodName) prog_4_method_6_code (7 : Nat) (Option.some (Jvm.ClassFile.FieldType.object "ScriptTypes$Bag"))) ∈ lw_all := lw_g (lw_at lw_m9 197 rfl) rfl
theorem q2563 : (Jvm.Cond.methodLinkNest "ScriptTypes$Bag" (25 : Nat) ({ cls := "ScriptTypes", name := "joined", desc := "(JJ)J" } : Jvm.MethodName) "ScriptTypes") ∈ lw_tbl := lw_at lw_m9 198 rfl
theorem q2564 : (Jvm.Cond.static ({ cls := "ScriptTypes", name := "joined", desc := "(JJ)J" } : Jvm.MethodName)) ∈ lw_all := lw_g (lw_at lw_m9 199 rfl) rfl
theorem q2565 : (Jvm.Cond.code ({ cls := "ScriptTypes", name := "joined", desc := "(JJ)J" } : Jvm.MethodName) prog_1_method_86_code (10 : Nat) (Option.some Jvm.ClassFile.FieldType.long)) ∈ lw_all := lw_g (lw_at lw_m9 200 rfl) rfl
theorem q2566 : (Jvm.Cond.constantLong "ScriptTypes" (607 : Nat) (1023 : Int64)) ∈ lw_all := lw_g (lw_at lw_m9 201 rfl) rfl
theorem q2567 : (Jvm.Cond.constantLong "ScriptTypes" (609 : Nat) (64 : Int64)) ∈ lw_all := lw_g (lw_at lw_m9 202 rfl) rfl
theorem q2568 : (Jvm.Cond.constantLong "ScriptTypes" (611 : Nat) (32 : Int64)) ∈ lw_all := lw_g (lw_at lw_m9 203 rfl) rfl
theorem q2569 : (Jvm.Cond.constantLong "ScriptTypes" (613 : Nat) (256 : Int64)) ∈ lw_all := lw_g (lw_at lw_m9 204 rfl) rfl
theorem q2570 : (Jvm.Cond.constantLong "ScriptTypes" (615 : Nat) (128 : Int64)) ∈ lw_all := lw_g (lw_at lw_m9 205 rfl) rfl
theorem q2571 : (Jvm.Cond.constantLong "ScriptTypes" (617 : Nat) (65535 : Int64)) ∈ lw_all := lw_g (lw_at lw_m9 206 rfl) rfl
theorem q2572 : (Jvm.Cond.constantLong "ScriptTypes" (619 : Nat) (-33 : Int64)) ∈ lw_all := lw_g (lw_at lw_m9 207 rfl) rfl
theorem q2573 : (Jvm.Cond.constantLong "ScriptTypes" (621 : Nat) (-129 : Int64)) ∈ lw_all := lw_g (lw_at lw_m9 208 rfl) rfl
theorem q2574 : (Jvm.Cond.methodLink "ScriptTypes" (1122 : Nat) ({ cls := "ScriptTypes$Bag", name := "told", desc := "(I)J" } : Jvm.MethodName)) ∈ lw_all := lw_g (lw_at lw_m9 209 rfl) rfl
theorem q2575 : (Jvm.Cond.instanceMethod ({ cls := "ScriptTypes$Bag", name := "told", desc := "(I)J" } : Jvm.MethodName)) ∈ lw_all := lw_g (lw_at lw_m9 210 rfl) rfl
theorem q2576 : (Jvm.Cond.selects "ScriptTypes$Bag" ({ cls := "ScriptTypes$Bag", name := "told", desc := "(I)J" } : Jvm.MethodName) ({ cls := "ScriptTypes$Bag", name := "told", desc := "(I)J" } : Jvm.MethodName)) ∈ lw_all := lw_g (lw_at lw_m9 211 rfl) rfl
theorem q2577 : (Jvm.Cond.code ({ cls := "ScriptTypes$Bag", name := "told", desc := "(I)J" } : Jvm.MethodName) prog_4_method_18_code (2 : Nat) (Option.some Jvm.ClassFile.FieldType.long)) ∈ lw_all := lw_g (lw_at lw_m9 212 rfl) rfl
theorem q2578 : (Jvm.Cond.constantLong "ScriptTypes$Bag" (63 : Nat) (1023 : Int64)) ∈ lw_all := lw_g (lw_at lw_m9 213 rfl) rfl
theorem q2579 : (Jvm.Cond.methodLink "ScriptTypes$Bag" (47 : Nat) ({ cls := "ScriptTypes$Bag", name := "has", desc := "(I)Z" } : Jvm.MethodName)) ∈ lw_all := lw_g (lw_at lw_m9 214 rfl) rfl
theorem q2580 : (Jvm.Cond.instanceMethod ({ cls := "ScriptTypes$Bag", name := "has", desc := "(I)Z" } : Jvm.MethodName)) ∈ lw_all := lw_g (lw_at lw_m9 215 rfl) rfl
theorem q2581 : (Jvm.Cond.selects "ScriptTypes$Bag" ({ cls := "ScriptTypes$Bag", name := "has", desc := "(I)Z" } : Jvm.MethodName) ({ cls := "ScriptTypes$Bag", name := "has", desc := "(I)Z" } : Jvm.MethodName)) ∈ lw_all := lw_g (lw_at lw_m9 216 rfl) rfl
theorem q2582 : (Jvm.Cond.code ({ cls := "ScriptTypes$Bag", name := "has", desc := "(I)Z" } : Jvm.MethodName) prog_4_method_9_code (2 : Nat) (Option.some Jvm.ClassFile.FieldType.boolean)) ∈ lw_all := lw_g (lw_at lw_m9 217 rfl) rfl
theorem q2583 : (Jvm.Cond.methodLink "ScriptTypes$Bag" (56 : Nat) ({ cls := "ScriptTypes$Bag", name := "number", desc := "()I" } : Jvm.MethodName)) ∈ lw_all := lw_g (lw_at lw_m9 218 rfl) rfl
theorem q2584 : (Jvm.Cond.instanceMethod ({ cls := "ScriptTypes$Bag", name := "number", desc := "()I" } : Jvm.MethodName)) ∈ lw_all := lw_g (lw_at lw_m9 219 rfl) rfl
theorem q2585 : (Jvm.Cond.selects "ScriptTypes$Bag" ({ cls := "ScriptTypes$Bag", name := "number", desc := "()I" } : Jvm.MethodName) ({ cls := "ScriptTypes$Bag", name := "number", desc := "()I" } : Jvm.MethodName)) ∈ lw_all := lw_g (lw_at lw_m9 220 rfl) rfl
theorem q2586 : (Jvm.Cond.code ({ cls := "ScriptTypes$Bag", name := "number", desc := "()I" } : Jvm.MethodName) prog_4_method_14_code (1 : Nat) (Option.some Jvm.ClassFile.FieldType.int)) ∈ lw_all := lw_g (lw_at lw_m9 221 rfl) rfl
theorem q2587 : (Jvm.Cond.methodLink "ScriptTypes$Bag" (60 : Nat) ({ cls := "ScriptTypes$Bag", name := "name", desc := "()I" } : Jvm.MethodName)) ∈ lw_all := lw_g (lw_at lw_m9 222 rfl) rfl
theorem q2588 : (Jvm.Cond.instanceMethod ({ cls := "ScriptTypes$Bag", name := "name", desc := "()I" } : Jvm.MethodName)) ∈ lw_all := lw_g (lw_at lw_m9 223 rfl) rfl
theorem q2589 : (Jvm.Cond.selects "ScriptTypes$Bag" ({ cls := "ScriptTypes$Bag", name := "name", desc := "()I" } : Jvm.MethodName) ({ cls := "ScriptTypes$Bag", name := "name", desc := "()I" } : Jvm.MethodName)) ∈ lw_all := lw_g (lw_at lw_m9 224 rfl) rfl
theorem q2590 : (Jvm.Cond.code ({ cls := "ScriptTypes$Bag", name := "name", desc := "()I" } : Jvm.MethodName) prog_4_method_15_code (1 : Nat) (Option.some Jvm.ClassFile.FieldType.int)) ∈ lw_all := lw_g (lw_at lw_m9 225 rfl) rfl
theorem q2591 : (Jvm.Cond.constantLong "ScriptTypes$Bag" (45 : Nat) (65535 : Int64)) ∈ lw_all := lw_g (lw_at lw_m9 226 rfl) rfl
theorem q2592 : (Jvm.Cond.methodLink "ScriptTypesLaw" (105 : Nat) ({ cls := "ScriptTypes", name := "field", desc := "(IIII)J" } : Jvm.MethodName)) ∈ lw_all := lw_g (lw_at lw_m9 227 rfl) rfl
theorem q2593 : (Jvm.Cond.instanceMethod ({ cls := "ScriptTypes", name := "field", desc := "(IIII)J" } : Jvm.MethodName)) ∈ lw_all := lw_g (lw_at lw_m9 228 rfl) rfl
theorem q2594 : (Jvm.Cond.selects "ScriptTypes" ({ cls := "ScriptTypes", name := "field", desc := "(IIII)J" } : Jvm.MethodName) ({ cls := "ScriptTypes", name := "field", desc := "(IIII)J" } : Jvm.MethodName)) ∈ lw_all := lw_g (lw_at lw_m9 229 rfl) rfl
theorem q2595 : (Jvm.Cond.code ({ cls := "ScriptTypes", name := "field", desc := "(IIII)J" } : Jvm.MethodName) prog_1_method_150_code (6 : Nat) (Option.some Jvm.ClassFile.FieldType.long)) ∈ lw_all := lw_g (lw_at lw_m9 230 rfl) rfl
theorem q2596 : (Jvm.Cond.methodLink "ScriptTypesLaw" (110 : Nat) ({ cls := "ScriptTypes", name := "link", desc := "(III)J" } : Jvm.MethodName)) ∈ lw_all := lw_g (lw_at lw_m9 231 rfl) rfl
theorem q2597 : (Jvm.Cond.instanceMethod ({ cls := "ScriptTypes", name := "link", desc := "(III)J" } : Jvm.MethodName)) ∈ lw_all := lw_g (lw_at lw_m9 232 rfl) rfl
theorem q2598 : (Jvm.Cond.selects "ScriptTypes" ({ cls := "ScriptTypes", name := "link", desc := "(III)J" } : Jvm.MethodName) ({ cls := "ScriptTypes", name := "link", desc := "(III)J" } : Jvm.MethodName)) ∈ lw_all := lw_g (lw_at lw_m9 233 rfl) rfl
theorem q2599 : (Jvm.Cond.code ({ cls := "ScriptTypes", name := "link", desc := "(III)J" } : Jvm.MethodName) prog_1_method_151_code (5 : Nat) (Option.some Jvm.ClassFile.FieldType.long)) ∈ lw_all := lw_g (lw_at lw_m9 234 rfl) rfl
theorem q2600 : (Jvm.Cond.methodLink "ScriptTypesLaw" (114 : Nat) ({ cls := "ScriptTypes", name := "result", desc := "(III)J" } : Jvm.MethodName)) ∈ lw_all := lw_g (lw_at lw_m9 235 rfl) rfl
theorem q2601 : (Jvm.Cond.instanceMethod ({ cls := "ScriptTypes", name := "result", desc := "(III)J" } : Jvm.MethodName)) ∈ lw_all := lw_g (lw_at lw_m9 236 rfl) rfl
theorem q2602 : (Jvm.Cond.selects "ScriptTypes" ({ cls := "ScriptTypes", name := "result", desc := "(III)J" } : Jvm.MethodName) ({ cls := "ScriptTypes", name := "result", desc := "(III)J" } : Jvm.MethodName)) ∈ lw_all := lw_g (lw_at lw_m9 237 rfl) rfl
theorem q2603 : (Jvm.Cond.code ({ cls := "ScriptTypes", name := "result", desc := "(III)J" } : Jvm.MethodName) prog_1_method_152_code (5 : Nat) (Option.some Jvm.ClassFile.FieldType.long)) ∈ lw_all := lw_g (lw_at lw_m9 238 rfl) rfl
theorem q2604 : (Jvm.Cond.methodLink "ScriptTypesLaw" (118 : Nat) ({ cls := "ScriptTypes", name := "warns", desc := "(I)I" } : Jvm.MethodName)) ∈ lw_all := lw_g (lw_at lw_m9 239 rfl) rfl
theorem q2605 : (Jvm.Cond.instanceMethod ({ cls := "ScriptTypes", name := "warns", desc := "(I)I" } : Jvm.MethodName)) ∈ lw_all := lw_g (lw_at lw_m10 0 rfl) rfl
theorem q2606 : (Jvm.Cond.selects "ScriptTypes" ({ cls := "ScriptTypes", name := "warns", desc := "(I)I" } : Jvm.MethodName) ({ cls := "ScriptTypes", name := "warns", desc := "(I)I" } : Jvm.MethodName)) ∈ lw_all := lw_g (lw_at lw_m10 1 rfl) rfl
theorem q2607 : (Jvm.Cond.code ({ cls := "ScriptTypes", name := "warns", desc := "(I)I" } : Jvm.MethodName) prog_1_method_153_code (2 : Nat) (Option.some Jvm.ClassFile.FieldType.int)) ∈ lw_all := lw_g (lw_at lw_m10 2 rfl) rfl
theorem q2608 : (Jvm.Cond.methodLink "ScriptTypesLaw" (54 : Nat) ({ cls := "ScriptTypesLaw", name := "begin", desc := "(LScriptTypes;)I" } : Jvm.MethodName)) ∈ lw_all := lw_g (lw_at lw_m10 3 rfl) rfl
theorem q2609 : (Jvm.Cond.static ({ cls := "ScriptTypesLaw", name := "begin", desc := "(LScriptTypes;)I" } : Jvm.MethodName)) ∈ lw_all := lw_g (lw_at lw_m10 4 rfl) rfl
theorem q2610 : (Jvm.Cond.codeWith ({ cls := "ScriptTypesLaw", name := "begin", desc := "(LScriptTypes;)I" } : Jvm.MethodName) method_3_code (2 : Nat) (Option.some Jvm.ClassFile.FieldType.int) [((0 : Nat), (4 : Nat), (7 : Nat), (12 : Nat))]) ∈ lw_all := lw_g (lw_at lw_m10 5 rfl) rfl
theorem q2611 : (Jvm.Cond.classLink "ScriptTypesLaw" (12 : Nat) "java/lang/IllegalStateException") ∈ lw_all := lw_g (lw_at lw_m10 6 rfl) rfl
theorem q2612 : (Jvm.Cond.methodLink "ScriptTypesLaw" (7 : Nat) ({ cls := "ScriptTypes", name := "begin", desc := "()V" } : Jvm.MethodName)) ∈ lw_all := lw_g (lw_at lw_m10 7 rfl) rfl
theorem q2613 : (Jvm.Cond.instanceMethod ({ cls := "ScriptTypes", name := "begin", desc := "()V" } : Jvm.MethodName)) ∈ lw_all := lw_g (lw_at lw_m10 8 rfl) rfl
theorem q2614 : (Jvm.Cond.selects "ScriptTypes" ({ cls := "ScriptTypes", name := "begin", desc := "()V" } : Jvm.MethodName) ({ cls := "ScriptTypes", name := "begin", desc := "()V" } : Jvm.MethodName)) ∈ lw_all := lw_g (lw_at lw_m10 9 rfl) rfl
theorem q2615 : (Jvm.Cond.code ({ cls := "ScriptTypes", name := "begin", desc := "()V" } : Jvm.MethodName) prog_1_method_47_code (1 : Nat) (Option.none : Option Jvm.ClassFile.FieldType)) ∈ lw_all := lw_g (lw_at lw_m10 10 rfl) rfl
theorem q2616 : (Jvm.Cond.classLink "ScriptTypes" (434 : Nat) "java/lang/IllegalStateException") ∈ lw_all := lw_g (lw_at lw_m10 11 rfl) rfl
theorem q2617 : (Jvm.Cond.instantiable "java/lang/IllegalStateException" (6 : Nat)) ∈ lw_all := lw_g (lw_at lw_m10 12 rfl) rfl
theorem q2618 : (Jvm.Cond.castable "java/lang/IllegalStateException" "java/lang/IllegalStateException") ∈ lw_tbl := lw_at lw_m10 13 rfl
theorem q2619 : (Jvm.Cond.selects "java/lang/IllegalStateException" ({ cls := "java/lang/Throwable", name := "fillInStackTrace", desc := "(I)Ljava/lang/Throwable;" } : Jvm.MethodName) ({ cls := "java/lang/Throwable", name := "fillInStackTrace", desc := "(I)Ljava/lang/Throwable;" } : Jvm.MethodName)) ∈ lw_all := lw_g (lw_at lw_m10 14 rfl) rfl
theorem q2620 : (Jvm.Cond.lays "java/lang/IllegalStateException" "java/lang/Throwable" "cause" "Ljava/lang/Throwable;") ∈ lw_all := lw_g (lw_at lw_m10 15 rfl) rfl
theorem q2621 : (Jvm.Cond.lays "java/lang/IllegalStateException" "java/lang/Throwable" "stackTrace" "[Ljava/lang/StackTraceElement;") ∈ lw_all := lw_g (lw_at lw_m10 16 rfl) rfl
theorem q2622 : (Jvm.Cond.lays "java/lang/IllegalStateException" "java/lang/Throwable" "suppressedExceptions" "Ljava/util/List;") ∈ lw_all := lw_g (lw_at lw_m10 17 rfl) rfl
theorem q2623 : (Jvm.Cond.lays "java/lang/IllegalStateException" "java/lang/Throwable" "detailMessage" "Ljava/lang/String;") ∈ lw_all := lw_g (lw_at lw_m10 18 rfl) rfl
theorem q2624 : (Jvm.Cond.lays "java/lang/IllegalStateException" "java/lang/Throwable" "backtrace" "Ljava/lang/Object;") ∈ lw_all := lw_g (lw_at lw_m10 19 rfl) rfl
theorem q2625 : (Jvm.Cond.methodLink "ScriptTypes" (436 : Nat) ({ cls := "java/lang/IllegalStateException", name := "<init>", desc := "()V" } : Jvm.MethodName)) ∈ lw_all := lw_g (lw_at lw_m10 20 rfl) rfl
theorem q2626 : (Jvm.Cond.instanceMethod ({ cls := "java/lang/IllegalStateException", name := "<init>", desc := "()V" } : Jvm.MethodName)) ∈ lw_all := lw_g (lw_at lw_m10 21 rfl) rfl
theorem q2627 : (Jvm.Cond.code ({ cls := "java/lang/IllegalStateException", name := "<init>", desc := "()V" } : Jvm.MethodName) prog_51_method_1_code (1 : Nat) (Option.none : Option Jvm.ClassFile.FieldType)) ∈ lw_all := lw_g (lw_at lw_m10 22 rfl) rfl
theorem q2628 : (Jvm.Cond.methodLink "java/lang/IllegalStateException" (1 : Nat) ({ cls := "java/lang/RuntimeException", name := "<init>", desc := "()V" } : Jvm.MethodName)) ∈ lw_all := lw_g (lw_at lw_m10 23 rfl) rfl
theorem q2629 : (Jvm.Cond.instanceMethod ({ cls := "java/lang/RuntimeException", name := "<init>", desc := "()V" } : Jvm.MethodName)) ∈ lw_all := lw_g (lw_at lw_m10 24 rfl) rfl
theorem q2630 : (Jvm.Cond.code ({ cls := "java/lang/RuntimeException", name := "<init>", desc := "()V" } : Jvm.MethodName) prog_57_method_1_code (1 : Nat) (Option.none : Option Jvm.ClassFile.FieldType)) ∈ lw_all := lw_g (lw_at lw_m10 25 rfl) rfl
theorem q2631 : (Jvm.Cond.methodLink "java/lang/RuntimeException" (1 : Nat) ({ cls := "java/lang/Exception", name := "<init>", desc := "()V" } : Jvm.MethodName)) ∈ lw_all := lw_g (lw_at lw_m10 26 rfl) rfl
theorem q2632 : (Jvm.Cond.instanceMethod ({ cls := "java/lang/Exception", name := "<init>", desc := "()V" } : Jvm.MethodName)) ∈ lw_all := lw_g (lw_at lw_m10 27 rfl) rfl
theorem q2633 : (Jvm.Cond.code ({ cls := "java/lang/Exception", name := "<init>", desc := "()V" } : Jvm.MethodName) prog_49_method_1_code (1 : Nat) (Option.none : Option Jvm.ClassFile.FieldType)) ∈ lw_all := lw_g (lw_at lw_m10 28 rfl) rfl
theorem q2634 : (Jvm.Cond.methodLink "java/lang/Exception" (1 : Nat) ({ cls := "java/lang/Throwable", name := "<init>", desc := "()V" } : Jvm.MethodName)) ∈ lw_all := lw_g (lw_at lw_m10 29 rfl) rfl
theorem q2635 : (Jvm.Cond.lays "java/lang/IllegalStateException" "java/lang/Throwable" "depth" "I") ∈ lw_all := lw_g (lw_at lw_m10 30 rfl) rfl
theorem q2636 : (Jvm.Cond.superclass "java/lang/IllegalStateException" "java/lang/RuntimeException") ∈ lw_all := lw_g (lw_at lw_m10 31 rfl) rfl
theorem q2637 : (Jvm.Cond.methodLink "ScriptTypes" (437 : Nat) ({ cls := "ScriptTypes", name := "firstObjects", desc := "()V" } : Jvm.MethodName)) ∈ lw_all := lw_g (lw_at lw_m10 32 rfl) rfl
theorem q2638 : (Jvm.Cond.privateMethod ({ cls := "ScriptTypes", name := "firstObjects", desc := "()V" } : Jvm.MethodName)) ∈ lw_tbl := lw_at lw_m10 33 rfl
theorem q2639 : (Jvm.Cond.instanceMethod ({ cls := "ScriptTypes", name := "firstObjects", desc := "()V" } : Jvm.MethodName)) ∈ lw_all := lw_g (lw_at lw_m10 34 rfl) rfl
theorem q2640 : (Jvm.Cond.code ({ cls := "ScriptTypes", name := "firstObjects", desc := "()V" } : Jvm.MethodName) prog_1_method_27_code (2 : Nat) (Option.none : Option Jvm.ClassFile.FieldType)) ∈ lw_all := lw_g (lw_at lw_m10 35 rfl) rfl
theorem q2641 : (Jvm.Cond.methodLink "ScriptTypes" (362 : Nat) ({ cls := "ScriptTypes", name := "born", desc := "(IIII)I" } : Jvm.MethodName)) ∈ lw_all := lw_g (lw_at lw_m10 36 rfl) rfl
theorem q2642 : (Jvm.Cond.privateMethod ({ cls := "ScriptTypes", name := "born", desc := "(IIII)I" } : Jvm.MethodName)) ∈ lw_tbl := lw_at lw_m10 37 rfl
theorem q2643 : (Jvm.Cond.instanceMethod ({ cls := "ScriptTypes", name := "born", desc := "(IIII)I" } : Jvm.MethodName)) ∈ lw_all := lw_g (lw_at lw_m10 38 rfl) rfl
theorem q2644 : (Jvm.Cond.code ({ cls := "ScriptTypes", name := "born", desc := "(IIII)I" } : Jvm.MethodName) prog_1_method_20_code (6 : Nat) (Option.some Jvm.ClassFile.FieldType.int)) ∈ lw_all := lw_g (lw_at lw_m10 39 rfl) rfl
theorem q2645 : (Jvm.Cond.methodLink "ScriptTypes" (358 : Nat) ({ cls := "ScriptTypes", name := "setOwn", desc := "(IIII)V" } : Jvm.MethodName)) ∈ lw_all := lw_g (lw_at lw_m10 40 rfl) rfl
theorem q2646 : (Jvm.Cond.privateMethod ({ cls := "ScriptTypes", name := "setOwn", desc := "(IIII)V" } : Jvm.MethodName)) ∈ lw_tbl := lw_at lw_m10 41 rfl
theorem q2647 : (Jvm.Cond.instanceMethod ({ cls := "ScriptTypes", name := "setOwn", desc := "(IIII)V" } : Jvm.MethodName)) ∈ lw_all := lw_g (lw_at lw_m10 42 rfl) rfl
theorem q2648 : (Jvm.Cond.code ({ cls := "ScriptTypes", name := "setOwn", desc := "(IIII)V" } : Jvm.MethodName) prog_1_method_24_code (6 : Nat) (Option.none : Option Jvm.ClassFile.FieldType)) ∈ lw_all := lw_g (lw_at lw_m10 43 rfl) rfl
theorem q2649 : (Jvm.Cond.methodLink "ScriptTypes" (346 : Nat) ({ cls := "ScriptTypes", name := "own", desc := "(II)I" } : Jvm.MethodName)) ∈ lw_all := lw_g (lw_at lw_m10 44 rfl) rfl
theorem q2650 : (Jvm.Cond.privateMethod ({ cls := "ScriptTypes", name := "own", desc := "(II)I" } : Jvm.MethodName)) ∈ lw_tbl := lw_at lw_m10 45 rfl
theorem q2651 : (Jvm.Cond.instanceMethod ({ cls := "ScriptTypes", name := "own", desc := "(II)I" } : Jvm.MethodName)) ∈ lw_all := lw_g (lw_at lw_m10 46 rfl) rfl
theorem q2652 : (Jvm.Cond.code ({ cls := "ScriptTypes", name := "own", desc := "(II)I" } : Jvm.MethodName) prog_1_method_22_code (4 : Nat) (Option.some Jvm.ClassFile.FieldType.int)) ∈ lw_all := lw_g (lw_at lw_m10 47 rfl) rfl
theorem q2653 : (Jvm.Cond.methodLink "ScriptTypes" (366 : Nat) ({ cls := "ScriptTypes", name := "asNative", desc := "(II)V" } : Jvm.MethodName)) ∈ lw_all := lw_g (lw_at lw_m10 48 rfl) rfl
theorem q2654 : (Jvm.Cond.privateMethod ({ cls := "ScriptTypes", name := "asNative", desc := "(II)V" } : Jvm.MethodName)) ∈ lw_tbl := lw_at lw_m10 49 rfl
theorem q2655 : (Jvm.Cond.instanceMethod ({ cls := "ScriptTypes", name := "asNative", desc := "(II)V" } : Jvm.MethodName)) ∈ lw_all := lw_g (lw_at lw_m10 50 rfl) rfl
theorem q2656 : (Jvm.Cond.code ({ cls := "ScriptTypes", name := "asNative", desc := "(II)V" } : Jvm.MethodName) prog_1_method_26_code (3 : Nat) (Option.none : Option Jvm.ClassFile.FieldType)) ∈ lw_all := lw_g (lw_at lw_m10 51 rfl) rfl
theorem q2657 : (Jvm.Cond.methodLink "ScriptTypes" (446 : Nat) ({ cls := "ScriptTypes", name := "comes", desc := "(IIIII)V" } : Jvm.MethodName)) ∈ lw_all := lw_g (lw_at lw_m10 52 rfl) rfl
theorem q2658 : (Jvm.Cond.privateMethod ({ cls := "ScriptTypes", name := "comes", desc := "(IIIII)V" } : Jvm.MethodName)) ∈ lw_tbl := lw_at lw_m10 53 rfl
theorem q2659 : (Jvm.Cond.instanceMethod ({ cls := "ScriptTypes", name := "comes", desc := "(IIIII)V" } : Jvm.MethodName)) ∈ lw_all := lw_g (lw_at lw_m10 54 rfl) rfl
theorem q2660 : (Jvm.Cond.code ({ cls := "ScriptTypes", name := "comes", desc := "(IIIII)V" } : Jvm.MethodName) prog_1_method_48_code (6 : Nat) (Option.none : Option Jvm.ClassFile.FieldType)) ∈ lw_all := lw_g (lw_at lw_m10 55 rfl) rfl
theorem q2661 : (Jvm.Cond.methodLink "ScriptTypesLaw" (63 : Nat) ({ cls := "ScriptTypesLaw", name := "run", desc := "(LScriptTypes;I[J)I" } : Jvm.MethodName)) ∈ lw_all := lw_g (lw_at lw_m10 56 rfl) rfl
theorem q2662 : (Jvm.Cond.static ({ cls := "ScriptTypesLaw", name := "run", desc := "(LScriptTypes;I[J)I" } : Jvm.MethodName)) ∈ lw_all := lw_g (lw_at lw_m10 57 rfl) rfl
theorem q2663 : (Jvm.Cond.codeWith ({ cls := "ScriptTypesLaw", name := "run", desc := "(LScriptTypes;I[J)I" } : Jvm.MethodName) method_4_code (4 : Nat) (Option.some Jvm.ClassFile.FieldType.int) [((0 : Nat), (9 : Nat), (12 : Nat), (18 : Nat)), ((0 : Nat), (9 : Nat), (15 : Nat), (12 : Nat))]) ∈ lw_all := lw_g (lw_at lw_m10 58 rfl) rfl
theorem q2664 : (Jvm.Cond.classLink "ScriptTypesLaw" (18 : Nat) "java/lang/IllegalArgumentException") ∈ lw_all := lw_g (lw_at lw_m10 59 rfl) rfl
theorem q2665 : (Jvm.Cond.methodLink "ScriptTypesLaw" (14 : Nat) ({ cls := "ScriptTypes", name := "run", desc := "(I)I" } : Jvm.MethodName)) ∈ lw_all := lw_g (lw_at lw_m10 60 rfl) rfl
theorem q2666 : (Jvm.Cond.instanceMethod ({ cls := "ScriptTypes", name := "run", desc := "(I)I" } : Jvm.MethodName)) ∈ lw_all := lw_g (lw_at lw_m10 61 rfl) rfl
theorem q2667 : (Jvm.Cond.selects "ScriptTypes" ({ cls := "ScriptTypes", name := "run", desc := "(I)I" } : Jvm.MethodName) ({ cls := "ScriptTypes", name := "run", desc := "(I)I" } : Jvm.MethodName)) ∈ lw_all := lw_g (lw_at lw_m10 62 rfl) rfl
theorem q2668 : (Jvm.Cond.codeWith ({ cls := "ScriptTypes", name := "run", desc := "(I)I" } : Jvm.MethodName) prog_1_method_49_code (8 : Nat) (Option.some Jvm.ClassFile.FieldType.int) [((93 : Nat), (99 : Nat), (102 : Nat), (141 : Nat)), ((93 : Nat), (99 : Nat), (111 : Nat), (134 : Nat))]) ∈ lw_all := lw_g (lw_at lw_m10 63 rfl) rfl
theorem q2669 : (Jvm.Cond.classLink "ScriptTypes" (451 : Nat) "java/lang/IllegalArgumentException") ∈ lw_all := lw_g (lw_at lw_m10 64 rfl) rfl
theorem q2670 : (Jvm.Cond.instantiable "java/lang/IllegalArgumentException" (6 : Nat)) ∈ lw_all := lw_g (lw_at lw_m10 65 rfl) rfl
theorem q2671 : (Jvm.Cond.castable "java/lang/IllegalArgumentException" "java/lang/IllegalArgumentException") ∈ lw_tbl := lw_at lw_m10 66 rfl
theorem q2672 : (Jvm.Cond.selects "java/lang/IllegalArgumentException" ({ cls := "java/lang/Throwable", name := "fillInStackTrace", desc := "(I)Ljava/lang/Throwable;" } : Jvm.MethodName) ({ cls := "java/lang/Throwable", name := "fillInStackTrace", desc := "(I)Ljava/lang/Throwable;" } : Jvm.MethodName)) ∈ lw_all := lw_g (lw_at lw_m10 67 rfl) rfl
theorem q2673 : (Jvm.Cond.lays "java/lang/IllegalArgumentException" "java/lang/Throwable" "cause" "Ljava/lang/Throwable;") ∈ lw_all := lw_g (lw_at lw_m10 68 rfl) rfl
theorem q2674 : (Jvm.Cond.lays "java/lang/IllegalArgumentException" "java/lang/Throwable" "stackTrace" "[Ljava/lang/StackTraceElement;") ∈ lw_all := lw_g (lw_at lw_m10 69 rfl) rfl
theorem q2675 : (Jvm.Cond.lays "java/lang/IllegalArgumentException" "java/lang/Throwable" "suppressedExceptions" "Ljava/util/List;") ∈ lw_all := lw_g (lw_at lw_m10 70 rfl) rfl
theorem q2676 : (Jvm.Cond.lays "java/lang/IllegalArgumentException" "java/lang/Throwable" "detailMessage" "Ljava/lang/String;") ∈ lw_all := lw_g (lw_at lw_m10 71 rfl) rfl
theorem q2677 : (Jvm.Cond.lays "java/lang/IllegalArgumentException" "java/lang/Throwable" "backtrace" "Ljava/lang/Object;") ∈ lw_all := lw_g (lw_at lw_m10 72 rfl) rfl
theorem q2678 : (Jvm.Cond.methodLink "ScriptTypes" (453 : Nat) ({ cls := "java/lang/IllegalArgumentException", name := "<init>", desc := "()V" } : Jvm.MethodName)) ∈ lw_all := lw_g (lw_at lw_m10 73 rfl) rfl
theorem q2679 : (Jvm.Cond.instanceMethod ({ cls := "java/lang/IllegalArgumentException", name := "<init>", desc := "()V" } : Jvm.MethodName)) ∈ lw_all := lw_g (lw_at lw_m10 74 rfl) rfl
theorem q2680 : (Jvm.Cond.code ({ cls := "java/lang/IllegalArgumentException", name := "<init>", desc := "()V" } : Jvm.MethodName) prog_50_method_1_code (1 : Nat) (Option.none : Option Jvm.ClassFile.FieldType)) ∈ lw_all := lw_g (lw_at lw_m10 75 rfl) rfl
theorem q2681 : (Jvm.Cond.methodLink "java/lang/IllegalArgumentException" (1 : Nat) ({ cls := "java/lang/RuntimeException", name := "<init>", desc := "()V" } : Jvm.MethodName)) ∈ lw_all := lw_g (lw_at lw_m10 76 rfl) rfl
theorem q2682 : (Jvm.Cond.lays "java/lang/IllegalArgumentException" "java/lang/Throwable" "depth" "I") ∈ lw_all := lw_g (lw_at lw_m10 77 rfl) rfl
theorem q2683 : (Jvm.Cond.superclass "java/lang/IllegalArgumentException" "java/lang/RuntimeException") ∈ lw_all := lw_g (lw_at lw_m10 78 rfl) rfl
theorem q2684 : (Jvm.Cond.methodLink "ScriptTypes" (454 : Nat) ({ cls := "ScriptTypes", name := "step", desc := "(I)V" } : Jvm.MethodName)) ∈ lw_all := lw_g (lw_at lw_m10 79 rfl) rfl
theorem q2685 : (Jvm.Cond.privateMethod ({ cls := "ScriptTypes", name := "step", desc := "(I)V" } : Jvm.MethodName)) ∈ lw_tbl := lw_at lw_m10 80 rfl
theorem q2686 : (Jvm.Cond.instanceMethod ({ cls := "ScriptTypes", name := "step", desc := "(I)V" } : Jvm.MethodName)) ∈ lw_all := lw_g (lw_at lw_m10 81 rfl) rfl
theorem q2687 : (Jvm.Cond.code ({ cls := "ScriptTypes", name := "step", desc := "(I)V" } : Jvm.MethodName) prog_1_method_56_code (7 : Nat) (Option.none : Option Jvm.ClassFile.FieldType)) ∈ lw_all := lw_g (lw_at lw_m10 82 rfl) rfl
theorem q2688 : (Jvm.Cond.methodLink "ScriptTypes" (476 : Nat) ({ cls := "ScriptTypes", name := "push", desc := "(II)V" } : Jvm.MethodName)) ∈ lw_all := lw_g (lw_at lw_m10 83 rfl) rfl
theorem q2689 : (Jvm.Cond.privateMethod ({ cls := "ScriptTypes", name := "push", desc := "(II)V" } : Jvm.MethodName)) ∈ lw_tbl := lw_at lw_m10 84 rfl
theorem q2690 : (Jvm.Cond.instanceMethod ({ cls := "ScriptTypes", name := "push", desc := "(II)V" } : Jvm.MethodName)) ∈ lw_all := lw_g (lw_at lw_m10 85 rfl) rfl
theorem q2691 : (Jvm.Cond.code ({ cls := "ScriptTypes", name := "push", desc := "(II)V" } : Jvm.MethodName) prog_1_method_53_code (3 : Nat) (Option.none : Option Jvm.ClassFile.FieldType)) ∈ lw_all := lw_g (lw_at lw_m10 86 rfl) rfl
theorem q2692 : (Jvm.Cond.methodLink "ScriptTypes" (479 : Nat) ({ cls := "ScriptTypes", name := "scopeAt", desc := "(II)I" } : Jvm.MethodName)) ∈ lw_all := lw_g (lw_at lw_m10 87 rfl) rfl
theorem q2693 : (Jvm.Cond.privateMethod ({ cls := "ScriptTypes", name := "scopeAt", desc := "(II)I" } : Jvm.MethodName)) ∈ lw_tbl := lw_at lw_m10 88 rfl
theorem q2694 : (Jvm.Cond.instanceMethod ({ cls := "ScriptTypes", name := "scopeAt", desc := "(II)I" } : Jvm.MethodName)) ∈ lw_all := lw_g (lw_at lw_m10 89 rfl) rfl
theorem q2695 : (Jvm.Cond.code ({ cls := "ScriptTypes", name := "scopeAt", desc := "(II)I" } : Jvm.MethodName) prog_1_method_60_code (5 : Nat) (Option.some Jvm.ClassFile.FieldType.int)) ∈ lw_all := lw_g (lw_at lw_m10 90 rfl) rfl
theorem q2696 : (Jvm.Cond.methodLink "ScriptTypes" (482 : Nat) ({ cls := "ScriptTypes", name := "error", desc := "(I)LScriptTypes$Thrown;" } : Jvm.MethodName)) ∈ lw_all := lw_g (lw_at lw_m10 91 rfl) rfl
theorem q2697 : (Jvm.Cond.privateMethod ({ cls := "ScriptTypes", name := "error", desc := "(I)LScriptTypes$Thrown;" } : Jvm.MethodName)) ∈ lw_tbl := lw_at lw_m10 92 rfl
theorem q2698 : (Jvm.Cond.instanceMethod ({ cls := "ScriptTypes", name := "error", desc := "(I)LScriptTypes$Thrown;" } : Jvm.MethodName)) ∈ lw_all := lw_g (lw_at lw_m10 93 rfl) rfl
theorem q2699 : (Jvm.Cond.code ({ cls := "ScriptTypes", name := "error", desc := "(I)LScriptTypes$Thrown;" } : Jvm.MethodName) prog_1_method_51_code (2 : Nat) (Option.some (Jvm.ClassFile.FieldType.object "ScriptTypes$Thrown"))) ∈ lw_all := lw_g (lw_at lw_m10 94 rfl) rfl
theorem q2700 : (Jvm.Cond.methodLink "ScriptTypes" (466 : Nat) ({ cls := "ScriptTypes", name := "raises", desc := "(II)LScriptTypes$Thrown;" } : Jvm.MethodName)) ∈ lw_all := lw_g (lw_at lw_m10 95 rfl) rfl
theorem q2701 : (Jvm.Cond.privateMethod ({ cls := "ScriptTypes", name := "raises", desc := "(II)LScriptTypes$Thrown;" } : Jvm.MethodName)) ∈ lw_tbl := lw_at lw_m10 96 rfl
theorem q2702 : (Jvm.Cond.instanceMethod ({ cls := "ScriptTypes", name := "raises", desc := "(II)LScriptTypes$Thrown;" } : Jvm.MethodName)) ∈ lw_all := lw_g (lw_at lw_m10 97 rfl) rfl
theorem q2703 : (Jvm.Cond.code ({ cls := "ScriptTypes", name := "raises", desc := "(II)LScriptTypes$Thrown;" } : Jvm.MethodName) prog_1_method_50_code (3 : Nat) (Option.some (Jvm.ClassFile.FieldType.object "ScriptTypes$Thrown"))) ∈ lw_all := lw_g (lw_at lw_m10 98 rfl) rfl
theorem q2704 : (Jvm.Cond.methodLink "ScriptTypes" (409 : Nat) ({ cls := "ScriptTypes", name := "typeOf", desc := "(II)I" } : Jvm.MethodName)) ∈ lw_all := lw_g (lw_at lw_m10 99 rfl) rfl
theorem q2705 : (Jvm.Cond.privateMethod ({ cls := "ScriptTypes", name := "typeOf", desc := "(II)I" } : Jvm.MethodName)) ∈ lw_tbl := lw_at lw_m10 100 rfl
theorem q2706 : (Jvm.Cond.instanceMethod ({ cls := "ScriptTypes", name := "typeOf", desc := "(II)I" } : Jvm.MethodName)) ∈ lw_all := lw_g (lw_at lw_m10 101 rfl) rfl
theorem q2707 : (Jvm.Cond.code ({ cls := "ScriptTypes", name := "typeOf", desc := "(II)I" } : Jvm.MethodName) prog_1_method_39_code (3 : Nat) (Option.some Jvm.ClassFile.FieldType.int)) ∈ lw_all := lw_g (lw_at lw_m10 102 rfl) rfl
theorem q2708 : (Jvm.Cond.methodLink "ScriptTypes" (486 : Nat) ({ cls := "ScriptTypes", name := "sitePair", desc := "(I)I" } : Jvm.MethodName)) ∈ lw_all := lw_g (lw_at lw_m10 103 rfl) rfl
theorem q2709 : (Jvm.Cond.privateMethod ({ cls := "ScriptTypes", name := "sitePair", desc := "(I)I" } : Jvm.MethodName)) ∈ lw_tbl := lw_at lw_m10 104 rfl
theorem q2710 : (Jvm.Cond.instanceMethod ({ cls := "ScriptTypes", name := "sitePair", desc := "(I)I" } : Jvm.MethodName)) ∈ lw_all := lw_g (lw_at lw_m10 105 rfl) rfl
theorem q2711 : (Jvm.Cond.code ({ cls := "ScriptTypes", name := "sitePair", desc := "(I)I" } : Jvm.MethodName) prog_1_method_62_code (2 : Nat) (Option.some Jvm.ClassFile.FieldType.int)) ∈ lw_all := lw_g (lw_at lw_m10 106 rfl) rfl
theorem q2712 : (Jvm.Cond.methodLink "ScriptTypes" (489 : Nat) ({ cls := "ScriptTypes", name := "array", desc := "(I)I" } : Jvm.MethodName)) ∈ lw_all := lw_g (lw_at lw_m10 107 rfl) rfl
theorem q2713 : (Jvm.Cond.privateMethod ({ cls := "ScriptTypes", name := "array", desc := "(I)I" } : Jvm.MethodName)) ∈ lw_tbl := lw_at lw_m10 108 rfl
theorem q2714 : (Jvm.Cond.instanceMethod ({ cls := "ScriptTypes", name := "array", desc := "(I)I" } : Jvm.MethodName)) ∈ lw_all := lw_g (lw_at lw_m10 109 rfl) rfl
theorem q2715 : (Jvm.Cond.code ({ cls := "ScriptTypes", name := "array", desc := "(I)I" } : Jvm.MethodName) prog_1_method_63_code (3 : Nat) (Option.some Jvm.ClassFile.FieldType.int)) ∈ lw_all := lw_g (lw_at lw_m10 110 rfl) rfl
theorem q2716 : (Jvm.Cond.methodLink "ScriptTypes" (492 : Nat) ({ cls := "ScriptTypes", name := "closure", desc := "(II)I" } : Jvm.MethodName)) ∈ lw_all := lw_g (lw_at lw_m10 111 rfl) rfl
theorem q2717 : (Jvm.Cond.privateMethod ({ cls := "ScriptTypes", name := "closure", desc := "(II)I" } : Jvm.MethodName)) ∈ lw_tbl := lw_at lw_m10 112 rfl
theorem q2718 : (Jvm.Cond.instanceMethod ({ cls := "ScriptTypes", name := "closure", desc := "(II)I" } : Jvm.MethodName)) ∈ lw_all := lw_g (lw_at lw_m10 113 rfl) rfl
theorem q2719 : (Jvm.Cond.code ({ cls := "ScriptTypes", name := "closure", desc := "(II)I" } : Jvm.MethodName) prog_1_method_64_code (5 : Nat) (Option.some Jvm.ClassFile.FieldType.int)) ∈ lw_all := lw_g (lw_at lw_m10 114 rfl) rfl
theorem q2720 : (Jvm.Cond.methodLink "ScriptTypes" (538 : Nat) ({ cls := "ScriptTypes", name := "scopePair", desc := "(I)I" } : Jvm.MethodName)) ∈ lw_all := lw_g (lw_at lw_m10 115 rfl) rfl
theorem q2721 : (Jvm.Cond.privateMethod ({ cls := "ScriptTypes", name := "scopePair", desc := "(I)I" } : Jvm.MethodName)) ∈ lw_tbl := lw_at lw_m10 116 rfl
theorem q2722 : (Jvm.Cond.instanceMethod ({ cls := "ScriptTypes", name := "scopePair", desc := "(I)I" } : Jvm.MethodName)) ∈ lw_all := lw_g (lw_at lw_m10 117 rfl) rfl
theorem q2723 : (Jvm.Cond.code ({ cls := "ScriptTypes", name := "scopePair", desc := "(I)I" } : Jvm.MethodName) prog_1_method_61_code (2 : Nat) (Option.some Jvm.ClassFile.FieldType.int)) ∈ lw_all := lw_g (lw_at lw_m10 118 rfl) rfl
theorem q2724 : (Jvm.Cond.methodLink "ScriptTypes" (495 : Nat) ({ cls := "ScriptTypes", name := "getOf", desc := "()V" } : Jvm.MethodName)) ∈ lw_all := lw_g (lw_at lw_m10 119 rfl) rfl
theorem q2725 : (Jvm.Cond.privateMethod ({ cls := "ScriptTypes", name := "getOf", desc := "()V" } : Jvm.MethodName)) ∈ lw_tbl := lw_at lw_m10 120 rfl
theorem q2726 : (Jvm.Cond.instanceMethod ({ cls := "ScriptTypes", name := "getOf", desc := "()V" } : Jvm.MethodName)) ∈ lw_all := lw_g (lw_at lw_m10 121 rfl) rfl
theorem q2727 : (Jvm.Cond.code ({ cls := "ScriptTypes", name := "getOf", desc := "()V" } : Jvm.MethodName) prog_1_method_66_code (4 : Nat) (Option.none : Option Jvm.ClassFile.FieldType)) ∈ lw_all := lw_g (lw_at lw_m10 122 rfl) rfl
theorem q2728 : (Jvm.Cond.methodLink "ScriptTypes" (541 : Nat) ({ cls := "ScriptTypes", name := "textOf", desc := "(II)I" } : Jvm.MethodName)) ∈ lw_all := lw_g (lw_at lw_m10 123 rfl) rfl
theorem q2729 : (Jvm.Cond.privateMethod ({ cls := "ScriptTypes", name := "textOf", desc := "(II)I" } : Jvm.MethodName)) ∈ lw_tbl := lw_at lw_m10 124 rfl
theorem q2730 : (Jvm.Cond.instanceMethod ({ cls := "ScriptTypes", name := "textOf", desc := "(II)I" } : Jvm.MethodName)) ∈ lw_all := lw_g (lw_at lw_m10 125 rfl) rfl
theorem q2731 : (Jvm.Cond.code ({ cls := "ScriptTypes", name := "textOf", desc := "(II)I" } : Jvm.MethodName) prog_1_method_33_code (3 : Nat) (Option.some Jvm.ClassFile.FieldType.int)) ∈ lw_all := lw_g (lw_at lw_m10 126 rfl) rfl
theorem q2732 : (Jvm.Cond.methodLink "ScriptTypes" (383 : Nat) ({ cls := "ScriptTypes", name := "putValue", desc := "(II)V" } : Jvm.MethodName)) ∈ lw_all := lw_g (lw_at lw_m10 127 rfl) rfl
theorem q2733 : (Jvm.Cond.privateMethod ({ cls := "ScriptTypes", name := "putValue", desc := "(II)V" } : Jvm.MethodName)) ∈ lw_tbl := lw_at lw_m10 128 rfl
theorem q2734 : (Jvm.Cond.instanceMethod ({ cls := "ScriptTypes", name := "putValue", desc := "(II)V" } : Jvm.MethodName)) ∈ lw_all := lw_g (lw_at lw_m10 129 rfl) rfl
theorem q2735 : (Jvm.Cond.code ({ cls := "ScriptTypes", name := "putValue", desc := "(II)V" } : Jvm.MethodName) prog_1_method_32_code (3 : Nat) (Option.none : Option Jvm.ClassFile.FieldType)) ∈ lw_all := lw_g (lw_at lw_m10 130 rfl) rfl
theorem q2736 : (Jvm.Cond.methodLink "ScriptTypes" (377 : Nat) ({ cls := "ScriptTypes", name := "putDigits", desc := "(I)V" } : Jvm.MethodName)) ∈ lw_all := lw_g (lw_at lw_m10 131 rfl) rfl
theorem q2737 : (Jvm.Cond.methodLink "ScriptTypes" (380 : Nat) ({ cls := "ScriptTypes", name := "putText", desc := "(I)V" } : Jvm.MethodName)) ∈ lw_all := lw_g (lw_at lw_m10 132 rfl) rfl
theorem q2738 : (Jvm.Cond.privateMethod ({ cls := "ScriptTypes", name := "putText", desc := "(I)V" } : Jvm.MethodName)) ∈ lw_tbl := lw_at lw_m10 133 rfl
theorem q2739 : (Jvm.Cond.instanceMethod ({ cls := "ScriptTypes", name := "putText", desc := "(I)V" } : Jvm.MethodName)) ∈ lw_all := lw_g (lw_at lw_m10 134 rfl) rfl
theorem q2740 : (Jvm.Cond.code ({ cls := "ScriptTypes", name := "putText", desc := "(I)V" } : Jvm.MethodName) prog_1_method_4_code (3 : Nat) (Option.none : Option Jvm.ClassFile.FieldType)) ∈ lw_all := lw_g (lw_at lw_m10 135 rfl) rfl
theorem q2741 : (Jvm.Cond.methodLink "ScriptTypes" (386 : Nat) ({ cls := "ScriptTypes", name := "string", desc := "()I" } : Jvm.MethodName)) ∈ lw_all := lw_g (lw_at lw_m10 136 rfl) rfl
theorem q2742 : (Jvm.Cond.privateMethod ({ cls := "ScriptTypes", name := "string", desc := "()I" } : Jvm.MethodName)) ∈ lw_tbl := lw_at lw_m10 137 rfl
theorem q2743 : (Jvm.Cond.instanceMethod ({ cls := "ScriptTypes", name := "string", desc := "()I" } : Jvm.MethodName)) ∈ lw_all := lw_g (lw_at lw_m10 138 rfl) rfl
theorem q2744 : (Jvm.Cond.code ({ cls := "ScriptTypes", name := "string", desc := "()I" } : Jvm.MethodName) prog_1_method_31_code (3 : Nat) (Option.some Jvm.ClassFile.FieldType.int)) ∈ lw_all := lw_g (lw_at lw_m10 139 rfl) rfl
theorem q2745 : (Jvm.Cond.methodLink "ScriptTypes" (369 : Nat) ({ cls := "java/lang/Math", name := "min", desc := "(II)I" } : Jvm.MethodName)) ∈ lw_all := lw_g (lw_at lw_m10 140 rfl) rfl
theorem q2746 : (Jvm.Cond.methodLink "ScriptTypes" (374 : Nat) ({ cls := "ScriptTypes$Texts", name := "find", desc := "([BI)I" } : Jvm.MethodName)) ∈ lw_all := lw_g (lw_at lw_m10 141 rfl) rfl
theorem q2747 : (Jvm.Cond.methodLink "ScriptTypes" (544 : Nat) ({ cls := "ScriptTypes", name := "find", desc := "(II)I" } : Jvm.MethodName)) ∈ lw_all := lw_g (lw_at lw_m10 142 rfl) rfl
theorem q2748 : (Jvm.Cond.privateMethod ({ cls := "ScriptTypes", name := "find", desc := "(II)I" } : Jvm.MethodName)) ∈ lw_tbl := lw_at lw_m10 143 rfl
theorem q2749 : (Jvm.Cond.instanceMethod ({ cls := "ScriptTypes", name := "find", desc := "(II)I" } : Jvm.MethodName)) ∈ lw_all := lw_g (lw_at lw_m10 144 rfl) rfl
theorem q2750 : (Jvm.Cond.code ({ cls := "ScriptTypes", name := "find", desc := "(II)I" } : Jvm.MethodName) prog_1_method_23_code (5 : Nat) (Option.some Jvm.ClassFile.FieldType.int)) ∈ lw_all := lw_g (lw_at lw_m10 145 rfl) rfl
theorem q2751 : (Jvm.Cond.methodLink "ScriptTypes" (546 : Nat) ({ cls := "ScriptTypes", name := "givesProperty", desc := "(I)V" } : Jvm.MethodName)) ∈ lw_all := lw_g (lw_at lw_m10 146 rfl) rfl
theorem q2752 : (Jvm.Cond.privateMethod ({ cls := "ScriptTypes", name := "givesProperty", desc := "(I)V" } : Jvm.MethodName)) ∈ lw_tbl := lw_at lw_m10 147 rfl
theorem q2753 : (Jvm.Cond.instanceMethod ({ cls := "ScriptTypes", name := "givesProperty", desc := "(I)V" } : Jvm.MethodName)) ∈ lw_all := lw_g (lw_at lw_m10 148 rfl) rfl
theorem q2754 : (Jvm.Cond.code ({ cls := "ScriptTypes", name := "givesProperty", desc := "(I)V" } : Jvm.MethodName) prog_1_method_65_code (2 : Nat) (Option.none : Option Jvm.ClassFile.FieldType)) ∈ lw_all := lw_g (lw_at lw_m10 149 rfl) rfl
theorem q2755 : (Jvm.Cond.methodLink "ScriptTypes" (395 : Nat) ({ cls := "ScriptTypes", name := "gives", desc := "(II)V" } : Jvm.MethodName)) ∈ lw_all := lw_g (lw_at lw_m10 150 rfl) rfl
theorem q2756 : (Jvm.Cond.privateMethod ({ cls := "ScriptTypes", name := "gives", desc := "(II)V" } : Jvm.MethodName)) ∈ lw_tbl := lw_at lw_m10 151 rfl
theorem q2757 : (Jvm.Cond.instanceMethod ({ cls := "ScriptTypes", name := "gives", desc := "(II)V" } : Jvm.MethodName)) ∈ lw_all := lw_g (lw_at lw_m10 152 rfl) rfl
theorem q2758 : (Jvm.Cond.code ({ cls := "ScriptTypes", name := "gives", desc := "(II)V" } : Jvm.MethodName) prog_1_method_34_code (3 : Nat) (Option.none : Option Jvm.ClassFile.FieldType)) ∈ lw_all := lw_g (lw_at lw_m10 153 rfl) rfl
theorem q2759 : (Jvm.Cond.methodLink "ScriptTypes" (508 : Nat) ({ cls := "ScriptTypes", name := "leaves", desc := "(I)V" } : Jvm.MethodName)) ∈ lw_all := lw_g (lw_at lw_m10 154 rfl) rfl
theorem q2760 : (Jvm.Cond.privateMethod ({ cls := "ScriptTypes", name := "leaves", desc := "(I)V" } : Jvm.MethodName)) ∈ lw_tbl := lw_at lw_m10 155 rfl
theorem q2761 : (Jvm.Cond.instanceMethod ({ cls := "ScriptTypes", name := "leaves", desc := "(I)V" } : Jvm.MethodName)) ∈ lw_all := lw_g (lw_at lw_m10 156 rfl) rfl
theorem q2762 : (Jvm.Cond.code ({ cls := "ScriptTypes", name := "leaves", desc := "(I)V" } : Jvm.MethodName) prog_1_method_54_code (2 : Nat) (Option.none : Option Jvm.ClassFile.FieldType)) ∈ lw_all := lw_g (lw_at lw_m10 157 rfl) rfl
theorem q2763 : (Jvm.Cond.methodLink "ScriptTypes" (498 : Nat) ({ cls := "ScriptTypes", name := "putIn", desc := "()V" } : Jvm.MethodName)) ∈ lw_all := lw_g (lw_at lw_m10 158 rfl) rfl
theorem q2764 : (Jvm.Cond.privateMethod ({ cls := "ScriptTypes", name := "putIn", desc := "()V" } : Jvm.MethodName)) ∈ lw_tbl := lw_at lw_m10 159 rfl
theorem q2765 : (Jvm.Cond.instanceMethod ({ cls := "ScriptTypes", name := "putIn", desc := "()V" } : Jvm.MethodName)) ∈ lw_all := lw_g (lw_at lw_m10 160 rfl) rfl
theorem q2766 : (Jvm.Cond.code ({ cls := "ScriptTypes", name := "putIn", desc := "()V" } : Jvm.MethodName) prog_1_method_67_code (7 : Nat) (Option.none : Option Jvm.ClassFile.FieldType)) ∈ lw_all := lw_g (lw_at lw_m10 161 rfl) rfl
theorem q2767 : (Jvm.Cond.methodLink "ScriptTypes" (549 : Nat) ({ cls := "ScriptTypes", name := "isArray", desc := "(II)Z" } : Jvm.MethodName)) ∈ lw_all := lw_g (lw_at lw_m10 162 rfl) rfl
theorem q2768 : (Jvm.Cond.privateMethod ({ cls := "ScriptTypes", name := "isArray", desc := "(II)Z" } : Jvm.MethodName)) ∈ lw_tbl := lw_at lw_m10 163 rfl
theorem q2769 : (Jvm.Cond.instanceMethod ({ cls := "ScriptTypes", name := "isArray", desc := "(II)Z" } : Jvm.MethodName)) ∈ lw_all := lw_g (lw_at lw_m10 164 rfl) rfl
theorem q2770 : (Jvm.Cond.code ({ cls := "ScriptTypes", name := "isArray", desc := "(II)Z" } : Jvm.MethodName) prog_1_method_29_code (3 : Nat) (Option.some Jvm.ClassFile.FieldType.boolean)) ∈ lw_all := lw_g (lw_at lw_m10 165 rfl) rfl
theorem q2771 : (Jvm.Cond.methodLink "ScriptTypes" (552 : Nat) ({ cls := "ScriptTypes", name := "indexOf", desc := "(I)I" } : Jvm.MethodName)) ∈ lw_all := lw_g (lw_at lw_m10 166 rfl) rfl
theorem q2772 : (Jvm.Cond.privateMethod ({ cls := "ScriptTypes", name := "indexOf", desc := "(I)I" } : Jvm.MethodName)) ∈ lw_tbl := lw_at lw_m10 167 rfl
theorem q2773 : (Jvm.Cond.instanceMethod ({ cls := "ScriptTypes", name := "indexOf", desc := "(I)I" } : Jvm.MethodName)) ∈ lw_all := lw_g (lw_at lw_m10 168 rfl) rfl
theorem q2774 : (Jvm.Cond.code ({ cls := "ScriptTypes", name := "indexOf", desc := "(I)I" } : Jvm.MethodName) prog_1_method_46_code (5 : Nat) (Option.some Jvm.ClassFile.FieldType.int)) ∈ lw_all := lw_g (lw_at lw_m10 169 rfl) rfl
theorem q2775 : (Jvm.Cond.methodLink "ScriptTypes" (501 : Nat) ({ cls := "ScriptTypes", name := "deleteIn", desc := "()V" } : Jvm.MethodName)) ∈ lw_all := lw_g (lw_at lw_m10 170 rfl) rfl
theorem q2776 : (Jvm.Cond.privateMethod ({ cls := "ScriptTypes", name := "deleteIn", desc := "()V" } : Jvm.MethodName)) ∈ lw_tbl := lw_at lw_m10 171 rfl
theorem q2777 : (Jvm.Cond.instanceMethod ({ cls := "ScriptTypes", name := "deleteIn", desc := "()V" } : Jvm.MethodName)) ∈ lw_all := lw_g (lw_at lw_m10 172 rfl) rfl
theorem q2778 : (Jvm.Cond.code ({ cls := "ScriptTypes", name := "deleteIn", desc := "()V" } : Jvm.MethodName) prog_1_method_68_code (5 : Nat) (Option.none : Option Jvm.ClassFile.FieldType)) ∈ lw_all := lw_g (lw_at lw_m10 173 rfl) rfl
theorem q2779 : (Jvm.Cond.methodLink "ScriptTypes" (555 : Nat) ({ cls := "ScriptTypes", name := "remove", desc := "(II)V" } : Jvm.MethodName)) ∈ lw_all := lw_g (lw_at lw_m10 174 rfl) rfl
theorem q2780 : (Jvm.Cond.privateMethod ({ cls := "ScriptTypes", name := "remove", desc := "(II)V" } : Jvm.MethodName)) ∈ lw_tbl := lw_at lw_m10 175 rfl
theorem q2781 : (Jvm.Cond.instanceMethod ({ cls := "ScriptTypes", name := "remove", desc := "(II)V" } : Jvm.MethodName)) ∈ lw_all := lw_g (lw_at lw_m10 176 rfl) rfl
theorem q2782 : (Jvm.Cond.code ({ cls := "ScriptTypes", name := "remove", desc := "(II)V" } : Jvm.MethodName) prog_1_method_25_code (5 : Nat) (Option.none : Option Jvm.ClassFile.FieldType)) ∈ lw_all := lw_g (lw_at lw_m10 177 rfl) rfl
theorem q2783 : (Jvm.Cond.methodLink "ScriptTypes" (405 : Nat) ({ cls := "ScriptTypes", name := "givesTruth", desc := "(Z)V" } : Jvm.MethodName)) ∈ lw_all := lw_g (lw_at lw_m10 178 rfl) rfl
theorem q2784 : (Jvm.Cond.privateMethod ({ cls := "ScriptTypes", name := "givesTruth", desc := "(Z)V" } : Jvm.MethodName)) ∈ lw_tbl := lw_at lw_m10 179 rfl
theorem q2785 : (Jvm.Cond.instanceMethod ({ cls := "ScriptTypes", name := "givesTruth", desc := "(Z)V" } : Jvm.MethodName)) ∈ lw_all := lw_g (lw_at lw_m10 180 rfl) rfl
theorem q2786 : (Jvm.Cond.code ({ cls := "ScriptTypes", name := "givesTruth", desc := "(Z)V" } : Jvm.MethodName) prog_1_method_35_code (2 : Nat) (Option.none : Option Jvm.ClassFile.FieldType)) ∈ lw_all := lw_g (lw_at lw_m10 181 rfl) rfl
theorem q2787 : (Jvm.Cond.methodLink "ScriptTypes" (504 : Nat) ({ cls := "ScriptTypes", name := "unary", desc := "(III)V" } : Jvm.MethodName)) ∈ lw_all := lw_g (lw_at lw_m10 182 rfl) rfl
theorem q2788 : (Jvm.Cond.privateMethod ({ cls := "ScriptTypes", name := "unary", desc := "(III)V" } : Jvm.MethodName)) ∈ lw_tbl := lw_at lw_m10 183 rfl
theorem q2789 : (Jvm.Cond.instanceMethod ({ cls := "ScriptTypes", name := "unary", desc := "(III)V" } : Jvm.MethodName)) ∈ lw_all := lw_g (lw_at lw_m10 184 rfl) rfl
theorem q2790 : (Jvm.Cond.code ({ cls := "ScriptTypes", name := "unary", desc := "(III)V" } : Jvm.MethodName) prog_1_method_40_code (5 : Nat) (Option.none : Option Jvm.ClassFile.FieldType)) ∈ lw_all := lw_g (lw_at lw_m10 185 rfl) rfl
theorem q2791 : (Jvm.Cond.methodLink "ScriptTypes" (401 : Nat) ({ cls := "ScriptTypes", name := "isTrue", desc := "(II)Z" } : Jvm.MethodName)) ∈ lw_all := lw_g (lw_at lw_m10 186 rfl) rfl
theorem q2792 : (Jvm.Cond.privateMethod ({ cls := "ScriptTypes", name := "isTrue", desc := "(II)Z" } : Jvm.MethodName)) ∈ lw_tbl := lw_at lw_m10 187 rfl
theorem q2793 : (Jvm.Cond.instanceMethod ({ cls := "ScriptTypes", name := "isTrue", desc := "(II)Z" } : Jvm.MethodName)) ∈ lw_all := lw_g (lw_at lw_m10 188 rfl) rfl
theorem q2794 : (Jvm.Cond.code ({ cls := "ScriptTypes", name := "isTrue", desc := "(II)Z" } : Jvm.MethodName) prog_1_method_38_code (3 : Nat) (Option.some Jvm.ClassFile.FieldType.boolean)) ∈ lw_all := lw_g (lw_at lw_m10 189 rfl) rfl
theorem q2795 : (Jvm.Cond.methodLink "ScriptTypes" (412 : Nat) ({ cls := "ScriptTypes", name := "hasNumber", desc := "(II)Z" } : Jvm.MethodName)) ∈ lw_all := lw_g (lw_at lw_m10 190 rfl) rfl
theorem q2796 : (Jvm.Cond.privateMethod ({ cls := "ScriptTypes", name := "hasNumber", desc := "(II)Z" } : Jvm.MethodName)) ∈ lw_tbl := lw_at lw_m10 191 rfl
theorem q2797 : (Jvm.Cond.instanceMethod ({ cls := "ScriptTypes", name := "hasNumber", desc := "(II)Z" } : Jvm.MethodName)) ∈ lw_all := lw_g (lw_at lw_m10 192 rfl) rfl
theorem q2798 : (Jvm.Cond.code ({ cls := "ScriptTypes", name := "hasNumber", desc := "(II)Z" } : Jvm.MethodName) prog_1_method_36_code (3 : Nat) (Option.some Jvm.ClassFile.FieldType.boolean)) ∈ lw_all := lw_g (lw_at lw_m10 193 rfl) rfl
theorem q2799 : (Jvm.Cond.methodLink "ScriptTypes" (398 : Nat) ({ cls := "ScriptTypes", name := "readsNumber", desc := "(I)Z" } : Jvm.MethodName)) ∈ lw_all := lw_g (lw_at lw_m10 194 rfl) rfl
theorem q2800 : (Jvm.Cond.privateMethod ({ cls := "ScriptTypes", name := "readsNumber", desc := "(I)Z" } : Jvm.MethodName)) ∈ lw_tbl := lw_at lw_m10 195 rfl
theorem q2801 : (Jvm.Cond.instanceMethod ({ cls := "ScriptTypes", name := "readsNumber", desc := "(I)Z" } : Jvm.MethodName)) ∈ lw_all := lw_g (lw_at lw_m10 196 rfl) rfl
theorem q2802 : (Jvm.Cond.code ({ cls := "ScriptTypes", name := "readsNumber", desc := "(I)Z" } : Jvm.MethodName) prog_1_method_37_code (7 : Nat) (Option.some Jvm.ClassFile.FieldType.boolean)) ∈ lw_all := lw_g (lw_at lw_m10 197 rfl) rfl
theorem q2803 : (Jvm.Cond.methodLink "ScriptTypes" (511 : Nat) ({ cls := "ScriptTypes", name := "binary", desc := "(IIIII)V" } : Jvm.MethodName)) ∈ lw_all := lw_g (lw_at lw_m10 198 rfl) rfl
theorem q2804 : (Jvm.Cond.privateMethod ({ cls := "ScriptTypes", name := "binary", desc := "(IIIII)V" } : Jvm.MethodName)) ∈ lw_tbl := lw_at lw_m10 199 rfl
theorem q2805 : (Jvm.Cond.instanceMethod ({ cls := "ScriptTypes", name := "binary", desc := "(IIIII)V" } : Jvm.MethodName)) ∈ lw_all := lw_g (lw_at lw_m10 200 rfl) rfl
theorem q2806 : (Jvm.Cond.code ({ cls := "ScriptTypes", name := "binary", desc := "(IIIII)V" } : Jvm.MethodName) prog_1_method_44_code (8 : Nat) (Option.none : Option Jvm.ClassFile.FieldType)) ∈ lw_all := lw_g (lw_at lw_m10 201 rfl) rfl
theorem q2807 : (Jvm.Cond.methodLink "ScriptTypes" (424 : Nat) ({ cls := "ScriptTypes", name := "sum", desc := "(IIIII)V" } : Jvm.MethodName)) ∈ lw_all := lw_g (lw_at lw_m10 202 rfl) rfl
theorem q2808 : (Jvm.Cond.privateMethod ({ cls := "ScriptTypes", name := "sum", desc := "(IIIII)V" } : Jvm.MethodName)) ∈ lw_tbl := lw_at lw_m10 203 rfl
theorem q2809 : (Jvm.Cond.instanceMethod ({ cls := "ScriptTypes", name := "sum", desc := "(IIIII)V" } : Jvm.MethodName)) ∈ lw_all := lw_g (lw_at lw_m10 204 rfl) rfl
theorem q2810 : (Jvm.Cond.code ({ cls := "ScriptTypes", name := "sum", desc := "(IIIII)V" } : Jvm.MethodName) prog_1_method_45_code (9 : Nat) (Option.none : Option Jvm.ClassFile.FieldType)) ∈ lw_all := lw_g (lw_at lw_m10 205 rfl) rfl
theorem q2811 : (Jvm.Cond.methodLink "ScriptTypes" (428 : Nat) ({ cls := "ScriptTypes", name := "equal", desc := "(IIII)Z" } : Jvm.MethodName)) ∈ lw_all := lw_g (lw_at lw_m10 206 rfl) rfl
theorem q2812 : (Jvm.Cond.privateMethod ({ cls := "ScriptTypes", name := "equal", desc := "(IIII)Z" } : Jvm.MethodName)) ∈ lw_tbl := lw_at lw_m10 207 rfl
theorem q2813 : (Jvm.Cond.instanceMethod ({ cls := "ScriptTypes", name := "equal", desc := "(IIII)Z" } : Jvm.MethodName)) ∈ lw_all := lw_g (lw_at lw_m10 208 rfl) rfl
theorem q2814 : (Jvm.Cond.code ({ cls := "ScriptTypes", name := "equal", desc := "(IIII)Z" } : Jvm.MethodName) prog_1_method_42_code (10 : Nat) (Option.some Jvm.ClassFile.FieldType.boolean)) ∈ lw_all := lw_g (lw_at lw_m10 209 rfl) rfl
theorem q2815 : (Jvm.Cond.methodLink "ScriptTypes" (415 : Nat) ({ cls := "ScriptTypes", name := "same", desc := "(IIII)Z" } : Jvm.MethodName)) ∈ lw_all := lw_g (lw_at lw_m10 210 rfl) rfl
theorem q2816 : (Jvm.Cond.static ({ cls := "ScriptTypes", name := "same", desc := "(IIII)Z" } : Jvm.MethodName)) ∈ lw_all := lw_g (lw_at lw_m10 211 rfl) rfl
theorem q2817 : (Jvm.Cond.code ({ cls := "ScriptTypes", name := "same", desc := "(IIII)Z" } : Jvm.MethodName) prog_1_method_41_code (4 : Nat) (Option.some Jvm.ClassFile.FieldType.boolean)) ∈ lw_all := lw_g (lw_at lw_m10 212 rfl) rfl
theorem q2818 : (Jvm.Cond.methodLink "ScriptTypes" (431 : Nat) ({ cls := "ScriptTypes", name := "order", desc := "(IIII)I" } : Jvm.MethodName)) ∈ lw_all := lw_g (lw_at lw_m10 213 rfl) rfl
theorem q2819 : (Jvm.Cond.privateMethod ({ cls := "ScriptTypes", name := "order", desc := "(IIII)I" } : Jvm.MethodName)) ∈ lw_tbl := lw_at lw_m10 214 rfl
theorem q2820 : (Jvm.Cond.instanceMethod ({ cls := "ScriptTypes", name := "order", desc := "(IIII)I" } : Jvm.MethodName)) ∈ lw_all := lw_g (lw_at lw_m10 215 rfl) rfl
theorem q2821 : (Jvm.Cond.code ({ cls := "ScriptTypes", name := "order", desc := "(IIII)I" } : Jvm.MethodName) prog_1_method_43_code (7 : Nat) (Option.some Jvm.ClassFile.FieldType.int)) ∈ lw_all := lw_g (lw_at lw_m10 216 rfl) rfl
theorem q2822 : (Jvm.Cond.methodLink "ScriptTypes" (419 : Nat) ({ cls := "java/lang/Integer", name := "compare", desc := "(II)I" } : Jvm.MethodName)) ∈ lw_all := lw_g (lw_at lw_m10 217 rfl) rfl
theorem q2823 : (Jvm.Cond.static ({ cls := "java/lang/Integer", name := "compare", desc := "(II)I" } : Jvm.MethodName)) ∈ lw_all := lw_g (lw_at lw_m10 218 rfl) rfl
theorem q2824 : (Jvm.Cond.code ({ cls := "java/lang/Integer", name := "compare", desc := "(II)I" } : Jvm.MethodName) prog_52_method_40_code (2 : Nat) (Option.some Jvm.ClassFile.FieldType.int)) ∈ lw_all := lw_g (lw_at lw_m10 219 rfl) rfl
theorem q2825 : (Jvm.Cond.methodLink "ScriptTypes" (514 : Nat) ({ cls := "ScriptTypes", name := "readsKey", desc := "()V" } : Jvm.MethodName)) ∈ lw_all := lw_g (lw_at lw_m10 220 rfl) rfl
theorem q2826 : (Jvm.Cond.privateMethod ({ cls := "ScriptTypes", name := "readsKey", desc := "()V" } : Jvm.MethodName)) ∈ lw_tbl := lw_at lw_m10 221 rfl
theorem q2827 : (Jvm.Cond.instanceMethod ({ cls := "ScriptTypes", name := "readsKey", desc := "()V" } : Jvm.MethodName)) ∈ lw_all := lw_g (lw_at lw_m10 222 rfl) rfl
theorem q2828 : (Jvm.Cond.code ({ cls := "ScriptTypes", name := "readsKey", desc := "()V" } : Jvm.MethodName) prog_1_method_69_code (2 : Nat) (Option.none : Option Jvm.ClassFile.FieldType)) ∈ lw_all := lw_g (lw_at lw_m10 223 rfl) rfl
theorem q2829 : (Jvm.Cond.methodLink "ScriptTypes" (517 : Nat) ({ cls := "ScriptTypes", name := "instance", desc := "()V" } : Jvm.MethodName)) ∈ lw_all := lw_g (lw_at lw_m10 224 rfl) rfl
theorem q2830 : (Jvm.Cond.privateMethod ({ cls := "ScriptTypes", name := "instance", desc := "()V" } : Jvm.MethodName)) ∈ lw_tbl := lw_at lw_m10 225 rfl
theorem q2831 : (Jvm.Cond.instanceMethod ({ cls := "ScriptTypes", name := "instance", desc := "()V" } : Jvm.MethodName)) ∈ lw_all := lw_g (lw_at lw_m10 226 rfl) rfl
theorem q2832 : (Jvm.Cond.code ({ cls := "ScriptTypes", name := "instance", desc := "()V" } : Jvm.MethodName) prog_1_method_70_code (3 : Nat) (Option.none : Option Jvm.ClassFile.FieldType)) ∈ lw_all := lw_g (lw_at lw_m10 227 rfl) rfl
theorem q2833 : (Jvm.Cond.methodLink "ScriptTypes" (558 : Nat) ({ cls := "ScriptTypes", name := "isCalled", desc := "(II)Z" } : Jvm.MethodName)) ∈ lw_all := lw_g (lw_at lw_m10 228 rfl) rfl
theorem q2834 : (Jvm.Cond.privateMethod ({ cls := "ScriptTypes", name := "isCalled", desc := "(II)Z" } : Jvm.MethodName)) ∈ lw_tbl := lw_at lw_m10 229 rfl
theorem q2835 : (Jvm.Cond.instanceMethod ({ cls := "ScriptTypes", name := "isCalled", desc := "(II)Z" } : Jvm.MethodName)) ∈ lw_all := lw_g (lw_at lw_m10 230 rfl) rfl
theorem q2836 : (Jvm.Cond.code ({ cls := "ScriptTypes", name := "isCalled", desc := "(II)Z" } : Jvm.MethodName) prog_1_method_30_code (3 : Nat) (Option.some Jvm.ClassFile.FieldType.boolean)) ∈ lw_all := lw_g (lw_at lw_m10 231 rfl) rfl
theorem q2837 : (Jvm.Cond.methodLink "ScriptTypes" (520 : Nat) ({ cls := "ScriptTypes", name := "call", desc := "(IIIII)V" } : Jvm.MethodName)) ∈ lw_all := lw_g (lw_at lw_m10 232 rfl) rfl
theorem q2838 : (Jvm.Cond.privateMethod ({ cls := "ScriptTypes", name := "call", desc := "(IIIII)V" } : Jvm.MethodName)) ∈ lw_tbl := lw_at lw_m10 233 rfl
theorem q2839 : (Jvm.Cond.instanceMethod ({ cls := "ScriptTypes", name := "call", desc := "(IIIII)V" } : Jvm.MethodName)) ∈ lw_all := lw_g (lw_at lw_m10 234 rfl) rfl
theorem q2840 : (Jvm.Cond.code ({ cls := "ScriptTypes", name := "call", desc := "(IIIII)V" } : Jvm.MethodName) prog_1_method_71_code (11 : Nat) (Option.none : Option Jvm.ClassFile.FieldType)) ∈ lw_all := lw_g (lw_at lw_m10 235 rfl) rfl
theorem q2841 : (Jvm.Cond.methodLink "ScriptTypes" (561 : Nat) ({ cls := "java/lang/Math", name := "max", desc := "(II)I" } : Jvm.MethodName)) ∈ lw_all := lw_g (lw_at lw_m10 236 rfl) rfl
theorem q2842 : (Jvm.Cond.methodLink "ScriptTypes" (564 : Nat) ({ cls := "ScriptTypes", name := "enter", desc := "(IIIIIII)V" } : Jvm.MethodName)) ∈ lw_all := lw_g (lw_at lw_m10 237 rfl) rfl
theorem q2843 : (Jvm.Cond.privateMethod ({ cls := "ScriptTypes", name := "enter", desc := "(IIIIIII)V" } : Jvm.MethodName)) ∈ lw_tbl := lw_at lw_m10 238 rfl
theorem q2844 : (Jvm.Cond.instanceMethod ({ cls := "ScriptTypes", name := "enter", desc := "(IIIIIII)V" } : Jvm.MethodName)) ∈ lw_all := lw_g (lw_at lw_m10 239 rfl) rfl
theorem q2845 : (Jvm.Cond.code ({ cls := "ScriptTypes", name := "enter", desc := "(IIIIIII)V" } : Jvm.MethodName) prog_1_method_72_code (11 : Nat) (Option.none : Option Jvm.ClassFile.FieldType)) ∈ lw_all := lw_g (lw_at lw_m11 0 rfl) rfl
theorem q2846 : (Jvm.Cond.methodLink "ScriptTypes" (568 : Nat) ({ cls := "ScriptTypes", name := "carryOut", desc := "(IIIII)V" } : Jvm.MethodName)) ∈ lw_all := lw_g (lw_at lw_m11 1 rfl) rfl
theorem q2847 : (Jvm.Cond.privateMethod ({ cls := "ScriptTypes", name := "carryOut", desc := "(IIIII)V" } : Jvm.MethodName)) ∈ lw_tbl := lw_at lw_m11 2 rfl
theorem q2848 : (Jvm.Cond.instanceMethod ({ cls := "ScriptTypes", name := "carryOut", desc := "(IIIII)V" } : Jvm.MethodName)) ∈ lw_all := lw_g (lw_at lw_m11 3 rfl) rfl
theorem q2849 : (Jvm.Cond.code ({ cls := "ScriptTypes", name := "carryOut", desc := "(IIIII)V" } : Jvm.MethodName) prog_1_method_74_code (9 : Nat) (Option.none : Option Jvm.ClassFile.FieldType)) ∈ lw_all := lw_g (lw_at lw_m11 4 rfl) rfl
theorem q2850 : (Jvm.Cond.methodLink "ScriptTypes" (582 : Nat) ({ cls := "ScriptTypes", name := "pushed", desc := "(IIII)V" } : Jvm.MethodName)) ∈ lw_all := lw_g (lw_at lw_m11 5 rfl) rfl
theorem q2851 : (Jvm.Cond.privateMethod ({ cls := "ScriptTypes", name := "pushed", desc := "(IIII)V" } : Jvm.MethodName)) ∈ lw_tbl := lw_at lw_m11 6 rfl
theorem q2852 : (Jvm.Cond.instanceMethod ({ cls := "ScriptTypes", name := "pushed", desc := "(IIII)V" } : Jvm.MethodName)) ∈ lw_all := lw_g (lw_at lw_m11 7 rfl) rfl
theorem q2853 : (Jvm.Cond.code ({ cls := "ScriptTypes", name := "pushed", desc := "(IIII)V" } : Jvm.MethodName) prog_1_method_75_code (6 : Nat) (Option.none : Option Jvm.ClassFile.FieldType)) ∈ lw_all := lw_g (lw_at lw_m11 8 rfl) rfl
theorem q2854 : (Jvm.Cond.methodLink "ScriptTypes" (585 : Nat) ({ cls := "ScriptTypes", name := "popped", desc := "(II)V" } : Jvm.MethodName)) ∈ lw_all := lw_g (lw_at lw_m11 9 rfl) rfl
theorem q2855 : (Jvm.Cond.privateMethod ({ cls := "ScriptTypes", name := "popped", desc := "(II)V" } : Jvm.MethodName)) ∈ lw_tbl := lw_at lw_m11 10 rfl
theorem q2856 : (Jvm.Cond.instanceMethod ({ cls := "ScriptTypes", name := "popped", desc := "(II)V" } : Jvm.MethodName)) ∈ lw_all := lw_g (lw_at lw_m11 11 rfl) rfl
theorem q2857 : (Jvm.Cond.code ({ cls := "ScriptTypes", name := "popped", desc := "(II)V" } : Jvm.MethodName) prog_1_method_76_code (6 : Nat) (Option.none : Option Jvm.ClassFile.FieldType)) ∈ lw_all := lw_g (lw_at lw_m11 12 rfl) rfl
theorem q2858 : (Jvm.Cond.methodLink "ScriptTypes" (523 : Nat) ({ cls := "ScriptTypes", name := "makeNew", desc := "(II)V" } : Jvm.MethodName)) ∈ lw_all := lw_g (lw_at lw_m11 13 rfl) rfl
theorem q2859 : (Jvm.Cond.privateMethod ({ cls := "ScriptTypes", name := "makeNew", desc := "(II)V" } : Jvm.MethodName)) ∈ lw_tbl := lw_at lw_m11 14 rfl
theorem q2860 : (Jvm.Cond.instanceMethod ({ cls := "ScriptTypes", name := "makeNew", desc := "(II)V" } : Jvm.MethodName)) ∈ lw_all := lw_g (lw_at lw_m11 15 rfl) rfl
theorem q2861 : (Jvm.Cond.code ({ cls := "ScriptTypes", name := "makeNew", desc := "(II)V" } : Jvm.MethodName) prog_1_method_73_code (8 : Nat) (Option.none : Option Jvm.ClassFile.FieldType)) ∈ lw_all := lw_g (lw_at lw_m11 16 rfl) rfl
theorem q2862 : (Jvm.Cond.methodLink "ScriptTypes" (526 : Nat) ({ cls := "ScriptTypes", name := "moves", desc := "(IIII)V" } : Jvm.MethodName)) ∈ lw_all := lw_g (lw_at lw_m11 17 rfl) rfl
theorem q2863 : (Jvm.Cond.privateMethod ({ cls := "ScriptTypes", name := "moves", desc := "(IIII)V" } : Jvm.MethodName)) ∈ lw_tbl := lw_at lw_m11 18 rfl
theorem q2864 : (Jvm.Cond.instanceMethod ({ cls := "ScriptTypes", name := "moves", desc := "(IIII)V" } : Jvm.MethodName)) ∈ lw_all := lw_g (lw_at lw_m11 19 rfl) rfl
theorem q2865 : (Jvm.Cond.code ({ cls := "ScriptTypes", name := "moves", desc := "(IIII)V" } : Jvm.MethodName) prog_1_method_57_code (6 : Nat) (Option.none : Option Jvm.ClassFile.FieldType)) ∈ lw_all := lw_g (lw_at lw_m11 20 rfl) rfl
theorem q2866 : (Jvm.Cond.methodLink "ScriptTypes" (529 : Nat) ({ cls := "ScriptTypes", name := "copyOf", desc := "(I)V" } : Jvm.MethodName)) ∈ lw_all := lw_g (lw_at lw_m11 21 rfl) rfl
theorem q2867 : (Jvm.Cond.privateMethod ({ cls := "ScriptTypes", name := "copyOf", desc := "(I)V" } : Jvm.MethodName)) ∈ lw_tbl := lw_at lw_m11 22 rfl
theorem q2868 : (Jvm.Cond.instanceMethod ({ cls := "ScriptTypes", name := "copyOf", desc := "(I)V" } : Jvm.MethodName)) ∈ lw_all := lw_g (lw_at lw_m11 23 rfl) rfl
theorem q2869 : (Jvm.Cond.code ({ cls := "ScriptTypes", name := "copyOf", desc := "(I)V" } : Jvm.MethodName) prog_1_method_55_code (2 : Nat) (Option.none : Option Jvm.ClassFile.FieldType)) ∈ lw_all := lw_g (lw_at lw_m11 24 rfl) rfl
theorem q2870 : (Jvm.Cond.methodLink "ScriptTypes" (532 : Nat) ({ cls := "ScriptTypes", name := "comeBack", desc := "(II)V" } : Jvm.MethodName)) ∈ lw_all := lw_g (lw_at lw_m11 25 rfl) rfl
theorem q2871 : (Jvm.Cond.privateMethod ({ cls := "ScriptTypes", name := "comeBack", desc := "(II)V" } : Jvm.MethodName)) ∈ lw_tbl := lw_at lw_m11 26 rfl
theorem q2872 : (Jvm.Cond.instanceMethod ({ cls := "ScriptTypes", name := "comeBack", desc := "(II)V" } : Jvm.MethodName)) ∈ lw_all := lw_g (lw_at lw_m11 27 rfl) rfl
theorem q2873 : (Jvm.Cond.code ({ cls := "ScriptTypes", name := "comeBack", desc := "(II)V" } : Jvm.MethodName) prog_1_method_59_code (5 : Nat) (Option.none : Option Jvm.ClassFile.FieldType)) ∈ lw_all := lw_g (lw_at lw_m11 28 rfl) rfl
theorem q2874 : (Jvm.Cond.methodLink "ScriptTypes" (457 : Nat) ({ cls := "ScriptTypes", name := "unwind", desc := "()V" } : Jvm.MethodName)) ∈ lw_all := lw_g (lw_at lw_m11 29 rfl) rfl
theorem q2875 : (Jvm.Cond.privateMethod ({ cls := "ScriptTypes", name := "unwind", desc := "()V" } : Jvm.MethodName)) ∈ lw_tbl := lw_at lw_m11 30 rfl
theorem q2876 : (Jvm.Cond.instanceMethod ({ cls := "ScriptTypes", name := "unwind", desc := "()V" } : Jvm.MethodName)) ∈ lw_all := lw_g (lw_at lw_m11 31 rfl) rfl
theorem q2877 : (Jvm.Cond.code ({ cls := "ScriptTypes", name := "unwind", desc := "()V" } : Jvm.MethodName) prog_1_method_52_code (1 : Nat) (Option.none : Option Jvm.ClassFile.FieldType)) ∈ lw_all := lw_g (lw_at lw_m11 32 rfl) rfl
theorem q2878 : (Jvm.Cond.methodLink "ScriptTypesLaw" (92 : Nat) ({ cls := "ScriptTypesLaw", name := "solve", desc := "(LScriptTypes;[J)I" } : Jvm.MethodName)) ∈ lw_all := lw_g (lw_at lw_m11 33 rfl) rfl
theorem q2879 : (Jvm.Cond.static ({ cls := "ScriptTypesLaw", name := "solve", desc := "(LScriptTypes;[J)I" } : Jvm.MethodName)) ∈ lw_all := lw_g (lw_at lw_m11 34 rfl) rfl
theorem q2880 : (Jvm.Cond.codeWith ({ cls := "ScriptTypesLaw", name := "solve", desc := "(LScriptTypes;[J)I" } : Jvm.MethodName) method_5_code (3 : Nat) (Option.some Jvm.ClassFile.FieldType.int) [((0 : Nat), (8 : Nat), (11 : Nat), (12 : Nat))]) ∈ lw_all := lw_g (lw_at lw_m11 35 rfl) rfl
theorem q2881 : (Jvm.Cond.methodLink "ScriptTypesLaw" (20 : Nat) ({ cls := "ScriptTypes", name := "solve", desc := "()I" } : Jvm.MethodName)) ∈ lw_all := lw_g (lw_at lw_m11 36 rfl) rfl
theorem q2882 : (Jvm.Cond.instanceMethod ({ cls := "ScriptTypes", name := "solve", desc := "()I" } : Jvm.MethodName)) ∈ lw_all := lw_g (lw_at lw_m11 37 rfl) rfl
theorem q2883 : (Jvm.Cond.selects "ScriptTypes" ({ cls := "ScriptTypes", name := "solve", desc := "()I" } : Jvm.MethodName) ({ cls := "ScriptTypes", name := "solve", desc := "()I" } : Jvm.MethodName)) ∈ lw_all := lw_g (lw_at lw_m11 38 rfl) rfl
theorem q2884 : (Jvm.Cond.code ({ cls := "ScriptTypes", name := "solve", desc := "()I" } : Jvm.MethodName) prog_1_method_98_code (4 : Nat) (Option.some Jvm.ClassFile.FieldType.int)) ∈ lw_all := lw_g (lw_at lw_m11 39 rfl) rfl
theorem q2885 : (Jvm.Cond.classLink "ScriptTypes" (678 : Nat) "ScriptTypes$Table") ∈ lw_all := lw_g (lw_at lw_m11 40 rfl) rfl
theorem q2886 : (Jvm.Cond.instantiable "ScriptTypes$Table" (21 : Nat)) ∈ lw_all := lw_g (lw_at lw_m11 41 rfl) rfl
theorem q2887 : (Jvm.Cond.methodLink "ScriptTypes" (680 : Nat) ({ cls := "ScriptTypes$Table", name := "<init>", desc := "(LScriptTypes;)V" } : Jvm.MethodName)) ∈ lw_all := lw_g (lw_at lw_m11 42 rfl) rfl
theorem q2888 : (Jvm.Cond.instanceMethod ({ cls := "ScriptTypes$Table", name := "<init>", desc := "(LScriptTypes;)V" } : Jvm.MethodName)) ∈ lw_all := lw_g (lw_at lw_m11 43 rfl) rfl
theorem q2889 : (Jvm.Cond.code ({ cls := "ScriptTypes$Table", name := "<init>", desc := "(LScriptTypes;)V" } : Jvm.MethodName) prog_35_method_1_code (2 : Nat) (Option.none : Option Jvm.ClassFile.FieldType)) ∈ lw_all := lw_g (lw_at lw_m11 44 rfl) rfl
theorem q2890 : (Jvm.Cond.methodLink "ScriptTypes$Table" (3 : Nat) ({ cls := "java/lang/Object", name := "<init>", desc := "()V" } : Jvm.MethodName)) ∈ lw_all := lw_g (lw_at lw_m11 45 rfl) rfl
theorem q2891 : (Jvm.Cond.constant "ScriptTypes$Table" (9 : Nat) (465000 : Int32)) ∈ lw_all := lw_g (lw_at lw_m11 46 rfl) rfl
theorem q2892 : (Jvm.Cond.fieldLink "ScriptTypes$Table" (69 : Nat) "ScriptTypes$Table" "all" "LScriptTypes;") ∈ lw_all := lw_g (lw_at lw_m11 47 rfl) rfl
theorem q2893 : (Jvm.Cond.fieldLink "ScriptTypes$Table" (10 : Nat) "ScriptTypes$Table" "low" "[J") ∈ lw_all := lw_g (lw_at lw_m11 48 rfl) rfl
theorem q2894 : (Jvm.Cond.fieldLink "ScriptTypes" (1125 : Nat) "ScriptTypes$Table" "low" "[J") ∈ lw_all := lw_g (lw_at lw_m11 49 rfl) rfl
theorem q2895 : (Jvm.Cond.fieldLink "ScriptTypes$Table" (16 : Nat) "ScriptTypes$Table" "high" "[J") ∈ lw_all := lw_g (lw_at lw_m11 50 rfl) rfl
theorem q2896 : (Jvm.Cond.fieldLink "ScriptTypes" (1126 : Nat) "ScriptTypes$Table" "high" "[J") ∈ lw_all := lw_g (lw_at lw_m11 51 rfl) rfl
theorem q2897 : (Jvm.Cond.fieldLink "ScriptTypes$Table" (19 : Nat) "ScriptTypes$Table" "rest" "[J") ∈ lw_all := lw_g (lw_at lw_m11 52 rfl) rfl
theorem q2898 : (Jvm.Cond.fieldLink "ScriptTypes" (1124 : Nat) "ScriptTypes$Table" "rest" "[J") ∈ lw_all := lw_g (lw_at lw_m11 53 rfl) rfl
theorem q2899 : (Jvm.Cond.fieldLink "ScriptTypes$Table" (22 : Nat) "ScriptTypes$Table" "protoLow" "[J") ∈ lw_all := lw_g (lw_at lw_m11 54 rfl) rfl
theorem q2900 : (Jvm.Cond.fieldLink "ScriptTypes" (1131 : Nat) "ScriptTypes$Table" "protoLow" "[J") ∈ lw_all := lw_g (lw_at lw_m11 55 rfl) rfl
theorem q2901 : (Jvm.Cond.fieldLink "ScriptTypes$Table" (25 : Nat) "ScriptTypes$Table" "protoHigh" "[J") ∈ lw_all := lw_g (lw_at lw_m11 56 rfl) rfl
theorem q2902 : (Jvm.Cond.fieldLink "ScriptTypes" (1132 : Nat) "ScriptTypes$Table" "protoHigh" "[J") ∈ lw_all := lw_g (lw_at lw_m11 57 rfl) rfl
theorem q2903 : (Jvm.Cond.fieldLink "ScriptTypes$Table" (28 : Nat) "ScriptTypes$Table" "linkLow" "[J") ∈ lw_all := lw_g (lw_at lw_m11 58 rfl) rfl
theorem q2904 : (Jvm.Cond.fieldLink "ScriptTypes" (1136 : Nat) "ScriptTypes$Table" "linkLow" "[J") ∈ lw_all := lw_g (lw_at lw_m11 59 rfl) rfl
theorem q2905 : (Jvm.Cond.fieldLink "ScriptTypes$Table" (31 : Nat) "ScriptTypes$Table" "linkHigh" "[J") ∈ lw_all := lw_g (lw_at lw_m11 60 rfl) rfl
theorem q2906 : (Jvm.Cond.fieldLink "ScriptTypes" (1137 : Nat) "ScriptTypes$Table" "linkHigh" "[J") ∈ lw_all := lw_g (lw_at lw_m11 61 rfl) rfl
theorem q2907 : (Jvm.Cond.fieldLink "ScriptTypes$Table" (34 : Nat) "ScriptTypes$Table" "flags" "[B") ∈ lw_all := lw_g (lw_at lw_m11 62 rfl) rfl
theorem q2908 : (Jvm.Cond.fieldLink "ScriptTypes" (1133 : Nat) "ScriptTypes$Table" "flags" "[B") ∈ lw_all := lw_g (lw_at lw_m11 63 rfl) rfl
theorem q2909 : (Jvm.Cond.fieldLink "ScriptTypes$Table" (38 : Nat) "ScriptTypes$Table" "height" "[I") ∈ lw_all := lw_g (lw_at lw_m11 64 rfl) rfl
theorem q2910 : (Jvm.Cond.fieldLink "ScriptTypes" (719 : Nat) "ScriptTypes$Table" "height" "[I") ∈ lw_all := lw_g (lw_at lw_m11 65 rfl) rfl
theorem q2911 : (Jvm.Cond.fieldLink "ScriptTypes$Table" (42 : Nat) "ScriptTypes$Table" "from" "[I") ∈ lw_all := lw_g (lw_at lw_m11 66 rfl) rfl
theorem q2912 : (Jvm.Cond.fieldLink "ScriptTypes" (1075 : Nat) "ScriptTypes$Table" "from" "[I") ∈ lw_all := lw_g (lw_at lw_m11 67 rfl) rfl
theorem q2913 : (Jvm.Cond.fieldLink "ScriptTypes$Table" (45 : Nat) "ScriptTypes$Table" "thisLow" "[J") ∈ lw_all := lw_g (lw_at lw_m11 68 rfl) rfl
theorem q2914 : (Jvm.Cond.fieldLink "ScriptTypes" (1118 : Nat) "ScriptTypes$Table" "thisLow" "[J") ∈ lw_all := lw_g (lw_at lw_m11 69 rfl) rfl
theorem q2915 : (Jvm.Cond.fieldLink "ScriptTypes$Table" (48 : Nat) "ScriptTypes$Table" "thisHigh" "[J") ∈ lw_all := lw_g (lw_at lw_m11 70 rfl) rfl
theorem q2916 : (Jvm.Cond.fieldLink "ScriptTypes" (1120 : Nat) "ScriptTypes$Table" "thisHigh" "[J") ∈ lw_all := lw_g (lw_at lw_m11 71 rfl) rfl
theorem q2917 : (Jvm.Cond.fieldLink "ScriptTypes$Table" (51 : Nat) "ScriptTypes$Table" "thisRest" "[J") ∈ lw_all := lw_g (lw_at lw_m11 72 rfl) rfl
theorem q2918 : (Jvm.Cond.fieldLink "ScriptTypes" (1116 : Nat) "ScriptTypes$Table" "thisRest" "[J") ∈ lw_all := lw_g (lw_at lw_m11 73 rfl) rfl
theorem q2919 : (Jvm.Cond.fieldLink "ScriptTypes$Table" (54 : Nat) "ScriptTypes$Table" "scopeLow" "[J") ∈ lw_all := lw_g (lw_at lw_m11 74 rfl) rfl
theorem q2920 : (Jvm.Cond.fieldLink "ScriptTypes" (1127 : Nat) "ScriptTypes$Table" "scopeLow" "[J") ∈ lw_all := lw_g (lw_at lw_m11 75 rfl) rfl
theorem q2921 : (Jvm.Cond.fieldLink "ScriptTypes$Table" (57 : Nat) "ScriptTypes$Table" "scopeHigh" "[J") ∈ lw_all := lw_g (lw_at lw_m11 76 rfl) rfl
theorem q2922 : (Jvm.Cond.fieldLink "ScriptTypes" (1129 : Nat) "ScriptTypes$Table" "scopeHigh" "[J") ∈ lw_all := lw_g (lw_at lw_m11 77 rfl) rfl
theorem q2923 : (Jvm.Cond.fieldLink "ScriptTypes$Table" (60 : Nat) "ScriptTypes$Table" "stackLow" "[J") ∈ lw_all := lw_g (lw_at lw_m11 78 rfl) rfl
theorem q2924 : (Jvm.Cond.fieldLink "ScriptTypes" (1079 : Nat) "ScriptTypes$Table" "stackLow" "[J") ∈ lw_all := lw_g (lw_at lw_m11 79 rfl) rfl
theorem q2925 : (Jvm.Cond.fieldLink "ScriptTypes$Table" (63 : Nat) "ScriptTypes$Table" "stackHigh" "[J") ∈ lw_all := lw_g (lw_at lw_m11 80 rfl) rfl
theorem q2926 : (Jvm.Cond.fieldLink "ScriptTypes" (1080 : Nat) "ScriptTypes$Table" "stackHigh" "[J") ∈ lw_all := lw_g (lw_at lw_m11 81 rfl) rfl
theorem q2927 : (Jvm.Cond.fieldLink "ScriptTypes$Table" (66 : Nat) "ScriptTypes$Table" "stackRest" "[J") ∈ lw_all := lw_g (lw_at lw_m11 82 rfl) rfl
theorem q2928 : (Jvm.Cond.fieldLink "ScriptTypes" (1078 : Nat) "ScriptTypes$Table" "stackRest" "[J") ∈ lw_all := lw_g (lw_at lw_m11 83 rfl) rfl
theorem q2929 : (Jvm.Cond.fieldLink "ScriptTypes$Table" (73 : Nat) "ScriptTypes$Table" "used" "I") ∈ lw_all := lw_g (lw_at lw_m11 84 rfl) rfl
theorem q2930 : (Jvm.Cond.fieldLink "ScriptTypes$Table" (83 : Nat) "ScriptTypes$Table" "grew" "Z") ∈ lw_all := lw_g (lw_at lw_m11 85 rfl) rfl
theorem q2931 : (Jvm.Cond.laysFinal "ScriptTypes$Table" "ScriptTypes$Table" "all" "LScriptTypes;") ∈ lw_all := lw_g (lw_at lw_m11 86 rfl) rfl
theorem q2932 : (Jvm.Cond.soleField "ScriptTypes$Table" "all") ∈ lw_all := lw_g (lw_at lw_m11 87 rfl) rfl
theorem q2933 : (Jvm.Cond.laysFinal "ScriptTypes$Table" "ScriptTypes$Table" "low" "[J") ∈ lw_all := lw_g (lw_at lw_m11 88 rfl) rfl
theorem q2934 : (Jvm.Cond.soleField "ScriptTypes$Table" "low") ∈ lw_all := lw_g (lw_at lw_m11 89 rfl) rfl
theorem q2935 : (Jvm.Cond.laysFinal "ScriptTypes$Table" "ScriptTypes$Table" "high" "[J") ∈ lw_all := lw_g (lw_at lw_m11 90 rfl) rfl
theorem q2936 : (Jvm.Cond.soleField "ScriptTypes$Table" "high") ∈ lw_all := lw_g (lw_at lw_m11 91 rfl) rfl
theorem q2937 : (Jvm.Cond.laysFinal "ScriptTypes$Table" "ScriptTypes$Table" "rest" "[J") ∈ lw_all := lw_g (lw_at lw_m11 92 rfl) rfl
theorem q2938 : (Jvm.Cond.soleField "ScriptTypes$Table" "rest") ∈ lw_all := lw_g (lw_at lw_m11 93 rfl) rfl
theorem q2939 : (Jvm.Cond.laysFinal "ScriptTypes$Table" "ScriptTypes$Table" "protoLow" "[J") ∈ lw_all := lw_g (lw_at lw_m11 94 rfl) rfl
theorem q2940 : (Jvm.Cond.soleField "ScriptTypes$Table" "protoLow") ∈ lw_all := lw_g (lw_at lw_m11 95 rfl) rfl
theorem q2941 : (Jvm.Cond.laysFinal "ScriptTypes$Table" "ScriptTypes$Table" "protoHigh" "[J") ∈ lw_all := lw_g (lw_at lw_m11 96 rfl) rfl
theorem q2942 : (Jvm.Cond.soleField "ScriptTypes$Table" "protoHigh") ∈ lw_all := lw_g (lw_at lw_m11 97 rfl) rfl
theorem q2943 : (Jvm.Cond.laysFinal "ScriptTypes$Table" "ScriptTypes$Table" "linkLow" "[J") ∈ lw_all := lw_g (lw_at lw_m11 98 rfl) rfl
theorem q2944 : (Jvm.Cond.soleField "ScriptTypes$Table" "linkLow") ∈ lw_all := lw_g (lw_at lw_m11 99 rfl) rfl
theorem q2945 : (Jvm.Cond.laysFinal "ScriptTypes$Table" "ScriptTypes$Table" "linkHigh" "[J") ∈ lw_all := lw_g (lw_at lw_m11 100 rfl) rfl
theorem q2946 : (Jvm.Cond.soleField "ScriptTypes$Table" "linkHigh") ∈ lw_all := lw_g (lw_at lw_m11 101 rfl) rfl
theorem q2947 : (Jvm.Cond.laysFinal "ScriptTypes$Table" "ScriptTypes$Table" "flags" "[B") ∈ lw_all := lw_g (lw_at lw_m11 102 rfl) rfl
theorem q2948 : (Jvm.Cond.soleField "ScriptTypes$Table" "flags") ∈ lw_all := lw_g (lw_at lw_m11 103 rfl) rfl
theorem q2949 : (Jvm.Cond.laysFinal "ScriptTypes$Table" "ScriptTypes$Table" "height" "[I") ∈ lw_all := lw_g (lw_at lw_m11 104 rfl) rfl
theorem q2950 : (Jvm.Cond.soleField "ScriptTypes$Table" "height") ∈ lw_all := lw_g (lw_at lw_m11 105 rfl) rfl
theorem q2951 : (Jvm.Cond.laysFinal "ScriptTypes$Table" "ScriptTypes$Table" "from" "[I") ∈ lw_all := lw_g (lw_at lw_m11 106 rfl) rfl
theorem q2952 : (Jvm.Cond.soleField "ScriptTypes$Table" "from") ∈ lw_all := lw_g (lw_at lw_m11 107 rfl) rfl
theorem q2953 : (Jvm.Cond.laysFinal "ScriptTypes$Table" "ScriptTypes$Table" "thisLow" "[J") ∈ lw_all := lw_g (lw_at lw_m11 108 rfl) rfl
theorem q2954 : (Jvm.Cond.soleField "ScriptTypes$Table" "thisLow") ∈ lw_all := lw_g (lw_at lw_m11 109 rfl) rfl
theorem q2955 : (Jvm.Cond.laysFinal "ScriptTypes$Table" "ScriptTypes$Table" "thisHigh" "[J") ∈ lw_all := lw_g (lw_at lw_m11 110 rfl) rfl
theorem q2956 : (Jvm.Cond.soleField "ScriptTypes$Table" "thisHigh") ∈ lw_all := lw_g (lw_at lw_m11 111 rfl) rfl
theorem q2957 : (Jvm.Cond.laysFinal "ScriptTypes$Table" "ScriptTypes$Table" "thisRest" "[J") ∈ lw_all := lw_g (lw_at lw_m11 112 rfl) rfl
theorem q2958 : (Jvm.Cond.soleField "ScriptTypes$Table" "thisRest") ∈ lw_all := lw_g (lw_at lw_m11 113 rfl) rfl
theorem q2959 : (Jvm.Cond.laysFinal "ScriptTypes$Table" "ScriptTypes$Table" "scopeLow" "[J") ∈ lw_all := lw_g (lw_at lw_m11 114 rfl) rfl
theorem q2960 : (Jvm.Cond.soleField "ScriptTypes$Table" "scopeLow") ∈ lw_all := lw_g (lw_at lw_m11 115 rfl) rfl
theorem q2961 : (Jvm.Cond.laysFinal "ScriptTypes$Table" "ScriptTypes$Table" "scopeHigh" "[J") ∈ lw_all := lw_g (lw_at lw_m11 116 rfl) rfl
theorem q2962 : (Jvm.Cond.soleField "ScriptTypes$Table" "scopeHigh") ∈ lw_all := lw_g (lw_at lw_m11 117 rfl) rfl
theorem q2963 : (Jvm.Cond.lays "ScriptTypes$Table" "ScriptTypes$Table" "stackLow" "[J") ∈ lw_all := lw_g (lw_at lw_m11 118 rfl) rfl
theorem q2964 : (Jvm.Cond.soleField "ScriptTypes$Table" "stackLow") ∈ lw_all := lw_g (lw_at lw_m11 119 rfl) rfl
theorem q2965 : (Jvm.Cond.lays "ScriptTypes$Table" "ScriptTypes$Table" "stackHigh" "[J") ∈ lw_all := lw_g (lw_at lw_m11 120 rfl) rfl
theorem q2966 : (Jvm.Cond.soleField "ScriptTypes$Table" "stackHigh") ∈ lw_all := lw_g (lw_at lw_m11 121 rfl) rfl
theorem q2967 : (Jvm.Cond.lays "ScriptTypes$Table" "ScriptTypes$Table" "stackRest" "[J") ∈ lw_all := lw_g (lw_at lw_m11 122 rfl) rfl
theorem q2968 : (Jvm.Cond.soleField "ScriptTypes$Table" "stackRest") ∈ lw_all := lw_g (lw_at lw_m11 123 rfl) rfl
theorem q2969 : (Jvm.Cond.lays "ScriptTypes$Table" "ScriptTypes$Table" "used" "I") ∈ lw_all := lw_g (lw_at lw_m11 124 rfl) rfl
theorem q2970 : (Jvm.Cond.soleField "ScriptTypes$Table" "used") ∈ lw_all := lw_g (lw_at lw_m11 125 rfl) rfl
theorem q2971 : (Jvm.Cond.lays "ScriptTypes$Table" "ScriptTypes$Table" "grew" "Z") ∈ lw_all := lw_g (lw_at lw_m11 126 rfl) rfl
theorem q2972 : (Jvm.Cond.soleField "ScriptTypes$Table" "grew") ∈ lw_all := lw_g (lw_at lw_m11 127 rfl) rfl
theorem q2973 : (Jvm.Cond.superclass "ScriptTypes$Table" "java/lang/Object") ∈ lw_all := lw_g (lw_at lw_m11 128 rfl) rfl
theorem q2974 : (Jvm.Cond.classLink "ScriptTypes" (681 : Nat) "ScriptTypes$Work") ∈ lw_all := lw_g (lw_at lw_m11 129 rfl) rfl
theorem q2975 : (Jvm.Cond.instantiable "ScriptTypes$Work" (19 : Nat)) ∈ lw_all := lw_g (lw_at lw_m11 130 rfl) rfl
theorem q2976 : (Jvm.Cond.methodLink "ScriptTypes" (683 : Nat) ({ cls := "ScriptTypes$Work", name := "<init>", desc := "(LScriptTypes;)V" } : Jvm.MethodName)) ∈ lw_all := lw_g (lw_at lw_m11 131 rfl) rfl
theorem q2977 : (Jvm.Cond.instanceMethod ({ cls := "ScriptTypes$Work", name := "<init>", desc := "(LScriptTypes;)V" } : Jvm.MethodName)) ∈ lw_all := lw_g (lw_at lw_m11 132 rfl) rfl
theorem q2978 : (Jvm.Cond.code ({ cls := "ScriptTypes$Work", name := "<init>", desc := "(LScriptTypes;)V" } : Jvm.MethodName) prog_42_method_1_code (2 : Nat) (Option.none : Option Jvm.ClassFile.FieldType)) ∈ lw_all := lw_g (lw_at lw_m11 133 rfl) rfl
theorem q2979 : (Jvm.Cond.methodLink "ScriptTypes$Work" (3 : Nat) ({ cls := "java/lang/Object", name := "<init>", desc := "()V" } : Jvm.MethodName)) ∈ lw_all := lw_g (lw_at lw_m11 134 rfl) rfl
theorem q2980 : (Jvm.Cond.fieldLink "ScriptTypes$Work" (21 : Nat) "ScriptTypes$Work" "all" "LScriptTypes;") ∈ lw_all := lw_g (lw_at lw_m11 135 rfl) rfl
theorem q2981 : (Jvm.Cond.fieldLink "ScriptTypes$Work" (25 : Nat) "ScriptTypes$Work" "low" "[J") ∈ lw_all := lw_g (lw_at lw_m11 136 rfl) rfl
theorem q2982 : (Jvm.Cond.fieldLink "ScriptTypes$Kept" (35 : Nat) "ScriptTypes$Work" "low" "[J") ∈ lw_all := lw_g (lw_at lw_m11 137 rfl) rfl
theorem q2983 : (Jvm.Cond.fieldLink "ScriptTypes$Table" (97 : Nat) "ScriptTypes$Work" "low" "[J") ∈ lw_all := lw_g (lw_at lw_m11 138 rfl) rfl
theorem q2984 : (Jvm.Cond.fieldLink "ScriptTypes" (863 : Nat) "ScriptTypes$Work" "low" "[J") ∈ lw_all := lw_g (lw_at lw_m11 139 rfl) rfl
theorem q2985 : (Jvm.Cond.fieldLink "ScriptTypes$Work" (28 : Nat) "ScriptTypes$Work" "high" "[J") ∈ lw_all := lw_g (lw_at lw_m11 140 rfl) rfl
theorem q2986 : (Jvm.Cond.fieldLink "ScriptTypes$Kept" (36 : Nat) "ScriptTypes$Work" "high" "[J") ∈ lw_all := lw_g (lw_at lw_m11 141 rfl) rfl
theorem q2987 : (Jvm.Cond.fieldLink "ScriptTypes$Table" (104 : Nat) "ScriptTypes$Work" "high" "[J") ∈ lw_all := lw_g (lw_at lw_m11 142 rfl) rfl
theorem q2988 : (Jvm.Cond.fieldLink "ScriptTypes" (866 : Nat) "ScriptTypes$Work" "high" "[J") ∈ lw_all := lw_g (lw_at lw_m11 143 rfl) rfl
theorem q2989 : (Jvm.Cond.fieldLink "ScriptTypes$Work" (31 : Nat) "ScriptTypes$Work" "rest" "[J") ∈ lw_all := lw_g (lw_at lw_m11 144 rfl) rfl
theorem q2990 : (Jvm.Cond.fieldLink "ScriptTypes$Kept" (37 : Nat) "ScriptTypes$Work" "rest" "[J") ∈ lw_all := lw_g (lw_at lw_m11 145 rfl) rfl
theorem q2991 : (Jvm.Cond.fieldLink "ScriptTypes$Table" (105 : Nat) "ScriptTypes$Work" "rest" "[J") ∈ lw_all := lw_g (lw_at lw_m11 146 rfl) rfl
theorem q2992 : (Jvm.Cond.fieldLink "ScriptTypes" (810 : Nat) "ScriptTypes$Work" "rest" "[J") ∈ lw_all := lw_g (lw_at lw_m11 147 rfl) rfl
theorem q2993 : (Jvm.Cond.fieldLink "ScriptTypes$Work" (34 : Nat) "ScriptTypes$Work" "protoLow" "[J") ∈ lw_all := lw_g (lw_at lw_m11 148 rfl) rfl
theorem q2994 : (Jvm.Cond.fieldLink "ScriptTypes$Kept" (38 : Nat) "ScriptTypes$Work" "protoLow" "[J") ∈ lw_all := lw_g (lw_at lw_m11 149 rfl) rfl
theorem q2995 : (Jvm.Cond.fieldLink "ScriptTypes$Table" (109 : Nat) "ScriptTypes$Work" "protoLow" "[J") ∈ lw_all := lw_g (lw_at lw_m11 150 rfl) rfl
theorem q2996 : (Jvm.Cond.fieldLink "ScriptTypes" (734 : Nat) "ScriptTypes$Work" "protoLow" "[J") ∈ lw_all := lw_g (lw_at lw_m11 151 rfl) rfl
theorem q2997 : (Jvm.Cond.fieldLink "ScriptTypes$Work" (37 : Nat) "ScriptTypes$Work" "protoHigh" "[J") ∈ lw_all := lw_g (lw_at lw_m11 152 rfl) rfl
theorem q2998 : (Jvm.Cond.fieldLink "ScriptTypes$Table" (110 : Nat) "ScriptTypes$Work" "protoHigh" "[J") ∈ lw_all := lw_g (lw_at lw_m11 153 rfl) rfl
theorem q2999 : (Jvm.Cond.fieldLink "ScriptTypes" (880 : Nat) "ScriptTypes$Work" "protoHigh" "[J") ∈ lw_all := lw_g (lw_at lw_m11 154 rfl) rfl
theorem q3000 : (Jvm.Cond.fieldLink "ScriptTypes$Work" (40 : Nat) "ScriptTypes$Work" "linkLow" "[J") ∈ lw_all := lw_g (lw_at lw_m11 155 rfl) rfl
theorem q3001 : (Jvm.Cond.fieldLink "ScriptTypes$Table" (111 : Nat) "ScriptTypes$Work" "linkLow" "[J") ∈ lw_all := lw_g (lw_at lw_m11 156 rfl) rfl
theorem q3002 : (Jvm.Cond.fieldLink "ScriptTypes" (982 : Nat) "ScriptTypes$Work" "linkLow" "[J") ∈ lw_all := lw_g (lw_at lw_m11 157 rfl) rfl
theorem q3003 : (Jvm.Cond.fieldLink "ScriptTypes$Work" (43 : Nat) "ScriptTypes$Work" "linkHigh" "[J") ∈ lw_all := lw_g (lw_at lw_m11 158 rfl) rfl
theorem q3004 : (Jvm.Cond.fieldLink "ScriptTypes$Table" (112 : Nat) "ScriptTypes$Work" "linkHigh" "[J") ∈ lw_all := lw_g (lw_at lw_m11 159 rfl) rfl
theorem q3005 : (Jvm.Cond.fieldLink "ScriptTypes" (985 : Nat) "ScriptTypes$Work" "linkHigh" "[J") ∈ lw_all := lw_g (lw_at lw_m11 160 rfl) rfl
theorem q3006 : (Jvm.Cond.fieldLink "ScriptTypes$Work" (46 : Nat) "ScriptTypes$Work" "is" "[Z") ∈ lw_all := lw_g (lw_at lw_m11 161 rfl) rfl
theorem q3007 : (Jvm.Cond.fieldLink "ScriptTypes$Kept" (44 : Nat) "ScriptTypes$Work" "is" "[Z") ∈ lw_all := lw_g (lw_at lw_m11 162 rfl) rfl
theorem q3008 : (Jvm.Cond.fieldLink "ScriptTypes$Table" (131 : Nat) "ScriptTypes$Work" "is" "[Z") ∈ lw_all := lw_g (lw_at lw_m11 163 rfl) rfl
theorem q3009 : (Jvm.Cond.fieldLink "ScriptTypes" (731 : Nat) "ScriptTypes$Work" "is" "[Z") ∈ lw_all := lw_g (lw_at lw_m11 164 rfl) rfl
theorem q3010 : (Jvm.Cond.fieldLink "ScriptTypes$Work" (50 : Nat) "ScriptTypes$Work" "orNull" "[Z") ∈ lw_all := lw_g (lw_at lw_m11 165 rfl) rfl
theorem q3011 : (Jvm.Cond.fieldLink "ScriptTypes$Table" (135 : Nat) "ScriptTypes$Work" "orNull" "[Z") ∈ lw_all := lw_g (lw_at lw_m11 166 rfl) rfl
theorem q3012 : (Jvm.Cond.fieldLink "ScriptTypes" (877 : Nat) "ScriptTypes$Work" "orNull" "[Z") ∈ lw_all := lw_g (lw_at lw_m11 167 rfl) rfl
theorem q3013 : (Jvm.Cond.fieldLink "ScriptTypes$Work" (9 : Nat) "ScriptTypes$Work" "stackLow" "[J") ∈ lw_all := lw_g (lw_at lw_m11 168 rfl) rfl
theorem q3014 : (Jvm.Cond.fieldLink "ScriptTypes$Table" (117 : Nat) "ScriptTypes$Work" "stackLow" "[J") ∈ lw_all := lw_g (lw_at lw_m11 169 rfl) rfl
theorem q3015 : (Jvm.Cond.fieldLink "ScriptTypes" (779 : Nat) "ScriptTypes$Work" "stackLow" "[J") ∈ lw_all := lw_g (lw_at lw_m11 170 rfl) rfl
theorem q3016 : (Jvm.Cond.fieldLink "ScriptTypes$Work" (15 : Nat) "ScriptTypes$Work" "stackHigh" "[J") ∈ lw_all := lw_g (lw_at lw_m11 171 rfl) rfl
theorem q3017 : (Jvm.Cond.fieldLink "ScriptTypes$Table" (118 : Nat) "ScriptTypes$Work" "stackHigh" "[J") ∈ lw_all := lw_g (lw_at lw_m11 172 rfl) rfl
theorem q3018 : (Jvm.Cond.fieldLink "ScriptTypes" (782 : Nat) "ScriptTypes$Work" "stackHigh" "[J") ∈ lw_all := lw_g (lw_at lw_m11 173 rfl) rfl
theorem q3019 : (Jvm.Cond.fieldLink "ScriptTypes$Work" (18 : Nat) "ScriptTypes$Work" "stackRest" "[J") ∈ lw_all := lw_g (lw_at lw_m11 174 rfl) rfl
theorem q3020 : (Jvm.Cond.fieldLink "ScriptTypes$Table" (119 : Nat) "ScriptTypes$Work" "stackRest" "[J") ∈ lw_all := lw_g (lw_at lw_m11 175 rfl) rfl
theorem q3021 : (Jvm.Cond.fieldLink "ScriptTypes" (785 : Nat) "ScriptTypes$Work" "stackRest" "[J") ∈ lw_all := lw_g (lw_at lw_m11 176 rfl) rfl
theorem q3022 : (Jvm.Cond.fieldLink "ScriptTypes$Work" (57 : Nat) "ScriptTypes$Work" "top" "I") ∈ lw_all := lw_g (lw_at lw_m11 177 rfl) rfl
theorem q3023 : (Jvm.Cond.fieldLink "ScriptTypes$Table" (138 : Nat) "ScriptTypes$Work" "top" "I") ∈ lw_all := lw_g (lw_at lw_m11 178 rfl) rfl
theorem q3024 : (Jvm.Cond.fieldLink "ScriptTypes" (726 : Nat) "ScriptTypes$Work" "top" "I") ∈ lw_all := lw_g (lw_at lw_m11 179 rfl) rfl
theorem q3025 : (Jvm.Cond.fieldLink "ScriptTypes$Table" (120 : Nat) "ScriptTypes$Work" "thisLow" "J") ∈ lw_all := lw_g (lw_at lw_m11 180 rfl) rfl
theorem q3026 : (Jvm.Cond.fieldLink "ScriptTypes$Work" (110 : Nat) "ScriptTypes$Work" "thisLow" "J") ∈ lw_all := lw_g (lw_at lw_m11 181 rfl) rfl
theorem q3027 : (Jvm.Cond.fieldLink "ScriptTypes" (745 : Nat) "ScriptTypes$Work" "thisLow" "J") ∈ lw_all := lw_g (lw_at lw_m11 182 rfl) rfl
theorem q3028 : (Jvm.Cond.fieldLink "ScriptTypes$Table" (123 : Nat) "ScriptTypes$Work" "thisHigh" "J") ∈ lw_all := lw_g (lw_at lw_m11 183 rfl) rfl
theorem q3029 : (Jvm.Cond.fieldLink "ScriptTypes$Work" (116 : Nat) "ScriptTypes$Work" "thisHigh" "J") ∈ lw_all := lw_g (lw_at lw_m11 184 rfl) rfl
theorem q3030 : (Jvm.Cond.fieldLink "ScriptTypes" (748 : Nat) "ScriptTypes$Work" "thisHigh" "J") ∈ lw_all := lw_g (lw_at lw_m11 185 rfl) rfl
theorem q3031 : (Jvm.Cond.fieldLink "ScriptTypes$Table" (125 : Nat) "ScriptTypes$Work" "thisRest" "J") ∈ lw_all := lw_g (lw_at lw_m11 186 rfl) rfl
theorem q3032 : (Jvm.Cond.fieldLink "ScriptTypes$Work" (132 : Nat) "ScriptTypes$Work" "thisRest" "J") ∈ lw_all := lw_g (lw_at lw_m11 187 rfl) rfl
theorem q3033 : (Jvm.Cond.fieldLink "ScriptTypes" (751 : Nat) "ScriptTypes$Work" "thisRest" "J") ∈ lw_all := lw_g (lw_at lw_m11 188 rfl) rfl
theorem q3034 : (Jvm.Cond.fieldLink "ScriptTypes$Table" (127 : Nat) "ScriptTypes$Work" "scopeLow" "J") ∈ lw_all := lw_g (lw_at lw_m11 189 rfl) rfl
theorem q3035 : (Jvm.Cond.fieldLink "ScriptTypes$Work" (113 : Nat) "ScriptTypes$Work" "scopeLow" "J") ∈ lw_all := lw_g (lw_at lw_m11 190 rfl) rfl
theorem q3036 : (Jvm.Cond.fieldLink "ScriptTypes" (754 : Nat) "ScriptTypes$Work" "scopeLow" "J") ∈ lw_all := lw_g (lw_at lw_m11 191 rfl) rfl
theorem q3037 : (Jvm.Cond.fieldLink "ScriptTypes$Table" (129 : Nat) "ScriptTypes$Work" "scopeHigh" "J") ∈ lw_all := lw_g (lw_at lw_m11 192 rfl) rfl
theorem q3038 : (Jvm.Cond.fieldLink "ScriptTypes$Work" (119 : Nat) "ScriptTypes$Work" "scopeHigh" "J") ∈ lw_all := lw_g (lw_at lw_m11 193 rfl) rfl
theorem q3039 : (Jvm.Cond.fieldLink "ScriptTypes" (757 : Nat) "ScriptTypes$Work" "scopeHigh" "J") ∈ lw_all := lw_g (lw_at lw_m11 194 rfl) rfl
theorem q3040 : (Jvm.Cond.laysFinal "ScriptTypes$Work" "ScriptTypes$Work" "all" "LScriptTypes;") ∈ lw_all := lw_g (lw_at lw_m11 195 rfl) rfl
theorem q3041 : (Jvm.Cond.soleField "ScriptTypes$Work" "all") ∈ lw_all := lw_g (lw_at lw_m11 196 rfl) rfl
theorem q3042 : (Jvm.Cond.laysFinal "ScriptTypes$Work" "ScriptTypes$Work" "low" "[J") ∈ lw_all := lw_g (lw_at lw_m11 197 rfl) rfl
theorem q3043 : (Jvm.Cond.soleField "ScriptTypes$Work" "low") ∈ lw_all := lw_g (lw_at lw_m11 198 rfl) rfl
theorem q3044 : (Jvm.Cond.laysFinal "ScriptTypes$Work" "ScriptTypes$Work" "high" "[J") ∈ lw_all := lw_g (lw_at lw_m11 199 rfl) rfl
theorem q3045 : (Jvm.Cond.soleField "ScriptTypes$Work" "high") ∈ lw_all := lw_g (lw_at lw_m11 200 rfl) rfl
theorem q3046 : (Jvm.Cond.laysFinal "ScriptTypes$Work" "ScriptTypes$Work" "rest" "[J") ∈ lw_all := lw_g (lw_at lw_m11 201 rfl) rfl
theorem q3047 : (Jvm.Cond.soleField "ScriptTypes$Work" "rest") ∈ lw_all := lw_g (lw_at lw_m11 202 rfl) rfl
theorem q3048 : (Jvm.Cond.laysFinal "ScriptTypes$Work" "ScriptTypes$Work" "protoLow" "[J") ∈ lw_all := lw_g (lw_at lw_m11 203 rfl) rfl
theorem q3049 : (Jvm.Cond.soleField "ScriptTypes$Work" "protoLow") ∈ lw_all := lw_g (lw_at lw_m11 204 rfl) rfl
theorem q3050 : (Jvm.Cond.laysFinal "ScriptTypes$Work" "ScriptTypes$Work" "protoHigh" "[J") ∈ lw_all := lw_g (lw_at lw_m11 205 rfl) rfl
theorem q3051 : (Jvm.Cond.soleField "ScriptTypes$Work" "protoHigh") ∈ lw_all := lw_g (lw_at lw_m11 206 rfl) rfl
theorem q3052 : (Jvm.Cond.laysFinal "ScriptTypes$Work" "ScriptTypes$Work" "linkLow" "[J") ∈ lw_all := lw_g (lw_at lw_m11 207 rfl) rfl
theorem q3053 : (Jvm.Cond.soleField "ScriptTypes$Work" "linkLow") ∈ lw_all := lw_g (lw_at lw_m11 208 rfl) rfl
theorem q3054 : (Jvm.Cond.laysFinal "ScriptTypes$Work" "ScriptTypes$Work" "linkHigh" "[J") ∈ lw_all := lw_g (lw_at lw_m11 209 rfl) rfl
theorem q3055 : (Jvm.Cond.soleField "ScriptTypes$Work" "linkHigh") ∈ lw_all := lw_g (lw_at lw_m11 210 rfl) rfl
theorem q3056 : (Jvm.Cond.laysFinal "ScriptTypes$Work" "ScriptTypes$Work" "is" "[Z") ∈ lw_all := lw_g (lw_at lw_m11 211 rfl) rfl
theorem q3057 : (Jvm.Cond.soleField "ScriptTypes$Work" "is") ∈ lw_all := lw_g (lw_at lw_m11 212 rfl) rfl
theorem q3058 : (Jvm.Cond.laysFinal "ScriptTypes$Work" "ScriptTypes$Work" "orNull" "[Z") ∈ lw_all := lw_g (lw_at lw_m11 213 rfl) rfl
theorem q3059 : (Jvm.Cond.soleField "ScriptTypes$Work" "orNull") ∈ lw_all := lw_g (lw_at lw_m11 214 rfl) rfl
theorem q3060 : (Jvm.Cond.laysFinal "ScriptTypes$Work" "ScriptTypes$Work" "stackLow" "[J") ∈ lw_all := lw_g (lw_at lw_m11 215 rfl) rfl
theorem q3061 : (Jvm.Cond.soleField "ScriptTypes$Work" "stackLow") ∈ lw_all := lw_g (lw_at lw_m11 216 rfl) rfl
theorem q3062 : (Jvm.Cond.laysFinal "ScriptTypes$Work" "ScriptTypes$Work" "stackHigh" "[J") ∈ lw_all := lw_g (lw_at lw_m11 217 rfl) rfl
theorem q3063 : (Jvm.Cond.soleField "ScriptTypes$Work" "stackHigh") ∈ lw_all := lw_g (lw_at lw_m11 218 rfl) rfl
theorem q3064 : (Jvm.Cond.laysFinal "ScriptTypes$Work" "ScriptTypes$Work" "stackRest" "[J") ∈ lw_all := lw_g (lw_at lw_m11 219 rfl) rfl
theorem q3065 : (Jvm.Cond.soleField "ScriptTypes$Work" "stackRest") ∈ lw_all := lw_g (lw_at lw_m11 220 rfl) rfl
theorem q3066 : (Jvm.Cond.lays "ScriptTypes$Work" "ScriptTypes$Work" "top" "I") ∈ lw_all := lw_g (lw_at lw_m11 221 rfl) rfl
theorem q3067 : (Jvm.Cond.soleField "ScriptTypes$Work" "top") ∈ lw_all := lw_g (lw_at lw_m11 222 rfl) rfl
theorem q3068 : (Jvm.Cond.lays "ScriptTypes$Work" "ScriptTypes$Work" "thisLow" "J") ∈ lw_all := lw_g (lw_at lw_m11 223 rfl) rfl
theorem q3069 : (Jvm.Cond.soleField "ScriptTypes$Work" "thisLow") ∈ lw_all := lw_g (lw_at lw_m11 224 rfl) rfl
theorem q3070 : (Jvm.Cond.lays "ScriptTypes$Work" "ScriptTypes$Work" "thisHigh" "J") ∈ lw_all := lw_g (lw_at lw_m11 225 rfl) rfl
theorem q3071 : (Jvm.Cond.soleField "ScriptTypes$Work" "thisHigh") ∈ lw_all := lw_g (lw_at lw_m11 226 rfl) rfl
theorem q3072 : (Jvm.Cond.lays "ScriptTypes$Work" "ScriptTypes$Work" "thisRest" "J") ∈ lw_all := lw_g (lw_at lw_m11 227 rfl) rfl
theorem q3073 : (Jvm.Cond.soleField "ScriptTypes$Work" "thisRest") ∈ lw_all := lw_g (lw_at lw_m11 228 rfl) rfl
theorem q3074 : (Jvm.Cond.lays "ScriptTypes$Work" "ScriptTypes$Work" "scopeLow" "J") ∈ lw_all := lw_g (lw_at lw_m11 229 rfl) rfl
theorem q3075 : (Jvm.Cond.soleField "ScriptTypes$Work" "scopeLow") ∈ lw_all := lw_g (lw_at lw_m11 230 rfl) rfl
theorem q3076 : (Jvm.Cond.lays "ScriptTypes$Work" "ScriptTypes$Work" "scopeHigh" "J") ∈ lw_all := lw_g (lw_at lw_m11 231 rfl) rfl
theorem q3077 : (Jvm.Cond.soleField "ScriptTypes$Work" "scopeHigh") ∈ lw_all := lw_g (lw_at lw_m11 232 rfl) rfl
theorem q3078 : (Jvm.Cond.superclass "ScriptTypes$Work" "java/lang/Object") ∈ lw_all := lw_g (lw_at lw_m11 233 rfl) rfl
theorem q3079 : (Jvm.Cond.methodLink "ScriptTypes" (691 : Nat) ({ cls := "ScriptTypes", name := "masks", desc := "()V" } : Jvm.MethodName)) ∈ lw_all := lw_g (lw_at lw_m11 234 rfl) rfl
theorem q3080 : (Jvm.Cond.privateMethod ({ cls := "ScriptTypes", name := "masks", desc := "()V" } : Jvm.MethodName)) ∈ lw_tbl := lw_at lw_m11 235 rfl
theorem q3081 : (Jvm.Cond.instanceMethod ({ cls := "ScriptTypes", name := "masks", desc := "()V" } : Jvm.MethodName)) ∈ lw_all := lw_g (lw_at lw_m11 236 rfl) rfl
theorem q3082 : (Jvm.Cond.code ({ cls := "ScriptTypes", name := "masks", desc := "()V" } : Jvm.MethodName) prog_1_method_97_code (3 : Nat) (Option.none : Option Jvm.ClassFile.FieldType)) ∈ lw_all := lw_g (lw_at lw_m11 237 rfl) rfl
theorem q3083 : (Jvm.Cond.methodLink "ScriptTypes" (664 : Nat) ({ cls := "ScriptTypes", name := "isInt", desc := "(I)Z" } : Jvm.MethodName)) ∈ lw_all := lw_g (lw_at lw_m11 238 rfl) rfl
theorem q3084 : (Jvm.Cond.privateMethod ({ cls := "ScriptTypes", name := "isInt", desc := "(I)Z" } : Jvm.MethodName)) ∈ lw_tbl := lw_at lw_m11 239 rfl
theorem q3085 : (Jvm.Cond.instanceMethod ({ cls := "ScriptTypes", name := "isInt", desc := "(I)Z" } : Jvm.MethodName)) ∈ lw_all := lw_g (lw_at lw_m12 0 rfl) rfl
theorem q3086 : (Jvm.Cond.code ({ cls := "ScriptTypes", name := "isInt", desc := "(I)Z" } : Jvm.MethodName) prog_1_method_95_code (4 : Nat) (Option.some Jvm.ClassFile.FieldType.boolean)) ∈ lw_all := lw_g (lw_at lw_m12 1 rfl) rfl
theorem q3087 : (Jvm.Cond.methodLink "ScriptTypes" (667 : Nat) ({ cls := "ScriptTypes", name := "bit", desc := "(IZI)V" } : Jvm.MethodName)) ∈ lw_all := lw_g (lw_at lw_m12 2 rfl) rfl
theorem q3088 : (Jvm.Cond.privateMethod ({ cls := "ScriptTypes", name := "bit", desc := "(IZI)V" } : Jvm.MethodName)) ∈ lw_tbl := lw_at lw_m12 3 rfl
theorem q3089 : (Jvm.Cond.instanceMethod ({ cls := "ScriptTypes", name := "bit", desc := "(IZI)V" } : Jvm.MethodName)) ∈ lw_all := lw_g (lw_at lw_m12 4 rfl) rfl
theorem q3090 : (Jvm.Cond.code ({ cls := "ScriptTypes", name := "bit", desc := "(IZI)V" } : Jvm.MethodName) prog_1_method_94_code (8 : Nat) (Option.none : Option Jvm.ClassFile.FieldType)) ∈ lw_all := lw_g (lw_at lw_m12 5 rfl) rfl
theorem q3091 : (Jvm.Cond.methodLink "ScriptTypes" (697 : Nat) ({ cls := "ScriptTypes$Table", name := "clear", desc := "(I)V" } : Jvm.MethodName)) ∈ lw_all := lw_g (lw_at lw_m12 6 rfl) rfl
theorem q3092 : (Jvm.Cond.instanceMethod ({ cls := "ScriptTypes$Table", name := "clear", desc := "(I)V" } : Jvm.MethodName)) ∈ lw_all := lw_g (lw_at lw_m12 7 rfl) rfl
theorem q3093 : (Jvm.Cond.selects "ScriptTypes$Table" ({ cls := "ScriptTypes$Table", name := "clear", desc := "(I)V" } : Jvm.MethodName) ({ cls := "ScriptTypes$Table", name := "clear", desc := "(I)V" } : Jvm.MethodName)) ∈ lw_all := lw_g (lw_at lw_m12 8 rfl) rfl
theorem q3094 : (Jvm.Cond.code ({ cls := "ScriptTypes$Table", name := "clear", desc := "(I)V" } : Jvm.MethodName) prog_35_method_2_code (3 : Nat) (Option.none : Option Jvm.ClassFile.FieldType)) ∈ lw_all := lw_g (lw_at lw_m12 9 rfl) rfl
theorem q3095 : (Jvm.Cond.methodLink "ScriptTypes" (700 : Nat) ({ cls := "ScriptTypes", name := "atFirst", desc := "()V" } : Jvm.MethodName)) ∈ lw_all := lw_g (lw_at lw_m12 10 rfl) rfl
theorem q3096 : (Jvm.Cond.privateMethod ({ cls := "ScriptTypes", name := "atFirst", desc := "()V" } : Jvm.MethodName)) ∈ lw_tbl := lw_at lw_m12 11 rfl
theorem q3097 : (Jvm.Cond.instanceMethod ({ cls := "ScriptTypes", name := "atFirst", desc := "()V" } : Jvm.MethodName)) ∈ lw_all := lw_g (lw_at lw_m12 12 rfl) rfl
theorem q3098 : (Jvm.Cond.code ({ cls := "ScriptTypes", name := "atFirst", desc := "()V" } : Jvm.MethodName) prog_1_method_100_code (3 : Nat) (Option.none : Option Jvm.ClassFile.FieldType)) ∈ lw_all := lw_g (lw_at lw_m12 13 rfl) rfl
theorem q3099 : (Jvm.Cond.methodLink "ScriptTypes" (727 : Nat) ({ cls := "ScriptTypes$Work", name := "renew", desc := "(IIZ)V" } : Jvm.MethodName)) ∈ lw_all := lw_g (lw_at lw_m12 14 rfl) rfl
theorem q3100 : (Jvm.Cond.instanceMethod ({ cls := "ScriptTypes$Work", name := "renew", desc := "(IIZ)V" } : Jvm.MethodName)) ∈ lw_all := lw_g (lw_at lw_m12 15 rfl) rfl
theorem q3101 : (Jvm.Cond.selects "ScriptTypes$Work" ({ cls := "ScriptTypes$Work", name := "renew", desc := "(IIZ)V" } : Jvm.MethodName) ({ cls := "ScriptTypes$Work", name := "renew", desc := "(IIZ)V" } : Jvm.MethodName)) ∈ lw_all := lw_g (lw_at lw_m12 16 rfl) rfl
theorem q3102 : (Jvm.Cond.code ({ cls := "ScriptTypes$Work", name := "renew", desc := "(IIZ)V" } : Jvm.MethodName) prog_42_method_7_code (5 : Nat) (Option.none : Option Jvm.ClassFile.FieldType)) ∈ lw_all := lw_g (lw_at lw_m12 17 rfl) rfl
theorem q3103 : (Jvm.Cond.methodLink "ScriptTypes$Work" (79 : Nat) ({ cls := "ScriptTypes$Work", name := "cell", desc := "(II)I" } : Jvm.MethodName)) ∈ lw_all := lw_g (lw_at lw_m12 18 rfl) rfl
theorem q3104 : (Jvm.Cond.instanceMethod ({ cls := "ScriptTypes$Work", name := "cell", desc := "(II)I" } : Jvm.MethodName)) ∈ lw_all := lw_g (lw_at lw_m12 19 rfl) rfl
theorem q3105 : (Jvm.Cond.selects "ScriptTypes$Work" ({ cls := "ScriptTypes$Work", name := "cell", desc := "(II)I" } : Jvm.MethodName) ({ cls := "ScriptTypes$Work", name := "cell", desc := "(II)I" } : Jvm.MethodName)) ∈ lw_all := lw_g (lw_at lw_m12 20 rfl) rfl
theorem q3106 : (Jvm.Cond.code ({ cls := "ScriptTypes$Work", name := "cell", desc := "(II)I" } : Jvm.MethodName) prog_42_method_2_code (3 : Nat) (Option.some Jvm.ClassFile.FieldType.int)) ∈ lw_all := lw_g (lw_at lw_m12 21 rfl) rfl
theorem q3107 : (Jvm.Cond.constantLong "ScriptTypes$Work" (83 : Nat) (512 : Int64)) ∈ lw_all := lw_g (lw_at lw_m12 22 rfl) rfl
theorem q3108 : (Jvm.Cond.methodLink "ScriptTypes" (722 : Nat) ({ cls := "ScriptTypes$Work", name := "put", desc := "(IIJJJ)V" } : Jvm.MethodName)) ∈ lw_all := lw_g (lw_at lw_m12 23 rfl) rfl
theorem q3109 : (Jvm.Cond.instanceMethod ({ cls := "ScriptTypes$Work", name := "put", desc := "(IIJJJ)V" } : Jvm.MethodName)) ∈ lw_all := lw_g (lw_at lw_m12 24 rfl) rfl
theorem q3110 : (Jvm.Cond.selects "ScriptTypes$Work" ({ cls := "ScriptTypes$Work", name := "put", desc := "(IIJJJ)V" } : Jvm.MethodName) ({ cls := "ScriptTypes$Work", name := "put", desc := "(IIJJJ)V" } : Jvm.MethodName)) ∈ lw_all := lw_g (lw_at lw_m12 25 rfl) rfl
theorem q3111 : (Jvm.Cond.code ({ cls := "ScriptTypes$Work", name := "put", desc := "(IIJJJ)V" } : Jvm.MethodName) prog_42_method_8_code (10 : Nat) (Option.none : Option Jvm.ClassFile.FieldType)) ∈ lw_all := lw_g (lw_at lw_m12 26 rfl) rfl
theorem q3112 : (Jvm.Cond.methodLink "ScriptTypes" (738 : Nat) ({ cls := "ScriptTypes", name := "thing", desc := "(III)V" } : Jvm.MethodName)) ∈ lw_all := lw_g (lw_at lw_m12 27 rfl) rfl
theorem q3113 : (Jvm.Cond.privateMethod ({ cls := "ScriptTypes", name := "thing", desc := "(III)V" } : Jvm.MethodName)) ∈ lw_tbl := lw_at lw_m12 28 rfl
theorem q3114 : (Jvm.Cond.instanceMethod ({ cls := "ScriptTypes", name := "thing", desc := "(III)V" } : Jvm.MethodName)) ∈ lw_all := lw_g (lw_at lw_m12 29 rfl) rfl
theorem q3115 : (Jvm.Cond.code ({ cls := "ScriptTypes", name := "thing", desc := "(III)V" } : Jvm.MethodName) prog_1_method_99_code (4 : Nat) (Option.none : Option Jvm.ClassFile.FieldType)) ∈ lw_all := lw_g (lw_at lw_m12 30 rfl) rfl
theorem q3116 : (Jvm.Cond.methodLink "ScriptTypes" (741 : Nat) ({ cls := "ScriptTypes", name := "textSet", desc := "(I)J" } : Jvm.MethodName)) ∈ lw_all := lw_g (lw_at lw_m12 31 rfl) rfl
theorem q3117 : (Jvm.Cond.static ({ cls := "ScriptTypes", name := "textSet", desc := "(I)J" } : Jvm.MethodName)) ∈ lw_all := lw_g (lw_at lw_m12 32 rfl) rfl
theorem q3118 : (Jvm.Cond.code ({ cls := "ScriptTypes", name := "textSet", desc := "(I)J" } : Jvm.MethodName) prog_1_method_88_code (1 : Nat) (Option.some Jvm.ClassFile.FieldType.long)) ∈ lw_all := lw_g (lw_at lw_m12 33 rfl) rfl
theorem q3119 : (Jvm.Cond.methodLink "ScriptTypes" (703 : Nat) ({ cls := "ScriptTypes", name := "goes", desc := "(ILScriptTypes$Work;)V" } : Jvm.MethodName)) ∈ lw_all := lw_g (lw_at lw_m12 34 rfl) rfl
theorem q3120 : (Jvm.Cond.privateMethod ({ cls := "ScriptTypes", name := "goes", desc := "(ILScriptTypes$Work;)V" } : Jvm.MethodName)) ∈ lw_tbl := lw_at lw_m12 35 rfl
theorem q3121 : (Jvm.Cond.instanceMethod ({ cls := "ScriptTypes", name := "goes", desc := "(ILScriptTypes$Work;)V" } : Jvm.MethodName)) ∈ lw_all := lw_g (lw_at lw_m12 36 rfl) rfl
theorem q3122 : (Jvm.Cond.code ({ cls := "ScriptTypes", name := "goes", desc := "(ILScriptTypes$Work;)V" } : Jvm.MethodName) prog_1_method_101_code (5 : Nat) (Option.none : Option Jvm.ClassFile.FieldType)) ∈ lw_all := lw_g (lw_at lw_m12 37 rfl) rfl
theorem q3123 : (Jvm.Cond.methodLink "ScriptTypes" (760 : Nat) ({ cls := "ScriptTypes$Table", name := "join", desc := "(ILScriptTypes$Work;)Z" } : Jvm.MethodName)) ∈ lw_all := lw_g (lw_at lw_m12 38 rfl) rfl
theorem q3124 : (Jvm.Cond.instanceMethod ({ cls := "ScriptTypes$Table", name := "join", desc := "(ILScriptTypes$Work;)Z" } : Jvm.MethodName)) ∈ lw_all := lw_g (lw_at lw_m12 39 rfl) rfl
theorem q3125 : (Jvm.Cond.selects "ScriptTypes$Table" ({ cls := "ScriptTypes$Table", name := "join", desc := "(ILScriptTypes$Work;)Z" } : Jvm.MethodName) ({ cls := "ScriptTypes$Table", name := "join", desc := "(ILScriptTypes$Work;)Z" } : Jvm.MethodName)) ∈ lw_all := lw_g (lw_at lw_m12 40 rfl) rfl
theorem q3126 : (Jvm.Cond.code ({ cls := "ScriptTypes$Table", name := "join", desc := "(ILScriptTypes$Work;)Z" } : Jvm.MethodName) prog_35_method_5_code (8 : Nat) (Option.some Jvm.ClassFile.FieldType.boolean)) ∈ lw_all := lw_g (lw_at lw_m12 41 rfl) rfl
theorem q3127 : (Jvm.Cond.methodLink "ScriptTypes$Table" (87 : Nat) ({ cls := "ScriptTypes$Table", name := "begin", desc := "(ILScriptTypes$Work;)V" } : Jvm.MethodName)) ∈ lw_all := lw_g (lw_at lw_m12 42 rfl) rfl
theorem q3128 : (Jvm.Cond.privateMethod ({ cls := "ScriptTypes$Table", name := "begin", desc := "(ILScriptTypes$Work;)V" } : Jvm.MethodName)) ∈ lw_tbl := lw_at lw_m12 43 rfl
theorem q3129 : (Jvm.Cond.instanceMethod ({ cls := "ScriptTypes$Table", name := "begin", desc := "(ILScriptTypes$Work;)V" } : Jvm.MethodName)) ∈ lw_all := lw_g (lw_at lw_m12 44 rfl) rfl
theorem q3130 : (Jvm.Cond.code ({ cls := "ScriptTypes$Table", name := "begin", desc := "(ILScriptTypes$Work;)V" } : Jvm.MethodName) prog_35_method_7_code (7 : Nat) (Option.none : Option Jvm.ClassFile.FieldType)) ∈ lw_all := lw_g (lw_at lw_m12 45 rfl) rfl
theorem q3131 : (Jvm.Cond.methodLink "ScriptTypes$Table" (141 : Nat) ({ cls := "ScriptTypes$Table", name := "grown", desc := "([J)[J" } : Jvm.MethodName)) ∈ lw_all := lw_g (lw_at lw_m12 46 rfl) rfl
theorem q3132 : (Jvm.Cond.privateMethod ({ cls := "ScriptTypes$Table", name := "grown", desc := "([J)[J" } : Jvm.MethodName)) ∈ lw_tbl := lw_at lw_m12 47 rfl
theorem q3133 : (Jvm.Cond.instanceMethod ({ cls := "ScriptTypes$Table", name := "grown", desc := "([J)[J" } : Jvm.MethodName)) ∈ lw_all := lw_g (lw_at lw_m12 48 rfl) rfl
theorem q3134 : (Jvm.Cond.code ({ cls := "ScriptTypes$Table", name := "grown", desc := "([J)[J" } : Jvm.MethodName) prog_35_method_3_code (3 : Nat) (Option.some (Jvm.ClassFile.FieldType.array Jvm.ClassFile.FieldType.long))) ∈ lw_all := lw_g (lw_at lw_m12 49 rfl) rfl
theorem q3135 : (Jvm.Cond.methodLink "ScriptTypes$Table" (77 : Nat) ({ cls := "java/lang/System", name := "arraycopy", desc := "(Ljava/lang/Object;ILjava/lang/Object;II)V" } : Jvm.MethodName)) ∈ lw_all := lw_g (lw_at lw_m12 50 rfl) rfl
theorem q3136 : (Jvm.Cond.methodLink "ScriptTypes$Table" (113 : Nat) ({ cls := "ScriptTypes$Table", name := "flagsOf", desc := "(LScriptTypes$Work;I)I" } : Jvm.MethodName)) ∈ lw_all := lw_g (lw_at lw_m12 51 rfl) rfl
theorem q3137 : (Jvm.Cond.privateMethod ({ cls := "ScriptTypes$Table", name := "flagsOf", desc := "(LScriptTypes$Work;I)I" } : Jvm.MethodName)) ∈ lw_tbl := lw_at lw_m12 52 rfl
theorem q3138 : (Jvm.Cond.instanceMethod ({ cls := "ScriptTypes$Table", name := "flagsOf", desc := "(LScriptTypes$Work;I)I" } : Jvm.MethodName)) ∈ lw_all := lw_g (lw_at lw_m12 53 rfl) rfl
theorem q3139 : (Jvm.Cond.code ({ cls := "ScriptTypes$Table", name := "flagsOf", desc := "(LScriptTypes$Work;I)I" } : Jvm.MethodName) prog_35_method_6_code (3 : Nat) (Option.some Jvm.ClassFile.FieldType.int)) ∈ lw_all := lw_g (lw_at lw_m12 54 rfl) rfl
theorem q3140 : (Jvm.Cond.methodLink "ScriptTypes$Table" (100 : Nat) ({ cls := "ScriptTypes$Table", name := "more", desc := "(JJ)J" } : Jvm.MethodName)) ∈ lw_all := lw_g (lw_at lw_m12 55 rfl) rfl
theorem q3141 : (Jvm.Cond.privateMethod ({ cls := "ScriptTypes$Table", name := "more", desc := "(JJ)J" } : Jvm.MethodName)) ∈ lw_tbl := lw_at lw_m12 56 rfl
theorem q3142 : (Jvm.Cond.instanceMethod ({ cls := "ScriptTypes$Table", name := "more", desc := "(JJ)J" } : Jvm.MethodName)) ∈ lw_all := lw_g (lw_at lw_m12 57 rfl) rfl
theorem q3143 : (Jvm.Cond.code ({ cls := "ScriptTypes$Table", name := "more", desc := "(JJ)J" } : Jvm.MethodName) prog_35_method_4_code (5 : Nat) (Option.some Jvm.ClassFile.FieldType.long)) ∈ lw_all := lw_g (lw_at lw_m12 58 rfl) rfl
theorem q3144 : (Jvm.Cond.methodLinkNest "ScriptTypes$Table" (106 : Nat) ({ cls := "ScriptTypes", name := "joined", desc := "(JJ)J" } : Jvm.MethodName) "ScriptTypes") ∈ lw_tbl := lw_at lw_m12 59 rfl
theorem q3145 : (Jvm.Cond.methodLink "ScriptTypes" (707 : Nat) ({ cls := "ScriptTypes$Table", name := "load", desc := "(ILScriptTypes$Work;)V" } : Jvm.MethodName)) ∈ lw_all := lw_g (lw_at lw_m12 60 rfl) rfl
theorem q3146 : (Jvm.Cond.instanceMethod ({ cls := "ScriptTypes$Table", name := "load", desc := "(ILScriptTypes$Work;)V" } : Jvm.MethodName)) ∈ lw_all := lw_g (lw_at lw_m12 61 rfl) rfl
theorem q3147 : (Jvm.Cond.selects "ScriptTypes$Table" ({ cls := "ScriptTypes$Table", name := "load", desc := "(ILScriptTypes$Work;)V" } : Jvm.MethodName) ({ cls := "ScriptTypes$Table", name := "load", desc := "(ILScriptTypes$Work;)V" } : Jvm.MethodName)) ∈ lw_all := lw_g (lw_at lw_m12 62 rfl) rfl
theorem q3148 : (Jvm.Cond.code ({ cls := "ScriptTypes$Table", name := "load", desc := "(ILScriptTypes$Work;)V" } : Jvm.MethodName) prog_35_method_9_code (3 : Nat) (Option.none : Option Jvm.ClassFile.FieldType)) ∈ lw_all := lw_g (lw_at lw_m12 63 rfl) rfl
theorem q3149 : (Jvm.Cond.methodLink "ScriptTypes$Table" (145 : Nat) ({ cls := "ScriptTypes$Table", name := "heap", desc := "(ILScriptTypes$Work;)V" } : Jvm.MethodName)) ∈ lw_all := lw_g (lw_at lw_m12 64 rfl) rfl
theorem q3150 : (Jvm.Cond.instanceMethod ({ cls := "ScriptTypes$Table", name := "heap", desc := "(ILScriptTypes$Work;)V" } : Jvm.MethodName)) ∈ lw_all := lw_g (lw_at lw_m12 65 rfl) rfl
theorem q3151 : (Jvm.Cond.selects "ScriptTypes$Table" ({ cls := "ScriptTypes$Table", name := "heap", desc := "(ILScriptTypes$Work;)V" } : Jvm.MethodName) ({ cls := "ScriptTypes$Table", name := "heap", desc := "(ILScriptTypes$Work;)V" } : Jvm.MethodName)) ∈ lw_all := lw_g (lw_at lw_m12 66 rfl) rfl
theorem q3152 : (Jvm.Cond.code ({ cls := "ScriptTypes$Table", name := "heap", desc := "(ILScriptTypes$Work;)V" } : Jvm.MethodName) prog_35_method_8_code (7 : Nat) (Option.none : Option Jvm.ClassFile.FieldType)) ∈ lw_all := lw_g (lw_at lw_m12 67 rfl) rfl
theorem q3153 : (Jvm.Cond.methodLink "ScriptTypes" (716 : Nat) ({ cls := "ScriptTypes", name := "transfer", desc := "(III)V" } : Jvm.MethodName)) ∈ lw_all := lw_g (lw_at lw_m12 68 rfl) rfl
theorem q3154 : (Jvm.Cond.privateMethod ({ cls := "ScriptTypes", name := "transfer", desc := "(III)V" } : Jvm.MethodName)) ∈ lw_tbl := lw_at lw_m12 69 rfl
theorem q3155 : (Jvm.Cond.instanceMethod ({ cls := "ScriptTypes", name := "transfer", desc := "(III)V" } : Jvm.MethodName)) ∈ lw_all := lw_g (lw_at lw_m12 70 rfl) rfl
theorem q3156 : (Jvm.Cond.code ({ cls := "ScriptTypes", name := "transfer", desc := "(III)V" } : Jvm.MethodName) prog_1_method_115_code (4 : Nat) (Option.none : Option Jvm.ClassFile.FieldType)) ∈ lw_all := lw_g (lw_at lw_m12 71 rfl) rfl
theorem q3157 : (Jvm.Cond.methodLink "ScriptTypes" (889 : Nat) ({ cls := "ScriptTypes", name := "numberSet", desc := "(I)J" } : Jvm.MethodName)) ∈ lw_all := lw_g (lw_at lw_m12 72 rfl) rfl
theorem q3158 : (Jvm.Cond.static ({ cls := "ScriptTypes", name := "numberSet", desc := "(I)J" } : Jvm.MethodName)) ∈ lw_all := lw_g (lw_at lw_m12 73 rfl) rfl
theorem q3159 : (Jvm.Cond.code ({ cls := "ScriptTypes", name := "numberSet", desc := "(I)J" } : Jvm.MethodName) prog_1_method_87_code (1 : Nat) (Option.some Jvm.ClassFile.FieldType.long)) ∈ lw_all := lw_g (lw_at lw_m12 74 rfl) rfl
theorem q3160 : (Jvm.Cond.methodLink "ScriptTypes" (895 : Nat) ({ cls := "ScriptTypes", name := "nextWith", desc := "(LScriptTypes$Bag;)V" } : Jvm.MethodName)) ∈ lw_all := lw_g (lw_at lw_m12 75 rfl) rfl
theorem q3161 : (Jvm.Cond.privateMethod ({ cls := "ScriptTypes", name := "nextWith", desc := "(LScriptTypes$Bag;)V" } : Jvm.MethodName)) ∈ lw_tbl := lw_at lw_m12 76 rfl
theorem q3162 : (Jvm.Cond.instanceMethod ({ cls := "ScriptTypes", name := "nextWith", desc := "(LScriptTypes$Bag;)V" } : Jvm.MethodName)) ∈ lw_all := lw_g (lw_at lw_m12 77 rfl) rfl
theorem q3163 : (Jvm.Cond.code ({ cls := "ScriptTypes", name := "nextWith", desc := "(LScriptTypes$Bag;)V" } : Jvm.MethodName) prog_1_method_103_code (2 : Nat) (Option.none : Option Jvm.ClassFile.FieldType)) ∈ lw_all := lw_g (lw_at lw_m12 78 rfl) rfl
theorem q3164 : (Jvm.Cond.methodLink "ScriptTypes" (764 : Nat) ({ cls := "ScriptTypes$Bag", name := "isEmpty", desc := "()Z" } : Jvm.MethodName)) ∈ lw_all := lw_g (lw_at lw_m12 79 rfl) rfl
theorem q3165 : (Jvm.Cond.instanceMethod ({ cls := "ScriptTypes$Bag", name := "isEmpty", desc := "()Z" } : Jvm.MethodName)) ∈ lw_all := lw_g (lw_at lw_m12 80 rfl) rfl
theorem q3166 : (Jvm.Cond.selects "ScriptTypes$Bag" ({ cls := "ScriptTypes$Bag", name := "isEmpty", desc := "()Z" } : Jvm.MethodName) ({ cls := "ScriptTypes$Bag", name := "isEmpty", desc := "()Z" } : Jvm.MethodName)) ∈ lw_all := lw_g (lw_at lw_m12 81 rfl) rfl
theorem q3167 : (Jvm.Cond.code ({ cls := "ScriptTypes$Bag", name := "isEmpty", desc := "()Z" } : Jvm.MethodName) prog_4_method_8_code (1 : Nat) (Option.some Jvm.ClassFile.FieldType.boolean)) ∈ lw_all := lw_g (lw_at lw_m12 82 rfl) rfl
theorem q3168 : (Jvm.Cond.constantLong "ScriptTypes$Bag" (29 : Nat) (511 : Int64)) ∈ lw_all := lw_g (lw_at lw_m12 83 rfl) rfl
theorem q3169 : (Jvm.Cond.methodLink "ScriptTypes" (767 : Nat) ({ cls := "ScriptTypes$Work", name := "push", desc := "(LScriptTypes$Bag;)V" } : Jvm.MethodName)) ∈ lw_all := lw_g (lw_at lw_m12 84 rfl) rfl
theorem q3170 : (Jvm.Cond.instanceMethod ({ cls := "ScriptTypes$Work", name := "push", desc := "(LScriptTypes$Bag;)V" } : Jvm.MethodName)) ∈ lw_all := lw_g (lw_at lw_m12 85 rfl) rfl
theorem q3171 : (Jvm.Cond.selects "ScriptTypes$Work" ({ cls := "ScriptTypes$Work", name := "push", desc := "(LScriptTypes$Bag;)V" } : Jvm.MethodName) ({ cls := "ScriptTypes$Work", name := "push", desc := "(LScriptTypes$Bag;)V" } : Jvm.MethodName)) ∈ lw_all := lw_g (lw_at lw_m12 86 rfl) rfl
theorem q3172 : (Jvm.Cond.code ({ cls := "ScriptTypes$Work", name := "push", desc := "(LScriptTypes$Bag;)V" } : Jvm.MethodName) prog_42_method_4_code (2 : Nat) (Option.none : Option Jvm.ClassFile.FieldType)) ∈ lw_all := lw_g (lw_at lw_m12 87 rfl) rfl
theorem q3173 : (Jvm.Cond.constantLong "ScriptTypes$Work" (69 : Nat) (-513 : Int64)) ∈ lw_all := lw_g (lw_at lw_m12 88 rfl) rfl
theorem q3174 : (Jvm.Cond.methodLink "ScriptTypes$Work" (71 : Nat) ({ cls := "ScriptTypes$Work", name := "push", desc := "(JJJ)V" } : Jvm.MethodName)) ∈ lw_all := lw_g (lw_at lw_m12 89 rfl) rfl
theorem q3175 : (Jvm.Cond.instanceMethod ({ cls := "ScriptTypes$Work", name := "push", desc := "(JJJ)V" } : Jvm.MethodName)) ∈ lw_all := lw_g (lw_at lw_m12 90 rfl) rfl
theorem q3176 : (Jvm.Cond.selects "ScriptTypes$Work" ({ cls := "ScriptTypes$Work", name := "push", desc := "(JJJ)V" } : Jvm.MethodName) ({ cls := "ScriptTypes$Work", name := "push", desc := "(JJJ)V" } : Jvm.MethodName)) ∈ lw_all := lw_g (lw_at lw_m12 91 rfl) rfl
theorem q3177 : (Jvm.Cond.code ({ cls := "ScriptTypes$Work", name := "push", desc := "(JJJ)V" } : Jvm.MethodName) prog_42_method_3_code (7 : Nat) (Option.none : Option Jvm.ClassFile.FieldType)) ∈ lw_all := lw_g (lw_at lw_m12 92 rfl) rfl
theorem q3178 : (Jvm.Cond.methodLink "ScriptTypes" (770 : Nat) ({ cls := "ScriptTypes", name := "next", desc := "(I)V" } : Jvm.MethodName)) ∈ lw_all := lw_g (lw_at lw_m12 93 rfl) rfl
theorem q3179 : (Jvm.Cond.privateMethod ({ cls := "ScriptTypes", name := "next", desc := "(I)V" } : Jvm.MethodName)) ∈ lw_tbl := lw_at lw_m12 94 rfl
theorem q3180 : (Jvm.Cond.instanceMethod ({ cls := "ScriptTypes", name := "next", desc := "(I)V" } : Jvm.MethodName)) ∈ lw_all := lw_g (lw_at lw_m12 95 rfl) rfl
theorem q3181 : (Jvm.Cond.code ({ cls := "ScriptTypes", name := "next", desc := "(I)V" } : Jvm.MethodName) prog_1_method_102_code (2 : Nat) (Option.none : Option Jvm.ClassFile.FieldType)) ∈ lw_all := lw_g (lw_at lw_m12 96 rfl) rfl
theorem q3182 : (Jvm.Cond.methodLink "ScriptTypes" (898 : Nat) ({ cls := "ScriptTypes", name := "load", desc := "(II)V" } : Jvm.MethodName)) ∈ lw_all := lw_g (lw_at lw_m12 97 rfl) rfl
theorem q3183 : (Jvm.Cond.privateMethod ({ cls := "ScriptTypes", name := "load", desc := "(II)V" } : Jvm.MethodName)) ∈ lw_tbl := lw_at lw_m12 98 rfl
theorem q3184 : (Jvm.Cond.instanceMethod ({ cls := "ScriptTypes", name := "load", desc := "(II)V" } : Jvm.MethodName)) ∈ lw_all := lw_g (lw_at lw_m12 99 rfl) rfl
theorem q3185 : (Jvm.Cond.code ({ cls := "ScriptTypes", name := "load", desc := "(II)V" } : Jvm.MethodName) prog_1_method_117_code (5 : Nat) (Option.none : Option Jvm.ClassFile.FieldType)) ∈ lw_all := lw_g (lw_at lw_m12 100 rfl) rfl
theorem q3186 : (Jvm.Cond.methodLink "ScriptTypes" (900 : Nat) ({ cls := "ScriptTypes", name := "scope", desc := "(I)V" } : Jvm.MethodName)) ∈ lw_all := lw_g (lw_at lw_m12 101 rfl) rfl
theorem q3187 : (Jvm.Cond.privateMethod ({ cls := "ScriptTypes", name := "scope", desc := "(I)V" } : Jvm.MethodName)) ∈ lw_tbl := lw_at lw_m12 102 rfl
theorem q3188 : (Jvm.Cond.instanceMethod ({ cls := "ScriptTypes", name := "scope", desc := "(I)V" } : Jvm.MethodName)) ∈ lw_all := lw_g (lw_at lw_m12 103 rfl) rfl
theorem q3189 : (Jvm.Cond.code ({ cls := "ScriptTypes", name := "scope", desc := "(I)V" } : Jvm.MethodName) prog_1_method_120_code (8 : Nat) (Option.none : Option Jvm.ClassFile.FieldType)) ∈ lw_all := lw_g (lw_at lw_m12 104 rfl) rfl
theorem q3190 : (Jvm.Cond.methodLink "ScriptTypes" (827 : Nat) ({ cls := "ScriptTypes", name := "in", desc := "(IJJ)Z" } : Jvm.MethodName)) ∈ lw_all := lw_g (lw_at lw_m12 105 rfl) rfl
theorem q3191 : (Jvm.Cond.static ({ cls := "ScriptTypes", name := "in", desc := "(IJJ)Z" } : Jvm.MethodName)) ∈ lw_all := lw_g (lw_at lw_m12 106 rfl) rfl
theorem q3192 : (Jvm.Cond.code ({ cls := "ScriptTypes", name := "in", desc := "(IJJ)Z" } : Jvm.MethodName) prog_1_method_89_code (5 : Nat) (Option.some Jvm.ClassFile.FieldType.boolean)) ∈ lw_all := lw_g (lw_at lw_m12 107 rfl) rfl
theorem q3193 : (Jvm.Cond.methodLink "ScriptTypes" (796 : Nat) ({ cls := "ScriptTypes$Bag", name := "empty", desc := "()LScriptTypes$Bag;" } : Jvm.MethodName)) ∈ lw_all := lw_g (lw_at lw_m12 108 rfl) rfl
theorem q3194 : (Jvm.Cond.instanceMethod ({ cls := "ScriptTypes$Bag", name := "empty", desc := "()LScriptTypes$Bag;" } : Jvm.MethodName)) ∈ lw_all := lw_g (lw_at lw_m12 109 rfl) rfl
theorem q3195 : (Jvm.Cond.selects "ScriptTypes$Bag" ({ cls := "ScriptTypes$Bag", name := "empty", desc := "()LScriptTypes$Bag;" } : Jvm.MethodName) ({ cls := "ScriptTypes$Bag", name := "empty", desc := "()LScriptTypes$Bag;" } : Jvm.MethodName)) ∈ lw_all := lw_g (lw_at lw_m12 110 rfl) rfl
theorem q3196 : (Jvm.Cond.code ({ cls := "ScriptTypes$Bag", name := "empty", desc := "()LScriptTypes$Bag;" } : Jvm.MethodName) prog_4_method_2_code (1 : Nat) (Option.some (Jvm.ClassFile.FieldType.object "ScriptTypes$Bag"))) ∈ lw_all := lw_g (lw_at lw_m12 111 rfl) rfl
theorem q3197 : (Jvm.Cond.methodLink "ScriptTypes" (813 : Nat) ({ cls := "ScriptTypes$Work", name := "cell", desc := "(II)I" } : Jvm.MethodName)) ∈ lw_all := lw_g (lw_at lw_m12 112 rfl) rfl
theorem q3198 : (Jvm.Cond.constantLong "ScriptTypes" (869 : Nat) (-513 : Int64)) ∈ lw_all := lw_g (lw_at lw_m12 113 rfl) rfl
theorem q3199 : (Jvm.Cond.methodLink "ScriptTypes" (903 : Nat) ({ cls := "ScriptTypes$Work", name := "at", desc := "(ILScriptTypes$Bag;)LScriptTypes$Bag;" } : Jvm.MethodName)) ∈ lw_all := lw_g (lw_at lw_m12 114 rfl) rfl
theorem q3200 : (Jvm.Cond.instanceMethod ({ cls := "ScriptTypes$Work", name := "at", desc := "(ILScriptTypes$Bag;)LScriptTypes$Bag;" } : Jvm.MethodName)) ∈ lw_all := lw_g (lw_at lw_m12 115 rfl) rfl
theorem q3201 : (Jvm.Cond.selects "ScriptTypes$Work" ({ cls := "ScriptTypes$Work", name := "at", desc := "(ILScriptTypes$Bag;)LScriptTypes$Bag;" } : Jvm.MethodName) ({ cls := "ScriptTypes$Work", name := "at", desc := "(ILScriptTypes$Bag;)LScriptTypes$Bag;" } : Jvm.MethodName)) ∈ lw_all := lw_g (lw_at lw_m12 116 rfl) rfl
theorem q3202 : (Jvm.Cond.code ({ cls := "ScriptTypes$Work", name := "at", desc := "(ILScriptTypes$Bag;)LScriptTypes$Bag;" } : Jvm.MethodName) prog_42_method_5_code (3 : Nat) (Option.some (Jvm.ClassFile.FieldType.object "ScriptTypes$Bag"))) ∈ lw_all := lw_g (lw_at lw_m12 117 rfl) rfl
theorem q3203 : (Jvm.Cond.methodLink "ScriptTypes" (834 : Nat) ({ cls := "ScriptTypes", name := "key", desc := "(I)V" } : Jvm.MethodName)) ∈ lw_all := lw_g (lw_at lw_m12 118 rfl) rfl
theorem q3204 : (Jvm.Cond.privateMethod ({ cls := "ScriptTypes", name := "key", desc := "(I)V" } : Jvm.MethodName)) ∈ lw_tbl := lw_at lw_m12 119 rfl
theorem q3205 : (Jvm.Cond.instanceMethod ({ cls := "ScriptTypes", name := "key", desc := "(I)V" } : Jvm.MethodName)) ∈ lw_all := lw_g (lw_at lw_m12 120 rfl) rfl
theorem q3206 : (Jvm.Cond.code ({ cls := "ScriptTypes", name := "key", desc := "(I)V" } : Jvm.MethodName) prog_1_method_107_code (2 : Nat) (Option.none : Option Jvm.ClassFile.FieldType)) ∈ lw_all := lw_g (lw_at lw_m12 121 rfl) rfl
theorem q3207 : (Jvm.Cond.methodLink "ScriptTypes" (908 : Nat) ({ cls := "ScriptTypes", name := "writes", desc := "(JJZLScriptTypes$Bag;)V" } : Jvm.MethodName)) ∈ lw_all := lw_g (lw_at lw_m12 122 rfl) rfl
theorem q3208 : (Jvm.Cond.privateMethod ({ cls := "ScriptTypes", name := "writes", desc := "(JJZLScriptTypes$Bag;)V" } : Jvm.MethodName)) ∈ lw_tbl := lw_at lw_m12 123 rfl
theorem q3209 : (Jvm.Cond.instanceMethod ({ cls := "ScriptTypes", name := "writes", desc := "(JJZLScriptTypes$Bag;)V" } : Jvm.MethodName)) ∈ lw_all := lw_g (lw_at lw_m12 124 rfl) rfl
theorem q3210 : (Jvm.Cond.code ({ cls := "ScriptTypes", name := "writes", desc := "(JJZLScriptTypes$Bag;)V" } : Jvm.MethodName) prog_1_method_121_code (12 : Nat) (Option.none : Option Jvm.ClassFile.FieldType)) ∈ lw_all := lw_g (lw_at lw_m12 125 rfl) rfl
theorem q3211 : (Jvm.Cond.methodLink "ScriptTypes" (988 : Nat) ({ cls := "ScriptTypes", name := "onlySingle", desc := "(JJ)I" } : Jvm.MethodName)) ∈ lw_all := lw_g (lw_at lw_m12 126 rfl) rfl
theorem q3212 : (Jvm.Cond.static ({ cls := "ScriptTypes", name := "onlySingle", desc := "(JJ)I" } : Jvm.MethodName)) ∈ lw_all := lw_g (lw_at lw_m12 127 rfl) rfl
theorem q3213 : (Jvm.Cond.code ({ cls := "ScriptTypes", name := "onlySingle", desc := "(JJ)I" } : Jvm.MethodName) prog_1_method_91_code (5 : Nat) (Option.some Jvm.ClassFile.FieldType.int)) ∈ lw_all := lw_g (lw_at lw_m12 128 rfl) rfl
theorem q3214 : (Jvm.Cond.methodLink "ScriptTypes" (623 : Nat) ({ cls := "java/lang/Long", name := "bitCount", desc := "(J)I" } : Jvm.MethodName)) ∈ lw_all := lw_g (lw_at lw_m12 129 rfl) rfl
theorem q3215 : (Jvm.Cond.static ({ cls := "java/lang/Long", name := "bitCount", desc := "(J)I" } : Jvm.MethodName)) ∈ lw_all := lw_g (lw_at lw_m12 130 rfl) rfl
theorem q3216 : (Jvm.Cond.code ({ cls := "java/lang/Long", name := "bitCount", desc := "(J)I" } : Jvm.MethodName) prog_54_method_50_code (2 : Nat) (Option.some Jvm.ClassFile.FieldType.int)) ∈ lw_all := lw_g (lw_at lw_m12 131 rfl) rfl
theorem q3217 : (Jvm.Cond.constantLong "java/lang/Long" (314 : Nat) (6148914691236517205 : Int64)) ∈ lw_all := lw_g (lw_at lw_m12 132 rfl) rfl
theorem q3218 : (Jvm.Cond.constantLong "java/lang/Long" (316 : Nat) (3689348814741910323 : Int64)) ∈ lw_all := lw_g (lw_at lw_m12 133 rfl) rfl
theorem q3219 : (Jvm.Cond.constantLong "java/lang/Long" (318 : Nat) (1085102592571150095 : Int64)) ∈ lw_all := lw_g (lw_at lw_m12 134 rfl) rfl
theorem q3220 : (Jvm.Cond.methodLink "ScriptTypes" (629 : Nat) ({ cls := "java/lang/Long", name := "numberOfTrailingZeros", desc := "(J)I" } : Jvm.MethodName)) ∈ lw_all := lw_g (lw_at lw_m12 135 rfl) rfl
theorem q3221 : (Jvm.Cond.static ({ cls := "java/lang/Long", name := "numberOfTrailingZeros", desc := "(J)I" } : Jvm.MethodName)) ∈ lw_all := lw_g (lw_at lw_m12 136 rfl) rfl
theorem q3222 : (Jvm.Cond.code ({ cls := "java/lang/Long", name := "numberOfTrailingZeros", desc := "(J)I" } : Jvm.MethodName) prog_54_method_49_code (3 : Nat) (Option.some Jvm.ClassFile.FieldType.int)) ∈ lw_all := lw_g (lw_at lw_m12 137 rfl) rfl
theorem q3223 : (Jvm.Cond.methodLink "java/lang/Long" (311 : Nat) ({ cls := "java/lang/Integer", name := "numberOfTrailingZeros", desc := "(I)I" } : Jvm.MethodName)) ∈ lw_all := lw_g (lw_at lw_m12 138 rfl) rfl
theorem q3224 : (Jvm.Cond.static ({ cls := "java/lang/Integer", name := "numberOfTrailingZeros", desc := "(I)I" } : Jvm.MethodName)) ∈ lw_all := lw_g (lw_at lw_m12 139 rfl) rfl
theorem q3225 : (Jvm.Cond.code ({ cls := "java/lang/Integer", name := "numberOfTrailingZeros", desc := "(I)I" } : Jvm.MethodName) prog_52_method_48_code (2 : Nat) (Option.some Jvm.ClassFile.FieldType.int)) ∈ lw_all := lw_g (lw_at lw_m12 140 rfl) rfl
theorem q3226 : (Jvm.Cond.constant "java/lang/Integer" (264 : Nat) (65536 : Int32)) ∈ lw_all := lw_g (lw_at lw_m12 141 rfl) rfl
theorem q3227 : (Jvm.Cond.methodLink "ScriptTypes" (632 : Nat) ({ cls := "ScriptTypes", name := "isSingle", desc := "(I)Z" } : Jvm.MethodName)) ∈ lw_all := lw_g (lw_at lw_m12 142 rfl) rfl
theorem q3228 : (Jvm.Cond.static ({ cls := "ScriptTypes", name := "isSingle", desc := "(I)Z" } : Jvm.MethodName)) ∈ lw_all := lw_g (lw_at lw_m12 143 rfl) rfl
theorem q3229 : (Jvm.Cond.code ({ cls := "ScriptTypes", name := "isSingle", desc := "(I)Z" } : Jvm.MethodName) prog_1_method_90_code (1 : Nat) (Option.some Jvm.ClassFile.FieldType.boolean)) ∈ lw_all := lw_g (lw_at lw_m12 144 rfl) rfl
theorem q3230 : (Jvm.Cond.methodLink "ScriptTypes" (886 : Nat) ({ cls := "ScriptTypes", name := "onlyKey", desc := "()I" } : Jvm.MethodName)) ∈ lw_all := lw_g (lw_at lw_m12 145 rfl) rfl
theorem q3231 : (Jvm.Cond.privateMethod ({ cls := "ScriptTypes", name := "onlyKey", desc := "()I" } : Jvm.MethodName)) ∈ lw_tbl := lw_at lw_m12 146 rfl
theorem q3232 : (Jvm.Cond.instanceMethod ({ cls := "ScriptTypes", name := "onlyKey", desc := "()I" } : Jvm.MethodName)) ∈ lw_all := lw_g (lw_at lw_m12 147 rfl) rfl
theorem q3233 : (Jvm.Cond.code ({ cls := "ScriptTypes", name := "onlyKey", desc := "()I" } : Jvm.MethodName) prog_1_method_111_code (1 : Nat) (Option.some Jvm.ClassFile.FieldType.int)) ∈ lw_all := lw_g (lw_at lw_m12 148 rfl) rfl
theorem q3234 : (Jvm.Cond.methodLink "ScriptTypes" (856 : Nat) ({ cls := "ScriptTypes", name := "isKey", desc := "(I)Z" } : Jvm.MethodName)) ∈ lw_all := lw_g (lw_at lw_m12 149 rfl) rfl
theorem q3235 : (Jvm.Cond.privateMethod ({ cls := "ScriptTypes", name := "isKey", desc := "(I)Z" } : Jvm.MethodName)) ∈ lw_tbl := lw_at lw_m12 150 rfl
theorem q3236 : (Jvm.Cond.instanceMethod ({ cls := "ScriptTypes", name := "isKey", desc := "(I)Z" } : Jvm.MethodName)) ∈ lw_all := lw_g (lw_at lw_m12 151 rfl) rfl
theorem q3237 : (Jvm.Cond.code ({ cls := "ScriptTypes", name := "isKey", desc := "(I)Z" } : Jvm.MethodName) prog_1_method_108_code (2 : Nat) (Option.some Jvm.ClassFile.FieldType.boolean)) ∈ lw_all := lw_g (lw_at lw_m12 152 rfl) rfl
theorem q3238 : (Jvm.Cond.methodLink "ScriptTypes" (992 : Nat) ({ cls := "ScriptTypes$Work", name := "joinField", desc := "(IILScriptTypes$Bag;)V" } : Jvm.MethodName)) ∈ lw_all := lw_g (lw_at lw_m12 153 rfl) rfl
theorem q3239 : (Jvm.Cond.instanceMethod ({ cls := "ScriptTypes$Work", name := "joinField", desc := "(IILScriptTypes$Bag;)V" } : Jvm.MethodName)) ∈ lw_all := lw_g (lw_at lw_m12 154 rfl) rfl
theorem q3240 : (Jvm.Cond.selects "ScriptTypes$Work" ({ cls := "ScriptTypes$Work", name := "joinField", desc := "(IILScriptTypes$Bag;)V" } : Jvm.MethodName) ({ cls := "ScriptTypes$Work", name := "joinField", desc := "(IILScriptTypes$Bag;)V" } : Jvm.MethodName)) ∈ lw_all := lw_g (lw_at lw_m12 155 rfl) rfl
theorem q3241 : (Jvm.Cond.code ({ cls := "ScriptTypes$Work", name := "joinField", desc := "(IILScriptTypes$Bag;)V" } : Jvm.MethodName) prog_42_method_9_code (5 : Nat) (Option.none : Option Jvm.ClassFile.FieldType)) ∈ lw_all := lw_g (lw_at lw_m12 156 rfl) rfl
theorem q3242 : (Jvm.Cond.methodLinkNest "ScriptTypes$Work" (85 : Nat) ({ cls := "ScriptTypes", name := "joined", desc := "(JJ)J" } : Jvm.MethodName) "ScriptTypes") ∈ lw_tbl := lw_at lw_m12 157 rfl
theorem q3243 : (Jvm.Cond.methodLink "ScriptTypes" (912 : Nat) ({ cls := "ScriptTypes", name := "global", desc := "(IZ)V" } : Jvm.MethodName)) ∈ lw_all := lw_g (lw_at lw_m12 158 rfl) rfl
theorem q3244 : (Jvm.Cond.privateMethod ({ cls := "ScriptTypes", name := "global", desc := "(IZ)V" } : Jvm.MethodName)) ∈ lw_tbl := lw_at lw_m12 159 rfl
theorem q3245 : (Jvm.Cond.instanceMethod ({ cls := "ScriptTypes", name := "global", desc := "(IZ)V" } : Jvm.MethodName)) ∈ lw_all := lw_g (lw_at lw_m12 160 rfl) rfl
theorem q3246 : (Jvm.Cond.code ({ cls := "ScriptTypes", name := "global", desc := "(IZ)V" } : Jvm.MethodName) prog_1_method_116_code (5 : Nat) (Option.none : Option Jvm.ClassFile.FieldType)) ∈ lw_all := lw_g (lw_at lw_m12 161 rfl) rfl
theorem q3247 : (Jvm.Cond.constantLong "ScriptTypes" (816 : Nat) (512 : Int64)) ∈ lw_all := lw_g (lw_at lw_m12 162 rfl) rfl
theorem q3248 : (Jvm.Cond.methodLink "ScriptTypes" (956 : Nat) ({ cls := "ScriptTypes", name := "types", desc := "(LScriptTypes$Bag;LScriptTypes$Bag;)V" } : Jvm.MethodName)) ∈ lw_all := lw_g (lw_at lw_m12 163 rfl) rfl
theorem q3249 : (Jvm.Cond.privateMethod ({ cls := "ScriptTypes", name := "types", desc := "(LScriptTypes$Bag;LScriptTypes$Bag;)V" } : Jvm.MethodName)) ∈ lw_tbl := lw_at lw_m12 164 rfl
theorem q3250 : (Jvm.Cond.instanceMethod ({ cls := "ScriptTypes", name := "types", desc := "(LScriptTypes$Bag;LScriptTypes$Bag;)V" } : Jvm.MethodName)) ∈ lw_all := lw_g (lw_at lw_m12 165 rfl) rfl
theorem q3251 : (Jvm.Cond.code ({ cls := "ScriptTypes", name := "types", desc := "(LScriptTypes$Bag;LScriptTypes$Bag;)V" } : Jvm.MethodName) prog_1_method_124_code (5 : Nat) (Option.none : Option Jvm.ClassFile.FieldType)) ∈ lw_all := lw_g (lw_at lw_m12 166 rfl) rfl
theorem q3252 : (Jvm.Cond.methodLink "ScriptTypes" (831 : Nat) ({ cls := "ScriptTypes$Bag", name := "has", desc := "(I)Z" } : Jvm.MethodName)) ∈ lw_all := lw_g (lw_at lw_m12 167 rfl) rfl
theorem q3253 : (Jvm.Cond.methodLink "ScriptTypes" (996 : Nat) ({ cls := "ScriptTypes", name := "natives", desc := "()J" } : Jvm.MethodName)) ∈ lw_all := lw_g (lw_at lw_m12 168 rfl) rfl
theorem q3254 : (Jvm.Cond.static ({ cls := "ScriptTypes", name := "natives", desc := "()J" } : Jvm.MethodName)) ∈ lw_all := lw_g (lw_at lw_m12 169 rfl) rfl
theorem q3255 : (Jvm.Cond.code ({ cls := "ScriptTypes", name := "natives", desc := "()J" } : Jvm.MethodName) prog_1_method_125_code (0 : Nat) (Option.some Jvm.ClassFile.FieldType.long)) ∈ lw_all := lw_g (lw_at lw_m12 170 rfl) rfl
theorem q3256 : (Jvm.Cond.constantLong "ScriptTypes" (1004 : Nat) (8388096 : Int64)) ∈ lw_all := lw_g (lw_at lw_m12 171 rfl) rfl
theorem q3257 : (Jvm.Cond.methodLink "ScriptTypes" (1000 : Nat) ({ cls := "ScriptTypes$Bag", name := "meets", desc := "(JJ)Z" } : Jvm.MethodName)) ∈ lw_all := lw_g (lw_at lw_m12 172 rfl) rfl
theorem q3258 : (Jvm.Cond.instanceMethod ({ cls := "ScriptTypes$Bag", name := "meets", desc := "(JJ)Z" } : Jvm.MethodName)) ∈ lw_all := lw_g (lw_at lw_m12 173 rfl) rfl
theorem q3259 : (Jvm.Cond.selects "ScriptTypes$Bag" ({ cls := "ScriptTypes$Bag", name := "meets", desc := "(JJ)Z" } : Jvm.MethodName) ({ cls := "ScriptTypes$Bag", name := "meets", desc := "(JJ)Z" } : Jvm.MethodName)) ∈ lw_all := lw_g (lw_at lw_m12 174 rfl) rfl
theorem q3260 : (Jvm.Cond.code ({ cls := "ScriptTypes$Bag", name := "meets", desc := "(JJ)Z" } : Jvm.MethodName) prog_4_method_11_code (5 : Nat) (Option.some Jvm.ClassFile.FieldType.boolean)) ∈ lw_all := lw_g (lw_at lw_m12 175 rfl) rfl
theorem q3261 : (Jvm.Cond.constantLong "ScriptTypes" (848 : Nat) (-1 : Int64)) ∈ lw_all := lw_g (lw_at lw_m12 176 rfl) rfl
theorem q3262 : (Jvm.Cond.methodLink "ScriptTypes" (960 : Nat) ({ cls := "ScriptTypes", name := "errs", desc := "(LScriptTypes$Work;I)V" } : Jvm.MethodName)) ∈ lw_all := lw_g (lw_at lw_m12 177 rfl) rfl
theorem q3263 : (Jvm.Cond.privateMethod ({ cls := "ScriptTypes", name := "errs", desc := "(LScriptTypes$Work;I)V" } : Jvm.MethodName)) ∈ lw_tbl := lw_at lw_m12 178 rfl
theorem q3264 : (Jvm.Cond.instanceMethod ({ cls := "ScriptTypes", name := "errs", desc := "(LScriptTypes$Work;I)V" } : Jvm.MethodName)) ∈ lw_all := lw_g (lw_at lw_m12 179 rfl) rfl
theorem q3265 : (Jvm.Cond.code ({ cls := "ScriptTypes", name := "errs", desc := "(LScriptTypes$Work;I)V" } : Jvm.MethodName) prog_1_method_105_code (4 : Nat) (Option.none : Option Jvm.ClassFile.FieldType)) ∈ lw_all := lw_g (lw_at lw_m12 180 rfl) rfl
theorem q3266 : (Jvm.Cond.methodLink "ScriptTypes" (788 : Nat) ({ cls := "ScriptTypes$Kept", name := "save", desc := "(LScriptTypes$Work;I)V" } : Jvm.MethodName)) ∈ lw_all := lw_g (lw_at lw_m12 181 rfl) rfl
theorem q3267 : (Jvm.Cond.instanceMethod ({ cls := "ScriptTypes$Kept", name := "save", desc := "(LScriptTypes$Work;I)V" } : Jvm.MethodName)) ∈ lw_all := lw_g (lw_at lw_m12 182 rfl) rfl
theorem q3268 : (Jvm.Cond.selects "ScriptTypes$Kept" ({ cls := "ScriptTypes$Kept", name := "save", desc := "(LScriptTypes$Work;I)V" } : Jvm.MethodName) ({ cls := "ScriptTypes$Kept", name := "save", desc := "(LScriptTypes$Work;I)V" } : Jvm.MethodName)) ∈ lw_all := lw_g (lw_at lw_m12 183 rfl) rfl
theorem q3269 : (Jvm.Cond.code ({ cls := "ScriptTypes$Kept", name := "save", desc := "(LScriptTypes$Work;I)V" } : Jvm.MethodName) prog_20_method_2_code (5 : Nat) (Option.none : Option Jvm.ClassFile.FieldType)) ∈ lw_all := lw_g (lw_at lw_m12 184 rfl) rfl
theorem q3270 : (Jvm.Cond.methodLink "ScriptTypes$Kept" (25 : Nat) ({ cls := "ScriptTypes$Work", name := "cell", desc := "(II)I" } : Jvm.MethodName)) ∈ lw_all := lw_g (lw_at lw_m12 185 rfl) rfl
theorem q3271 : (Jvm.Cond.methodLink "ScriptTypes" (792 : Nat) ({ cls := "ScriptTypes", name := "added", desc := "(LScriptTypes$Work;II)V" } : Jvm.MethodName)) ∈ lw_all := lw_g (lw_at lw_m12 186 rfl) rfl
theorem q3272 : (Jvm.Cond.privateMethod ({ cls := "ScriptTypes", name := "added", desc := "(LScriptTypes$Work;II)V" } : Jvm.MethodName)) ∈ lw_tbl := lw_at lw_m12 187 rfl
theorem q3273 : (Jvm.Cond.instanceMethod ({ cls := "ScriptTypes", name := "added", desc := "(LScriptTypes$Work;II)V" } : Jvm.MethodName)) ∈ lw_all := lw_g (lw_at lw_m12 188 rfl) rfl
theorem q3274 : (Jvm.Cond.code ({ cls := "ScriptTypes", name := "added", desc := "(LScriptTypes$Work;II)V" } : Jvm.MethodName) prog_1_method_106_code (5 : Nat) (Option.none : Option Jvm.ClassFile.FieldType)) ∈ lw_all := lw_g (lw_at lw_m12 189 rfl) rfl
theorem q3275 : (Jvm.Cond.methodLink "ScriptTypes" (800 : Nat) ({ cls := "ScriptTypes$Bag", name := "add", desc := "(I)LScriptTypes$Bag;" } : Jvm.MethodName)) ∈ lw_all := lw_g (lw_at lw_m12 190 rfl) rfl
theorem q3276 : (Jvm.Cond.instanceMethod ({ cls := "ScriptTypes$Bag", name := "add", desc := "(I)LScriptTypes$Bag;" } : Jvm.MethodName)) ∈ lw_all := lw_g (lw_at lw_m12 191 rfl) rfl
theorem q3277 : (Jvm.Cond.selects "ScriptTypes$Bag" ({ cls := "ScriptTypes$Bag", name := "add", desc := "(I)LScriptTypes$Bag;" } : Jvm.MethodName) ({ cls := "ScriptTypes$Bag", name := "add", desc := "(I)LScriptTypes$Bag;" } : Jvm.MethodName)) ∈ lw_all := lw_g (lw_at lw_m12 192 rfl) rfl
theorem q3278 : (Jvm.Cond.code ({ cls := "ScriptTypes$Bag", name := "add", desc := "(I)LScriptTypes$Bag;" } : Jvm.MethodName) prog_4_method_7_code (2 : Nat) (Option.some (Jvm.ClassFile.FieldType.object "ScriptTypes$Bag"))) ∈ lw_all := lw_g (lw_at lw_m12 193 rfl) rfl
theorem q3279 : (Jvm.Cond.methodLink "ScriptTypes" (803 : Nat) ({ cls := "ScriptTypes", name := "throwsTo", desc := "(LScriptTypes$Work;LScriptTypes$Bag;)V" } : Jvm.MethodName)) ∈ lw_all := lw_g (lw_at lw_m12 194 rfl) rfl
theorem q3280 : (Jvm.Cond.privateMethod ({ cls := "ScriptTypes", name := "throwsTo", desc := "(LScriptTypes$Work;LScriptTypes$Bag;)V" } : Jvm.MethodName)) ∈ lw_tbl := lw_at lw_m12 195 rfl
theorem q3281 : (Jvm.Cond.instanceMethod ({ cls := "ScriptTypes", name := "throwsTo", desc := "(LScriptTypes$Work;LScriptTypes$Bag;)V" } : Jvm.MethodName)) ∈ lw_all := lw_g (lw_at lw_m12 196 rfl) rfl
theorem q3282 : (Jvm.Cond.code ({ cls := "ScriptTypes", name := "throwsTo", desc := "(LScriptTypes$Work;LScriptTypes$Bag;)V" } : Jvm.MethodName) prog_1_method_104_code (12 : Nat) (Option.none : Option Jvm.ClassFile.FieldType)) ∈ lw_all := lw_g (lw_at lw_m12 197 rfl) rfl
theorem q3283 : (Jvm.Cond.methodLink "ScriptTypes" (807 : Nat) ({ cls := "ScriptTypes$Kept", name := "restore", desc := "(LScriptTypes$Work;I)V" } : Jvm.MethodName)) ∈ lw_all := lw_g (lw_at lw_m12 198 rfl) rfl
theorem q3284 : (Jvm.Cond.instanceMethod ({ cls := "ScriptTypes$Kept", name := "restore", desc := "(LScriptTypes$Work;I)V" } : Jvm.MethodName)) ∈ lw_all := lw_g (lw_at lw_m12 199 rfl) rfl
theorem q3285 : (Jvm.Cond.selects "ScriptTypes$Kept" ({ cls := "ScriptTypes$Kept", name := "restore", desc := "(LScriptTypes$Work;I)V" } : Jvm.MethodName) ({ cls := "ScriptTypes$Kept", name := "restore", desc := "(LScriptTypes$Work;I)V" } : Jvm.MethodName)) ∈ lw_all := lw_g (lw_at lw_m12 200 rfl) rfl
theorem q3286 : (Jvm.Cond.code ({ cls := "ScriptTypes$Kept", name := "restore", desc := "(LScriptTypes$Work;I)V" } : Jvm.MethodName) prog_20_method_3_code (5 : Nat) (Option.none : Option Jvm.ClassFile.FieldType)) ∈ lw_all := lw_g (lw_at lw_m12 201 rfl) rfl
theorem q3287 : (Jvm.Cond.methodLink "ScriptTypes" (922 : Nat) ({ cls := "ScriptTypes$Work", name := "make", desc := "(II)V" } : Jvm.MethodName)) ∈ lw_all := lw_g (lw_at lw_m12 202 rfl) rfl
theorem q3288 : (Jvm.Cond.instanceMethod ({ cls := "ScriptTypes$Work", name := "make", desc := "(II)V" } : Jvm.MethodName)) ∈ lw_all := lw_g (lw_at lw_m12 203 rfl) rfl
theorem q3289 : (Jvm.Cond.selects "ScriptTypes$Work" ({ cls := "ScriptTypes$Work", name := "make", desc := "(II)V" } : Jvm.MethodName) ({ cls := "ScriptTypes$Work", name := "make", desc := "(II)V" } : Jvm.MethodName)) ∈ lw_all := lw_g (lw_at lw_m12 204 rfl) rfl
theorem q3290 : (Jvm.Cond.code ({ cls := "ScriptTypes$Work", name := "make", desc := "(II)V" } : Jvm.MethodName) prog_42_method_13_code (11 : Nat) (Option.none : Option Jvm.ClassFile.FieldType)) ∈ lw_all := lw_g (lw_at lw_m12 205 rfl) rfl
theorem q3291 : (Jvm.Cond.methodLink "ScriptTypes$Work" (106 : Nat) ({ cls := "ScriptTypes$Work", name := "renames", desc := "([J[JIII)V" } : Jvm.MethodName)) ∈ lw_all := lw_g (lw_at lw_m12 206 rfl) rfl
theorem q3292 : (Jvm.Cond.privateMethod ({ cls := "ScriptTypes$Work", name := "renames", desc := "([J[JIII)V" } : Jvm.MethodName)) ∈ lw_tbl := lw_at lw_m12 207 rfl
theorem q3293 : (Jvm.Cond.instanceMethod ({ cls := "ScriptTypes$Work", name := "renames", desc := "([J[JIII)V" } : Jvm.MethodName)) ∈ lw_all := lw_g (lw_at lw_m12 208 rfl) rfl
theorem q3294 : (Jvm.Cond.code ({ cls := "ScriptTypes$Work", name := "renames", desc := "([J[JIII)V" } : Jvm.MethodName) prog_42_method_12_code (11 : Nat) (Option.none : Option Jvm.ClassFile.FieldType)) ∈ lw_all := lw_g (lw_at lw_m12 209 rfl) rfl
theorem q3295 : (Jvm.Cond.methodLinkNest "ScriptTypes$Work" (91 : Nat) ({ cls := "ScriptTypes", name := "in", desc := "(IJJ)Z" } : Jvm.MethodName) "ScriptTypes") ∈ lw_tbl := lw_at lw_m12 210 rfl
theorem q3296 : (Jvm.Cond.methodLink "ScriptTypes$Work" (95 : Nat) ({ cls := "ScriptTypes$Work", name := "renamedHigh", desc := "(JJI)J" } : Jvm.MethodName)) ∈ lw_all := lw_g (lw_at lw_m12 211 rfl) rfl
theorem q3297 : (Jvm.Cond.privateMethod ({ cls := "ScriptTypes$Work", name := "renamedHigh", desc := "(JJI)J" } : Jvm.MethodName)) ∈ lw_tbl := lw_at lw_m12 212 rfl
theorem q3298 : (Jvm.Cond.instanceMethod ({ cls := "ScriptTypes$Work", name := "renamedHigh", desc := "(JJI)J" } : Jvm.MethodName)) ∈ lw_all := lw_g (lw_at lw_m12 213 rfl) rfl
theorem q3299 : (Jvm.Cond.code ({ cls := "ScriptTypes$Work", name := "renamedHigh", desc := "(JJI)J" } : Jvm.MethodName) prog_42_method_11_code (6 : Nat) (Option.some Jvm.ClassFile.FieldType.long)) ∈ lw_all := lw_g (lw_at lw_m12 214 rfl) rfl
theorem q3300 : (Jvm.Cond.constantLong "ScriptTypes$Work" (89 : Nat) (-1 : Int64)) ∈ lw_all := lw_g (lw_at lw_m12 215 rfl) rfl
theorem q3301 : (Jvm.Cond.methodLink "ScriptTypes$Work" (99 : Nat) ({ cls := "ScriptTypes$Work", name := "renamedLow", desc := "(JI)J" } : Jvm.MethodName)) ∈ lw_all := lw_g (lw_at lw_m12 216 rfl) rfl
theorem q3302 : (Jvm.Cond.privateMethod ({ cls := "ScriptTypes$Work", name := "renamedLow", desc := "(JI)J" } : Jvm.MethodName)) ∈ lw_tbl := lw_at lw_m12 217 rfl
theorem q3303 : (Jvm.Cond.instanceMethod ({ cls := "ScriptTypes$Work", name := "renamedLow", desc := "(JI)J" } : Jvm.MethodName)) ∈ lw_all := lw_g (lw_at lw_m12 218 rfl) rfl
theorem q3304 : (Jvm.Cond.code ({ cls := "ScriptTypes$Work", name := "renamedLow", desc := "(JI)J" } : Jvm.MethodName) prog_42_method_10_code (4 : Nat) (Option.some Jvm.ClassFile.FieldType.long)) ∈ lw_all := lw_g (lw_at lw_m12 219 rfl) rfl
theorem q3305 : (Jvm.Cond.methodLink "ScriptTypes$Work" (122 : Nat) ({ cls := "ScriptTypes$Work", name := "renew", desc := "(IIZ)V" } : Jvm.MethodName)) ∈ lw_all := lw_g (lw_at lw_m12 220 rfl) rfl
theorem q3306 : (Jvm.Cond.methodLink "ScriptTypes" (925 : Nat) ({ cls := "ScriptTypes", name := "function", desc := "(I)V" } : Jvm.MethodName)) ∈ lw_all := lw_g (lw_at lw_m12 221 rfl) rfl
theorem q3307 : (Jvm.Cond.privateMethod ({ cls := "ScriptTypes", name := "function", desc := "(I)V" } : Jvm.MethodName)) ∈ lw_tbl := lw_at lw_m12 222 rfl
theorem q3308 : (Jvm.Cond.instanceMethod ({ cls := "ScriptTypes", name := "function", desc := "(I)V" } : Jvm.MethodName)) ∈ lw_all := lw_g (lw_at lw_m12 223 rfl) rfl
theorem q3309 : (Jvm.Cond.code ({ cls := "ScriptTypes", name := "function", desc := "(I)V" } : Jvm.MethodName) prog_1_method_134_code (4 : Nat) (Option.none : Option Jvm.ClassFile.FieldType)) ∈ lw_all := lw_g (lw_at lw_m12 224 rfl) rfl
theorem q3310 : (Jvm.Cond.methodLink "ScriptTypes" (928 : Nat) ({ cls := "ScriptTypes", name := "gets", desc := "()V" } : Jvm.MethodName)) ∈ lw_all := lw_g (lw_at lw_m12 225 rfl) rfl
theorem q3311 : (Jvm.Cond.privateMethod ({ cls := "ScriptTypes", name := "gets", desc := "()V" } : Jvm.MethodName)) ∈ lw_tbl := lw_at lw_m12 226 rfl
theorem q3312 : (Jvm.Cond.instanceMethod ({ cls := "ScriptTypes", name := "gets", desc := "()V" } : Jvm.MethodName)) ∈ lw_all := lw_g (lw_at lw_m12 227 rfl) rfl
theorem q3313 : (Jvm.Cond.code ({ cls := "ScriptTypes", name := "gets", desc := "()V" } : Jvm.MethodName) prog_1_method_131_code (2 : Nat) (Option.none : Option Jvm.ClassFile.FieldType)) ∈ lw_all := lw_g (lw_at lw_m12 228 rfl) rfl
theorem q3314 : (Jvm.Cond.methodLink "ScriptTypes" (937 : Nat) ({ cls := "ScriptTypes$Work", name := "pop", desc := "(LScriptTypes$Bag;)LScriptTypes$Bag;" } : Jvm.MethodName)) ∈ lw_all := lw_g (lw_at lw_m12 229 rfl) rfl
theorem q3315 : (Jvm.Cond.instanceMethod ({ cls := "ScriptTypes$Work", name := "pop", desc := "(LScriptTypes$Bag;)LScriptTypes$Bag;" } : Jvm.MethodName)) ∈ lw_all := lw_g (lw_at lw_m12 230 rfl) rfl
theorem q3316 : (Jvm.Cond.selects "ScriptTypes$Work" ({ cls := "ScriptTypes$Work", name := "pop", desc := "(LScriptTypes$Bag;)LScriptTypes$Bag;" } : Jvm.MethodName) ({ cls := "ScriptTypes$Work", name := "pop", desc := "(LScriptTypes$Bag;)LScriptTypes$Bag;" } : Jvm.MethodName)) ∈ lw_all := lw_g (lw_at lw_m12 231 rfl) rfl
theorem q3317 : (Jvm.Cond.code ({ cls := "ScriptTypes$Work", name := "pop", desc := "(LScriptTypes$Bag;)LScriptTypes$Bag;" } : Jvm.MethodName) prog_42_method_6_code (2 : Nat) (Option.some (Jvm.ClassFile.FieldType.object "ScriptTypes$Bag"))) ∈ lw_all := lw_g (lw_at lw_m12 232 rfl) rfl
theorem q3318 : (Jvm.Cond.methodLink "ScriptTypes$Work" (75 : Nat) ({ cls := "ScriptTypes$Work", name := "at", desc := "(ILScriptTypes$Bag;)LScriptTypes$Bag;" } : Jvm.MethodName)) ∈ lw_all := lw_g (lw_at lw_m12 233 rfl) rfl
theorem q3319 : (Jvm.Cond.methodLink "ScriptTypes" (883 : Nat) ({ cls := "ScriptTypes", name := "keys", desc := "(LScriptTypes$Bag;)V" } : Jvm.MethodName)) ∈ lw_all := lw_g (lw_at lw_m12 234 rfl) rfl
theorem q3320 : (Jvm.Cond.privateMethod ({ cls := "ScriptTypes", name := "keys", desc := "(LScriptTypes$Bag;)V" } : Jvm.MethodName)) ∈ lw_tbl := lw_at lw_m12 235 rfl
theorem q3321 : (Jvm.Cond.instanceMethod ({ cls := "ScriptTypes", name := "keys", desc := "(LScriptTypes$Bag;)V" } : Jvm.MethodName)) ∈ lw_all := lw_g (lw_at lw_m12 236 rfl) rfl
theorem q3322 : (Jvm.Cond.code ({ cls := "ScriptTypes", name := "keys", desc := "(LScriptTypes$Bag;)V" } : Jvm.MethodName) prog_1_method_110_code (3 : Nat) (Option.none : Option Jvm.ClassFile.FieldType)) ∈ lw_all := lw_g (lw_at lw_m12 237 rfl) rfl
theorem q3323 : (Jvm.Cond.methodLink "ScriptTypes" (837 : Nat) ({ cls := "ScriptTypes$Bag", name := "hasLabels", desc := "()Z" } : Jvm.MethodName)) ∈ lw_all := lw_g (lw_at lw_m12 238 rfl) rfl
theorem q3324 : (Jvm.Cond.instanceMethod ({ cls := "ScriptTypes$Bag", name := "hasLabels", desc := "()Z" } : Jvm.MethodName)) ∈ lw_all := lw_g (lw_at lw_m12 239 rfl) rfl
theorem q3325 : (Jvm.Cond.selects "ScriptTypes$Bag" ({ cls := "ScriptTypes$Bag", name := "hasLabels", desc := "()Z" } : Jvm.MethodName) ({ cls := "ScriptTypes$Bag", name := "hasLabels", desc := "()Z" } : Jvm.MethodName)) ∈ lw_all := lw_g (lw_at lw_m13 0 rfl) rfl
theorem q3326 : (Jvm.Cond.code ({ cls := "ScriptTypes$Bag", name := "hasLabels", desc := "()Z" } : Jvm.MethodName) prog_4_method_10_code (1 : Nat) (Option.some Jvm.ClassFile.FieldType.boolean)) ∈ lw_all := lw_g (lw_at lw_m13 1 rfl) rfl
theorem q3327 : (Jvm.Cond.methodLink "ScriptTypes" (840 : Nat) ({ cls := "ScriptTypes$Bag", name := "name", desc := "()I" } : Jvm.MethodName)) ∈ lw_all := lw_g (lw_at lw_m13 2 rfl) rfl
theorem q3328 : (Jvm.Cond.methodLink "ScriptTypes" (843 : Nat) ({ cls := "ScriptTypes$Bag", name := "number", desc := "()I" } : Jvm.MethodName)) ∈ lw_all := lw_g (lw_at lw_m13 3 rfl) rfl
theorem q3329 : (Jvm.Cond.methodLink "ScriptTypes" (845 : Nat) ({ cls := "ScriptTypes", name := "nameOf", desc := "(I)I" } : Jvm.MethodName)) ∈ lw_all := lw_g (lw_at lw_m13 4 rfl) rfl
theorem q3330 : (Jvm.Cond.privateMethod ({ cls := "ScriptTypes", name := "nameOf", desc := "(I)I" } : Jvm.MethodName)) ∈ lw_tbl := lw_at lw_m13 5 rfl
theorem q3331 : (Jvm.Cond.instanceMethod ({ cls := "ScriptTypes", name := "nameOf", desc := "(I)I" } : Jvm.MethodName)) ∈ lw_all := lw_g (lw_at lw_m13 6 rfl) rfl
theorem q3332 : (Jvm.Cond.code ({ cls := "ScriptTypes", name := "nameOf", desc := "(I)I" } : Jvm.MethodName) prog_1_method_109_code (3 : Nat) (Option.some Jvm.ClassFile.FieldType.int)) ∈ lw_all := lw_g (lw_at lw_m13 7 rfl) rfl
theorem q3333 : (Jvm.Cond.methodLink "ScriptTypes" (1006 : Nat) ({ cls := "ScriptTypes$Bag", name := "isAlone", desc := "()Z" } : Jvm.MethodName)) ∈ lw_all := lw_g (lw_at lw_m13 8 rfl) rfl
theorem q3334 : (Jvm.Cond.instanceMethod ({ cls := "ScriptTypes$Bag", name := "isAlone", desc := "()Z" } : Jvm.MethodName)) ∈ lw_all := lw_g (lw_at lw_m13 9 rfl) rfl
theorem q3335 : (Jvm.Cond.selects "ScriptTypes$Bag" ({ cls := "ScriptTypes$Bag", name := "isAlone", desc := "()Z" } : Jvm.MethodName) ({ cls := "ScriptTypes$Bag", name := "isAlone", desc := "()Z" } : Jvm.MethodName)) ∈ lw_all := lw_g (lw_at lw_m13 10 rfl) rfl
theorem q3336 : (Jvm.Cond.code ({ cls := "ScriptTypes$Bag", name := "isAlone", desc := "()Z" } : Jvm.MethodName) prog_4_method_13_code (1 : Nat) (Option.some Jvm.ClassFile.FieldType.boolean)) ∈ lw_all := lw_g (lw_at lw_m13 11 rfl) rfl
theorem q3337 : (Jvm.Cond.methodLink "ScriptTypes$Bag" (33 : Nat) ({ cls := "ScriptTypes$Bag", name := "hasLabels", desc := "()Z" } : Jvm.MethodName)) ∈ lw_all := lw_g (lw_at lw_m13 12 rfl) rfl
theorem q3338 : (Jvm.Cond.methodLink "ScriptTypes$Bag" (37 : Nat) ({ cls := "java/lang/Long", name := "bitCount", desc := "(J)I" } : Jvm.MethodName)) ∈ lw_all := lw_g (lw_at lw_m13 13 rfl) rfl
theorem q3339 : (Jvm.Cond.constantLong "ScriptTypes$Bag" (43 : Nat) (320 : Int64)) ∈ lw_all := lw_g (lw_at lw_m13 14 rfl) rfl
theorem q3340 : (Jvm.Cond.constantLong "ScriptTypes" (1033 : Nat) (-2 : Int64)) ∈ lw_all := lw_g (lw_at lw_m13 15 rfl) rfl
theorem q3341 : (Jvm.Cond.constantLong "ScriptTypes" (1035 : Nat) (16 : Int64)) ∈ lw_all := lw_g (lw_at lw_m13 16 rfl) rfl
theorem q3342 : (Jvm.Cond.methodLink "ScriptTypes" (1024 : Nat) ({ cls := "ScriptTypes", name := "readAll", desc := "(JJLScriptTypes$Bag;)V" } : Jvm.MethodName)) ∈ lw_all := lw_g (lw_at lw_m13 17 rfl) rfl
theorem q3343 : (Jvm.Cond.privateMethod ({ cls := "ScriptTypes", name := "readAll", desc := "(JJLScriptTypes$Bag;)V" } : Jvm.MethodName)) ∈ lw_tbl := lw_at lw_m13 18 rfl
theorem q3344 : (Jvm.Cond.instanceMethod ({ cls := "ScriptTypes", name := "readAll", desc := "(JJLScriptTypes$Bag;)V" } : Jvm.MethodName)) ∈ lw_all := lw_g (lw_at lw_m13 19 rfl) rfl
theorem q3345 : (Jvm.Cond.code ({ cls := "ScriptTypes", name := "readAll", desc := "(JJLScriptTypes$Bag;)V" } : Jvm.MethodName) prog_1_method_112_code (7 : Nat) (Option.none : Option Jvm.ClassFile.FieldType)) ∈ lw_all := lw_g (lw_at lw_m13 20 rfl) rfl
theorem q3346 : (Jvm.Cond.methodLink "ScriptTypes" (859 : Nat) ({ cls := "ScriptTypes", name := "readOne", desc := "(JJILScriptTypes$Bag;)V" } : Jvm.MethodName)) ∈ lw_all := lw_g (lw_at lw_m13 21 rfl) rfl
theorem q3347 : (Jvm.Cond.privateMethod ({ cls := "ScriptTypes", name := "readOne", desc := "(JJILScriptTypes$Bag;)V" } : Jvm.MethodName)) ∈ lw_tbl := lw_at lw_m13 22 rfl
theorem q3348 : (Jvm.Cond.instanceMethod ({ cls := "ScriptTypes", name := "readOne", desc := "(JJILScriptTypes$Bag;)V" } : Jvm.MethodName)) ∈ lw_all := lw_g (lw_at lw_m13 23 rfl) rfl
theorem q3349 : (Jvm.Cond.code ({ cls := "ScriptTypes", name := "readOne", desc := "(JJILScriptTypes$Bag;)V" } : Jvm.MethodName) prog_1_method_113_code (17 : Nat) (Option.none : Option Jvm.ClassFile.FieldType)) ∈ lw_all := lw_g (lw_at lw_m13 24 rfl) rfl
theorem q3350 : (Jvm.Cond.constantLong "ScriptTypes" (875 : Nat) (511 : Int64)) ∈ lw_all := lw_g (lw_at lw_m13 25 rfl) rfl
theorem q3351 : (Jvm.Cond.methodLink "ScriptTypes" (931 : Nat) ({ cls := "ScriptTypes", name := "puts", desc := "()V" } : Jvm.MethodName)) ∈ lw_all := lw_g (lw_at lw_m13 26 rfl) rfl
theorem q3352 : (Jvm.Cond.privateMethod ({ cls := "ScriptTypes", name := "puts", desc := "()V" } : Jvm.MethodName)) ∈ lw_tbl := lw_at lw_m13 27 rfl
theorem q3353 : (Jvm.Cond.instanceMethod ({ cls := "ScriptTypes", name := "puts", desc := "()V" } : Jvm.MethodName)) ∈ lw_all := lw_g (lw_at lw_m13 28 rfl) rfl
theorem q3354 : (Jvm.Cond.code ({ cls := "ScriptTypes", name := "puts", desc := "()V" } : Jvm.MethodName) prog_1_method_132_code (8 : Nat) (Option.none : Option Jvm.ClassFile.FieldType)) ∈ lw_all := lw_g (lw_at lw_m13 29 rfl) rfl
theorem q3355 : (Jvm.Cond.constantLong "ScriptTypes" (1037 : Nat) (508 : Int64)) ∈ lw_all := lw_g (lw_at lw_m13 30 rfl) rfl
theorem q3356 : (Jvm.Cond.methodLink "ScriptTypes" (934 : Nat) ({ cls := "ScriptTypes", name := "deletes", desc := "()V" } : Jvm.MethodName)) ∈ lw_all := lw_g (lw_at lw_m13 31 rfl) rfl
theorem q3357 : (Jvm.Cond.privateMethod ({ cls := "ScriptTypes", name := "deletes", desc := "()V" } : Jvm.MethodName)) ∈ lw_tbl := lw_at lw_m13 32 rfl
theorem q3358 : (Jvm.Cond.instanceMethod ({ cls := "ScriptTypes", name := "deletes", desc := "()V" } : Jvm.MethodName)) ∈ lw_all := lw_g (lw_at lw_m13 33 rfl) rfl
theorem q3359 : (Jvm.Cond.code ({ cls := "ScriptTypes", name := "deletes", desc := "()V" } : Jvm.MethodName) prog_1_method_133_code (9 : Nat) (Option.none : Option Jvm.ClassFile.FieldType)) ∈ lw_all := lw_g (lw_at lw_m13 34 rfl) rfl
theorem q3360 : (Jvm.Cond.methodLink "ScriptTypes" (1028 : Nat) ({ cls := "ScriptTypes$Bag", name := "hasOnly", desc := "(JJ)Z" } : Jvm.MethodName)) ∈ lw_all := lw_g (lw_at lw_m13 35 rfl) rfl
theorem q3361 : (Jvm.Cond.instanceMethod ({ cls := "ScriptTypes$Bag", name := "hasOnly", desc := "(JJ)Z" } : Jvm.MethodName)) ∈ lw_all := lw_g (lw_at lw_m13 36 rfl) rfl
theorem q3362 : (Jvm.Cond.selects "ScriptTypes$Bag" ({ cls := "ScriptTypes$Bag", name := "hasOnly", desc := "(JJ)Z" } : Jvm.MethodName) ({ cls := "ScriptTypes$Bag", name := "hasOnly", desc := "(JJ)Z" } : Jvm.MethodName)) ∈ lw_all := lw_g (lw_at lw_m13 37 rfl) rfl
theorem q3363 : (Jvm.Cond.code ({ cls := "ScriptTypes$Bag", name := "hasOnly", desc := "(JJ)Z" } : Jvm.MethodName) prog_4_method_12_code (5 : Nat) (Option.some Jvm.ClassFile.FieldType.boolean)) ∈ lw_all := lw_g (lw_at lw_m13 38 rfl) rfl
theorem q3364 : (Jvm.Cond.constantLong "ScriptTypes$Bag" (31 : Nat) (-1 : Int64)) ∈ lw_all := lw_g (lw_at lw_m13 39 rfl) rfl
theorem q3365 : (Jvm.Cond.constantLong "ScriptTypes" (1016 : Nat) (4 : Int64)) ∈ lw_all := lw_g (lw_at lw_m13 40 rfl) rfl
theorem q3366 : (Jvm.Cond.methodLink "ScriptTypes" (941 : Nat) ({ cls := "ScriptTypes", name := "unaryOf", desc := "(I)V" } : Jvm.MethodName)) ∈ lw_all := lw_g (lw_at lw_m13 41 rfl) rfl
theorem q3367 : (Jvm.Cond.privateMethod ({ cls := "ScriptTypes", name := "unaryOf", desc := "(I)V" } : Jvm.MethodName)) ∈ lw_tbl := lw_at lw_m13 42 rfl
theorem q3368 : (Jvm.Cond.instanceMethod ({ cls := "ScriptTypes", name := "unaryOf", desc := "(I)V" } : Jvm.MethodName)) ∈ lw_all := lw_g (lw_at lw_m13 43 rfl) rfl
theorem q3369 : (Jvm.Cond.code ({ cls := "ScriptTypes", name := "unaryOf", desc := "(I)V" } : Jvm.MethodName) prog_1_method_127_code (2 : Nat) (Option.none : Option Jvm.ClassFile.FieldType)) ∈ lw_all := lw_g (lw_at lw_m13 44 rfl) rfl
theorem q3370 : (Jvm.Cond.methodLink "ScriptTypes" (1009 : Nat) ({ cls := "ScriptTypes$Bag", name := "sort", desc := "()I" } : Jvm.MethodName)) ∈ lw_all := lw_g (lw_at lw_m13 45 rfl) rfl
theorem q3371 : (Jvm.Cond.instanceMethod ({ cls := "ScriptTypes$Bag", name := "sort", desc := "()I" } : Jvm.MethodName)) ∈ lw_all := lw_g (lw_at lw_m13 46 rfl) rfl
theorem q3372 : (Jvm.Cond.selects "ScriptTypes$Bag" ({ cls := "ScriptTypes$Bag", name := "sort", desc := "()I" } : Jvm.MethodName) ({ cls := "ScriptTypes$Bag", name := "sort", desc := "()I" } : Jvm.MethodName)) ∈ lw_all := lw_g (lw_at lw_m13 47 rfl) rfl
theorem q3373 : (Jvm.Cond.code ({ cls := "ScriptTypes$Bag", name := "sort", desc := "()I" } : Jvm.MethodName) prog_4_method_16_code (1 : Nat) (Option.some Jvm.ClassFile.FieldType.int)) ∈ lw_all := lw_g (lw_at lw_m13 48 rfl) rfl
theorem q3374 : (Jvm.Cond.constantLong "ScriptTypes$Bag" (51 : Nat) (31 : Int64)) ∈ lw_all := lw_g (lw_at lw_m13 49 rfl) rfl
theorem q3375 : (Jvm.Cond.methodLink "ScriptTypes$Bag" (53 : Nat) ({ cls := "java/lang/Long", name := "numberOfTrailingZeros", desc := "(J)I" } : Jvm.MethodName)) ∈ lw_all := lw_g (lw_at lw_m13 50 rfl) rfl
theorem q3376 : (Jvm.Cond.methodLink "ScriptTypes" (1011 : Nat) ({ cls := "ScriptTypes$Bag", name := "value", desc := "()I" } : Jvm.MethodName)) ∈ lw_all := lw_g (lw_at lw_m13 51 rfl) rfl
theorem q3377 : (Jvm.Cond.instanceMethod ({ cls := "ScriptTypes$Bag", name := "value", desc := "()I" } : Jvm.MethodName)) ∈ lw_all := lw_g (lw_at lw_m13 52 rfl) rfl
theorem q3378 : (Jvm.Cond.selects "ScriptTypes$Bag" ({ cls := "ScriptTypes$Bag", name := "value", desc := "()I" } : Jvm.MethodName) ({ cls := "ScriptTypes$Bag", name := "value", desc := "()I" } : Jvm.MethodName)) ∈ lw_all := lw_g (lw_at lw_m13 53 rfl) rfl
theorem q3379 : (Jvm.Cond.code ({ cls := "ScriptTypes$Bag", name := "value", desc := "()I" } : Jvm.MethodName) prog_4_method_17_code (1 : Nat) (Option.some Jvm.ClassFile.FieldType.int)) ∈ lw_all := lw_g (lw_at lw_m13 54 rfl) rfl
theorem q3380 : (Jvm.Cond.methodLink "ScriptTypes" (1013 : Nat) ({ cls := "ScriptTypes", name := "fold", desc := "()V" } : Jvm.MethodName)) ∈ lw_all := lw_g (lw_at lw_m13 55 rfl) rfl
theorem q3381 : (Jvm.Cond.privateMethod ({ cls := "ScriptTypes", name := "fold", desc := "()V" } : Jvm.MethodName)) ∈ lw_tbl := lw_at lw_m13 56 rfl
theorem q3382 : (Jvm.Cond.instanceMethod ({ cls := "ScriptTypes", name := "fold", desc := "()V" } : Jvm.MethodName)) ∈ lw_all := lw_g (lw_at lw_m13 57 rfl) rfl
theorem q3383 : (Jvm.Cond.code ({ cls := "ScriptTypes", name := "fold", desc := "()V" } : Jvm.MethodName) prog_1_method_126_code (1 : Nat) (Option.none : Option Jvm.ClassFile.FieldType)) ∈ lw_all := lw_g (lw_at lw_m13 58 rfl) rfl
theorem q3384 : (Jvm.Cond.methodLink "ScriptTypes" (976 : Nat) ({ cls := "ScriptTypes", name := "mayBeFalse", desc := "(LScriptTypes$Bag;)Z" } : Jvm.MethodName)) ∈ lw_all := lw_g (lw_at lw_m13 59 rfl) rfl
theorem q3385 : (Jvm.Cond.privateMethod ({ cls := "ScriptTypes", name := "mayBeFalse", desc := "(LScriptTypes$Bag;)Z" } : Jvm.MethodName)) ∈ lw_tbl := lw_at lw_m13 60 rfl
theorem q3386 : (Jvm.Cond.instanceMethod ({ cls := "ScriptTypes", name := "mayBeFalse", desc := "(LScriptTypes$Bag;)Z" } : Jvm.MethodName)) ∈ lw_all := lw_g (lw_at lw_m13 61 rfl) rfl
theorem q3387 : (Jvm.Cond.code ({ cls := "ScriptTypes", name := "mayBeFalse", desc := "(LScriptTypes$Bag;)Z" } : Jvm.MethodName) prog_1_method_123_code (2 : Nat) (Option.some Jvm.ClassFile.FieldType.boolean)) ∈ lw_all := lw_g (lw_at lw_m13 62 rfl) rfl
theorem q3388 : (Jvm.Cond.methodLink "ScriptTypes" (972 : Nat) ({ cls := "ScriptTypes", name := "mayBeTrue", desc := "(LScriptTypes$Bag;)Z" } : Jvm.MethodName)) ∈ lw_all := lw_g (lw_at lw_m13 63 rfl) rfl
theorem q3389 : (Jvm.Cond.privateMethod ({ cls := "ScriptTypes", name := "mayBeTrue", desc := "(LScriptTypes$Bag;)Z" } : Jvm.MethodName)) ∈ lw_tbl := lw_at lw_m13 64 rfl
theorem q3390 : (Jvm.Cond.instanceMethod ({ cls := "ScriptTypes", name := "mayBeTrue", desc := "(LScriptTypes$Bag;)Z" } : Jvm.MethodName)) ∈ lw_all := lw_g (lw_at lw_m13 65 rfl) rfl
theorem q3391 : (Jvm.Cond.code ({ cls := "ScriptTypes", name := "mayBeTrue", desc := "(LScriptTypes$Bag;)Z" } : Jvm.MethodName) prog_1_method_122_code (2 : Nat) (Option.some Jvm.ClassFile.FieldType.boolean)) ∈ lw_all := lw_g (lw_at lw_m13 66 rfl) rfl
theorem q3392 : (Jvm.Cond.constantLong "ScriptTypes" (1018 : Nat) (8 : Int64)) ∈ lw_all := lw_g (lw_at lw_m13 67 rfl) rfl
theorem q3393 : (Jvm.Cond.constantLong "ScriptTypes" (1020 : Nat) (80 : Int64)) ∈ lw_all := lw_g (lw_at lw_m13 68 rfl) rfl
theorem q3394 : (Jvm.Cond.methodLink "ScriptTypes" (944 : Nat) ({ cls := "ScriptTypes", name := "readsIn", desc := "()V" } : Jvm.MethodName)) ∈ lw_all := lw_g (lw_at lw_m13 69 rfl) rfl
theorem q3395 : (Jvm.Cond.privateMethod ({ cls := "ScriptTypes", name := "readsIn", desc := "()V" } : Jvm.MethodName)) ∈ lw_tbl := lw_at lw_m13 70 rfl
theorem q3396 : (Jvm.Cond.instanceMethod ({ cls := "ScriptTypes", name := "readsIn", desc := "()V" } : Jvm.MethodName)) ∈ lw_all := lw_g (lw_at lw_m13 71 rfl) rfl
theorem q3397 : (Jvm.Cond.code ({ cls := "ScriptTypes", name := "readsIn", desc := "()V" } : Jvm.MethodName) prog_1_method_129_code (1 : Nat) (Option.none : Option Jvm.ClassFile.FieldType)) ∈ lw_all := lw_g (lw_at lw_m13 72 rfl) rfl
theorem q3398 : (Jvm.Cond.methodLink "ScriptTypes" (947 : Nat) ({ cls := "ScriptTypes", name := "isIn", desc := "()V" } : Jvm.MethodName)) ∈ lw_all := lw_g (lw_at lw_m13 73 rfl) rfl
theorem q3399 : (Jvm.Cond.privateMethod ({ cls := "ScriptTypes", name := "isIn", desc := "()V" } : Jvm.MethodName)) ∈ lw_tbl := lw_at lw_m13 74 rfl
theorem q3400 : (Jvm.Cond.instanceMethod ({ cls := "ScriptTypes", name := "isIn", desc := "()V" } : Jvm.MethodName)) ∈ lw_all := lw_g (lw_at lw_m13 75 rfl) rfl
theorem q3401 : (Jvm.Cond.code ({ cls := "ScriptTypes", name := "isIn", desc := "()V" } : Jvm.MethodName) prog_1_method_130_code (6 : Nat) (Option.none : Option Jvm.ClassFile.FieldType)) ∈ lw_all := lw_g (lw_at lw_m13 76 rfl) rfl
theorem q3402 : (Jvm.Cond.constantLong "ScriptTypes" (1031 : Nat) (2 : Int64)) ∈ lw_all := lw_g (lw_at lw_m13 77 rfl) rfl
theorem q3403 : (Jvm.Cond.methodLink "ScriptTypes" (950 : Nat) ({ cls := "ScriptTypes", name := "binaryOf", desc := "(I)V" } : Jvm.MethodName)) ∈ lw_all := lw_g (lw_at lw_m13 78 rfl) rfl
theorem q3404 : (Jvm.Cond.privateMethod ({ cls := "ScriptTypes", name := "binaryOf", desc := "(I)V" } : Jvm.MethodName)) ∈ lw_tbl := lw_at lw_m13 79 rfl
theorem q3405 : (Jvm.Cond.instanceMethod ({ cls := "ScriptTypes", name := "binaryOf", desc := "(I)V" } : Jvm.MethodName)) ∈ lw_all := lw_g (lw_at lw_m13 80 rfl) rfl
theorem q3406 : (Jvm.Cond.code ({ cls := "ScriptTypes", name := "binaryOf", desc := "(I)V" } : Jvm.MethodName) prog_1_method_128_code (4 : Nat) (Option.none : Option Jvm.ClassFile.FieldType)) ∈ lw_all := lw_g (lw_at lw_m13 81 rfl) rfl
theorem q3407 : (Jvm.Cond.constantLong "ScriptTypes" (1022 : Nat) (12 : Int64)) ∈ lw_all := lw_g (lw_at lw_m13 82 rfl) rfl
theorem q3408 : (Jvm.Cond.methodLink "ScriptTypes" (953 : Nat) ({ cls := "ScriptTypes", name := "goesOn", desc := "(III)V" } : Jvm.MethodName)) ∈ lw_all := lw_g (lw_at lw_m13 83 rfl) rfl
theorem q3409 : (Jvm.Cond.privateMethod ({ cls := "ScriptTypes", name := "goesOn", desc := "(III)V" } : Jvm.MethodName)) ∈ lw_tbl := lw_at lw_m13 84 rfl
theorem q3410 : (Jvm.Cond.instanceMethod ({ cls := "ScriptTypes", name := "goesOn", desc := "(III)V" } : Jvm.MethodName)) ∈ lw_all := lw_g (lw_at lw_m13 85 rfl) rfl
theorem q3411 : (Jvm.Cond.code ({ cls := "ScriptTypes", name := "goesOn", desc := "(III)V" } : Jvm.MethodName) prog_1_method_118_code (4 : Nat) (Option.none : Option Jvm.ClassFile.FieldType)) ∈ lw_all := lw_g (lw_at lw_m13 86 rfl) rfl
theorem q3412 : (Jvm.Cond.methodLink "ScriptTypes" (963 : Nat) ({ cls := "ScriptTypes", name := "callsOf", desc := "(I)V" } : Jvm.MethodName)) ∈ lw_all := lw_g (lw_at lw_m13 87 rfl) rfl
theorem q3413 : (Jvm.Cond.privateMethod ({ cls := "ScriptTypes", name := "callsOf", desc := "(I)V" } : Jvm.MethodName)) ∈ lw_tbl := lw_at lw_m13 88 rfl
theorem q3414 : (Jvm.Cond.instanceMethod ({ cls := "ScriptTypes", name := "callsOf", desc := "(I)V" } : Jvm.MethodName)) ∈ lw_all := lw_g (lw_at lw_m13 89 rfl) rfl
theorem q3415 : (Jvm.Cond.code ({ cls := "ScriptTypes", name := "callsOf", desc := "(I)V" } : Jvm.MethodName) prog_1_method_136_code (5 : Nat) (Option.none : Option Jvm.ClassFile.FieldType)) ∈ lw_all := lw_g (lw_at lw_m13 90 rfl) rfl
theorem q3416 : (Jvm.Cond.methodLink "ScriptTypes" (1039 : Nat) ({ cls := "ScriptTypes", name := "takesArguments", desc := "(I)V" } : Jvm.MethodName)) ∈ lw_all := lw_g (lw_at lw_m13 91 rfl) rfl
theorem q3417 : (Jvm.Cond.privateMethod ({ cls := "ScriptTypes", name := "takesArguments", desc := "(I)V" } : Jvm.MethodName)) ∈ lw_tbl := lw_at lw_m13 92 rfl
theorem q3418 : (Jvm.Cond.instanceMethod ({ cls := "ScriptTypes", name := "takesArguments", desc := "(I)V" } : Jvm.MethodName)) ∈ lw_all := lw_g (lw_at lw_m13 93 rfl) rfl
theorem q3419 : (Jvm.Cond.code ({ cls := "ScriptTypes", name := "takesArguments", desc := "(I)V" } : Jvm.MethodName) prog_1_method_135_code (3 : Nat) (Option.none : Option Jvm.ClassFile.FieldType)) ∈ lw_all := lw_g (lw_at lw_m13 94 rfl) rfl
theorem q3420 : (Jvm.Cond.methodLink "ScriptTypes" (1045 : Nat) ({ cls := "ScriptTypes", name := "alone", desc := "(III)V" } : Jvm.MethodName)) ∈ lw_all := lw_g (lw_at lw_m13 95 rfl) rfl
theorem q3421 : (Jvm.Cond.privateMethod ({ cls := "ScriptTypes", name := "alone", desc := "(III)V" } : Jvm.MethodName)) ∈ lw_tbl := lw_at lw_m13 96 rfl
theorem q3422 : (Jvm.Cond.instanceMethod ({ cls := "ScriptTypes", name := "alone", desc := "(III)V" } : Jvm.MethodName)) ∈ lw_all := lw_g (lw_at lw_m13 97 rfl) rfl
theorem q3423 : (Jvm.Cond.code ({ cls := "ScriptTypes", name := "alone", desc := "(III)V" } : Jvm.MethodName) prog_1_method_143_code (5 : Nat) (Option.none : Option Jvm.ClassFile.FieldType)) ∈ lw_all := lw_g (lw_at lw_m13 98 rfl) rfl
theorem q3424 : (Jvm.Cond.methodLink "ScriptTypes" (1089 : Nat) ({ cls := "ScriptTypes", name := "textIn", desc := "(LScriptTypes$Bag;)J" } : Jvm.MethodName)) ∈ lw_all := lw_g (lw_at lw_m13 99 rfl) rfl
theorem q3425 : (Jvm.Cond.privateMethod ({ cls := "ScriptTypes", name := "textIn", desc := "(LScriptTypes$Bag;)J" } : Jvm.MethodName)) ∈ lw_tbl := lw_at lw_m13 100 rfl
theorem q3426 : (Jvm.Cond.instanceMethod ({ cls := "ScriptTypes", name := "textIn", desc := "(LScriptTypes$Bag;)J" } : Jvm.MethodName)) ∈ lw_all := lw_g (lw_at lw_m13 101 rfl) rfl
theorem q3427 : (Jvm.Cond.code ({ cls := "ScriptTypes", name := "textIn", desc := "(LScriptTypes$Bag;)J" } : Jvm.MethodName) prog_1_method_114_code (2 : Nat) (Option.some Jvm.ClassFile.FieldType.long)) ∈ lw_all := lw_g (lw_at lw_m13 102 rfl) rfl
theorem q3428 : (Jvm.Cond.methodLink "ScriptTypes" (1093 : Nat) ({ cls := "ScriptTypes", name := "newOne", desc := "(IJ)V" } : Jvm.MethodName)) ∈ lw_all := lw_g (lw_at lw_m13 103 rfl) rfl
theorem q3429 : (Jvm.Cond.privateMethod ({ cls := "ScriptTypes", name := "newOne", desc := "(IJ)V" } : Jvm.MethodName)) ∈ lw_tbl := lw_at lw_m13 104 rfl
theorem q3430 : (Jvm.Cond.instanceMethod ({ cls := "ScriptTypes", name := "newOne", desc := "(IJ)V" } : Jvm.MethodName)) ∈ lw_all := lw_g (lw_at lw_m13 105 rfl) rfl
theorem q3431 : (Jvm.Cond.code ({ cls := "ScriptTypes", name := "newOne", desc := "(IJ)V" } : Jvm.MethodName) prog_1_method_144_code (6 : Nat) (Option.none : Option Jvm.ClassFile.FieldType)) ∈ lw_all := lw_g (lw_at lw_m13 106 rfl) rfl
theorem q3432 : (Jvm.Cond.methodLink "ScriptTypes" (1107 : Nat) ({ cls := "ScriptTypes", name := "joined", desc := "(JJ)J" } : Jvm.MethodName)) ∈ lw_all := lw_g (lw_at lw_m13 107 rfl) rfl
theorem q3433 : (Jvm.Cond.methodLink "ScriptTypes" (1097 : Nat) ({ cls := "ScriptTypes", name := "rows", desc := "(ZLScriptTypes$Bag;)V" } : Jvm.MethodName)) ∈ lw_all := lw_g (lw_at lw_m13 108 rfl) rfl
theorem q3434 : (Jvm.Cond.privateMethod ({ cls := "ScriptTypes", name := "rows", desc := "(ZLScriptTypes$Bag;)V" } : Jvm.MethodName)) ∈ lw_tbl := lw_at lw_m13 109 rfl
theorem q3435 : (Jvm.Cond.instanceMethod ({ cls := "ScriptTypes", name := "rows", desc := "(ZLScriptTypes$Bag;)V" } : Jvm.MethodName)) ∈ lw_all := lw_g (lw_at lw_m13 110 rfl) rfl
theorem q3436 : (Jvm.Cond.code ({ cls := "ScriptTypes", name := "rows", desc := "(ZLScriptTypes$Bag;)V" } : Jvm.MethodName) prog_1_method_145_code (6 : Nat) (Option.none : Option Jvm.ClassFile.FieldType)) ∈ lw_all := lw_g (lw_at lw_m13 111 rfl) rfl
theorem q3437 : (Jvm.Cond.methodLink "ScriptTypes" (1059 : Nat) ({ cls := "ScriptTypes$Work", name := "copy", desc := "(LScriptTypes$Work;)V" } : Jvm.MethodName)) ∈ lw_all := lw_g (lw_at lw_m13 112 rfl) rfl
theorem q3438 : (Jvm.Cond.instanceMethod ({ cls := "ScriptTypes$Work", name := "copy", desc := "(LScriptTypes$Work;)V" } : Jvm.MethodName)) ∈ lw_all := lw_g (lw_at lw_m13 113 rfl) rfl
theorem q3439 : (Jvm.Cond.selects "ScriptTypes$Work" ({ cls := "ScriptTypes$Work", name := "copy", desc := "(LScriptTypes$Work;)V" } : Jvm.MethodName) ({ cls := "ScriptTypes$Work", name := "copy", desc := "(LScriptTypes$Work;)V" } : Jvm.MethodName)) ∈ lw_all := lw_g (lw_at lw_m13 114 rfl) rfl
theorem q3440 : (Jvm.Cond.code ({ cls := "ScriptTypes$Work", name := "copy", desc := "(LScriptTypes$Work;)V" } : Jvm.MethodName) prog_42_method_14_code (3 : Nat) (Option.none : Option Jvm.ClassFile.FieldType)) ∈ lw_all := lw_g (lw_at lw_m13 115 rfl) rfl
theorem q3441 : (Jvm.Cond.methodLink "ScriptTypes$Work" (126 : Nat) ({ cls := "java/lang/System", name := "arraycopy", desc := "(Ljava/lang/Object;ILjava/lang/Object;II)V" } : Jvm.MethodName)) ∈ lw_all := lw_g (lw_at lw_m13 116 rfl) rfl
theorem q3442 : (Jvm.Cond.methodLink "ScriptTypes" (1110 : Nat) ({ cls := "ScriptTypes", name := "isHundred", desc := "(I)Z" } : Jvm.MethodName)) ∈ lw_all := lw_g (lw_at lw_m13 117 rfl) rfl
theorem q3443 : (Jvm.Cond.privateMethod ({ cls := "ScriptTypes", name := "isHundred", desc := "(I)Z" } : Jvm.MethodName)) ∈ lw_tbl := lw_at lw_m13 118 rfl
theorem q3444 : (Jvm.Cond.instanceMethod ({ cls := "ScriptTypes", name := "isHundred", desc := "(I)Z" } : Jvm.MethodName)) ∈ lw_all := lw_g (lw_at lw_m13 119 rfl) rfl
theorem q3445 : (Jvm.Cond.code ({ cls := "ScriptTypes", name := "isHundred", desc := "(I)Z" } : Jvm.MethodName) prog_1_method_96_code (2 : Nat) (Option.some Jvm.ClassFile.FieldType.boolean)) ∈ lw_all := lw_g (lw_at lw_m13 120 rfl) rfl
theorem q3446 : (Jvm.Cond.methodLink "ScriptTypes" (1101 : Nat) ({ cls := "ScriptTypes", name := "hasOwn", desc := "(LScriptTypes$Bag;)V" } : Jvm.MethodName)) ∈ lw_all := lw_g (lw_at lw_m13 121 rfl) rfl
theorem q3447 : (Jvm.Cond.privateMethod ({ cls := "ScriptTypes", name := "hasOwn", desc := "(LScriptTypes$Bag;)V" } : Jvm.MethodName)) ∈ lw_tbl := lw_at lw_m13 122 rfl
theorem q3448 : (Jvm.Cond.instanceMethod ({ cls := "ScriptTypes", name := "hasOwn", desc := "(LScriptTypes$Bag;)V" } : Jvm.MethodName)) ∈ lw_all := lw_g (lw_at lw_m13 123 rfl) rfl
theorem q3449 : (Jvm.Cond.code ({ cls := "ScriptTypes", name := "hasOwn", desc := "(LScriptTypes$Bag;)V" } : Jvm.MethodName) prog_1_method_146_code (5 : Nat) (Option.none : Option Jvm.ClassFile.FieldType)) ∈ lw_all := lw_g (lw_at lw_m13 124 rfl) rfl
theorem q3450 : (Jvm.Cond.constantLong "ScriptTypes" (1104 : Nat) (-385 : Int64)) ∈ lw_all := lw_g (lw_at lw_m13 125 rfl) rfl
theorem q3451 : (Jvm.Cond.methodLink "ScriptTypes" (1048 : Nat) ({ cls := "ScriptTypes", name := "isOf", desc := "(I)Z" } : Jvm.MethodName)) ∈ lw_all := lw_g (lw_at lw_m13 126 rfl) rfl
theorem q3452 : (Jvm.Cond.privateMethod ({ cls := "ScriptTypes", name := "isOf", desc := "(I)Z" } : Jvm.MethodName)) ∈ lw_tbl := lw_at lw_m13 127 rfl
theorem q3453 : (Jvm.Cond.instanceMethod ({ cls := "ScriptTypes", name := "isOf", desc := "(I)Z" } : Jvm.MethodName)) ∈ lw_all := lw_g (lw_at lw_m13 128 rfl) rfl
theorem q3454 : (Jvm.Cond.code ({ cls := "ScriptTypes", name := "isOf", desc := "(I)Z" } : Jvm.MethodName) prog_1_method_137_code (2 : Nat) (Option.some Jvm.ClassFile.FieldType.boolean)) ∈ lw_all := lw_g (lw_at lw_m13 129 rfl) rfl
theorem q3455 : (Jvm.Cond.methodLink "ScriptTypes" (1051 : Nat) ({ cls := "ScriptTypes", name := "enters", desc := "(IIII)V" } : Jvm.MethodName)) ∈ lw_all := lw_g (lw_at lw_m13 130 rfl) rfl
theorem q3456 : (Jvm.Cond.privateMethod ({ cls := "ScriptTypes", name := "enters", desc := "(IIII)V" } : Jvm.MethodName)) ∈ lw_tbl := lw_at lw_m13 131 rfl
theorem q3457 : (Jvm.Cond.instanceMethod ({ cls := "ScriptTypes", name := "enters", desc := "(IIII)V" } : Jvm.MethodName)) ∈ lw_all := lw_g (lw_at lw_m13 132 rfl) rfl
theorem q3458 : (Jvm.Cond.code ({ cls := "ScriptTypes", name := "enters", desc := "(IIII)V" } : Jvm.MethodName) prog_1_method_139_code (13 : Nat) (Option.none : Option Jvm.ClassFile.FieldType)) ∈ lw_all := lw_g (lw_at lw_m13 133 rfl) rfl
theorem q3459 : (Jvm.Cond.methodLink "ScriptTypes" (1062 : Nat) ({ cls := "ScriptTypes", name := "onlyOf", desc := "(LScriptTypes$Bag;I)V" } : Jvm.MethodName)) ∈ lw_all := lw_g (lw_at lw_m13 134 rfl) rfl
theorem q3460 : (Jvm.Cond.static ({ cls := "ScriptTypes", name := "onlyOf", desc := "(LScriptTypes$Bag;I)V" } : Jvm.MethodName)) ∈ lw_all := lw_g (lw_at lw_m13 135 rfl) rfl
theorem q3461 : (Jvm.Cond.code ({ cls := "ScriptTypes", name := "onlyOf", desc := "(LScriptTypes$Bag;I)V" } : Jvm.MethodName) prog_1_method_140_code (4 : Nat) (Option.none : Option Jvm.ClassFile.FieldType)) ∈ lw_all := lw_g (lw_at lw_m13 136 rfl) rfl
theorem q3462 : (Jvm.Cond.methodLink "ScriptTypes" (1066 : Nat) ({ cls := "ScriptTypes", name := "comesBack", desc := "(II)V" } : Jvm.MethodName)) ∈ lw_all := lw_g (lw_at lw_m13 137 rfl) rfl
theorem q3463 : (Jvm.Cond.privateMethod ({ cls := "ScriptTypes", name := "comesBack", desc := "(II)V" } : Jvm.MethodName)) ∈ lw_tbl := lw_at lw_m13 138 rfl
theorem q3464 : (Jvm.Cond.instanceMethod ({ cls := "ScriptTypes", name := "comesBack", desc := "(II)V" } : Jvm.MethodName)) ∈ lw_all := lw_g (lw_at lw_m13 139 rfl) rfl
theorem q3465 : (Jvm.Cond.code ({ cls := "ScriptTypes", name := "comesBack", desc := "(II)V" } : Jvm.MethodName) prog_1_method_141_code (4 : Nat) (Option.none : Option Jvm.ClassFile.FieldType)) ∈ lw_all := lw_g (lw_at lw_m13 140 rfl) rfl
theorem q3466 : (Jvm.Cond.methodLink "ScriptTypes" (1069 : Nat) ({ cls := "ScriptTypes$Table", name := "heap", desc := "(ILScriptTypes$Work;)V" } : Jvm.MethodName)) ∈ lw_all := lw_g (lw_at lw_m13 141 rfl) rfl
theorem q3467 : (Jvm.Cond.methodLink "ScriptTypes" (1072 : Nat) ({ cls := "ScriptTypes", name := "ages", desc := "()V" } : Jvm.MethodName)) ∈ lw_all := lw_g (lw_at lw_m13 142 rfl) rfl
theorem q3468 : (Jvm.Cond.privateMethod ({ cls := "ScriptTypes", name := "ages", desc := "()V" } : Jvm.MethodName)) ∈ lw_tbl := lw_at lw_m13 143 rfl
theorem q3469 : (Jvm.Cond.instanceMethod ({ cls := "ScriptTypes", name := "ages", desc := "()V" } : Jvm.MethodName)) ∈ lw_all := lw_g (lw_at lw_m13 144 rfl) rfl
theorem q3470 : (Jvm.Cond.code ({ cls := "ScriptTypes", name := "ages", desc := "()V" } : Jvm.MethodName) prog_1_method_142_code (5 : Nat) (Option.none : Option Jvm.ClassFile.FieldType)) ∈ lw_all := lw_g (lw_at lw_m13 145 rfl) rfl
theorem q3471 : (Jvm.Cond.methodLink "ScriptTypes" (1081 : Nat) ({ cls := "ScriptTypes", name := "agedHigh", desc := "(JJ)J" } : Jvm.MethodName)) ∈ lw_all := lw_g (lw_at lw_m13 146 rfl) rfl
theorem q3472 : (Jvm.Cond.static ({ cls := "ScriptTypes", name := "agedHigh", desc := "(JJ)J" } : Jvm.MethodName)) ∈ lw_all := lw_g (lw_at lw_m13 147 rfl) rfl
theorem q3473 : (Jvm.Cond.code ({ cls := "ScriptTypes", name := "agedHigh", desc := "(JJ)J" } : Jvm.MethodName) prog_1_method_93_code (4 : Nat) (Option.some Jvm.ClassFile.FieldType.long)) ∈ lw_all := lw_g (lw_at lw_m13 148 rfl) rfl
theorem q3474 : (Jvm.Cond.constantLong "ScriptTypes" (635 : Nat) (-6148914691236517206 : Int64)) ∈ lw_all := lw_g (lw_at lw_m13 149 rfl) rfl
theorem q3475 : (Jvm.Cond.methodLink "ScriptTypes" (1085 : Nat) ({ cls := "ScriptTypes", name := "agedLow", desc := "(J)J" } : Jvm.MethodName)) ∈ lw_all := lw_g (lw_at lw_m13 150 rfl) rfl
theorem q3476 : (Jvm.Cond.static ({ cls := "ScriptTypes", name := "agedLow", desc := "(J)J" } : Jvm.MethodName)) ∈ lw_all := lw_g (lw_at lw_m13 151 rfl) rfl
theorem q3477 : (Jvm.Cond.code ({ cls := "ScriptTypes", name := "agedLow", desc := "(J)J" } : Jvm.MethodName) prog_1_method_92_code (2 : Nat) (Option.some Jvm.ClassFile.FieldType.long)) ∈ lw_all := lw_g (lw_at lw_m13 152 rfl) rfl
theorem q3478 : (Jvm.Cond.constantLong "ScriptTypes" (637 : Nat) (-536870912 : Int64)) ∈ lw_all := lw_g (lw_at lw_m13 153 rfl) rfl
theorem q3479 : (Jvm.Cond.methodLink "ScriptTypes" (1054 : Nat) ({ cls := "ScriptTypes$Bag", name := "copy", desc := "(LScriptTypes$Bag;)LScriptTypes$Bag;" } : Jvm.MethodName)) ∈ lw_all := lw_g (lw_at lw_m13 154 rfl) rfl
theorem q3480 : (Jvm.Cond.instanceMethod ({ cls := "ScriptTypes$Bag", name := "copy", desc := "(LScriptTypes$Bag;)LScriptTypes$Bag;" } : Jvm.MethodName)) ∈ lw_all := lw_g (lw_at lw_m13 155 rfl) rfl
theorem q3481 : (Jvm.Cond.selects "ScriptTypes$Bag" ({ cls := "ScriptTypes$Bag", name := "copy", desc := "(LScriptTypes$Bag;)LScriptTypes$Bag;" } : Jvm.MethodName) ({ cls := "ScriptTypes$Bag", name := "copy", desc := "(LScriptTypes$Bag;)LScriptTypes$Bag;" } : Jvm.MethodName)) ∈ lw_all := lw_g (lw_at lw_m13 156 rfl) rfl
theorem q3482 : (Jvm.Cond.code ({ cls := "ScriptTypes$Bag", name := "copy", desc := "(LScriptTypes$Bag;)LScriptTypes$Bag;" } : Jvm.MethodName) prog_4_method_4_code (2 : Nat) (Option.some (Jvm.ClassFile.FieldType.object "ScriptTypes$Bag"))) ∈ lw_all := lw_g (lw_at lw_m13 157 rfl) rfl
theorem q3483 : (Jvm.Cond.methodLink "ScriptTypes" (966 : Nat) ({ cls := "ScriptTypes", name := "makes", desc := "(II)V" } : Jvm.MethodName)) ∈ lw_all := lw_g (lw_at lw_m13 158 rfl) rfl
theorem q3484 : (Jvm.Cond.privateMethod ({ cls := "ScriptTypes", name := "makes", desc := "(II)V" } : Jvm.MethodName)) ∈ lw_tbl := lw_at lw_m13 159 rfl
theorem q3485 : (Jvm.Cond.instanceMethod ({ cls := "ScriptTypes", name := "makes", desc := "(II)V" } : Jvm.MethodName)) ∈ lw_all := lw_g (lw_at lw_m13 160 rfl) rfl
theorem q3486 : (Jvm.Cond.code ({ cls := "ScriptTypes", name := "makes", desc := "(II)V" } : Jvm.MethodName) prog_1_method_138_code (7 : Nat) (Option.none : Option Jvm.ClassFile.FieldType)) ∈ lw_all := lw_g (lw_at lw_m13 161 rfl) rfl
theorem q3487 : (Jvm.Cond.constantLong "ScriptTypes" (1057 : Nat) (252928 : Int64)) ∈ lw_all := lw_g (lw_at lw_m13 162 rfl) rfl
theorem q3488 : (Jvm.Cond.methodLink "ScriptTypes" (969 : Nat) ({ cls := "ScriptTypes", name := "stacks", desc := "(I)V" } : Jvm.MethodName)) ∈ lw_all := lw_g (lw_at lw_m13 163 rfl) rfl
theorem q3489 : (Jvm.Cond.privateMethod ({ cls := "ScriptTypes", name := "stacks", desc := "(I)V" } : Jvm.MethodName)) ∈ lw_tbl := lw_at lw_m13 164 rfl
theorem q3490 : (Jvm.Cond.instanceMethod ({ cls := "ScriptTypes", name := "stacks", desc := "(I)V" } : Jvm.MethodName)) ∈ lw_all := lw_g (lw_at lw_m13 165 rfl) rfl
theorem q3491 : (Jvm.Cond.code ({ cls := "ScriptTypes", name := "stacks", desc := "(I)V" } : Jvm.MethodName) prog_1_method_119_code (2 : Nat) (Option.none : Option Jvm.ClassFile.FieldType)) ∈ lw_all := lw_g (lw_at lw_m13 166 rfl) rfl
theorem q3492 : (Jvm.Cond.methodLink "ScriptTypes" (979 : Nat) ({ cls := "ScriptTypes$Work", name := "push", desc := "(JJJ)V" } : Jvm.MethodName)) ∈ lw_all := lw_g (lw_at lw_m13 167 rfl) rfl
theorem q3493 : (Jvm.Cond.classLink "ScriptTypesLaw" (25 : Nat) "ScriptTypesModel") ∈ lw_all := lw_g (lw_at lw_m13 168 rfl) rfl
theorem q3494 : (Jvm.Cond.instantiable "ScriptTypesModel" (151 : Nat)) ∈ lw_all := lw_g (lw_at lw_m13 169 rfl) rfl
theorem q3495 : (Jvm.Cond.methodLink "ScriptTypesLaw" (27 : Nat) ({ cls := "ScriptTypesModel", name := "<init>", desc := "()V" } : Jvm.MethodName)) ∈ lw_all := lw_g (lw_at lw_m13 170 rfl) rfl
theorem q3496 : (Jvm.Cond.instanceMethod ({ cls := "ScriptTypesModel", name := "<init>", desc := "()V" } : Jvm.MethodName)) ∈ lw_all := lw_g (lw_at lw_m13 171 rfl) rfl
theorem q3497 : (Jvm.Cond.code ({ cls := "ScriptTypesModel", name := "<init>", desc := "()V" } : Jvm.MethodName) prog_44_method_1_code (1 : Nat) (Option.none : Option Jvm.ClassFile.FieldType)) ∈ lw_all := lw_g (lw_at lw_m13 172 rfl) rfl
theorem q3498 : (Jvm.Cond.methodLink "ScriptTypesModel" (1 : Nat) ({ cls := "java/lang/Object", name := "<init>", desc := "()V" } : Jvm.MethodName)) ∈ lw_all := lw_g (lw_at lw_m13 173 rfl) rfl
theorem q3499 : (Jvm.Cond.constant "ScriptTypesModel" (45 : Nat) (60000 : Int32)) ∈ lw_all := lw_g (lw_at lw_m13 174 rfl) rfl
theorem q3500 : (Jvm.Cond.constant "ScriptTypesModel" (215 : Nat) (647800 : Int32)) ∈ lw_all := lw_g (lw_at lw_m13 175 rfl) rfl
theorem q3501 : (Jvm.Cond.fieldLink "ScriptTypesModel" (289 : Nat) "ScriptTypesModel" "thrown" "I") ∈ lw_all := lw_g (lw_at lw_m13 176 rfl) rfl
theorem q3502 : (Jvm.Cond.fieldLink "ScriptTypesModel" (7 : Nat) "ScriptTypesModel" "tape" "[B") ∈ lw_all := lw_g (lw_at lw_m13 177 rfl) rfl
theorem q3503 : (Jvm.Cond.fieldLink "ScriptTypesModel" (293 : Nat) "ScriptTypesModel" "taped" "I") ∈ lw_all := lw_g (lw_at lw_m13 178 rfl) rfl
theorem q3504 : (Jvm.Cond.fieldLink "ScriptTypesModel" (13 : Nat) "ScriptTypesModel" "source" "[B") ∈ lw_all := lw_g (lw_at lw_m13 179 rfl) rfl
theorem q3505 : (Jvm.Cond.fieldLink "ScriptTypesModel" (328 : Nat) "ScriptTypesModel" "size" "I") ∈ lw_all := lw_g (lw_at lw_m13 180 rfl) rfl
theorem q3506 : (Jvm.Cond.fieldLink "ScriptTypesModel" (16 : Nat) "ScriptTypesModel" "signs" "[C") ∈ lw_all := lw_g (lw_at lw_m13 181 rfl) rfl
theorem q3507 : (Jvm.Cond.fieldLink "ScriptTypesModel" (20 : Nat) "ScriptTypesModel" "lengths" "[I") ∈ lw_all := lw_g (lw_at lw_m13 182 rfl) rfl
theorem q3508 : (Jvm.Cond.fieldLink "ScriptTypesModel" (296 : Nat) "ScriptTypesModel" "strings" "I") ∈ lw_all := lw_g (lw_at lw_m13 183 rfl) rfl
theorem q3509 : (Jvm.Cond.fieldLink "ScriptTypesModel" (762 : Nat) "ScriptTypesModel" "names" "I") ∈ lw_all := lw_g (lw_at lw_m13 184 rfl) rfl
theorem q3510 : (Jvm.Cond.fieldLink "ScriptTypesModel" (306 : Nat) "ScriptTypesModel" "manyNames" "Z") ∈ lw_all := lw_g (lw_at lw_m13 185 rfl) rfl
theorem q3511 : (Jvm.Cond.fieldLink "ScriptTypesModel" (24 : Nat) "ScriptTypesModel" "text" "[C") ∈ lw_all := lw_g (lw_at lw_m13 186 rfl) rfl
theorem q3512 : (Jvm.Cond.fieldLink "ScriptTypesModel" (299 : Nat) "ScriptTypesModel" "textLength" "I") ∈ lw_all := lw_g (lw_at lw_m13 187 rfl) rfl
theorem q3513 : (Jvm.Cond.fieldLink "ScriptTypesModel" (350 : Nat) "ScriptTypesModel" "tokens" "I") ∈ lw_all := lw_g (lw_at lw_m13 188 rfl) rfl
theorem q3514 : (Jvm.Cond.fieldLink "ScriptTypesModel" (27 : Nat) "ScriptTypesModel" "kind" "[I") ∈ lw_all := lw_g (lw_at lw_m13 189 rfl) rfl
theorem q3515 : (Jvm.Cond.fieldLink "ScriptTypesModel" (30 : Nat) "ScriptTypesModel" "which" "[I") ∈ lw_all := lw_g (lw_at lw_m13 190 rfl) rfl
theorem q3516 : (Jvm.Cond.fieldLink "ScriptTypesModel" (33 : Nat) "ScriptTypesModel" "from" "[I") ∈ lw_all := lw_g (lw_at lw_m13 191 rfl) rfl
theorem q3517 : (Jvm.Cond.fieldLink "ScriptTypesModel" (36 : Nat) "ScriptTypesModel" "until" "[I") ∈ lw_all := lw_g (lw_at lw_m13 192 rfl) rfl
theorem q3518 : (Jvm.Cond.fieldLink "ScriptTypesModel" (39 : Nat) "ScriptTypesModel" "line" "[I") ∈ lw_all := lw_g (lw_at lw_m13 193 rfl) rfl
theorem q3519 : (Jvm.Cond.fieldLink "ScriptTypesModel" (344 : Nat) "ScriptTypesModel" "at" "I") ∈ lw_all := lw_g (lw_at lw_m13 194 rfl) rfl
theorem q3520 : (Jvm.Cond.fieldLink "ScriptTypesModel" (347 : Nat) "ScriptTypesModel" "lineNow" "I") ∈ lw_all := lw_g (lw_at lw_m13 195 rfl) rfl
theorem q3521 : (Jvm.Cond.fieldLink "ScriptTypesModel" (392 : Nat) "ScriptTypesModel" "t" "I") ∈ lw_all := lw_g (lw_at lw_m13 196 rfl) rfl
theorem q3522 : (Jvm.Cond.fieldLink "ScriptTypesModel" (389 : Nat) "ScriptTypesModel" "fault" "I") ∈ lw_all := lw_g (lw_at lw_m13 197 rfl) rfl
theorem q3523 : (Jvm.Cond.fieldLink "ScriptTypesModel" (395 : Nat) "ScriptTypesModel" "faultLine" "I") ∈ lw_all := lw_g (lw_at lw_m13 198 rfl) rfl
theorem q3524 : (Jvm.Cond.fieldLink "ScriptTypesModel" (407 : Nat) "ScriptTypesModel" "deep" "I") ∈ lw_all := lw_g (lw_at lw_m13 199 rfl) rfl
theorem q3525 : (Jvm.Cond.fieldLink "ScriptTypesModel" (421 : Nat) "ScriptTypesModel" "nodes" "I") ∈ lw_all := lw_g (lw_at lw_m13 200 rfl) rfl
theorem q3526 : (Jvm.Cond.fieldLink "ScriptTypesModel" (42 : Nat) "ScriptTypesModel" "sort" "[I") ∈ lw_all := lw_g (lw_at lw_m13 201 rfl) rfl
theorem q3527 : (Jvm.Cond.fieldLink "ScriptTypesModel" (46 : Nat) "ScriptTypesModel" "word" "[I") ∈ lw_all := lw_g (lw_at lw_m13 202 rfl) rfl
theorem q3528 : (Jvm.Cond.fieldLink "ScriptTypesModel" (49 : Nat) "ScriptTypesModel" "next" "[I") ∈ lw_all := lw_g (lw_at lw_m13 203 rfl) rfl
theorem q3529 : (Jvm.Cond.fieldLink "ScriptTypesModel" (52 : Nat) "ScriptTypesModel" "inBrackets" "[Z") ∈ lw_all := lw_g (lw_at lw_m13 204 rfl) rfl
theorem q3530 : (Jvm.Cond.fieldLink "ScriptTypesModel" (56 : Nat) "ScriptTypesModel" "firsts" "[I") ∈ lw_all := lw_g (lw_at lw_m13 205 rfl) rfl
theorem q3531 : (Jvm.Cond.fieldLink "ScriptTypesModel" (59 : Nat) "ScriptTypesModel" "lasts" "[I") ∈ lw_all := lw_g (lw_at lw_m13 206 rfl) rfl
theorem q3532 : (Jvm.Cond.fieldLink "ScriptTypesModel" (424 : Nat) "ScriptTypesModel" "lists" "I") ∈ lw_all := lw_g (lw_at lw_m13 207 rfl) rfl
theorem q3533 : (Jvm.Cond.fieldLink "ScriptTypesModel" (527 : Nat) "ScriptTypesModel" "functions" "I") ∈ lw_all := lw_g (lw_at lw_m13 208 rfl) rfl
theorem q3534 : (Jvm.Cond.fieldLink "ScriptTypesModel" (62 : Nat) "ScriptTypesModel" "calledBy" "[I") ∈ lw_all := lw_g (lw_at lw_m13 209 rfl) rfl
theorem q3535 : (Jvm.Cond.fieldLink "ScriptTypesModel" (65 : Nat) "ScriptTypesModel" "isDeclared" "[Z") ∈ lw_all := lw_g (lw_at lw_m13 210 rfl) rfl
theorem q3536 : (Jvm.Cond.fieldLink "ScriptTypesModel" (68 : Nat) "ScriptTypesModel" "parameters" "[I") ∈ lw_all := lw_g (lw_at lw_m13 211 rfl) rfl
theorem q3537 : (Jvm.Cond.fieldLink "ScriptTypesModel" (71 : Nat) "ScriptTypesModel" "parameterMany" "[I") ∈ lw_all := lw_g (lw_at lw_m13 212 rfl) rfl
theorem q3538 : (Jvm.Cond.fieldLink "ScriptTypesModel" (74 : Nat) "ScriptTypesModel" "around" "[I") ∈ lw_all := lw_g (lw_at lw_m13 213 rfl) rfl
theorem q3539 : (Jvm.Cond.fieldLink "ScriptTypesModel" (77 : Nat) "ScriptTypesModel" "body" "[I") ∈ lw_all := lw_g (lw_at lw_m13 214 rfl) rfl
theorem q3540 : (Jvm.Cond.fieldLink "ScriptTypesModel" (80 : Nat) "ScriptTypesModel" "held" "[I") ∈ lw_all := lw_g (lw_at lw_m13 215 rfl) rfl
theorem q3541 : (Jvm.Cond.fieldLink "ScriptTypesModel" (83 : Nat) "ScriptTypesModel" "heldMany" "[I") ∈ lw_all := lw_g (lw_at lw_m13 216 rfl) rfl
theorem q3542 : (Jvm.Cond.fieldLink "ScriptTypesModel" (86 : Nat) "ScriptTypesModel" "globalNames" "[I") ∈ lw_all := lw_g (lw_at lw_m13 217 rfl) rfl
theorem q3543 : (Jvm.Cond.fieldLink "ScriptTypesModel" (430 : Nat) "ScriptTypesModel" "globalMany" "I") ∈ lw_all := lw_g (lw_at lw_m13 218 rfl) rfl
theorem q3544 : (Jvm.Cond.fieldLink "ScriptTypesModel" (427 : Nat) "ScriptTypesModel" "inside" "I") ∈ lw_all := lw_g (lw_at lw_m13 219 rfl) rfl
theorem q3545 : (Jvm.Cond.fieldLink "ScriptTypesModel" (530 : Nat) "ScriptTypesModel" "loops" "I") ∈ lw_all := lw_g (lw_at lw_m13 220 rfl) rfl
theorem q3546 : (Jvm.Cond.fieldLink "ScriptTypesModel" (533 : Nat) "ScriptTypesModel" "switches" "I") ∈ lw_all := lw_g (lw_at lw_m13 221 rfl) rfl
theorem q3547 : (Jvm.Cond.fieldLink "ScriptTypesModel" (606 : Nat) "ScriptTypesModel" "instructions" "I") ∈ lw_all := lw_g (lw_at lw_m13 222 rfl) rfl
theorem q3548 : (Jvm.Cond.fieldLink "ScriptTypesModel" (609 : Nat) "ScriptTypesModel" "manyInstructions" "Z") ∈ lw_all := lw_g (lw_at lw_m13 223 rfl) rfl
theorem q3549 : (Jvm.Cond.fieldLink "ScriptTypesModel" (89 : Nat) "ScriptTypesModel" "operation" "[I") ∈ lw_all := lw_g (lw_at lw_m13 224 rfl) rfl
theorem q3550 : (Jvm.Cond.fieldLink "ScriptTypesModel" (92 : Nat) "ScriptTypesModel" "a" "[I") ∈ lw_all := lw_g (lw_at lw_m13 225 rfl) rfl
theorem q3551 : (Jvm.Cond.fieldLink "ScriptTypesModel" (95 : Nat) "ScriptTypesModel" "b" "[I") ∈ lw_all := lw_g (lw_at lw_m13 226 rfl) rfl
theorem q3552 : (Jvm.Cond.fieldLink "ScriptTypesModel" (98 : Nat) "ScriptTypesModel" "functionOf" "[I") ∈ lw_all := lw_g (lw_at lw_m13 227 rfl) rfl
theorem q3553 : (Jvm.Cond.fieldLink "ScriptTypesModel" (101 : Nat) "ScriptTypesModel" "beginOf" "[I") ∈ lw_all := lw_g (lw_at lw_m13 228 rfl) rfl
theorem q3554 : (Jvm.Cond.fieldLink "ScriptTypesModel" (619 : Nat) "ScriptTypesModel" "marks" "I") ∈ lw_all := lw_g (lw_at lw_m13 229 rfl) rfl
theorem q3555 : (Jvm.Cond.fieldLink "ScriptTypesModel" (104 : Nat) "ScriptTypesModel" "markAt" "[I") ∈ lw_all := lw_g (lw_at lw_m13 230 rfl) rfl
theorem q3556 : (Jvm.Cond.fieldLink "ScriptTypesModel" (689 : Nat) "ScriptTypesModel" "sites" "I") ∈ lw_all := lw_g (lw_at lw_m13 231 rfl) rfl
theorem q3557 : (Jvm.Cond.fieldLink "ScriptTypesModel" (612 : Nat) "ScriptTypesModel" "coding" "I") ∈ lw_all := lw_g (lw_at lw_m13 232 rfl) rfl
theorem q3558 : (Jvm.Cond.fieldLink "ScriptTypesModel" (107 : Nat) "ScriptTypesModel" "variables" "[I") ∈ lw_all := lw_g (lw_at lw_m13 233 rfl) rfl
theorem q3559 : (Jvm.Cond.fieldLink "ScriptTypesModel" (110 : Nat) "ScriptTypesModel" "variableMany" "[I") ∈ lw_all := lw_g (lw_at lw_m13 234 rfl) rfl
theorem q3560 : (Jvm.Cond.fieldLink "ScriptTypesModel" (637 : Nat) "ScriptTypesModel" "wraps" "I") ∈ lw_all := lw_g (lw_at lw_m13 235 rfl) rfl
theorem q3561 : (Jvm.Cond.fieldLink "ScriptTypesModel" (634 : Nat) "ScriptTypesModel" "wrapped" "I") ∈ lw_all := lw_g (lw_at lw_m13 236 rfl) rfl
theorem q3562 : (Jvm.Cond.fieldLink "ScriptTypesModel" (113 : Nat) "ScriptTypesModel" "wrap" "[I") ∈ lw_all := lw_g (lw_at lw_m13 237 rfl) rfl
theorem q3563 : (Jvm.Cond.fieldLink "ScriptTypesModel" (116 : Nat) "ScriptTypesModel" "wrapList" "[I") ∈ lw_all := lw_g (lw_at lw_m13 238 rfl) rfl
theorem q3564 : (Jvm.Cond.fieldLink "ScriptTypesModel" (119 : Nat) "ScriptTypesModel" "wrapOut" "[I") ∈ lw_all := lw_g (lw_at lw_m13 239 rfl) rfl
theorem q3565 : (Jvm.Cond.fieldLink "ScriptTypesModel" (122 : Nat) "ScriptTypesModel" "wrapOn" "[I") ∈ lw_all := lw_g (lw_at lw_m14 0 rfl) rfl
theorem q3566 : (Jvm.Cond.fieldLink "ScriptTypesModel" (125 : Nat) "ScriptTypesModel" "wrapAround" "[I") ∈ lw_all := lw_g (lw_at lw_m14 1 rfl) rfl
theorem q3567 : (Jvm.Cond.fieldLink "ScriptTypesModel" (650 : Nat) "ScriptTypesModel" "lefts" "I") ∈ lw_all := lw_g (lw_at lw_m14 2 rfl) rfl
theorem q3568 : (Jvm.Cond.fieldLink "ScriptTypesModel" (128 : Nat) "ScriptTypesModel" "left" "[I") ∈ lw_all := lw_g (lw_at lw_m14 3 rfl) rfl
theorem q3569 : (Jvm.Cond.fieldLink "ScriptTypesModel" (707 : Nat) "ScriptTypesModel" "waiting" "I") ∈ lw_all := lw_g (lw_at lw_m14 4 rfl) rfl
theorem q3570 : (Jvm.Cond.fieldLink "ScriptTypesModel" (131 : Nat) "ScriptTypesModel" "waits" "[I") ∈ lw_all := lw_g (lw_at lw_m14 5 rfl) rfl
theorem q3571 : (Jvm.Cond.fieldLink "ScriptTypesModel" (741 : Nat) "ScriptTypesModel" "leaving" "I") ∈ lw_all := lw_g (lw_at lw_m14 6 rfl) rfl
theorem q3572 : (Jvm.Cond.fieldLink "ScriptTypesModel" (765 : Nat) "ScriptTypesModel" "labels" "I") ∈ lw_all := lw_g (lw_at lw_m14 7 rfl) rfl
theorem q3573 : (Jvm.Cond.fieldLink "ScriptTypesModel" (770 : Nat) "ScriptTypesModel" "hasScript" "Z") ∈ lw_all := lw_g (lw_at lw_m14 8 rfl) rfl
theorem q3574 : (Jvm.Cond.fieldLink "ScriptTypesModel" (773 : Nat) "ScriptTypesModel" "state" "I") ∈ lw_all := lw_g (lw_at lw_m14 9 rfl) rfl
theorem q3575 : (Jvm.Cond.fieldLink "ScriptTypesModel" (861 : Nat) "ScriptTypesModel" "steps" "I") ∈ lw_all := lw_g (lw_at lw_m14 10 rfl) rfl
theorem q3576 : (Jvm.Cond.fieldLink "ScriptTypesModel" (794 : Nat) "ScriptTypesModel" "noRoom" "Z") ∈ lw_all := lw_g (lw_at lw_m14 11 rfl) rfl
theorem q3577 : (Jvm.Cond.fieldLink "ScriptTypesModel" (843 : Nat) "ScriptTypesModel" "objects" "I") ∈ lw_all := lw_g (lw_at lw_m14 12 rfl) rfl
theorem q3578 : (Jvm.Cond.fieldLink "ScriptTypesModel" (134 : Nat) "ScriptTypesModel" "label" "[I") ∈ lw_all := lw_g (lw_at lw_m14 13 rfl) rfl
theorem q3579 : (Jvm.Cond.fieldLink "ScriptTypesModel" (137 : Nat) "ScriptTypesModel" "proto" "[I") ∈ lw_all := lw_g (lw_at lw_m14 14 rfl) rfl
theorem q3580 : (Jvm.Cond.fieldLink "ScriptTypesModel" (140 : Nat) "ScriptTypesModel" "link" "[I") ∈ lw_all := lw_g (lw_at lw_m14 15 rfl) rfl
theorem q3581 : (Jvm.Cond.fieldLink "ScriptTypesModel" (143 : Nat) "ScriptTypesModel" "sortOf" "[I") ∈ lw_all := lw_g (lw_at lw_m14 16 rfl) rfl
theorem q3582 : (Jvm.Cond.fieldLink "ScriptTypesModel" (146 : Nat) "ScriptTypesModel" "codeOf" "[I") ∈ lw_all := lw_g (lw_at lw_m14 17 rfl) rfl
theorem q3583 : (Jvm.Cond.fieldLink "ScriptTypesModel" (149 : Nat) "ScriptTypesModel" "firstOf" "[I") ∈ lw_all := lw_g (lw_at lw_m14 18 rfl) rfl
theorem q3584 : (Jvm.Cond.fieldLink "ScriptTypesModel" (152 : Nat) "ScriptTypesModel" "lastOf" "[I") ∈ lw_all := lw_g (lw_at lw_m14 19 rfl) rfl
theorem q3585 : (Jvm.Cond.fieldLink "ScriptTypesModel" (849 : Nat) "ScriptTypesModel" "properties" "I") ∈ lw_all := lw_g (lw_at lw_m14 20 rfl) rfl
theorem q3586 : (Jvm.Cond.fieldLink "ScriptTypesModel" (852 : Nat) "ScriptTypesModel" "free" "I") ∈ lw_all := lw_g (lw_at lw_m14 21 rfl) rfl
theorem q3587 : (Jvm.Cond.fieldLink "ScriptTypesModel" (855 : Nat) "ScriptTypesModel" "serials" "I") ∈ lw_all := lw_g (lw_at lw_m14 22 rfl) rfl
theorem q3588 : (Jvm.Cond.fieldLink "ScriptTypesModel" (155 : Nat) "ScriptTypesModel" "propertyName" "[I") ∈ lw_all := lw_g (lw_at lw_m14 23 rfl) rfl
theorem q3589 : (Jvm.Cond.fieldLink "ScriptTypesModel" (158 : Nat) "ScriptTypesModel" "propertySort" "[I") ∈ lw_all := lw_g (lw_at lw_m14 24 rfl) rfl
theorem q3590 : (Jvm.Cond.fieldLink "ScriptTypesModel" (161 : Nat) "ScriptTypesModel" "propertyValue" "[I") ∈ lw_all := lw_g (lw_at lw_m14 25 rfl) rfl
theorem q3591 : (Jvm.Cond.fieldLink "ScriptTypesModel" (164 : Nat) "ScriptTypesModel" "propertySerial" "[I") ∈ lw_all := lw_g (lw_at lw_m14 26 rfl) rfl
theorem q3592 : (Jvm.Cond.fieldLink "ScriptTypesModel" (167 : Nat) "ScriptTypesModel" "propertyNext" "[I") ∈ lw_all := lw_g (lw_at lw_m14 27 rfl) rfl
theorem q3593 : (Jvm.Cond.fieldLink "ScriptTypesModel" (872 : Nat) "ScriptTypesModel" "frames" "I") ∈ lw_all := lw_g (lw_at lw_m14 28 rfl) rfl
theorem q3594 : (Jvm.Cond.fieldLink "ScriptTypesModel" (170 : Nat) "ScriptTypesModel" "frameFunction" "[I") ∈ lw_all := lw_g (lw_at lw_m14 29 rfl) rfl
theorem q3595 : (Jvm.Cond.fieldLink "ScriptTypesModel" (173 : Nat) "ScriptTypesModel" "frameScope" "[I") ∈ lw_all := lw_g (lw_at lw_m14 30 rfl) rfl
theorem q3596 : (Jvm.Cond.fieldLink "ScriptTypesModel" (176 : Nat) "ScriptTypesModel" "frameThisSort" "[I") ∈ lw_all := lw_g (lw_at lw_m14 31 rfl) rfl
theorem q3597 : (Jvm.Cond.fieldLink "ScriptTypesModel" (179 : Nat) "ScriptTypesModel" "frameThis" "[I") ∈ lw_all := lw_g (lw_at lw_m14 32 rfl) rfl
theorem q3598 : (Jvm.Cond.fieldLink "ScriptTypesModel" (182 : Nat) "ScriptTypesModel" "framePlace" "[I") ∈ lw_all := lw_g (lw_at lw_m14 33 rfl) rfl
theorem q3599 : (Jvm.Cond.fieldLink "ScriptTypesModel" (185 : Nat) "ScriptTypesModel" "frameHeight" "[I") ∈ lw_all := lw_g (lw_at lw_m14 34 rfl) rfl
theorem q3600 : (Jvm.Cond.fieldLink "ScriptTypesModel" (188 : Nat) "ScriptTypesModel" "frameNew" "[I") ∈ lw_all := lw_g (lw_at lw_m14 35 rfl) rfl
theorem q3601 : (Jvm.Cond.fieldLink "ScriptTypesModel" (191 : Nat) "ScriptTypesModel" "frameTries" "[I") ∈ lw_all := lw_g (lw_at lw_m14 36 rfl) rfl
theorem q3602 : (Jvm.Cond.fieldLink "ScriptTypesModel" (194 : Nat) "ScriptTypesModel" "tryPlace" "[I") ∈ lw_all := lw_g (lw_at lw_m14 37 rfl) rfl
theorem q3603 : (Jvm.Cond.fieldLink "ScriptTypesModel" (197 : Nat) "ScriptTypesModel" "tryHeight" "[I") ∈ lw_all := lw_g (lw_at lw_m14 38 rfl) rfl
theorem q3604 : (Jvm.Cond.fieldLink "ScriptTypesModel" (200 : Nat) "ScriptTypesModel" "stackSort" "[I") ∈ lw_all := lw_g (lw_at lw_m14 39 rfl) rfl
theorem q3605 : (Jvm.Cond.fieldLink "ScriptTypesModel" (203 : Nat) "ScriptTypesModel" "stackValue" "[I") ∈ lw_all := lw_g (lw_at lw_m14 40 rfl) rfl
theorem q3606 : (Jvm.Cond.fieldLink "ScriptTypesModel" (206 : Nat) "ScriptTypesModel" "stackGiven" "[I") ∈ lw_all := lw_g (lw_at lw_m14 41 rfl) rfl
theorem q3607 : (Jvm.Cond.fieldLink "ScriptTypesModel" (209 : Nat) "ScriptTypesModel" "stackLast" "[I") ∈ lw_all := lw_g (lw_at lw_m14 42 rfl) rfl
theorem q3608 : (Jvm.Cond.fieldLink "ScriptTypesModel" (864 : Nat) "ScriptTypesModel" "printedMany" "I") ∈ lw_all := lw_g (lw_at lw_m14 43 rfl) rfl
theorem q3609 : (Jvm.Cond.fieldLink "ScriptTypesModel" (212 : Nat) "ScriptTypesModel" "printedLines" "[I") ∈ lw_all := lw_g (lw_at lw_m14 44 rfl) rfl
theorem q3610 : (Jvm.Cond.fieldLink "ScriptTypesModel" (891 : Nat) "ScriptTypesModel" "tossedSort" "I") ∈ lw_all := lw_g (lw_at lw_m14 45 rfl) rfl
theorem q3611 : (Jvm.Cond.fieldLink "ScriptTypesModel" (894 : Nat) "ScriptTypesModel" "tossed" "I") ∈ lw_all := lw_g (lw_at lw_m14 46 rfl) rfl
theorem q3612 : (Jvm.Cond.fieldLink "ScriptTypesModel" (788 : Nat) "ScriptTypesModel" "gotSort" "I") ∈ lw_all := lw_g (lw_at lw_m14 47 rfl) rfl
theorem q3613 : (Jvm.Cond.fieldLink "ScriptTypesModel" (791 : Nat) "ScriptTypesModel" "got" "I") ∈ lw_all := lw_g (lw_at lw_m14 48 rfl) rfl
theorem q3614 : (Jvm.Cond.fieldLink "ScriptTypesModel" (806 : Nat) "ScriptTypesModel" "isNumber" "Z") ∈ lw_all := lw_g (lw_at lw_m14 49 rfl) rfl
theorem q3615 : (Jvm.Cond.fieldLink "ScriptTypesModel" (998 : Nat) "ScriptTypesModel" "argumentsAt" "I") ∈ lw_all := lw_g (lw_at lw_m14 50 rfl) rfl
theorem q3616 : (Jvm.Cond.fieldLink "ScriptTypesModel" (995 : Nat) "ScriptTypesModel" "argumentMany" "I") ∈ lw_all := lw_g (lw_at lw_m14 51 rfl) rfl
theorem q3617 : (Jvm.Cond.fieldLink "ScriptTypesModel" (216 : Nat) "ScriptTypesModel" "bits" "[J") ∈ lw_all := lw_g (lw_at lw_m14 52 rfl) rfl
theorem q3618 : (Jvm.Cond.fieldLink "ScriptTypesModel" (220 : Nat) "ScriptTypesModel" "low" "[J") ∈ lw_all := lw_g (lw_at lw_m14 53 rfl) rfl
theorem q3619 : (Jvm.Cond.fieldLink "ScriptTypesModel" (223 : Nat) "ScriptTypesModel" "high" "[J") ∈ lw_all := lw_g (lw_at lw_m14 54 rfl) rfl
theorem q3620 : (Jvm.Cond.fieldLink "ScriptTypesModel" (776 : Nat) "ScriptTypesModel" "solved" "Z") ∈ lw_all := lw_g (lw_at lw_m14 55 rfl) rfl
theorem q3621 : (Jvm.Cond.fieldLink "ScriptTypesModel" (1034 : Nat) "ScriptTypesModel" "reachedMany" "I") ∈ lw_all := lw_g (lw_at lw_m14 56 rfl) rfl
theorem q3622 : (Jvm.Cond.fieldLink "ScriptTypesModel" (1376 : Nat) "ScriptTypesModel" "points" "I") ∈ lw_all := lw_g (lw_at lw_m14 57 rfl) rfl
theorem q3623 : (Jvm.Cond.fieldLink "ScriptTypesModel" (226 : Nat) "ScriptTypesModel" "reached" "[Z") ∈ lw_all := lw_g (lw_at lw_m14 58 rfl) rfl
theorem q3624 : (Jvm.Cond.fieldLink "ScriptTypesModel" (229 : Nat) "ScriptTypesModel" "due" "[Z") ∈ lw_all := lw_g (lw_at lw_m14 59 rfl) rfl
theorem q3625 : (Jvm.Cond.fieldLink "ScriptTypesModel" (232 : Nat) "ScriptTypesModel" "warnings" "[I") ∈ lw_all := lw_g (lw_at lw_m14 60 rfl) rfl
theorem q3626 : (Jvm.Cond.fieldLink "ScriptTypesModel" (235 : Nat) "ScriptTypesModel" "heights" "[I") ∈ lw_all := lw_g (lw_at lw_m14 61 rfl) rfl
theorem q3627 : (Jvm.Cond.fieldLink "ScriptTypesModel" (238 : Nat) "ScriptTypesModel" "stackAt" "[I") ∈ lw_all := lw_g (lw_at lw_m14 62 rfl) rfl
theorem q3628 : (Jvm.Cond.fieldLink "ScriptTypesModel" (1107 : Nat) "ScriptTypesModel" "stacked" "I") ∈ lw_all := lw_g (lw_at lw_m14 63 rfl) rfl
theorem q3629 : (Jvm.Cond.fieldLink "ScriptTypesModel" (241 : Nat) "ScriptTypesModel" "scopeLow" "[J") ∈ lw_all := lw_g (lw_at lw_m14 64 rfl) rfl
theorem q3630 : (Jvm.Cond.fieldLink "ScriptTypesModel" (244 : Nat) "ScriptTypesModel" "scopeHigh" "[J") ∈ lw_all := lw_g (lw_at lw_m14 65 rfl) rfl
theorem q3631 : (Jvm.Cond.fieldLink "ScriptTypesModel" (247 : Nat) "ScriptTypesModel" "tries" "[I") ∈ lw_all := lw_g (lw_at lw_m14 66 rfl) rfl
theorem q3632 : (Jvm.Cond.fieldLink "ScriptTypesModel" (250 : Nat) "ScriptTypesModel" "triesPlace" "[I") ∈ lw_all := lw_g (lw_at lw_m14 67 rfl) rfl
theorem q3633 : (Jvm.Cond.fieldLink "ScriptTypesModel" (253 : Nat) "ScriptTypesModel" "triesHeight" "[I") ∈ lw_all := lw_g (lw_at lw_m14 68 rfl) rfl
theorem q3634 : (Jvm.Cond.fieldLink "ScriptTypesModel" (256 : Nat) "ScriptTypesModel" "isThere" "[Z") ∈ lw_all := lw_g (lw_at lw_m14 69 rfl) rfl
theorem q3635 : (Jvm.Cond.fieldLink "ScriptTypesModel" (259 : Nat) "ScriptTypesModel" "mayBeNull" "[Z") ∈ lw_all := lw_g (lw_at lw_m14 70 rfl) rfl
theorem q3636 : (Jvm.Cond.fieldLink "ScriptTypesModel" (262 : Nat) "ScriptTypesModel" "protoLow" "[J") ∈ lw_all := lw_g (lw_at lw_m14 71 rfl) rfl
theorem q3637 : (Jvm.Cond.fieldLink "ScriptTypesModel" (265 : Nat) "ScriptTypesModel" "protoHigh" "[J") ∈ lw_all := lw_g (lw_at lw_m14 72 rfl) rfl
theorem q3638 : (Jvm.Cond.fieldLink "ScriptTypesModel" (268 : Nat) "ScriptTypesModel" "linkLow" "[J") ∈ lw_all := lw_g (lw_at lw_m14 73 rfl) rfl
theorem q3639 : (Jvm.Cond.fieldLink "ScriptTypesModel" (271 : Nat) "ScriptTypesModel" "linkHigh" "[J") ∈ lw_all := lw_g (lw_at lw_m14 74 rfl) rfl
theorem q3640 : (Jvm.Cond.fieldLink "ScriptTypesModel" (274 : Nat) "ScriptTypesModel" "isInt" "[Z") ∈ lw_all := lw_g (lw_at lw_m14 75 rfl) rfl
theorem q3641 : (Jvm.Cond.fieldLink "ScriptTypesModel" (277 : Nat) "ScriptTypesModel" "isIndex" "[Z") ∈ lw_all := lw_g (lw_at lw_m14 76 rfl) rfl
theorem q3642 : (Jvm.Cond.fieldLink "ScriptTypesModel" (280 : Nat) "ScriptTypesModel" "isHundred" "[Z") ∈ lw_all := lw_g (lw_at lw_m14 77 rfl) rfl
theorem q3643 : (Jvm.Cond.fieldLink "ScriptTypesModel" (283 : Nat) "ScriptTypesModel" "isArraySite" "[Z") ∈ lw_all := lw_g (lw_at lw_m14 78 rfl) rfl
theorem q3644 : (Jvm.Cond.fieldLink "ScriptTypesModel" (1118 : Nat) "ScriptTypesModel" "keysLow" "J") ∈ lw_all := lw_g (lw_at lw_m14 79 rfl) rfl
theorem q3645 : (Jvm.Cond.fieldLink "ScriptTypesModel" (1122 : Nat) "ScriptTypesModel" "keysHigh" "J") ∈ lw_all := lw_g (lw_at lw_m14 80 rfl) rfl
theorem q3646 : (Jvm.Cond.fieldLink "ScriptTypesModel" (1156 : Nat) "ScriptTypesModel" "missed" "Z") ∈ lw_all := lw_g (lw_at lw_m14 81 rfl) rfl
theorem q3647 : (Jvm.Cond.fieldLink "ScriptTypesModel" (286 : Nat) "ScriptTypesModel" "handed" "[I") ∈ lw_all := lw_g (lw_at lw_m14 82 rfl) rfl
theorem q3648 : (Jvm.Cond.fieldLink "ScriptTypesModel" (1178 : Nat) "ScriptTypesModel" "handedMany" "I") ∈ lw_all := lw_g (lw_at lw_m14 83 rfl) rfl
theorem q3649 : (Jvm.Cond.fieldLink "ScriptTypesModel" (1188 : Nat) "ScriptTypesModel" "at0" "I") ∈ lw_all := lw_g (lw_at lw_m14 84 rfl) rfl
theorem q3650 : (Jvm.Cond.fieldLink "ScriptTypesModel" (1208 : Nat) "ScriptTypesModel" "warning" "I") ∈ lw_all := lw_g (lw_at lw_m14 85 rfl) rfl
theorem q3651 : (Jvm.Cond.fieldLink "ScriptTypesModel" (1185 : Nat) "ScriptTypesModel" "goesOn" "Z") ∈ lw_all := lw_g (lw_at lw_m14 86 rfl) rfl
theorem q3652 : (Jvm.Cond.lays "ScriptTypesModel" "ScriptTypesModel" "thrown" "I") ∈ lw_all := lw_g (lw_at lw_m14 87 rfl) rfl
theorem q3653 : (Jvm.Cond.soleField "ScriptTypesModel" "thrown") ∈ lw_all := lw_g (lw_at lw_m14 88 rfl) rfl
theorem q3654 : (Jvm.Cond.laysFinal "ScriptTypesModel" "ScriptTypesModel" "tape" "[B") ∈ lw_all := lw_g (lw_at lw_m14 89 rfl) rfl
theorem q3655 : (Jvm.Cond.soleField "ScriptTypesModel" "tape") ∈ lw_all := lw_g (lw_at lw_m14 90 rfl) rfl
theorem q3656 : (Jvm.Cond.lays "ScriptTypesModel" "ScriptTypesModel" "taped" "I") ∈ lw_all := lw_g (lw_at lw_m14 91 rfl) rfl
theorem q3657 : (Jvm.Cond.soleField "ScriptTypesModel" "taped") ∈ lw_all := lw_g (lw_at lw_m14 92 rfl) rfl
theorem q3658 : (Jvm.Cond.laysFinal "ScriptTypesModel" "ScriptTypesModel" "source" "[B") ∈ lw_all := lw_g (lw_at lw_m14 93 rfl) rfl
theorem q3659 : (Jvm.Cond.soleField "ScriptTypesModel" "source") ∈ lw_all := lw_g (lw_at lw_m14 94 rfl) rfl
theorem q3660 : (Jvm.Cond.lays "ScriptTypesModel" "ScriptTypesModel" "size" "I") ∈ lw_all := lw_g (lw_at lw_m14 95 rfl) rfl
theorem q3661 : (Jvm.Cond.soleField "ScriptTypesModel" "size") ∈ lw_all := lw_g (lw_at lw_m14 96 rfl) rfl
theorem q3662 : (Jvm.Cond.laysFinal "ScriptTypesModel" "ScriptTypesModel" "signs" "[C") ∈ lw_all := lw_g (lw_at lw_m14 97 rfl) rfl
theorem q3663 : (Jvm.Cond.soleField "ScriptTypesModel" "signs") ∈ lw_all := lw_g (lw_at lw_m14 98 rfl) rfl
theorem q3664 : (Jvm.Cond.laysFinal "ScriptTypesModel" "ScriptTypesModel" "lengths" "[I") ∈ lw_all := lw_g (lw_at lw_m14 99 rfl) rfl
theorem q3665 : (Jvm.Cond.soleField "ScriptTypesModel" "lengths") ∈ lw_all := lw_g (lw_at lw_m14 100 rfl) rfl
theorem q3666 : (Jvm.Cond.lays "ScriptTypesModel" "ScriptTypesModel" "strings" "I") ∈ lw_all := lw_g (lw_at lw_m14 101 rfl) rfl
theorem q3667 : (Jvm.Cond.soleField "ScriptTypesModel" "strings") ∈ lw_all := lw_g (lw_at lw_m14 102 rfl) rfl
theorem q3668 : (Jvm.Cond.lays "ScriptTypesModel" "ScriptTypesModel" "names" "I") ∈ lw_all := lw_g (lw_at lw_m14 103 rfl) rfl
theorem q3669 : (Jvm.Cond.soleField "ScriptTypesModel" "names") ∈ lw_all := lw_g (lw_at lw_m14 104 rfl) rfl
theorem q3670 : (Jvm.Cond.lays "ScriptTypesModel" "ScriptTypesModel" "manyNames" "Z") ∈ lw_all := lw_g (lw_at lw_m14 105 rfl) rfl
theorem q3671 : (Jvm.Cond.soleField "ScriptTypesModel" "manyNames") ∈ lw_all := lw_g (lw_at lw_m14 106 rfl) rfl
theorem q3672 : (Jvm.Cond.laysFinal "ScriptTypesModel" "ScriptTypesModel" "text" "[C") ∈ lw_all := lw_g (lw_at lw_m14 107 rfl) rfl
theorem q3673 : (Jvm.Cond.soleField "ScriptTypesModel" "text") ∈ lw_all := lw_g (lw_at lw_m14 108 rfl) rfl
theorem q3674 : (Jvm.Cond.lays "ScriptTypesModel" "ScriptTypesModel" "textLength" "I") ∈ lw_all := lw_g (lw_at lw_m14 109 rfl) rfl
theorem q3675 : (Jvm.Cond.soleField "ScriptTypesModel" "textLength") ∈ lw_all := lw_g (lw_at lw_m14 110 rfl) rfl
theorem q3676 : (Jvm.Cond.lays "ScriptTypesModel" "ScriptTypesModel" "tokens" "I") ∈ lw_all := lw_g (lw_at lw_m14 111 rfl) rfl
theorem q3677 : (Jvm.Cond.soleField "ScriptTypesModel" "tokens") ∈ lw_all := lw_g (lw_at lw_m14 112 rfl) rfl
theorem q3678 : (Jvm.Cond.laysFinal "ScriptTypesModel" "ScriptTypesModel" "kind" "[I") ∈ lw_all := lw_g (lw_at lw_m14 113 rfl) rfl
theorem q3679 : (Jvm.Cond.soleField "ScriptTypesModel" "kind") ∈ lw_all := lw_g (lw_at lw_m14 114 rfl) rfl
theorem q3680 : (Jvm.Cond.laysFinal "ScriptTypesModel" "ScriptTypesModel" "which" "[I") ∈ lw_all := lw_g (lw_at lw_m14 115 rfl) rfl
theorem q3681 : (Jvm.Cond.soleField "ScriptTypesModel" "which") ∈ lw_all := lw_g (lw_at lw_m14 116 rfl) rfl
theorem q3682 : (Jvm.Cond.laysFinal "ScriptTypesModel" "ScriptTypesModel" "from" "[I") ∈ lw_all := lw_g (lw_at lw_m14 117 rfl) rfl
theorem q3683 : (Jvm.Cond.soleField "ScriptTypesModel" "from") ∈ lw_all := lw_g (lw_at lw_m14 118 rfl) rfl
theorem q3684 : (Jvm.Cond.laysFinal "ScriptTypesModel" "ScriptTypesModel" "until" "[I") ∈ lw_all := lw_g (lw_at lw_m14 119 rfl) rfl
theorem q3685 : (Jvm.Cond.soleField "ScriptTypesModel" "until") ∈ lw_all := lw_g (lw_at lw_m14 120 rfl) rfl
theorem q3686 : (Jvm.Cond.laysFinal "ScriptTypesModel" "ScriptTypesModel" "line" "[I") ∈ lw_all := lw_g (lw_at lw_m14 121 rfl) rfl
theorem q3687 : (Jvm.Cond.soleField "ScriptTypesModel" "line") ∈ lw_all := lw_g (lw_at lw_m14 122 rfl) rfl
theorem q3688 : (Jvm.Cond.lays "ScriptTypesModel" "ScriptTypesModel" "at" "I") ∈ lw_all := lw_g (lw_at lw_m14 123 rfl) rfl
theorem q3689 : (Jvm.Cond.soleField "ScriptTypesModel" "at") ∈ lw_all := lw_g (lw_at lw_m14 124 rfl) rfl
theorem q3690 : (Jvm.Cond.lays "ScriptTypesModel" "ScriptTypesModel" "lineNow" "I") ∈ lw_all := lw_g (lw_at lw_m14 125 rfl) rfl
theorem q3691 : (Jvm.Cond.soleField "ScriptTypesModel" "lineNow") ∈ lw_all := lw_g (lw_at lw_m14 126 rfl) rfl
theorem q3692 : (Jvm.Cond.lays "ScriptTypesModel" "ScriptTypesModel" "t" "I") ∈ lw_all := lw_g (lw_at lw_m14 127 rfl) rfl
theorem q3693 : (Jvm.Cond.soleField "ScriptTypesModel" "t") ∈ lw_all := lw_g (lw_at lw_m14 128 rfl) rfl
theorem q3694 : (Jvm.Cond.lays "ScriptTypesModel" "ScriptTypesModel" "fault" "I") ∈ lw_all := lw_g (lw_at lw_m14 129 rfl) rfl
theorem q3695 : (Jvm.Cond.soleField "ScriptTypesModel" "fault") ∈ lw_all := lw_g (lw_at lw_m14 130 rfl) rfl
theorem q3696 : (Jvm.Cond.lays "ScriptTypesModel" "ScriptTypesModel" "faultLine" "I") ∈ lw_all := lw_g (lw_at lw_m14 131 rfl) rfl
theorem q3697 : (Jvm.Cond.soleField "ScriptTypesModel" "faultLine") ∈ lw_all := lw_g (lw_at lw_m14 132 rfl) rfl
theorem q3698 : (Jvm.Cond.lays "ScriptTypesModel" "ScriptTypesModel" "deep" "I") ∈ lw_all := lw_g (lw_at lw_m14 133 rfl) rfl
theorem q3699 : (Jvm.Cond.soleField "ScriptTypesModel" "deep") ∈ lw_all := lw_g (lw_at lw_m14 134 rfl) rfl
theorem q3700 : (Jvm.Cond.lays "ScriptTypesModel" "ScriptTypesModel" "nodes" "I") ∈ lw_all := lw_g (lw_at lw_m14 135 rfl) rfl
theorem q3701 : (Jvm.Cond.soleField "ScriptTypesModel" "nodes") ∈ lw_all := lw_g (lw_at lw_m14 136 rfl) rfl
theorem q3702 : (Jvm.Cond.laysFinal "ScriptTypesModel" "ScriptTypesModel" "sort" "[I") ∈ lw_all := lw_g (lw_at lw_m14 137 rfl) rfl
theorem q3703 : (Jvm.Cond.soleField "ScriptTypesModel" "sort") ∈ lw_all := lw_g (lw_at lw_m14 138 rfl) rfl
theorem q3704 : (Jvm.Cond.laysFinal "ScriptTypesModel" "ScriptTypesModel" "word" "[I") ∈ lw_all := lw_g (lw_at lw_m14 139 rfl) rfl
theorem q3705 : (Jvm.Cond.soleField "ScriptTypesModel" "word") ∈ lw_all := lw_g (lw_at lw_m14 140 rfl) rfl
theorem q3706 : (Jvm.Cond.laysFinal "ScriptTypesModel" "ScriptTypesModel" "next" "[I") ∈ lw_all := lw_g (lw_at lw_m14 141 rfl) rfl
theorem q3707 : (Jvm.Cond.soleField "ScriptTypesModel" "next") ∈ lw_all := lw_g (lw_at lw_m14 142 rfl) rfl
theorem q3708 : (Jvm.Cond.laysFinal "ScriptTypesModel" "ScriptTypesModel" "inBrackets" "[Z") ∈ lw_all := lw_g (lw_at lw_m14 143 rfl) rfl
theorem q3709 : (Jvm.Cond.soleField "ScriptTypesModel" "inBrackets") ∈ lw_all := lw_g (lw_at lw_m14 144 rfl) rfl
theorem q3710 : (Jvm.Cond.laysFinal "ScriptTypesModel" "ScriptTypesModel" "firsts" "[I") ∈ lw_all := lw_g (lw_at lw_m14 145 rfl) rfl
theorem q3711 : (Jvm.Cond.soleField "ScriptTypesModel" "firsts") ∈ lw_all := lw_g (lw_at lw_m14 146 rfl) rfl
theorem q3712 : (Jvm.Cond.laysFinal "ScriptTypesModel" "ScriptTypesModel" "lasts" "[I") ∈ lw_all := lw_g (lw_at lw_m14 147 rfl) rfl
theorem q3713 : (Jvm.Cond.soleField "ScriptTypesModel" "lasts") ∈ lw_all := lw_g (lw_at lw_m14 148 rfl) rfl
theorem q3714 : (Jvm.Cond.lays "ScriptTypesModel" "ScriptTypesModel" "lists" "I") ∈ lw_all := lw_g (lw_at lw_m14 149 rfl) rfl
theorem q3715 : (Jvm.Cond.soleField "ScriptTypesModel" "lists") ∈ lw_all := lw_g (lw_at lw_m14 150 rfl) rfl
theorem q3716 : (Jvm.Cond.lays "ScriptTypesModel" "ScriptTypesModel" "functions" "I") ∈ lw_all := lw_g (lw_at lw_m14 151 rfl) rfl
theorem q3717 : (Jvm.Cond.soleField "ScriptTypesModel" "functions") ∈ lw_all := lw_g (lw_at lw_m14 152 rfl) rfl
theorem q3718 : (Jvm.Cond.laysFinal "ScriptTypesModel" "ScriptTypesModel" "calledBy" "[I") ∈ lw_all := lw_g (lw_at lw_m14 153 rfl) rfl
theorem q3719 : (Jvm.Cond.soleField "ScriptTypesModel" "calledBy") ∈ lw_all := lw_g (lw_at lw_m14 154 rfl) rfl
theorem q3720 : (Jvm.Cond.laysFinal "ScriptTypesModel" "ScriptTypesModel" "isDeclared" "[Z") ∈ lw_all := lw_g (lw_at lw_m14 155 rfl) rfl
theorem q3721 : (Jvm.Cond.soleField "ScriptTypesModel" "isDeclared") ∈ lw_all := lw_g (lw_at lw_m14 156 rfl) rfl
theorem q3722 : (Jvm.Cond.laysFinal "ScriptTypesModel" "ScriptTypesModel" "parameters" "[I") ∈ lw_all := lw_g (lw_at lw_m14 157 rfl) rfl
theorem q3723 : (Jvm.Cond.soleField "ScriptTypesModel" "parameters") ∈ lw_all := lw_g (lw_at lw_m14 158 rfl) rfl
theorem q3724 : (Jvm.Cond.laysFinal "ScriptTypesModel" "ScriptTypesModel" "parameterMany" "[I") ∈ lw_all := lw_g (lw_at lw_m14 159 rfl) rfl
theorem q3725 : (Jvm.Cond.soleField "ScriptTypesModel" "parameterMany") ∈ lw_all := lw_g (lw_at lw_m14 160 rfl) rfl
theorem q3726 : (Jvm.Cond.laysFinal "ScriptTypesModel" "ScriptTypesModel" "around" "[I") ∈ lw_all := lw_g (lw_at lw_m14 161 rfl) rfl
theorem q3727 : (Jvm.Cond.soleField "ScriptTypesModel" "around") ∈ lw_all := lw_g (lw_at lw_m14 162 rfl) rfl
theorem q3728 : (Jvm.Cond.laysFinal "ScriptTypesModel" "ScriptTypesModel" "body" "[I") ∈ lw_all := lw_g (lw_at lw_m14 163 rfl) rfl
theorem q3729 : (Jvm.Cond.soleField "ScriptTypesModel" "body") ∈ lw_all := lw_g (lw_at lw_m14 164 rfl) rfl
theorem q3730 : (Jvm.Cond.laysFinal "ScriptTypesModel" "ScriptTypesModel" "held" "[I") ∈ lw_all := lw_g (lw_at lw_m14 165 rfl) rfl
theorem q3731 : (Jvm.Cond.soleField "ScriptTypesModel" "held") ∈ lw_all := lw_g (lw_at lw_m14 166 rfl) rfl
theorem q3732 : (Jvm.Cond.laysFinal "ScriptTypesModel" "ScriptTypesModel" "heldMany" "[I") ∈ lw_all := lw_g (lw_at lw_m14 167 rfl) rfl
theorem q3733 : (Jvm.Cond.soleField "ScriptTypesModel" "heldMany") ∈ lw_all := lw_g (lw_at lw_m14 168 rfl) rfl
theorem q3734 : (Jvm.Cond.laysFinal "ScriptTypesModel" "ScriptTypesModel" "globalNames" "[I") ∈ lw_all := lw_g (lw_at lw_m14 169 rfl) rfl
theorem q3735 : (Jvm.Cond.soleField "ScriptTypesModel" "globalNames") ∈ lw_all := lw_g (lw_at lw_m14 170 rfl) rfl
theorem q3736 : (Jvm.Cond.lays "ScriptTypesModel" "ScriptTypesModel" "globalMany" "I") ∈ lw_all := lw_g (lw_at lw_m14 171 rfl) rfl
theorem q3737 : (Jvm.Cond.soleField "ScriptTypesModel" "globalMany") ∈ lw_all := lw_g (lw_at lw_m14 172 rfl) rfl
theorem q3738 : (Jvm.Cond.lays "ScriptTypesModel" "ScriptTypesModel" "inside" "I") ∈ lw_all := lw_g (lw_at lw_m14 173 rfl) rfl
theorem q3739 : (Jvm.Cond.soleField "ScriptTypesModel" "inside") ∈ lw_all := lw_g (lw_at lw_m14 174 rfl) rfl
theorem q3740 : (Jvm.Cond.lays "ScriptTypesModel" "ScriptTypesModel" "loops" "I") ∈ lw_all := lw_g (lw_at lw_m14 175 rfl) rfl
theorem q3741 : (Jvm.Cond.soleField "ScriptTypesModel" "loops") ∈ lw_all := lw_g (lw_at lw_m14 176 rfl) rfl
theorem q3742 : (Jvm.Cond.lays "ScriptTypesModel" "ScriptTypesModel" "switches" "I") ∈ lw_all := lw_g (lw_at lw_m14 177 rfl) rfl
theorem q3743 : (Jvm.Cond.soleField "ScriptTypesModel" "switches") ∈ lw_all := lw_g (lw_at lw_m14 178 rfl) rfl
theorem q3744 : (Jvm.Cond.lays "ScriptTypesModel" "ScriptTypesModel" "instructions" "I") ∈ lw_all := lw_g (lw_at lw_m14 179 rfl) rfl
theorem q3745 : (Jvm.Cond.soleField "ScriptTypesModel" "instructions") ∈ lw_all := lw_g (lw_at lw_m14 180 rfl) rfl
theorem q3746 : (Jvm.Cond.lays "ScriptTypesModel" "ScriptTypesModel" "manyInstructions" "Z") ∈ lw_all := lw_g (lw_at lw_m14 181 rfl) rfl
theorem q3747 : (Jvm.Cond.soleField "ScriptTypesModel" "manyInstructions") ∈ lw_all := lw_g (lw_at lw_m14 182 rfl) rfl
theorem q3748 : (Jvm.Cond.laysFinal "ScriptTypesModel" "ScriptTypesModel" "operation" "[I") ∈ lw_all := lw_g (lw_at lw_m14 183 rfl) rfl
theorem q3749 : (Jvm.Cond.soleField "ScriptTypesModel" "operation") ∈ lw_all := lw_g (lw_at lw_m14 184 rfl) rfl
theorem q3750 : (Jvm.Cond.laysFinal "ScriptTypesModel" "ScriptTypesModel" "a" "[I") ∈ lw_all := lw_g (lw_at lw_m14 185 rfl) rfl
theorem q3751 : (Jvm.Cond.soleField "ScriptTypesModel" "a") ∈ lw_all := lw_g (lw_at lw_m14 186 rfl) rfl
theorem q3752 : (Jvm.Cond.laysFinal "ScriptTypesModel" "ScriptTypesModel" "b" "[I") ∈ lw_all := lw_g (lw_at lw_m14 187 rfl) rfl
theorem q3753 : (Jvm.Cond.soleField "ScriptTypesModel" "b") ∈ lw_all := lw_g (lw_at lw_m14 188 rfl) rfl
theorem q3754 : (Jvm.Cond.laysFinal "ScriptTypesModel" "ScriptTypesModel" "functionOf" "[I") ∈ lw_all := lw_g (lw_at lw_m14 189 rfl) rfl
theorem q3755 : (Jvm.Cond.soleField "ScriptTypesModel" "functionOf") ∈ lw_all := lw_g (lw_at lw_m14 190 rfl) rfl
theorem q3756 : (Jvm.Cond.laysFinal "ScriptTypesModel" "ScriptTypesModel" "beginOf" "[I") ∈ lw_all := lw_g (lw_at lw_m14 191 rfl) rfl
theorem q3757 : (Jvm.Cond.soleField "ScriptTypesModel" "beginOf") ∈ lw_all := lw_g (lw_at lw_m14 192 rfl) rfl
theorem q3758 : (Jvm.Cond.lays "ScriptTypesModel" "ScriptTypesModel" "marks" "I") ∈ lw_all := lw_g (lw_at lw_m14 193 rfl) rfl
theorem q3759 : (Jvm.Cond.soleField "ScriptTypesModel" "marks") ∈ lw_all := lw_g (lw_at lw_m14 194 rfl) rfl
theorem q3760 : (Jvm.Cond.laysFinal "ScriptTypesModel" "ScriptTypesModel" "markAt" "[I") ∈ lw_all := lw_g (lw_at lw_m14 195 rfl) rfl
theorem q3761 : (Jvm.Cond.soleField "ScriptTypesModel" "markAt") ∈ lw_all := lw_g (lw_at lw_m14 196 rfl) rfl
theorem q3762 : (Jvm.Cond.lays "ScriptTypesModel" "ScriptTypesModel" "sites" "I") ∈ lw_all := lw_g (lw_at lw_m14 197 rfl) rfl
theorem q3763 : (Jvm.Cond.soleField "ScriptTypesModel" "sites") ∈ lw_all := lw_g (lw_at lw_m14 198 rfl) rfl
theorem q3764 : (Jvm.Cond.lays "ScriptTypesModel" "ScriptTypesModel" "coding" "I") ∈ lw_all := lw_g (lw_at lw_m14 199 rfl) rfl
theorem q3765 : (Jvm.Cond.soleField "ScriptTypesModel" "coding") ∈ lw_all := lw_g (lw_at lw_m14 200 rfl) rfl
theorem q3766 : (Jvm.Cond.laysFinal "ScriptTypesModel" "ScriptTypesModel" "variables" "[I") ∈ lw_all := lw_g (lw_at lw_m14 201 rfl) rfl
theorem q3767 : (Jvm.Cond.soleField "ScriptTypesModel" "variables") ∈ lw_all := lw_g (lw_at lw_m14 202 rfl) rfl
theorem q3768 : (Jvm.Cond.laysFinal "ScriptTypesModel" "ScriptTypesModel" "variableMany" "[I") ∈ lw_all := lw_g (lw_at lw_m14 203 rfl) rfl
theorem q3769 : (Jvm.Cond.soleField "ScriptTypesModel" "variableMany") ∈ lw_all := lw_g (lw_at lw_m14 204 rfl) rfl
theorem q3770 : (Jvm.Cond.lays "ScriptTypesModel" "ScriptTypesModel" "wraps" "I") ∈ lw_all := lw_g (lw_at lw_m14 205 rfl) rfl
theorem q3771 : (Jvm.Cond.soleField "ScriptTypesModel" "wraps") ∈ lw_all := lw_g (lw_at lw_m14 206 rfl) rfl
theorem q3772 : (Jvm.Cond.lays "ScriptTypesModel" "ScriptTypesModel" "wrapped" "I") ∈ lw_all := lw_g (lw_at lw_m14 207 rfl) rfl
theorem q3773 : (Jvm.Cond.soleField "ScriptTypesModel" "wrapped") ∈ lw_all := lw_g (lw_at lw_m14 208 rfl) rfl
theorem q3774 : (Jvm.Cond.lays "ScriptTypesModel" "ScriptTypesModel" "wrap" "[I") ∈ lw_all := lw_g (lw_at lw_m14 209 rfl) rfl
theorem q3775 : (Jvm.Cond.soleField "ScriptTypesModel" "wrap") ∈ lw_all := lw_g (lw_at lw_m14 210 rfl) rfl
theorem q3776 : (Jvm.Cond.lays "ScriptTypesModel" "ScriptTypesModel" "wrapList" "[I") ∈ lw_all := lw_g (lw_at lw_m14 211 rfl) rfl
theorem q3777 : (Jvm.Cond.soleField "ScriptTypesModel" "wrapList") ∈ lw_all := lw_g (lw_at lw_m14 212 rfl) rfl
theorem q3778 : (Jvm.Cond.lays "ScriptTypesModel" "ScriptTypesModel" "wrapOut" "[I") ∈ lw_all := lw_g (lw_at lw_m14 213 rfl) rfl
theorem q3779 : (Jvm.Cond.soleField "ScriptTypesModel" "wrapOut") ∈ lw_all := lw_g (lw_at lw_m14 214 rfl) rfl
theorem q3780 : (Jvm.Cond.lays "ScriptTypesModel" "ScriptTypesModel" "wrapOn" "[I") ∈ lw_all := lw_g (lw_at lw_m14 215 rfl) rfl
theorem q3781 : (Jvm.Cond.soleField "ScriptTypesModel" "wrapOn") ∈ lw_all := lw_g (lw_at lw_m14 216 rfl) rfl
theorem q3782 : (Jvm.Cond.lays "ScriptTypesModel" "ScriptTypesModel" "wrapAround" "[I") ∈ lw_all := lw_g (lw_at lw_m14 217 rfl) rfl
theorem q3783 : (Jvm.Cond.soleField "ScriptTypesModel" "wrapAround") ∈ lw_all := lw_g (lw_at lw_m14 218 rfl) rfl
theorem q3784 : (Jvm.Cond.lays "ScriptTypesModel" "ScriptTypesModel" "lefts" "I") ∈ lw_all := lw_g (lw_at lw_m14 219 rfl) rfl
theorem q3785 : (Jvm.Cond.soleField "ScriptTypesModel" "lefts") ∈ lw_all := lw_g (lw_at lw_m14 220 rfl) rfl
theorem q3786 : (Jvm.Cond.laysFinal "ScriptTypesModel" "ScriptTypesModel" "left" "[I") ∈ lw_all := lw_g (lw_at lw_m14 221 rfl) rfl
theorem q3787 : (Jvm.Cond.soleField "ScriptTypesModel" "left") ∈ lw_all := lw_g (lw_at lw_m14 222 rfl) rfl
theorem q3788 : (Jvm.Cond.lays "ScriptTypesModel" "ScriptTypesModel" "waiting" "I") ∈ lw_all := lw_g (lw_at lw_m14 223 rfl) rfl
theorem q3789 : (Jvm.Cond.soleField "ScriptTypesModel" "waiting") ∈ lw_all := lw_g (lw_at lw_m14 224 rfl) rfl
theorem q3790 : (Jvm.Cond.laysFinal "ScriptTypesModel" "ScriptTypesModel" "waits" "[I") ∈ lw_all := lw_g (lw_at lw_m14 225 rfl) rfl
theorem q3791 : (Jvm.Cond.soleField "ScriptTypesModel" "waits") ∈ lw_all := lw_g (lw_at lw_m14 226 rfl) rfl
theorem q3792 : (Jvm.Cond.lays "ScriptTypesModel" "ScriptTypesModel" "leaving" "I") ∈ lw_all := lw_g (lw_at lw_m14 227 rfl) rfl
theorem q3793 : (Jvm.Cond.soleField "ScriptTypesModel" "leaving") ∈ lw_all := lw_g (lw_at lw_m14 228 rfl) rfl
theorem q3794 : (Jvm.Cond.lays "ScriptTypesModel" "ScriptTypesModel" "labels" "I") ∈ lw_all := lw_g (lw_at lw_m14 229 rfl) rfl
theorem q3795 : (Jvm.Cond.soleField "ScriptTypesModel" "labels") ∈ lw_all := lw_g (lw_at lw_m14 230 rfl) rfl
theorem q3796 : (Jvm.Cond.lays "ScriptTypesModel" "ScriptTypesModel" "hasScript" "Z") ∈ lw_all := lw_g (lw_at lw_m14 231 rfl) rfl
theorem q3797 : (Jvm.Cond.soleField "ScriptTypesModel" "hasScript") ∈ lw_all := lw_g (lw_at lw_m14 232 rfl) rfl
theorem q3798 : (Jvm.Cond.lays "ScriptTypesModel" "ScriptTypesModel" "state" "I") ∈ lw_all := lw_g (lw_at lw_m14 233 rfl) rfl
theorem q3799 : (Jvm.Cond.soleField "ScriptTypesModel" "state") ∈ lw_all := lw_g (lw_at lw_m14 234 rfl) rfl
theorem q3800 : (Jvm.Cond.lays "ScriptTypesModel" "ScriptTypesModel" "steps" "I") ∈ lw_all := lw_g (lw_at lw_m14 235 rfl) rfl
theorem q3801 : (Jvm.Cond.soleField "ScriptTypesModel" "steps") ∈ lw_all := lw_g (lw_at lw_m14 236 rfl) rfl
theorem q3802 : (Jvm.Cond.lays "ScriptTypesModel" "ScriptTypesModel" "noRoom" "Z") ∈ lw_all := lw_g (lw_at lw_m14 237 rfl) rfl
theorem q3803 : (Jvm.Cond.soleField "ScriptTypesModel" "noRoom") ∈ lw_all := lw_g (lw_at lw_m14 238 rfl) rfl
theorem q3804 : (Jvm.Cond.lays "ScriptTypesModel" "ScriptTypesModel" "objects" "I") ∈ lw_all := lw_g (lw_at lw_m14 239 rfl) rfl
theorem q3805 : (Jvm.Cond.soleField "ScriptTypesModel" "objects") ∈ lw_all := lw_g (lw_at lw_m15 0 rfl) rfl
theorem q3806 : (Jvm.Cond.laysFinal "ScriptTypesModel" "ScriptTypesModel" "label" "[I") ∈ lw_all := lw_g (lw_at lw_m15 1 rfl) rfl
theorem q3807 : (Jvm.Cond.soleField "ScriptTypesModel" "label") ∈ lw_all := lw_g (lw_at lw_m15 2 rfl) rfl
theorem q3808 : (Jvm.Cond.laysFinal "ScriptTypesModel" "ScriptTypesModel" "proto" "[I") ∈ lw_all := lw_g (lw_at lw_m15 3 rfl) rfl
theorem q3809 : (Jvm.Cond.soleField "ScriptTypesModel" "proto") ∈ lw_all := lw_g (lw_at lw_m15 4 rfl) rfl
theorem q3810 : (Jvm.Cond.laysFinal "ScriptTypesModel" "ScriptTypesModel" "link" "[I") ∈ lw_all := lw_g (lw_at lw_m15 5 rfl) rfl
theorem q3811 : (Jvm.Cond.soleField "ScriptTypesModel" "link") ∈ lw_all := lw_g (lw_at lw_m15 6 rfl) rfl
theorem q3812 : (Jvm.Cond.laysFinal "ScriptTypesModel" "ScriptTypesModel" "sortOf" "[I") ∈ lw_all := lw_g (lw_at lw_m15 7 rfl) rfl
theorem q3813 : (Jvm.Cond.soleField "ScriptTypesModel" "sortOf") ∈ lw_all := lw_g (lw_at lw_m15 8 rfl) rfl
theorem q3814 : (Jvm.Cond.laysFinal "ScriptTypesModel" "ScriptTypesModel" "codeOf" "[I") ∈ lw_all := lw_g (lw_at lw_m15 9 rfl) rfl
theorem q3815 : (Jvm.Cond.soleField "ScriptTypesModel" "codeOf") ∈ lw_all := lw_g (lw_at lw_m15 10 rfl) rfl
theorem q3816 : (Jvm.Cond.laysFinal "ScriptTypesModel" "ScriptTypesModel" "firstOf" "[I") ∈ lw_all := lw_g (lw_at lw_m15 11 rfl) rfl
theorem q3817 : (Jvm.Cond.soleField "ScriptTypesModel" "firstOf") ∈ lw_all := lw_g (lw_at lw_m15 12 rfl) rfl
theorem q3818 : (Jvm.Cond.laysFinal "ScriptTypesModel" "ScriptTypesModel" "lastOf" "[I") ∈ lw_all := lw_g (lw_at lw_m15 13 rfl) rfl
theorem q3819 : (Jvm.Cond.soleField "ScriptTypesModel" "lastOf") ∈ lw_all := lw_g (lw_at lw_m15 14 rfl) rfl
theorem q3820 : (Jvm.Cond.lays "ScriptTypesModel" "ScriptTypesModel" "properties" "I") ∈ lw_all := lw_g (lw_at lw_m15 15 rfl) rfl
theorem q3821 : (Jvm.Cond.soleField "ScriptTypesModel" "properties") ∈ lw_all := lw_g (lw_at lw_m15 16 rfl) rfl
theorem q3822 : (Jvm.Cond.lays "ScriptTypesModel" "ScriptTypesModel" "free" "I") ∈ lw_all := lw_g (lw_at lw_m15 17 rfl) rfl
theorem q3823 : (Jvm.Cond.soleField "ScriptTypesModel" "free") ∈ lw_all := lw_g (lw_at lw_m15 18 rfl) rfl
theorem q3824 : (Jvm.Cond.lays "ScriptTypesModel" "ScriptTypesModel" "serials" "I") ∈ lw_all := lw_g (lw_at lw_m15 19 rfl) rfl
theorem q3825 : (Jvm.Cond.soleField "ScriptTypesModel" "serials") ∈ lw_all := lw_g (lw_at lw_m15 20 rfl) rfl
theorem q3826 : (Jvm.Cond.laysFinal "ScriptTypesModel" "ScriptTypesModel" "propertyName" "[I") ∈ lw_all := lw_g (lw_at lw_m15 21 rfl) rfl
theorem q3827 : (Jvm.Cond.soleField "ScriptTypesModel" "propertyName") ∈ lw_all := lw_g (lw_at lw_m15 22 rfl) rfl
theorem q3828 : (Jvm.Cond.laysFinal "ScriptTypesModel" "ScriptTypesModel" "propertySort" "[I") ∈ lw_all := lw_g (lw_at lw_m15 23 rfl) rfl
theorem q3829 : (Jvm.Cond.soleField "ScriptTypesModel" "propertySort") ∈ lw_all := lw_g (lw_at lw_m15 24 rfl) rfl
theorem q3830 : (Jvm.Cond.laysFinal "ScriptTypesModel" "ScriptTypesModel" "propertyValue" "[I") ∈ lw_all := lw_g (lw_at lw_m15 25 rfl) rfl
theorem q3831 : (Jvm.Cond.soleField "ScriptTypesModel" "propertyValue") ∈ lw_all := lw_g (lw_at lw_m15 26 rfl) rfl
theorem q3832 : (Jvm.Cond.laysFinal "ScriptTypesModel" "ScriptTypesModel" "propertySerial" "[I") ∈ lw_all := lw_g (lw_at lw_m15 27 rfl) rfl
theorem q3833 : (Jvm.Cond.soleField "ScriptTypesModel" "propertySerial") ∈ lw_all := lw_g (lw_at lw_m15 28 rfl) rfl
theorem q3834 : (Jvm.Cond.laysFinal "ScriptTypesModel" "ScriptTypesModel" "propertyNext" "[I") ∈ lw_all := lw_g (lw_at lw_m15 29 rfl) rfl
theorem q3835 : (Jvm.Cond.soleField "ScriptTypesModel" "propertyNext") ∈ lw_all := lw_g (lw_at lw_m15 30 rfl) rfl
theorem q3836 : (Jvm.Cond.lays "ScriptTypesModel" "ScriptTypesModel" "frames" "I") ∈ lw_all := lw_g (lw_at lw_m15 31 rfl) rfl
theorem q3837 : (Jvm.Cond.soleField "ScriptTypesModel" "frames") ∈ lw_all := lw_g (lw_at lw_m15 32 rfl) rfl
theorem q3838 : (Jvm.Cond.laysFinal "ScriptTypesModel" "ScriptTypesModel" "frameFunction" "[I") ∈ lw_all := lw_g (lw_at lw_m15 33 rfl) rfl
theorem q3839 : (Jvm.Cond.soleField "ScriptTypesModel" "frameFunction") ∈ lw_all := lw_g (lw_at lw_m15 34 rfl) rfl
theorem q3840 : (Jvm.Cond.laysFinal "ScriptTypesModel" "ScriptTypesModel" "frameScope" "[I") ∈ lw_all := lw_g (lw_at lw_m15 35 rfl) rfl
theorem q3841 : (Jvm.Cond.soleField "ScriptTypesModel" "frameScope") ∈ lw_all := lw_g (lw_at lw_m15 36 rfl) rfl
theorem q3842 : (Jvm.Cond.laysFinal "ScriptTypesModel" "ScriptTypesModel" "frameThisSort" "[I") ∈ lw_all := lw_g (lw_at lw_m15 37 rfl) rfl
theorem q3843 : (Jvm.Cond.soleField "ScriptTypesModel" "frameThisSort") ∈ lw_all := lw_g (lw_at lw_m15 38 rfl) rfl
theorem q3844 : (Jvm.Cond.laysFinal "ScriptTypesModel" "ScriptTypesModel" "frameThis" "[I") ∈ lw_all := lw_g (lw_at lw_m15 39 rfl) rfl
theorem q3845 : (Jvm.Cond.soleField "ScriptTypesModel" "frameThis") ∈ lw_all := lw_g (lw_at lw_m15 40 rfl) rfl
theorem q3846 : (Jvm.Cond.laysFinal "ScriptTypesModel" "ScriptTypesModel" "framePlace" "[I") ∈ lw_all := lw_g (lw_at lw_m15 41 rfl) rfl
theorem q3847 : (Jvm.Cond.soleField "ScriptTypesModel" "framePlace") ∈ lw_all := lw_g (lw_at lw_m15 42 rfl) rfl
theorem q3848 : (Jvm.Cond.laysFinal "ScriptTypesModel" "ScriptTypesModel" "frameHeight" "[I") ∈ lw_all := lw_g (lw_at lw_m15 43 rfl) rfl
theorem q3849 : (Jvm.Cond.soleField "ScriptTypesModel" "frameHeight") ∈ lw_all := lw_g (lw_at lw_m15 44 rfl) rfl
theorem q3850 : (Jvm.Cond.laysFinal "ScriptTypesModel" "ScriptTypesModel" "frameNew" "[I") ∈ lw_all := lw_g (lw_at lw_m15 45 rfl) rfl
theorem q3851 : (Jvm.Cond.soleField "ScriptTypesModel" "frameNew") ∈ lw_all := lw_g (lw_at lw_m15 46 rfl) rfl
theorem q3852 : (Jvm.Cond.laysFinal "ScriptTypesModel" "ScriptTypesModel" "frameTries" "[I") ∈ lw_all := lw_g (lw_at lw_m15 47 rfl) rfl
theorem q3853 : (Jvm.Cond.soleField "ScriptTypesModel" "frameTries") ∈ lw_all := lw_g (lw_at lw_m15 48 rfl) rfl
theorem q3854 : (Jvm.Cond.laysFinal "ScriptTypesModel" "ScriptTypesModel" "tryPlace" "[I") ∈ lw_all := lw_g (lw_at lw_m15 49 rfl) rfl
theorem q3855 : (Jvm.Cond.soleField "ScriptTypesModel" "tryPlace") ∈ lw_all := lw_g (lw_at lw_m15 50 rfl) rfl
theorem q3856 : (Jvm.Cond.laysFinal "ScriptTypesModel" "ScriptTypesModel" "tryHeight" "[I") ∈ lw_all := lw_g (lw_at lw_m15 51 rfl) rfl
theorem q3857 : (Jvm.Cond.soleField "ScriptTypesModel" "tryHeight") ∈ lw_all := lw_g (lw_at lw_m15 52 rfl) rfl
theorem q3858 : (Jvm.Cond.laysFinal "ScriptTypesModel" "ScriptTypesModel" "stackSort" "[I") ∈ lw_all := lw_g (lw_at lw_m15 53 rfl) rfl
theorem q3859 : (Jvm.Cond.soleField "ScriptTypesModel" "stackSort") ∈ lw_all := lw_g (lw_at lw_m15 54 rfl) rfl
theorem q3860 : (Jvm.Cond.laysFinal "ScriptTypesModel" "ScriptTypesModel" "stackValue" "[I") ∈ lw_all := lw_g (lw_at lw_m15 55 rfl) rfl
theorem q3861 : (Jvm.Cond.soleField "ScriptTypesModel" "stackValue") ∈ lw_all := lw_g (lw_at lw_m15 56 rfl) rfl
theorem q3862 : (Jvm.Cond.laysFinal "ScriptTypesModel" "ScriptTypesModel" "stackGiven" "[I") ∈ lw_all := lw_g (lw_at lw_m15 57 rfl) rfl
theorem q3863 : (Jvm.Cond.soleField "ScriptTypesModel" "stackGiven") ∈ lw_all := lw_g (lw_at lw_m15 58 rfl) rfl
theorem q3864 : (Jvm.Cond.laysFinal "ScriptTypesModel" "ScriptTypesModel" "stackLast" "[I") ∈ lw_all := lw_g (lw_at lw_m15 59 rfl) rfl
theorem q3865 : (Jvm.Cond.soleField "ScriptTypesModel" "stackLast") ∈ lw_all := lw_g (lw_at lw_m15 60 rfl) rfl
theorem q3866 : (Jvm.Cond.lays "ScriptTypesModel" "ScriptTypesModel" "printedMany" "I") ∈ lw_all := lw_g (lw_at lw_m15 61 rfl) rfl
theorem q3867 : (Jvm.Cond.soleField "ScriptTypesModel" "printedMany") ∈ lw_all := lw_g (lw_at lw_m15 62 rfl) rfl
theorem q3868 : (Jvm.Cond.laysFinal "ScriptTypesModel" "ScriptTypesModel" "printedLines" "[I") ∈ lw_all := lw_g (lw_at lw_m15 63 rfl) rfl
theorem q3869 : (Jvm.Cond.soleField "ScriptTypesModel" "printedLines") ∈ lw_all := lw_g (lw_at lw_m15 64 rfl) rfl
theorem q3870 : (Jvm.Cond.lays "ScriptTypesModel" "ScriptTypesModel" "tossedSort" "I") ∈ lw_all := lw_g (lw_at lw_m15 65 rfl) rfl
theorem q3871 : (Jvm.Cond.soleField "ScriptTypesModel" "tossedSort") ∈ lw_all := lw_g (lw_at lw_m15 66 rfl) rfl
theorem q3872 : (Jvm.Cond.lays "ScriptTypesModel" "ScriptTypesModel" "tossed" "I") ∈ lw_all := lw_g (lw_at lw_m15 67 rfl) rfl
theorem q3873 : (Jvm.Cond.soleField "ScriptTypesModel" "tossed") ∈ lw_all := lw_g (lw_at lw_m15 68 rfl) rfl
theorem q3874 : (Jvm.Cond.lays "ScriptTypesModel" "ScriptTypesModel" "gotSort" "I") ∈ lw_all := lw_g (lw_at lw_m15 69 rfl) rfl
theorem q3875 : (Jvm.Cond.soleField "ScriptTypesModel" "gotSort") ∈ lw_all := lw_g (lw_at lw_m15 70 rfl) rfl
theorem q3876 : (Jvm.Cond.lays "ScriptTypesModel" "ScriptTypesModel" "got" "I") ∈ lw_all := lw_g (lw_at lw_m15 71 rfl) rfl
theorem q3877 : (Jvm.Cond.soleField "ScriptTypesModel" "got") ∈ lw_all := lw_g (lw_at lw_m15 72 rfl) rfl
theorem q3878 : (Jvm.Cond.lays "ScriptTypesModel" "ScriptTypesModel" "isNumber" "Z") ∈ lw_all := lw_g (lw_at lw_m15 73 rfl) rfl
theorem q3879 : (Jvm.Cond.soleField "ScriptTypesModel" "isNumber") ∈ lw_all := lw_g (lw_at lw_m15 74 rfl) rfl
theorem q3880 : (Jvm.Cond.lays "ScriptTypesModel" "ScriptTypesModel" "argumentsAt" "I") ∈ lw_all := lw_g (lw_at lw_m15 75 rfl) rfl
theorem q3881 : (Jvm.Cond.soleField "ScriptTypesModel" "argumentsAt") ∈ lw_all := lw_g (lw_at lw_m15 76 rfl) rfl
theorem q3882 : (Jvm.Cond.lays "ScriptTypesModel" "ScriptTypesModel" "argumentMany" "I") ∈ lw_all := lw_g (lw_at lw_m15 77 rfl) rfl
theorem q3883 : (Jvm.Cond.soleField "ScriptTypesModel" "argumentMany") ∈ lw_all := lw_g (lw_at lw_m15 78 rfl) rfl
theorem q3884 : (Jvm.Cond.laysFinal "ScriptTypesModel" "ScriptTypesModel" "bits" "[J") ∈ lw_all := lw_g (lw_at lw_m15 79 rfl) rfl
theorem q3885 : (Jvm.Cond.soleField "ScriptTypesModel" "bits") ∈ lw_all := lw_g (lw_at lw_m15 80 rfl) rfl
theorem q3886 : (Jvm.Cond.laysFinal "ScriptTypesModel" "ScriptTypesModel" "low" "[J") ∈ lw_all := lw_g (lw_at lw_m15 81 rfl) rfl
theorem q3887 : (Jvm.Cond.soleField "ScriptTypesModel" "low") ∈ lw_all := lw_g (lw_at lw_m15 82 rfl) rfl
theorem q3888 : (Jvm.Cond.laysFinal "ScriptTypesModel" "ScriptTypesModel" "high" "[J") ∈ lw_all := lw_g (lw_at lw_m15 83 rfl) rfl
theorem q3889 : (Jvm.Cond.soleField "ScriptTypesModel" "high") ∈ lw_all := lw_g (lw_at lw_m15 84 rfl) rfl
theorem q3890 : (Jvm.Cond.lays "ScriptTypesModel" "ScriptTypesModel" "solved" "Z") ∈ lw_all := lw_g (lw_at lw_m15 85 rfl) rfl
theorem q3891 : (Jvm.Cond.soleField "ScriptTypesModel" "solved") ∈ lw_all := lw_g (lw_at lw_m15 86 rfl) rfl
theorem q3892 : (Jvm.Cond.lays "ScriptTypesModel" "ScriptTypesModel" "reachedMany" "I") ∈ lw_all := lw_g (lw_at lw_m15 87 rfl) rfl
theorem q3893 : (Jvm.Cond.soleField "ScriptTypesModel" "reachedMany") ∈ lw_all := lw_g (lw_at lw_m15 88 rfl) rfl
theorem q3894 : (Jvm.Cond.lays "ScriptTypesModel" "ScriptTypesModel" "points" "I") ∈ lw_all := lw_g (lw_at lw_m15 89 rfl) rfl
theorem q3895 : (Jvm.Cond.soleField "ScriptTypesModel" "points") ∈ lw_all := lw_g (lw_at lw_m15 90 rfl) rfl
theorem q3896 : (Jvm.Cond.laysFinal "ScriptTypesModel" "ScriptTypesModel" "reached" "[Z") ∈ lw_all := lw_g (lw_at lw_m15 91 rfl) rfl
theorem q3897 : (Jvm.Cond.soleField "ScriptTypesModel" "reached") ∈ lw_all := lw_g (lw_at lw_m15 92 rfl) rfl
theorem q3898 : (Jvm.Cond.laysFinal "ScriptTypesModel" "ScriptTypesModel" "due" "[Z") ∈ lw_all := lw_g (lw_at lw_m15 93 rfl) rfl
theorem q3899 : (Jvm.Cond.soleField "ScriptTypesModel" "due") ∈ lw_all := lw_g (lw_at lw_m15 94 rfl) rfl
theorem q3900 : (Jvm.Cond.laysFinal "ScriptTypesModel" "ScriptTypesModel" "warnings" "[I") ∈ lw_all := lw_g (lw_at lw_m15 95 rfl) rfl
theorem q3901 : (Jvm.Cond.soleField "ScriptTypesModel" "warnings") ∈ lw_all := lw_g (lw_at lw_m15 96 rfl) rfl
theorem q3902 : (Jvm.Cond.laysFinal "ScriptTypesModel" "ScriptTypesModel" "heights" "[I") ∈ lw_all := lw_g (lw_at lw_m15 97 rfl) rfl
theorem q3903 : (Jvm.Cond.soleField "ScriptTypesModel" "heights") ∈ lw_all := lw_g (lw_at lw_m15 98 rfl) rfl
theorem q3904 : (Jvm.Cond.laysFinal "ScriptTypesModel" "ScriptTypesModel" "stackAt" "[I") ∈ lw_all := lw_g (lw_at lw_m15 99 rfl) rfl
theorem q3905 : (Jvm.Cond.soleField "ScriptTypesModel" "stackAt") ∈ lw_all := lw_g (lw_at lw_m15 100 rfl) rfl
theorem q3906 : (Jvm.Cond.lays "ScriptTypesModel" "ScriptTypesModel" "stacked" "I") ∈ lw_all := lw_g (lw_at lw_m15 101 rfl) rfl
theorem q3907 : (Jvm.Cond.soleField "ScriptTypesModel" "stacked") ∈ lw_all := lw_g (lw_at lw_m15 102 rfl) rfl
theorem q3908 : (Jvm.Cond.laysFinal "ScriptTypesModel" "ScriptTypesModel" "scopeLow" "[J") ∈ lw_all := lw_g (lw_at lw_m15 103 rfl) rfl
theorem q3909 : (Jvm.Cond.soleField "ScriptTypesModel" "scopeLow") ∈ lw_all := lw_g (lw_at lw_m15 104 rfl) rfl
theorem q3910 : (Jvm.Cond.laysFinal "ScriptTypesModel" "ScriptTypesModel" "scopeHigh" "[J") ∈ lw_all := lw_g (lw_at lw_m15 105 rfl) rfl
theorem q3911 : (Jvm.Cond.soleField "ScriptTypesModel" "scopeHigh") ∈ lw_all := lw_g (lw_at lw_m15 106 rfl) rfl
theorem q3912 : (Jvm.Cond.laysFinal "ScriptTypesModel" "ScriptTypesModel" "tries" "[I") ∈ lw_all := lw_g (lw_at lw_m15 107 rfl) rfl
theorem q3913 : (Jvm.Cond.soleField "ScriptTypesModel" "tries") ∈ lw_all := lw_g (lw_at lw_m15 108 rfl) rfl
theorem q3914 : (Jvm.Cond.laysFinal "ScriptTypesModel" "ScriptTypesModel" "triesPlace" "[I") ∈ lw_all := lw_g (lw_at lw_m15 109 rfl) rfl
theorem q3915 : (Jvm.Cond.soleField "ScriptTypesModel" "triesPlace") ∈ lw_all := lw_g (lw_at lw_m15 110 rfl) rfl
theorem q3916 : (Jvm.Cond.laysFinal "ScriptTypesModel" "ScriptTypesModel" "triesHeight" "[I") ∈ lw_all := lw_g (lw_at lw_m15 111 rfl) rfl
theorem q3917 : (Jvm.Cond.soleField "ScriptTypesModel" "triesHeight") ∈ lw_all := lw_g (lw_at lw_m15 112 rfl) rfl
theorem q3918 : (Jvm.Cond.laysFinal "ScriptTypesModel" "ScriptTypesModel" "isThere" "[Z") ∈ lw_all := lw_g (lw_at lw_m15 113 rfl) rfl
theorem q3919 : (Jvm.Cond.soleField "ScriptTypesModel" "isThere") ∈ lw_all := lw_g (lw_at lw_m15 114 rfl) rfl
theorem q3920 : (Jvm.Cond.laysFinal "ScriptTypesModel" "ScriptTypesModel" "mayBeNull" "[Z") ∈ lw_all := lw_g (lw_at lw_m15 115 rfl) rfl
theorem q3921 : (Jvm.Cond.soleField "ScriptTypesModel" "mayBeNull") ∈ lw_all := lw_g (lw_at lw_m15 116 rfl) rfl
theorem q3922 : (Jvm.Cond.laysFinal "ScriptTypesModel" "ScriptTypesModel" "protoLow" "[J") ∈ lw_all := lw_g (lw_at lw_m15 117 rfl) rfl
theorem q3923 : (Jvm.Cond.soleField "ScriptTypesModel" "protoLow") ∈ lw_all := lw_g (lw_at lw_m15 118 rfl) rfl
theorem q3924 : (Jvm.Cond.laysFinal "ScriptTypesModel" "ScriptTypesModel" "protoHigh" "[J") ∈ lw_all := lw_g (lw_at lw_m15 119 rfl) rfl
theorem q3925 : (Jvm.Cond.soleField "ScriptTypesModel" "protoHigh") ∈ lw_all := lw_g (lw_at lw_m15 120 rfl) rfl
theorem q3926 : (Jvm.Cond.laysFinal "ScriptTypesModel" "ScriptTypesModel" "linkLow" "[J") ∈ lw_all := lw_g (lw_at lw_m15 121 rfl) rfl
theorem q3927 : (Jvm.Cond.soleField "ScriptTypesModel" "linkLow") ∈ lw_all := lw_g (lw_at lw_m15 122 rfl) rfl
theorem q3928 : (Jvm.Cond.laysFinal "ScriptTypesModel" "ScriptTypesModel" "linkHigh" "[J") ∈ lw_all := lw_g (lw_at lw_m15 123 rfl) rfl
theorem q3929 : (Jvm.Cond.soleField "ScriptTypesModel" "linkHigh") ∈ lw_all := lw_g (lw_at lw_m15 124 rfl) rfl
theorem q3930 : (Jvm.Cond.laysFinal "ScriptTypesModel" "ScriptTypesModel" "isInt" "[Z") ∈ lw_all := lw_g (lw_at lw_m15 125 rfl) rfl
theorem q3931 : (Jvm.Cond.soleField "ScriptTypesModel" "isInt") ∈ lw_all := lw_g (lw_at lw_m15 126 rfl) rfl
theorem q3932 : (Jvm.Cond.laysFinal "ScriptTypesModel" "ScriptTypesModel" "isIndex" "[Z") ∈ lw_all := lw_g (lw_at lw_m15 127 rfl) rfl
theorem q3933 : (Jvm.Cond.soleField "ScriptTypesModel" "isIndex") ∈ lw_all := lw_g (lw_at lw_m15 128 rfl) rfl
theorem q3934 : (Jvm.Cond.laysFinal "ScriptTypesModel" "ScriptTypesModel" "isHundred" "[Z") ∈ lw_all := lw_g (lw_at lw_m15 129 rfl) rfl
theorem q3935 : (Jvm.Cond.soleField "ScriptTypesModel" "isHundred") ∈ lw_all := lw_g (lw_at lw_m15 130 rfl) rfl
theorem q3936 : (Jvm.Cond.laysFinal "ScriptTypesModel" "ScriptTypesModel" "isArraySite" "[Z") ∈ lw_all := lw_g (lw_at lw_m15 131 rfl) rfl
theorem q3937 : (Jvm.Cond.soleField "ScriptTypesModel" "isArraySite") ∈ lw_all := lw_g (lw_at lw_m15 132 rfl) rfl
theorem q3938 : (Jvm.Cond.lays "ScriptTypesModel" "ScriptTypesModel" "keysLow" "J") ∈ lw_all := lw_g (lw_at lw_m15 133 rfl) rfl
theorem q3939 : (Jvm.Cond.soleField "ScriptTypesModel" "keysLow") ∈ lw_all := lw_g (lw_at lw_m15 134 rfl) rfl
theorem q3940 : (Jvm.Cond.lays "ScriptTypesModel" "ScriptTypesModel" "keysHigh" "J") ∈ lw_all := lw_g (lw_at lw_m15 135 rfl) rfl
theorem q3941 : (Jvm.Cond.soleField "ScriptTypesModel" "keysHigh") ∈ lw_all := lw_g (lw_at lw_m15 136 rfl) rfl
theorem q3942 : (Jvm.Cond.lays "ScriptTypesModel" "ScriptTypesModel" "missed" "Z") ∈ lw_all := lw_g (lw_at lw_m15 137 rfl) rfl
theorem q3943 : (Jvm.Cond.soleField "ScriptTypesModel" "missed") ∈ lw_all := lw_g (lw_at lw_m15 138 rfl) rfl
theorem q3944 : (Jvm.Cond.laysFinal "ScriptTypesModel" "ScriptTypesModel" "handed" "[I") ∈ lw_all := lw_g (lw_at lw_m15 139 rfl) rfl
theorem q3945 : (Jvm.Cond.soleField "ScriptTypesModel" "handed") ∈ lw_all := lw_g (lw_at lw_m15 140 rfl) rfl
theorem q3946 : (Jvm.Cond.lays "ScriptTypesModel" "ScriptTypesModel" "handedMany" "I") ∈ lw_all := lw_g (lw_at lw_m15 141 rfl) rfl
theorem q3947 : (Jvm.Cond.soleField "ScriptTypesModel" "handedMany") ∈ lw_all := lw_g (lw_at lw_m15 142 rfl) rfl
theorem q3948 : (Jvm.Cond.lays "ScriptTypesModel" "ScriptTypesModel" "at0" "I") ∈ lw_all := lw_g (lw_at lw_m15 143 rfl) rfl
theorem q3949 : (Jvm.Cond.soleField "ScriptTypesModel" "at0") ∈ lw_all := lw_g (lw_at lw_m15 144 rfl) rfl
theorem q3950 : (Jvm.Cond.lays "ScriptTypesModel" "ScriptTypesModel" "warning" "I") ∈ lw_all := lw_g (lw_at lw_m15 145 rfl) rfl
theorem q3951 : (Jvm.Cond.soleField "ScriptTypesModel" "warning") ∈ lw_all := lw_g (lw_at lw_m15 146 rfl) rfl
theorem q3952 : (Jvm.Cond.lays "ScriptTypesModel" "ScriptTypesModel" "goesOn" "Z") ∈ lw_all := lw_g (lw_at lw_m15 147 rfl) rfl
theorem q3953 : (Jvm.Cond.soleField "ScriptTypesModel" "goesOn") ∈ lw_all := lw_g (lw_at lw_m15 148 rfl) rfl
theorem q3954 : (Jvm.Cond.superclass "ScriptTypesModel" "java/lang/Object") ∈ lw_all := lw_g (lw_at lw_m15 149 rfl) rfl
theorem q3955 : (Jvm.Cond.arrayClass Jvm.ClassFile.FieldType.char) ∈ lw_all := lw_g (lw_at lw_m15 150 rfl) rfl
theorem q3956 : (Jvm.Cond.methodLink "ScriptTypesLaw" (60 : Nat) ({ cls := "ScriptTypesModel", name := "thrown", desc := "()I" } : Jvm.MethodName)) ∈ lw_all := lw_g (lw_at lw_m15 151 rfl) rfl
theorem q3957 : (Jvm.Cond.instanceMethod ({ cls := "ScriptTypesModel", name := "thrown", desc := "()I" } : Jvm.MethodName)) ∈ lw_all := lw_g (lw_at lw_m15 152 rfl) rfl
theorem q3958 : (Jvm.Cond.selects "ScriptTypesModel" ({ cls := "ScriptTypesModel", name := "thrown", desc := "()I" } : Jvm.MethodName) ({ cls := "ScriptTypesModel", name := "thrown", desc := "()I" } : Jvm.MethodName)) ∈ lw_all := lw_g (lw_at lw_m15 153 rfl) rfl
theorem q3959 : (Jvm.Cond.code ({ cls := "ScriptTypesModel", name := "thrown", desc := "()I" } : Jvm.MethodName) prog_44_method_2_code (1 : Nat) (Option.some Jvm.ClassFile.FieldType.int)) ∈ lw_all := lw_g (lw_at lw_m15 154 rfl) rfl
theorem q3960 : (Jvm.Cond.methodLink "ScriptTypesLaw" (32 : Nat) ({ cls := "ScriptTypesModel", name := "feed", desc := "(IIIII)I" } : Jvm.MethodName)) ∈ lw_all := lw_g (lw_at lw_m15 155 rfl) rfl
theorem q3961 : (Jvm.Cond.instanceMethod ({ cls := "ScriptTypesModel", name := "feed", desc := "(IIIII)I" } : Jvm.MethodName)) ∈ lw_all := lw_g (lw_at lw_m15 156 rfl) rfl
theorem q3962 : (Jvm.Cond.selects "ScriptTypesModel" ({ cls := "ScriptTypesModel", name := "feed", desc := "(IIIII)I" } : Jvm.MethodName) ({ cls := "ScriptTypesModel", name := "feed", desc := "(IIIII)I" } : Jvm.MethodName)) ∈ lw_all := lw_g (lw_at lw_m15 157 rfl) rfl
theorem q3963 : (Jvm.Cond.code ({ cls := "ScriptTypesModel", name := "feed", desc := "(IIIII)I" } : Jvm.MethodName) prog_44_method_3_code (8 : Nat) (Option.some Jvm.ClassFile.FieldType.int)) ∈ lw_all := lw_g (lw_at lw_m15 158 rfl) rfl
theorem q3964 : (Jvm.Cond.methodLink "ScriptTypesLaw" (36 : Nat) ({ cls := "ScriptTypesModel", name := "back", desc := "(I)I" } : Jvm.MethodName)) ∈ lw_all := lw_g (lw_at lw_m15 159 rfl) rfl
theorem q3965 : (Jvm.Cond.instanceMethod ({ cls := "ScriptTypesModel", name := "back", desc := "(I)I" } : Jvm.MethodName)) ∈ lw_all := lw_g (lw_at lw_m15 160 rfl) rfl
theorem q3966 : (Jvm.Cond.selects "ScriptTypesModel" ({ cls := "ScriptTypesModel", name := "back", desc := "(I)I" } : Jvm.MethodName) ({ cls := "ScriptTypesModel", name := "back", desc := "(I)I" } : Jvm.MethodName)) ∈ lw_all := lw_g (lw_at lw_m15 161 rfl) rfl
theorem q3967 : (Jvm.Cond.code ({ cls := "ScriptTypesModel", name := "back", desc := "(I)I" } : Jvm.MethodName) prog_44_method_4_code (2 : Nat) (Option.some Jvm.ClassFile.FieldType.int)) ∈ lw_all := lw_g (lw_at lw_m15 162 rfl) rfl
theorem q3968 : (Jvm.Cond.methodLink "ScriptTypesLaw" (40 : Nat) ({ cls := "ScriptTypesModel", name := "read", desc := "()I" } : Jvm.MethodName)) ∈ lw_all := lw_g (lw_at lw_m15 163 rfl) rfl
theorem q3969 : (Jvm.Cond.instanceMethod ({ cls := "ScriptTypesModel", name := "read", desc := "()I" } : Jvm.MethodName)) ∈ lw_all := lw_g (lw_at lw_m15 164 rfl) rfl
theorem q3970 : (Jvm.Cond.selects "ScriptTypesModel" ({ cls := "ScriptTypesModel", name := "read", desc := "()I" } : Jvm.MethodName) ({ cls := "ScriptTypesModel", name := "read", desc := "()I" } : Jvm.MethodName)) ∈ lw_all := lw_g (lw_at lw_m15 165 rfl) rfl
theorem q3971 : (Jvm.Cond.code ({ cls := "ScriptTypesModel", name := "read", desc := "()I" } : Jvm.MethodName) prog_44_method_122_code (2 : Nat) (Option.some Jvm.ClassFile.FieldType.int)) ∈ lw_all := lw_g (lw_at lw_m15 166 rfl) rfl
theorem q3972 : (Jvm.Cond.methodLink "ScriptTypesModel" (779 : Nat) ({ cls := "ScriptTypesModel", name := "firstNames", desc := "()V" } : Jvm.MethodName)) ∈ lw_all := lw_g (lw_at lw_m15 167 rfl) rfl
theorem q3973 : (Jvm.Cond.privateMethod ({ cls := "ScriptTypesModel", name := "firstNames", desc := "()V" } : Jvm.MethodName)) ∈ lw_tbl := lw_at lw_m15 168 rfl
theorem q3974 : (Jvm.Cond.instanceMethod ({ cls := "ScriptTypesModel", name := "firstNames", desc := "()V" } : Jvm.MethodName)) ∈ lw_all := lw_g (lw_at lw_m15 169 rfl) rfl
theorem q3975 : (Jvm.Cond.code ({ cls := "ScriptTypesModel", name := "firstNames", desc := "()V" } : Jvm.MethodName) prog_44_method_10_code (3 : Nat) (Option.none : Option Jvm.ClassFile.FieldType)) ∈ lw_all := lw_g (lw_at lw_m15 170 rfl) rfl
theorem q3976 : (Jvm.Cond.stringRef "ScriptTypesModel" (313 : Nat) "length prototype constructor message name print Object Array String isNaN Error TypeError ReferenceError RangeError push pop call hasOwnProperty charAt undefined object boolean number string function null true false NaN [object]  ") ∈ lw_tbl := lw_at lw_m15 171 rfl
theorem q3977 : (Jvm.Cond.methodLink "ScriptTypesModel" (315 : Nat) ({ cls := "java/lang/String", name := "length", desc := "()I" } : Jvm.MethodName)) ∈ lw_all := lw_g (lw_at lw_m15 172 rfl) rfl
theorem q3978 : (Jvm.Cond.methodLink "ScriptTypesModel" (320 : Nat) ({ cls := "java/lang/String", name := "charAt", desc := "(I)C" } : Jvm.MethodName)) ∈ lw_all := lw_g (lw_at lw_m15 173 rfl) rfl
theorem q3979 : (Jvm.Cond.methodLink "ScriptTypesModel" (324 : Nat) ({ cls := "ScriptTypesModel", name := "put", desc := "(I)V" } : Jvm.MethodName)) ∈ lw_all := lw_g (lw_at lw_m15 174 rfl) rfl
theorem q3980 : (Jvm.Cond.privateMethod ({ cls := "ScriptTypesModel", name := "put", desc := "(I)V" } : Jvm.MethodName)) ∈ lw_tbl := lw_at lw_m15 175 rfl
theorem q3981 : (Jvm.Cond.instanceMethod ({ cls := "ScriptTypesModel", name := "put", desc := "(I)V" } : Jvm.MethodName)) ∈ lw_all := lw_g (lw_at lw_m15 176 rfl) rfl
theorem q3982 : (Jvm.Cond.code ({ cls := "ScriptTypesModel", name := "put", desc := "(I)V" } : Jvm.MethodName) prog_44_method_8_code (2 : Nat) (Option.none : Option Jvm.ClassFile.FieldType)) ∈ lw_all := lw_g (lw_at lw_m15 177 rfl) rfl
theorem q3983 : (Jvm.Cond.methodLink "ScriptTypesModel" (310 : Nat) ({ cls := "ScriptTypesModel", name := "addText", desc := "()I" } : Jvm.MethodName)) ∈ lw_all := lw_g (lw_at lw_m15 178 rfl) rfl
theorem q3984 : (Jvm.Cond.privateMethod ({ cls := "ScriptTypesModel", name := "addText", desc := "()I" } : Jvm.MethodName)) ∈ lw_tbl := lw_at lw_m15 179 rfl
theorem q3985 : (Jvm.Cond.instanceMethod ({ cls := "ScriptTypesModel", name := "addText", desc := "()I" } : Jvm.MethodName)) ∈ lw_all := lw_g (lw_at lw_m15 180 rfl) rfl
theorem q3986 : (Jvm.Cond.code ({ cls := "ScriptTypesModel", name := "addText", desc := "()I" } : Jvm.MethodName) prog_44_method_7_code (2 : Nat) (Option.some Jvm.ClassFile.FieldType.int)) ∈ lw_all := lw_g (lw_at lw_m15 181 rfl) rfl
theorem q3987 : (Jvm.Cond.methodLink "ScriptTypesModel" (782 : Nat) ({ cls := "ScriptTypesModel", name := "cut", desc := "()V" } : Jvm.MethodName)) ∈ lw_all := lw_g (lw_at lw_m15 182 rfl) rfl
theorem q3988 : (Jvm.Cond.privateMethod ({ cls := "ScriptTypesModel", name := "cut", desc := "()V" } : Jvm.MethodName)) ∈ lw_tbl := lw_at lw_m15 183 rfl
theorem q3989 : (Jvm.Cond.instanceMethod ({ cls := "ScriptTypesModel", name := "cut", desc := "()V" } : Jvm.MethodName)) ∈ lw_all := lw_g (lw_at lw_m15 184 rfl) rfl
theorem q3990 : (Jvm.Cond.code ({ cls := "ScriptTypesModel", name := "cut", desc := "()V" } : Jvm.MethodName) prog_44_method_17_code (3 : Nat) (Option.none : Option Jvm.ClassFile.FieldType)) ∈ lw_all := lw_g (lw_at lw_m15 185 rfl) rfl
theorem q3991 : (Jvm.Cond.methodLink "ScriptTypesModel" (353 : Nat) ({ cls := "ScriptTypesModel", name := "skip", desc := "()Z" } : Jvm.MethodName)) ∈ lw_all := lw_g (lw_at lw_m15 186 rfl) rfl
theorem q3992 : (Jvm.Cond.privateMethod ({ cls := "ScriptTypesModel", name := "skip", desc := "()Z" } : Jvm.MethodName)) ∈ lw_tbl := lw_at lw_m15 187 rfl
theorem q3993 : (Jvm.Cond.instanceMethod ({ cls := "ScriptTypesModel", name := "skip", desc := "()Z" } : Jvm.MethodName)) ∈ lw_all := lw_g (lw_at lw_m15 188 rfl) rfl
theorem q3994 : (Jvm.Cond.code ({ cls := "ScriptTypesModel", name := "skip", desc := "()Z" } : Jvm.MethodName) prog_44_method_16_code (4 : Nat) (Option.some Jvm.ClassFile.FieldType.boolean)) ∈ lw_all := lw_g (lw_at lw_m15 189 rfl) rfl
theorem q3995 : (Jvm.Cond.methodLink "ScriptTypesModel" (331 : Nat) ({ cls := "ScriptTypesModel", name := "isThere", desc := "(I)Z" } : Jvm.MethodName)) ∈ lw_all := lw_g (lw_at lw_m15 190 rfl) rfl
theorem q3996 : (Jvm.Cond.privateMethod ({ cls := "ScriptTypesModel", name := "isThere", desc := "(I)Z" } : Jvm.MethodName)) ∈ lw_tbl := lw_at lw_m15 191 rfl
theorem q3997 : (Jvm.Cond.instanceMethod ({ cls := "ScriptTypesModel", name := "isThere", desc := "(I)Z" } : Jvm.MethodName)) ∈ lw_all := lw_g (lw_at lw_m15 192 rfl) rfl
theorem q3998 : (Jvm.Cond.code ({ cls := "ScriptTypesModel", name := "isThere", desc := "(I)Z" } : Jvm.MethodName) prog_44_method_12_code (2 : Nat) (Option.some Jvm.ClassFile.FieldType.boolean)) ∈ lw_all := lw_g (lw_at lw_m15 193 rfl) rfl
theorem q3999 : (Jvm.Cond.methodLink "ScriptTypesModel" (334 : Nat) ({ cls := "ScriptTypesModel", name := "look", desc := "(I)I" } : Jvm.MethodName)) ∈ lw_all := lw_g (lw_at lw_m15 194 rfl) rfl
theorem q4000 : (Jvm.Cond.privateMethod ({ cls := "ScriptTypesModel", name := "look", desc := "(I)I" } : Jvm.MethodName)) ∈ lw_tbl := lw_at lw_m15 195 rfl
theorem q4001 : (Jvm.Cond.instanceMethod ({ cls := "ScriptTypesModel", name := "look", desc := "(I)I" } : Jvm.MethodName)) ∈ lw_all := lw_g (lw_at lw_m15 196 rfl) rfl
theorem q4002 : (Jvm.Cond.code ({ cls := "ScriptTypesModel", name := "look", desc := "(I)I" } : Jvm.MethodName) prog_44_method_11_code (2 : Nat) (Option.some Jvm.ClassFile.FieldType.int)) ∈ lw_all := lw_g (lw_at lw_m15 197 rfl) rfl
theorem q4003 : (Jvm.Cond.methodLink "ScriptTypesModel" (357 : Nat) ({ cls := "ScriptTypesModel", name := "cutOne", desc := "()V" } : Jvm.MethodName)) ∈ lw_all := lw_g (lw_at lw_m15 198 rfl) rfl
theorem q4004 : (Jvm.Cond.privateMethod ({ cls := "ScriptTypesModel", name := "cutOne", desc := "()V" } : Jvm.MethodName)) ∈ lw_tbl := lw_at lw_m15 199 rfl
theorem q4005 : (Jvm.Cond.instanceMethod ({ cls := "ScriptTypesModel", name := "cutOne", desc := "()V" } : Jvm.MethodName)) ∈ lw_all := lw_g (lw_at lw_m15 200 rfl) rfl
theorem q4006 : (Jvm.Cond.code ({ cls := "ScriptTypesModel", name := "cutOne", desc := "()V" } : Jvm.MethodName) prog_44_method_18_code (2 : Nat) (Option.none : Option Jvm.ClassFile.FieldType)) ∈ lw_all := lw_g (lw_at lw_m15 201 rfl) rfl
theorem q4007 : (Jvm.Cond.methodLink "ScriptTypesModel" (338 : Nat) ({ cls := "ScriptTypesModel", name := "isLetter", desc := "(I)Z" } : Jvm.MethodName)) ∈ lw_all := lw_g (lw_at lw_m15 202 rfl) rfl
theorem q4008 : (Jvm.Cond.static ({ cls := "ScriptTypesModel", name := "isLetter", desc := "(I)Z" } : Jvm.MethodName)) ∈ lw_all := lw_g (lw_at lw_m15 203 rfl) rfl
theorem q4009 : (Jvm.Cond.code ({ cls := "ScriptTypesModel", name := "isLetter", desc := "(I)Z" } : Jvm.MethodName) prog_44_method_13_code (1 : Nat) (Option.some Jvm.ClassFile.FieldType.boolean)) ∈ lw_all := lw_g (lw_at lw_m15 204 rfl) rfl
theorem q4010 : (Jvm.Cond.methodLink "ScriptTypesModel" (360 : Nat) ({ cls := "ScriptTypesModel", name := "cutName", desc := "()V" } : Jvm.MethodName)) ∈ lw_all := lw_g (lw_at lw_m15 205 rfl) rfl
theorem q4011 : (Jvm.Cond.privateMethod ({ cls := "ScriptTypesModel", name := "cutName", desc := "()V" } : Jvm.MethodName)) ∈ lw_tbl := lw_at lw_m15 206 rfl
theorem q4012 : (Jvm.Cond.instanceMethod ({ cls := "ScriptTypesModel", name := "cutName", desc := "()V" } : Jvm.MethodName)) ∈ lw_all := lw_g (lw_at lw_m15 207 rfl) rfl
theorem q4013 : (Jvm.Cond.code ({ cls := "ScriptTypesModel", name := "cutName", desc := "()V" } : Jvm.MethodName) prog_44_method_19_code (2 : Nat) (Option.none : Option Jvm.ClassFile.FieldType)) ∈ lw_all := lw_g (lw_at lw_m15 208 rfl) rfl
theorem q4014 : (Jvm.Cond.methodLink "ScriptTypesModel" (372 : Nat) ({ cls := "ScriptTypesModel", name := "isWordly", desc := "(I)Z" } : Jvm.MethodName)) ∈ lw_all := lw_g (lw_at lw_m15 209 rfl) rfl
theorem q4015 : (Jvm.Cond.privateMethod ({ cls := "ScriptTypesModel", name := "isWordly", desc := "(I)Z" } : Jvm.MethodName)) ∈ lw_tbl := lw_at lw_m15 210 rfl
theorem q4016 : (Jvm.Cond.instanceMethod ({ cls := "ScriptTypesModel", name := "isWordly", desc := "(I)Z" } : Jvm.MethodName)) ∈ lw_all := lw_g (lw_at lw_m15 211 rfl) rfl
theorem q4017 : (Jvm.Cond.code ({ cls := "ScriptTypesModel", name := "isWordly", desc := "(I)Z" } : Jvm.MethodName) prog_44_method_15_code (2 : Nat) (Option.some Jvm.ClassFile.FieldType.boolean)) ∈ lw_all := lw_g (lw_at lw_m15 212 rfl) rfl
theorem q4018 : (Jvm.Cond.methodLink "ScriptTypesModel" (341 : Nat) ({ cls := "ScriptTypesModel", name := "isDigit", desc := "(I)Z" } : Jvm.MethodName)) ∈ lw_all := lw_g (lw_at lw_m15 213 rfl) rfl
theorem q4019 : (Jvm.Cond.static ({ cls := "ScriptTypesModel", name := "isDigit", desc := "(I)Z" } : Jvm.MethodName)) ∈ lw_all := lw_g (lw_at lw_m15 214 rfl) rfl
theorem q4020 : (Jvm.Cond.code ({ cls := "ScriptTypesModel", name := "isDigit", desc := "(I)Z" } : Jvm.MethodName) prog_44_method_14_code (1 : Nat) (Option.some Jvm.ClassFile.FieldType.boolean)) ∈ lw_all := lw_g (lw_at lw_m15 215 rfl) rfl
theorem q4021 : (Jvm.Cond.methodLink "ScriptTypesModel" (375 : Nat) ({ cls := "ScriptTypesModel", name := "keywordAt", desc := "(II)I" } : Jvm.MethodName)) ∈ lw_all := lw_g (lw_at lw_m15 216 rfl) rfl
theorem q4022 : (Jvm.Cond.privateMethod ({ cls := "ScriptTypesModel", name := "keywordAt", desc := "(II)I" } : Jvm.MethodName)) ∈ lw_tbl := lw_at lw_m15 217 rfl
theorem q4023 : (Jvm.Cond.instanceMethod ({ cls := "ScriptTypesModel", name := "keywordAt", desc := "(II)I" } : Jvm.MethodName)) ∈ lw_all := lw_g (lw_at lw_m15 218 rfl) rfl
theorem q4024 : (Jvm.Cond.code ({ cls := "ScriptTypesModel", name := "keywordAt", desc := "(II)I" } : Jvm.MethodName) prog_44_method_20_code (6 : Nat) (Option.some Jvm.ClassFile.FieldType.int)) ∈ lw_all := lw_g (lw_at lw_m15 219 rfl) rfl
theorem q4025 : (Jvm.Cond.stringRef "ScriptTypesModel" (379 : Nat) "break case catch continue default delete do else false finally for function if in instanceof NaN new null return switch this throw true try typeof undefined var void while ") ∈ lw_tbl := lw_at lw_m15 220 rfl
theorem q4026 : (Jvm.Cond.methodLink "ScriptTypesModel" (363 : Nat) ({ cls := "ScriptTypesModel", name := "cutNumber", desc := "()V" } : Jvm.MethodName)) ∈ lw_all := lw_g (lw_at lw_m15 221 rfl) rfl
theorem q4027 : (Jvm.Cond.privateMethod ({ cls := "ScriptTypesModel", name := "cutNumber", desc := "()V" } : Jvm.MethodName)) ∈ lw_tbl := lw_at lw_m15 222 rfl
theorem q4028 : (Jvm.Cond.instanceMethod ({ cls := "ScriptTypesModel", name := "cutNumber", desc := "()V" } : Jvm.MethodName)) ∈ lw_all := lw_g (lw_at lw_m15 223 rfl) rfl
theorem q4029 : (Jvm.Cond.code ({ cls := "ScriptTypesModel", name := "cutNumber", desc := "()V" } : Jvm.MethodName) prog_44_method_21_code (5 : Nat) (Option.none : Option Jvm.ClassFile.FieldType)) ∈ lw_all := lw_g (lw_at lw_m15 224 rfl) rfl
theorem q4030 : (Jvm.Cond.constantLong "ScriptTypesModel" (381 : Nat) (10 : Int64)) ∈ lw_all := lw_g (lw_at lw_m15 225 rfl) rfl
theorem q4031 : (Jvm.Cond.constantLong "ScriptTypesModel" (383 : Nat) (48 : Int64)) ∈ lw_all := lw_g (lw_at lw_m15 226 rfl) rfl
theorem q4032 : (Jvm.Cond.constantLong "ScriptTypesModel" (385 : Nat) (2147483647 : Int64)) ∈ lw_all := lw_g (lw_at lw_m15 227 rfl) rfl
theorem q4033 : (Jvm.Cond.methodLink "ScriptTypesModel" (366 : Nat) ({ cls := "ScriptTypesModel", name := "cutString", desc := "(I)V" } : Jvm.MethodName)) ∈ lw_all := lw_g (lw_at lw_m15 228 rfl) rfl
theorem q4034 : (Jvm.Cond.privateMethod ({ cls := "ScriptTypesModel", name := "cutString", desc := "(I)V" } : Jvm.MethodName)) ∈ lw_tbl := lw_at lw_m15 229 rfl
theorem q4035 : (Jvm.Cond.instanceMethod ({ cls := "ScriptTypesModel", name := "cutString", desc := "(I)V" } : Jvm.MethodName)) ∈ lw_all := lw_g (lw_at lw_m15 230 rfl) rfl
theorem q4036 : (Jvm.Cond.code ({ cls := "ScriptTypesModel", name := "cutString", desc := "(I)V" } : Jvm.MethodName) prog_44_method_22_code (6 : Nat) (Option.none : Option Jvm.ClassFile.FieldType)) ∈ lw_all := lw_g (lw_at lw_m15 231 rfl) rfl
theorem q4037 : (Jvm.Cond.methodLink "ScriptTypesModel" (369 : Nat) ({ cls := "ScriptTypesModel", name := "cutSign", desc := "()V" } : Jvm.MethodName)) ∈ lw_all := lw_g (lw_at lw_m15 232 rfl) rfl
theorem q4038 : (Jvm.Cond.privateMethod ({ cls := "ScriptTypesModel", name := "cutSign", desc := "()V" } : Jvm.MethodName)) ∈ lw_tbl := lw_at lw_m15 233 rfl
theorem q4039 : (Jvm.Cond.instanceMethod ({ cls := "ScriptTypesModel", name := "cutSign", desc := "()V" } : Jvm.MethodName)) ∈ lw_all := lw_g (lw_at lw_m15 234 rfl) rfl
theorem q4040 : (Jvm.Cond.code ({ cls := "ScriptTypesModel", name := "cutSign", desc := "()V" } : Jvm.MethodName) prog_44_method_23_code (6 : Nat) (Option.none : Option Jvm.ClassFile.FieldType)) ∈ lw_all := lw_g (lw_at lw_m15 235 rfl) rfl
theorem q4041 : (Jvm.Cond.stringRef "ScriptTypesModel" (387 : Nat) ">>>= <<= >>= >>> === !== <= >= == != ++ -- << >> && || += -= *= /= %= &= |= ^= { } ( ) [ ] . ; , < > + - * / % & | ^ ! ~ ? : = ") ∈ lw_tbl := lw_at lw_m15 236 rfl
theorem q4042 : (Jvm.Cond.methodLink "ScriptTypesModel" (546 : Nat) ({ cls := "ScriptTypesModel", name := "parts", desc := "(Z)I" } : Jvm.MethodName)) ∈ lw_all := lw_g (lw_at lw_m15 237 rfl) rfl
theorem q4043 : (Jvm.Cond.privateMethod ({ cls := "ScriptTypesModel", name := "parts", desc := "(Z)I" } : Jvm.MethodName)) ∈ lw_tbl := lw_at lw_m15 238 rfl
theorem q4044 : (Jvm.Cond.instanceMethod ({ cls := "ScriptTypesModel", name := "parts", desc := "(Z)I" } : Jvm.MethodName)) ∈ lw_all := lw_g (lw_at lw_m15 239 rfl) rfl
theorem q4045 : (Jvm.Cond.code ({ cls := "ScriptTypesModel", name := "parts", desc := "(Z)I" } : Jvm.MethodName) prog_44_method_66_code (2 : Nat) (Option.some Jvm.ClassFile.FieldType.int)) ∈ lw_all := lw_g (lw_at lw_m16 0 rfl) rfl
theorem q4046 : (Jvm.Cond.methodLink "ScriptTypesModel" (509 : Nat) ({ cls := "ScriptTypesModel", name := "beginList", desc := "()V" } : Jvm.MethodName)) ∈ lw_all := lw_g (lw_at lw_m16 1 rfl) rfl
theorem q4047 : (Jvm.Cond.privateMethod ({ cls := "ScriptTypesModel", name := "beginList", desc := "()V" } : Jvm.MethodName)) ∈ lw_tbl := lw_at lw_m16 2 rfl
theorem q4048 : (Jvm.Cond.instanceMethod ({ cls := "ScriptTypesModel", name := "beginList", desc := "()V" } : Jvm.MethodName)) ∈ lw_all := lw_g (lw_at lw_m16 3 rfl) rfl
theorem q4049 : (Jvm.Cond.code ({ cls := "ScriptTypesModel", name := "beginList", desc := "()V" } : Jvm.MethodName) prog_44_method_36_code (1 : Nat) (Option.none : Option Jvm.ClassFile.FieldType)) ∈ lw_all := lw_g (lw_at lw_m16 4 rfl) rfl
theorem q4050 : (Jvm.Cond.methodLink "ScriptTypesModel" (398 : Nat) ({ cls := "ScriptTypesModel", name := "isSign", desc := "(I)Z" } : Jvm.MethodName)) ∈ lw_all := lw_g (lw_at lw_m16 5 rfl) rfl
theorem q4051 : (Jvm.Cond.privateMethod ({ cls := "ScriptTypesModel", name := "isSign", desc := "(I)Z" } : Jvm.MethodName)) ∈ lw_tbl := lw_at lw_m16 6 rfl
theorem q4052 : (Jvm.Cond.instanceMethod ({ cls := "ScriptTypesModel", name := "isSign", desc := "(I)Z" } : Jvm.MethodName)) ∈ lw_all := lw_g (lw_at lw_m16 7 rfl) rfl
theorem q4053 : (Jvm.Cond.code ({ cls := "ScriptTypesModel", name := "isSign", desc := "(I)Z" } : Jvm.MethodName) prog_44_method_25_code (2 : Nat) (Option.some Jvm.ClassFile.FieldType.boolean)) ∈ lw_all := lw_g (lw_at lw_m16 8 rfl) rfl
theorem q4054 : (Jvm.Cond.methodLink "ScriptTypesModel" (404 : Nat) ({ cls := "ScriptTypesModel", name := "isKeyword", desc := "(I)Z" } : Jvm.MethodName)) ∈ lw_all := lw_g (lw_at lw_m16 9 rfl) rfl
theorem q4055 : (Jvm.Cond.privateMethod ({ cls := "ScriptTypesModel", name := "isKeyword", desc := "(I)Z" } : Jvm.MethodName)) ∈ lw_tbl := lw_at lw_m16 10 rfl
theorem q4056 : (Jvm.Cond.instanceMethod ({ cls := "ScriptTypesModel", name := "isKeyword", desc := "(I)Z" } : Jvm.MethodName)) ∈ lw_all := lw_g (lw_at lw_m16 11 rfl) rfl
theorem q4057 : (Jvm.Cond.code ({ cls := "ScriptTypesModel", name := "isKeyword", desc := "(I)Z" } : Jvm.MethodName) prog_44_method_26_code (2 : Nat) (Option.some Jvm.ClassFile.FieldType.boolean)) ∈ lw_all := lw_g (lw_at lw_m16 12 rfl) rfl
theorem q4058 : (Jvm.Cond.methodLink "ScriptTypesModel" (524 : Nat) ({ cls := "ScriptTypesModel", name := "function", desc := "(Z)I" } : Jvm.MethodName)) ∈ lw_all := lw_g (lw_at lw_m16 13 rfl) rfl
theorem q4059 : (Jvm.Cond.privateMethod ({ cls := "ScriptTypesModel", name := "function", desc := "(Z)I" } : Jvm.MethodName)) ∈ lw_tbl := lw_at lw_m16 14 rfl
theorem q4060 : (Jvm.Cond.instanceMethod ({ cls := "ScriptTypesModel", name := "function", desc := "(Z)I" } : Jvm.MethodName)) ∈ lw_all := lw_g (lw_at lw_m16 15 rfl) rfl
theorem q4061 : (Jvm.Cond.code ({ cls := "ScriptTypesModel", name := "function", desc := "(Z)I" } : Jvm.MethodName) prog_44_method_63_code (10 : Nat) (Option.some Jvm.ClassFile.FieldType.int)) ∈ lw_all := lw_g (lw_at lw_m16 16 rfl) rfl
theorem q4062 : (Jvm.Cond.methodLink "ScriptTypesModel" (450 : Nat) ({ cls := "ScriptTypesModel", name := "open", desc := "(Z)V" } : Jvm.MethodName)) ∈ lw_all := lw_g (lw_at lw_m16 17 rfl) rfl
theorem q4063 : (Jvm.Cond.privateMethod ({ cls := "ScriptTypesModel", name := "open", desc := "(Z)V" } : Jvm.MethodName)) ∈ lw_tbl := lw_at lw_m16 18 rfl
theorem q4064 : (Jvm.Cond.instanceMethod ({ cls := "ScriptTypesModel", name := "open", desc := "(Z)V" } : Jvm.MethodName)) ∈ lw_all := lw_g (lw_at lw_m16 19 rfl) rfl
theorem q4065 : (Jvm.Cond.code ({ cls := "ScriptTypesModel", name := "open", desc := "(Z)V" } : Jvm.MethodName) prog_44_method_29_code (2 : Nat) (Option.none : Option Jvm.ClassFile.FieldType)) ∈ lw_all := lw_g (lw_at lw_m16 20 rfl) rfl
theorem q4066 : (Jvm.Cond.methodLink "ScriptTypesModel" (401 : Nat) ({ cls := "ScriptTypesModel", name := "fail", desc := "(I)Z" } : Jvm.MethodName)) ∈ lw_all := lw_g (lw_at lw_m16 21 rfl) rfl
theorem q4067 : (Jvm.Cond.privateMethod ({ cls := "ScriptTypesModel", name := "fail", desc := "(I)Z" } : Jvm.MethodName)) ∈ lw_tbl := lw_at lw_m16 22 rfl
theorem q4068 : (Jvm.Cond.instanceMethod ({ cls := "ScriptTypesModel", name := "fail", desc := "(I)Z" } : Jvm.MethodName)) ∈ lw_all := lw_g (lw_at lw_m16 23 rfl) rfl
theorem q4069 : (Jvm.Cond.code ({ cls := "ScriptTypesModel", name := "fail", desc := "(I)Z" } : Jvm.MethodName) prog_44_method_24_code (2 : Nat) (Option.some Jvm.ClassFile.FieldType.boolean)) ∈ lw_all := lw_g (lw_at lw_m16 24 rfl) rfl
theorem q4070 : (Jvm.Cond.methodLink "ScriptTypesModel" (536 : Nat) ({ cls := "ScriptTypesModel", name := "takeName", desc := "()I" } : Jvm.MethodName)) ∈ lw_all := lw_g (lw_at lw_m16 25 rfl) rfl
theorem q4071 : (Jvm.Cond.privateMethod ({ cls := "ScriptTypesModel", name := "takeName", desc := "()I" } : Jvm.MethodName)) ∈ lw_tbl := lw_at lw_m16 26 rfl
theorem q4072 : (Jvm.Cond.instanceMethod ({ cls := "ScriptTypesModel", name := "takeName", desc := "()I" } : Jvm.MethodName)) ∈ lw_all := lw_g (lw_at lw_m16 27 rfl) rfl
theorem q4073 : (Jvm.Cond.code ({ cls := "ScriptTypesModel", name := "takeName", desc := "()I" } : Jvm.MethodName) prog_44_method_33_code (1 : Nat) (Option.some Jvm.ClassFile.FieldType.int)) ∈ lw_all := lw_g (lw_at lw_m16 28 rfl) rfl
theorem q4074 : (Jvm.Cond.methodLink "ScriptTypesModel" (418 : Nat) ({ cls := "ScriptTypesModel", name := "nameAt", desc := "(I)I" } : Jvm.MethodName)) ∈ lw_all := lw_g (lw_at lw_m16 29 rfl) rfl
theorem q4075 : (Jvm.Cond.privateMethod ({ cls := "ScriptTypesModel", name := "nameAt", desc := "(I)I" } : Jvm.MethodName)) ∈ lw_tbl := lw_at lw_m16 30 rfl
theorem q4076 : (Jvm.Cond.instanceMethod ({ cls := "ScriptTypesModel", name := "nameAt", desc := "(I)I" } : Jvm.MethodName)) ∈ lw_all := lw_g (lw_at lw_m16 31 rfl) rfl
theorem q4077 : (Jvm.Cond.code ({ cls := "ScriptTypesModel", name := "nameAt", desc := "(I)I" } : Jvm.MethodName) prog_44_method_31_code (4 : Nat) (Option.some Jvm.ClassFile.FieldType.int)) ∈ lw_all := lw_g (lw_at lw_m16 32 rfl) rfl
theorem q4078 : (Jvm.Cond.methodLink "ScriptTypesModel" (410 : Nat) ({ cls := "ScriptTypesModel", name := "putNumber", desc := "(I)V" } : Jvm.MethodName)) ∈ lw_all := lw_g (lw_at lw_m16 33 rfl) rfl
theorem q4079 : (Jvm.Cond.privateMethod ({ cls := "ScriptTypesModel", name := "putNumber", desc := "(I)V" } : Jvm.MethodName)) ∈ lw_tbl := lw_at lw_m16 34 rfl
theorem q4080 : (Jvm.Cond.instanceMethod ({ cls := "ScriptTypesModel", name := "putNumber", desc := "(I)V" } : Jvm.MethodName)) ∈ lw_all := lw_g (lw_at lw_m16 35 rfl) rfl
theorem q4081 : (Jvm.Cond.code ({ cls := "ScriptTypesModel", name := "putNumber", desc := "(I)V" } : Jvm.MethodName) prog_44_method_32_code (6 : Nat) (Option.none : Option Jvm.ClassFile.FieldType)) ∈ lw_all := lw_g (lw_at lw_m16 36 rfl) rfl
theorem q4082 : (Jvm.Cond.constantLong "ScriptTypesModel" (416 : Nat) (9 : Int64)) ∈ lw_all := lw_g (lw_at lw_m16 37 rfl) rfl
theorem q4083 : (Jvm.Cond.methodLink "ScriptTypesModel" (413 : Nat) ({ cls := "ScriptTypesModel", name := "nameOfText", desc := "()I" } : Jvm.MethodName)) ∈ lw_all := lw_g (lw_at lw_m16 38 rfl) rfl
theorem q4084 : (Jvm.Cond.privateMethod ({ cls := "ScriptTypesModel", name := "nameOfText", desc := "()I" } : Jvm.MethodName)) ∈ lw_tbl := lw_at lw_m16 39 rfl
theorem q4085 : (Jvm.Cond.instanceMethod ({ cls := "ScriptTypesModel", name := "nameOfText", desc := "()I" } : Jvm.MethodName)) ∈ lw_all := lw_g (lw_at lw_m16 40 rfl) rfl
theorem q4086 : (Jvm.Cond.code ({ cls := "ScriptTypesModel", name := "nameOfText", desc := "()I" } : Jvm.MethodName) prog_44_method_9_code (2 : Nat) (Option.some Jvm.ClassFile.FieldType.int)) ∈ lw_all := lw_g (lw_at lw_m16 41 rfl) rfl
theorem q4087 : (Jvm.Cond.methodLink "ScriptTypesModel" (302 : Nat) ({ cls := "ScriptTypesModel", name := "findText", desc := "()I" } : Jvm.MethodName)) ∈ lw_all := lw_g (lw_at lw_m16 42 rfl) rfl
theorem q4088 : (Jvm.Cond.privateMethod ({ cls := "ScriptTypesModel", name := "findText", desc := "()I" } : Jvm.MethodName)) ∈ lw_tbl := lw_at lw_m16 43 rfl
theorem q4089 : (Jvm.Cond.instanceMethod ({ cls := "ScriptTypesModel", name := "findText", desc := "()I" } : Jvm.MethodName)) ∈ lw_all := lw_g (lw_at lw_m16 44 rfl) rfl
theorem q4090 : (Jvm.Cond.code ({ cls := "ScriptTypesModel", name := "findText", desc := "()I" } : Jvm.MethodName) prog_44_method_6_code (4 : Nat) (Option.some Jvm.ClassFile.FieldType.int)) ∈ lw_all := lw_g (lw_at lw_m16 45 rfl) rfl
theorem q4091 : (Jvm.Cond.methodLink "ScriptTypesModel" (539 : Nat) ({ cls := "ScriptTypesModel", name := "hold", desc := "(IZ)V" } : Jvm.MethodName)) ∈ lw_all := lw_g (lw_at lw_m16 46 rfl) rfl
theorem q4092 : (Jvm.Cond.privateMethod ({ cls := "ScriptTypesModel", name := "hold", desc := "(IZ)V" } : Jvm.MethodName)) ∈ lw_tbl := lw_at lw_m16 47 rfl
theorem q4093 : (Jvm.Cond.instanceMethod ({ cls := "ScriptTypesModel", name := "hold", desc := "(IZ)V" } : Jvm.MethodName)) ∈ lw_all := lw_g (lw_at lw_m16 48 rfl) rfl
theorem q4094 : (Jvm.Cond.code ({ cls := "ScriptTypesModel", name := "hold", desc := "(IZ)V" } : Jvm.MethodName) prog_44_method_39_code (5 : Nat) (Option.none : Option Jvm.ClassFile.FieldType)) ∈ lw_all := lw_g (lw_at lw_m16 49 rfl) rfl
theorem q4095 : (Jvm.Cond.methodLink "ScriptTypesModel" (543 : Nat) ({ cls := "ScriptTypesModel", name := "readParameters", desc := "(I)V" } : Jvm.MethodName)) ∈ lw_all := lw_g (lw_at lw_m16 50 rfl) rfl
theorem q4096 : (Jvm.Cond.privateMethod ({ cls := "ScriptTypesModel", name := "readParameters", desc := "(I)V" } : Jvm.MethodName)) ∈ lw_tbl := lw_at lw_m16 51 rfl
theorem q4097 : (Jvm.Cond.instanceMethod ({ cls := "ScriptTypesModel", name := "readParameters", desc := "(I)V" } : Jvm.MethodName)) ∈ lw_all := lw_g (lw_at lw_m16 52 rfl) rfl
theorem q4098 : (Jvm.Cond.code ({ cls := "ScriptTypesModel", name := "readParameters", desc := "(I)V" } : Jvm.MethodName) prog_44_method_65_code (6 : Nat) (Option.none : Option Jvm.ClassFile.FieldType)) ∈ lw_all := lw_g (lw_at lw_m16 53 rfl) rfl
theorem q4099 : (Jvm.Cond.methodLink "ScriptTypesModel" (473 : Nat) ({ cls := "ScriptTypesModel", name := "must", desc := "(I)Z" } : Jvm.MethodName)) ∈ lw_all := lw_g (lw_at lw_m16 54 rfl) rfl
theorem q4100 : (Jvm.Cond.privateMethod ({ cls := "ScriptTypesModel", name := "must", desc := "(I)Z" } : Jvm.MethodName)) ∈ lw_tbl := lw_at lw_m16 55 rfl
theorem q4101 : (Jvm.Cond.instanceMethod ({ cls := "ScriptTypesModel", name := "must", desc := "(I)Z" } : Jvm.MethodName)) ∈ lw_all := lw_g (lw_at lw_m16 56 rfl) rfl
theorem q4102 : (Jvm.Cond.code ({ cls := "ScriptTypesModel", name := "must", desc := "(I)Z" } : Jvm.MethodName) prog_44_method_27_code (2 : Nat) (Option.some Jvm.ClassFile.FieldType.boolean)) ∈ lw_all := lw_g (lw_at lw_m16 57 rfl) rfl
theorem q4103 : (Jvm.Cond.methodLink "ScriptTypesModel" (549 : Nat) ({ cls := "ScriptTypesModel", name := "sameTokens", desc := "(II)Z" } : Jvm.MethodName)) ∈ lw_all := lw_g (lw_at lw_m16 58 rfl) rfl
theorem q4104 : (Jvm.Cond.privateMethod ({ cls := "ScriptTypesModel", name := "sameTokens", desc := "(II)Z" } : Jvm.MethodName)) ∈ lw_tbl := lw_at lw_m16 59 rfl
theorem q4105 : (Jvm.Cond.instanceMethod ({ cls := "ScriptTypesModel", name := "sameTokens", desc := "(II)Z" } : Jvm.MethodName)) ∈ lw_all := lw_g (lw_at lw_m16 60 rfl) rfl
theorem q4106 : (Jvm.Cond.code ({ cls := "ScriptTypesModel", name := "sameTokens", desc := "(II)Z" } : Jvm.MethodName) prog_44_method_64_code (5 : Nat) (Option.some Jvm.ClassFile.FieldType.boolean)) ∈ lw_all := lw_g (lw_at lw_m16 61 rfl) rfl
theorem q4107 : (Jvm.Cond.methodLink "ScriptTypesModel" (454 : Nat) ({ cls := "ScriptTypesModel", name := "close", desc := "()V" } : Jvm.MethodName)) ∈ lw_all := lw_g (lw_at lw_m16 62 rfl) rfl
theorem q4108 : (Jvm.Cond.privateMethod ({ cls := "ScriptTypesModel", name := "close", desc := "()V" } : Jvm.MethodName)) ∈ lw_tbl := lw_at lw_m16 63 rfl
theorem q4109 : (Jvm.Cond.instanceMethod ({ cls := "ScriptTypesModel", name := "close", desc := "()V" } : Jvm.MethodName)) ∈ lw_all := lw_g (lw_at lw_m16 64 rfl) rfl
theorem q4110 : (Jvm.Cond.code ({ cls := "ScriptTypesModel", name := "close", desc := "()V" } : Jvm.MethodName) prog_44_method_30_code (1 : Nat) (Option.none : Option Jvm.ClassFile.FieldType)) ∈ lw_all := lw_g (lw_at lw_m16 65 rfl) rfl
theorem q4111 : (Jvm.Cond.methodLink "ScriptTypesModel" (446 : Nat) ({ cls := "ScriptTypesModel", name := "node", desc := "(IIII)I" } : Jvm.MethodName)) ∈ lw_all := lw_g (lw_at lw_m16 66 rfl) rfl
theorem q4112 : (Jvm.Cond.privateMethod ({ cls := "ScriptTypesModel", name := "node", desc := "(IIII)I" } : Jvm.MethodName)) ∈ lw_tbl := lw_at lw_m16 67 rfl
theorem q4113 : (Jvm.Cond.instanceMethod ({ cls := "ScriptTypesModel", name := "node", desc := "(IIII)I" } : Jvm.MethodName)) ∈ lw_all := lw_g (lw_at lw_m16 68 rfl) rfl
theorem q4114 : (Jvm.Cond.code ({ cls := "ScriptTypesModel", name := "node", desc := "(IIII)I" } : Jvm.MethodName) prog_44_method_34_code (6 : Nat) (Option.some Jvm.ClassFile.FieldType.int)) ∈ lw_all := lw_g (lw_at lw_m16 69 rfl) rfl
theorem q4115 : (Jvm.Cond.methodLink "ScriptTypesModel" (553 : Nat) ({ cls := "ScriptTypesModel", name := "statement", desc := "()I" } : Jvm.MethodName)) ∈ lw_all := lw_g (lw_at lw_m16 70 rfl) rfl
theorem q4116 : (Jvm.Cond.privateMethod ({ cls := "ScriptTypesModel", name := "statement", desc := "()I" } : Jvm.MethodName)) ∈ lw_tbl := lw_at lw_m16 71 rfl
theorem q4117 : (Jvm.Cond.instanceMethod ({ cls := "ScriptTypesModel", name := "statement", desc := "()I" } : Jvm.MethodName)) ∈ lw_all := lw_g (lw_at lw_m16 72 rfl) rfl
theorem q4118 : (Jvm.Cond.code ({ cls := "ScriptTypesModel", name := "statement", desc := "()I" } : Jvm.MethodName) prog_44_method_68_code (2 : Nat) (Option.some Jvm.ClassFile.FieldType.int)) ∈ lw_all := lw_g (lw_at lw_m16 73 rfl) rfl
theorem q4119 : (Jvm.Cond.methodLink "ScriptTypesModel" (556 : Nat) ({ cls := "ScriptTypesModel", name := "beginsStatement", desc := "()Z" } : Jvm.MethodName)) ∈ lw_all := lw_g (lw_at lw_m16 74 rfl) rfl
theorem q4120 : (Jvm.Cond.privateMethod ({ cls := "ScriptTypesModel", name := "beginsStatement", desc := "()Z" } : Jvm.MethodName)) ∈ lw_tbl := lw_at lw_m16 75 rfl
theorem q4121 : (Jvm.Cond.instanceMethod ({ cls := "ScriptTypesModel", name := "beginsStatement", desc := "()Z" } : Jvm.MethodName)) ∈ lw_all := lw_g (lw_at lw_m16 76 rfl) rfl
theorem q4122 : (Jvm.Cond.code ({ cls := "ScriptTypesModel", name := "beginsStatement", desc := "()Z" } : Jvm.MethodName) prog_44_method_43_code (2 : Nat) (Option.some Jvm.ClassFile.FieldType.boolean)) ∈ lw_all := lw_g (lw_at lw_m16 77 rfl) rfl
theorem q4123 : (Jvm.Cond.methodLink "ScriptTypesModel" (439 : Nat) ({ cls := "ScriptTypesModel", name := "beginsExpression", desc := "()Z" } : Jvm.MethodName)) ∈ lw_all := lw_g (lw_at lw_m16 78 rfl) rfl
theorem q4124 : (Jvm.Cond.privateMethod ({ cls := "ScriptTypesModel", name := "beginsExpression", desc := "()Z" } : Jvm.MethodName)) ∈ lw_tbl := lw_at lw_m16 79 rfl
theorem q4125 : (Jvm.Cond.instanceMethod ({ cls := "ScriptTypesModel", name := "beginsExpression", desc := "()Z" } : Jvm.MethodName)) ∈ lw_all := lw_g (lw_at lw_m16 80 rfl) rfl
theorem q4126 : (Jvm.Cond.code ({ cls := "ScriptTypesModel", name := "beginsExpression", desc := "()Z" } : Jvm.MethodName) prog_44_method_40_code (1 : Nat) (Option.some Jvm.ClassFile.FieldType.boolean)) ∈ lw_all := lw_g (lw_at lw_m16 81 rfl) rfl
theorem q4127 : (Jvm.Cond.methodLink "ScriptTypesModel" (433 : Nat) ({ cls := "ScriptTypesModel", name := "isPrefix", desc := "()Z" } : Jvm.MethodName)) ∈ lw_all := lw_g (lw_at lw_m16 82 rfl) rfl
theorem q4128 : (Jvm.Cond.privateMethod ({ cls := "ScriptTypesModel", name := "isPrefix", desc := "()Z" } : Jvm.MethodName)) ∈ lw_tbl := lw_at lw_m16 83 rfl
theorem q4129 : (Jvm.Cond.instanceMethod ({ cls := "ScriptTypesModel", name := "isPrefix", desc := "()Z" } : Jvm.MethodName)) ∈ lw_all := lw_g (lw_at lw_m16 84 rfl) rfl
theorem q4130 : (Jvm.Cond.code ({ cls := "ScriptTypesModel", name := "isPrefix", desc := "()Z" } : Jvm.MethodName) prog_44_method_42_code (1 : Nat) (Option.some Jvm.ClassFile.FieldType.boolean)) ∈ lw_all := lw_g (lw_at lw_m16 85 rfl) rfl
theorem q4131 : (Jvm.Cond.methodLink "ScriptTypesModel" (436 : Nat) ({ cls := "ScriptTypesModel", name := "isLiteral", desc := "()Z" } : Jvm.MethodName)) ∈ lw_all := lw_g (lw_at lw_m16 86 rfl) rfl
theorem q4132 : (Jvm.Cond.privateMethod ({ cls := "ScriptTypesModel", name := "isLiteral", desc := "()Z" } : Jvm.MethodName)) ∈ lw_tbl := lw_at lw_m16 87 rfl
theorem q4133 : (Jvm.Cond.instanceMethod ({ cls := "ScriptTypesModel", name := "isLiteral", desc := "()Z" } : Jvm.MethodName)) ∈ lw_all := lw_g (lw_at lw_m16 88 rfl) rfl
theorem q4134 : (Jvm.Cond.code ({ cls := "ScriptTypesModel", name := "isLiteral", desc := "()Z" } : Jvm.MethodName) prog_44_method_41_code (1 : Nat) (Option.some Jvm.ClassFile.FieldType.boolean)) ∈ lw_all := lw_g (lw_at lw_m16 89 rfl) rfl
theorem q4135 : (Jvm.Cond.methodLink "ScriptTypesModel" (559 : Nat) ({ cls := "ScriptTypesModel", name := "statementBody", desc := "()I" } : Jvm.MethodName)) ∈ lw_all := lw_g (lw_at lw_m16 90 rfl) rfl
theorem q4136 : (Jvm.Cond.privateMethod ({ cls := "ScriptTypesModel", name := "statementBody", desc := "()I" } : Jvm.MethodName)) ∈ lw_tbl := lw_at lw_m16 91 rfl
theorem q4137 : (Jvm.Cond.instanceMethod ({ cls := "ScriptTypesModel", name := "statementBody", desc := "()I" } : Jvm.MethodName)) ∈ lw_all := lw_g (lw_at lw_m16 92 rfl) rfl
theorem q4138 : (Jvm.Cond.code ({ cls := "ScriptTypesModel", name := "statementBody", desc := "()I" } : Jvm.MethodName) prog_44_method_69_code (2 : Nat) (Option.some Jvm.ClassFile.FieldType.int)) ∈ lw_all := lw_g (lw_at lw_m16 93 rfl) rfl
theorem q4139 : (Jvm.Cond.methodLink "ScriptTypesModel" (562 : Nat) ({ cls := "ScriptTypesModel", name := "block", desc := "()I" } : Jvm.MethodName)) ∈ lw_all := lw_g (lw_at lw_m16 94 rfl) rfl
theorem q4140 : (Jvm.Cond.privateMethod ({ cls := "ScriptTypesModel", name := "block", desc := "()I" } : Jvm.MethodName)) ∈ lw_tbl := lw_at lw_m16 95 rfl
theorem q4141 : (Jvm.Cond.instanceMethod ({ cls := "ScriptTypesModel", name := "block", desc := "()I" } : Jvm.MethodName)) ∈ lw_all := lw_g (lw_at lw_m16 96 rfl) rfl
theorem q4142 : (Jvm.Cond.code ({ cls := "ScriptTypesModel", name := "block", desc := "()I" } : Jvm.MethodName) prog_44_method_71_code (3 : Nat) (Option.some Jvm.ClassFile.FieldType.int)) ∈ lw_all := lw_g (lw_at lw_m16 97 rfl) rfl
theorem q4143 : (Jvm.Cond.methodLink "ScriptTypesModel" (512 : Nat) ({ cls := "ScriptTypesModel", name := "add", desc := "(I)V" } : Jvm.MethodName)) ∈ lw_all := lw_g (lw_at lw_m16 98 rfl) rfl
theorem q4144 : (Jvm.Cond.privateMethod ({ cls := "ScriptTypesModel", name := "add", desc := "(I)V" } : Jvm.MethodName)) ∈ lw_tbl := lw_at lw_m16 99 rfl
theorem q4145 : (Jvm.Cond.instanceMethod ({ cls := "ScriptTypesModel", name := "add", desc := "(I)V" } : Jvm.MethodName)) ∈ lw_all := lw_g (lw_at lw_m16 100 rfl) rfl
theorem q4146 : (Jvm.Cond.code ({ cls := "ScriptTypesModel", name := "add", desc := "(I)V" } : Jvm.MethodName) prog_44_method_37_code (3 : Nat) (Option.none : Option Jvm.ClassFile.FieldType)) ∈ lw_all := lw_g (lw_at lw_m16 101 rfl) rfl
theorem q4147 : (Jvm.Cond.methodLink "ScriptTypesModel" (515 : Nat) ({ cls := "ScriptTypesModel", name := "ended", desc := "()I" } : Jvm.MethodName)) ∈ lw_all := lw_g (lw_at lw_m16 102 rfl) rfl
theorem q4148 : (Jvm.Cond.privateMethod ({ cls := "ScriptTypesModel", name := "ended", desc := "()I" } : Jvm.MethodName)) ∈ lw_tbl := lw_at lw_m16 103 rfl
theorem q4149 : (Jvm.Cond.instanceMethod ({ cls := "ScriptTypesModel", name := "ended", desc := "()I" } : Jvm.MethodName)) ∈ lw_all := lw_g (lw_at lw_m16 104 rfl) rfl
theorem q4150 : (Jvm.Cond.code ({ cls := "ScriptTypesModel", name := "ended", desc := "()I" } : Jvm.MethodName) prog_44_method_38_code (1 : Nat) (Option.some Jvm.ClassFile.FieldType.int)) ∈ lw_all := lw_g (lw_at lw_m16 105 rfl) rfl
theorem q4151 : (Jvm.Cond.methodLink "ScriptTypesModel" (565 : Nat) ({ cls := "ScriptTypesModel", name := "plain", desc := "()I" } : Jvm.MethodName)) ∈ lw_all := lw_g (lw_at lw_m16 106 rfl) rfl
theorem q4152 : (Jvm.Cond.privateMethod ({ cls := "ScriptTypesModel", name := "plain", desc := "()I" } : Jvm.MethodName)) ∈ lw_tbl := lw_at lw_m16 107 rfl
theorem q4153 : (Jvm.Cond.instanceMethod ({ cls := "ScriptTypesModel", name := "plain", desc := "()I" } : Jvm.MethodName)) ∈ lw_all := lw_g (lw_at lw_m16 108 rfl) rfl
theorem q4154 : (Jvm.Cond.code ({ cls := "ScriptTypesModel", name := "plain", desc := "()I" } : Jvm.MethodName) prog_44_method_70_code (2 : Nat) (Option.some Jvm.ClassFile.FieldType.int)) ∈ lw_all := lw_g (lw_at lw_m16 109 rfl) rfl
theorem q4155 : (Jvm.Cond.methodLink "ScriptTypesModel" (502 : Nat) ({ cls := "ScriptTypesModel", name := "expression", desc := "(Z)I" } : Jvm.MethodName)) ∈ lw_all := lw_g (lw_at lw_m16 110 rfl) rfl
theorem q4156 : (Jvm.Cond.privateMethod ({ cls := "ScriptTypesModel", name := "expression", desc := "(Z)I" } : Jvm.MethodName)) ∈ lw_tbl := lw_at lw_m16 111 rfl
theorem q4157 : (Jvm.Cond.instanceMethod ({ cls := "ScriptTypesModel", name := "expression", desc := "(Z)I" } : Jvm.MethodName)) ∈ lw_all := lw_g (lw_at lw_m16 112 rfl) rfl
theorem q4158 : (Jvm.Cond.code ({ cls := "ScriptTypesModel", name := "expression", desc := "(Z)I" } : Jvm.MethodName) prog_44_method_44_code (3 : Nat) (Option.some Jvm.ClassFile.FieldType.int)) ∈ lw_all := lw_g (lw_at lw_m16 113 rfl) rfl
theorem q4159 : (Jvm.Cond.methodLink "ScriptTypesModel" (442 : Nat) ({ cls := "ScriptTypesModel", name := "assigned", desc := "(Z)I" } : Jvm.MethodName)) ∈ lw_all := lw_g (lw_at lw_m16 114 rfl) rfl
theorem q4160 : (Jvm.Cond.privateMethod ({ cls := "ScriptTypesModel", name := "assigned", desc := "(Z)I" } : Jvm.MethodName)) ∈ lw_tbl := lw_at lw_m16 115 rfl
theorem q4161 : (Jvm.Cond.instanceMethod ({ cls := "ScriptTypesModel", name := "assigned", desc := "(Z)I" } : Jvm.MethodName)) ∈ lw_all := lw_g (lw_at lw_m16 116 rfl) rfl
theorem q4162 : (Jvm.Cond.code ({ cls := "ScriptTypesModel", name := "assigned", desc := "(Z)I" } : Jvm.MethodName) prog_44_method_48_code (4 : Nat) (Option.some Jvm.ClassFile.FieldType.int)) ∈ lw_all := lw_g (lw_at lw_m16 117 rfl) rfl
theorem q4163 : (Jvm.Cond.methodLink "ScriptTypesModel" (457 : Nat) ({ cls := "ScriptTypesModel", name := "conditional", desc := "(Z)I" } : Jvm.MethodName)) ∈ lw_all := lw_g (lw_at lw_m16 118 rfl) rfl
theorem q4164 : (Jvm.Cond.privateMethod ({ cls := "ScriptTypesModel", name := "conditional", desc := "(Z)I" } : Jvm.MethodName)) ∈ lw_tbl := lw_at lw_m16 119 rfl
theorem q4165 : (Jvm.Cond.instanceMethod ({ cls := "ScriptTypesModel", name := "conditional", desc := "(Z)I" } : Jvm.MethodName)) ∈ lw_all := lw_g (lw_at lw_m16 120 rfl) rfl
theorem q4166 : (Jvm.Cond.code ({ cls := "ScriptTypesModel", name := "conditional", desc := "(Z)I" } : Jvm.MethodName) prog_44_method_49_code (4 : Nat) (Option.some Jvm.ClassFile.FieldType.int)) ∈ lw_all := lw_g (lw_at lw_m16 121 rfl) rfl
theorem q4167 : (Jvm.Cond.methodLink "ScriptTypesModel" (469 : Nat) ({ cls := "ScriptTypesModel", name := "binary", desc := "(IZ)I" } : Jvm.MethodName)) ∈ lw_all := lw_g (lw_at lw_m16 122 rfl) rfl
theorem q4168 : (Jvm.Cond.privateMethod ({ cls := "ScriptTypesModel", name := "binary", desc := "(IZ)I" } : Jvm.MethodName)) ∈ lw_tbl := lw_at lw_m16 123 rfl
theorem q4169 : (Jvm.Cond.instanceMethod ({ cls := "ScriptTypesModel", name := "binary", desc := "(IZ)I" } : Jvm.MethodName)) ∈ lw_all := lw_g (lw_at lw_m16 124 rfl) rfl
theorem q4170 : (Jvm.Cond.code ({ cls := "ScriptTypesModel", name := "binary", desc := "(IZ)I" } : Jvm.MethodName) prog_44_method_52_code (7 : Nat) (Option.some Jvm.ClassFile.FieldType.int)) ∈ lw_all := lw_g (lw_at lw_m16 125 rfl) rfl
theorem q4171 : (Jvm.Cond.methodLink "ScriptTypesModel" (476 : Nat) ({ cls := "ScriptTypesModel", name := "unit", desc := "()I" } : Jvm.MethodName)) ∈ lw_all := lw_g (lw_at lw_m16 126 rfl) rfl
theorem q4172 : (Jvm.Cond.privateMethod ({ cls := "ScriptTypesModel", name := "unit", desc := "()I" } : Jvm.MethodName)) ∈ lw_tbl := lw_at lw_m16 127 rfl
theorem q4173 : (Jvm.Cond.instanceMethod ({ cls := "ScriptTypesModel", name := "unit", desc := "()I" } : Jvm.MethodName)) ∈ lw_all := lw_g (lw_at lw_m16 128 rfl) rfl
theorem q4174 : (Jvm.Cond.code ({ cls := "ScriptTypesModel", name := "unit", desc := "()I" } : Jvm.MethodName) prog_44_method_53_code (6 : Nat) (Option.some Jvm.ClassFile.FieldType.int)) ∈ lw_all := lw_g (lw_at lw_m16 129 rfl) rfl
theorem q4175 : (Jvm.Cond.methodLink "ScriptTypesModel" (485 : Nat) ({ cls := "ScriptTypesModel", name := "postfix", desc := "()I" } : Jvm.MethodName)) ∈ lw_all := lw_g (lw_at lw_m16 130 rfl) rfl
theorem q4176 : (Jvm.Cond.privateMethod ({ cls := "ScriptTypesModel", name := "postfix", desc := "()I" } : Jvm.MethodName)) ∈ lw_tbl := lw_at lw_m16 131 rfl
theorem q4177 : (Jvm.Cond.instanceMethod ({ cls := "ScriptTypesModel", name := "postfix", desc := "()I" } : Jvm.MethodName)) ∈ lw_all := lw_g (lw_at lw_m16 132 rfl) rfl
theorem q4178 : (Jvm.Cond.code ({ cls := "ScriptTypesModel", name := "postfix", desc := "()I" } : Jvm.MethodName) prog_44_method_54_code (2 : Nat) (Option.some Jvm.ClassFile.FieldType.int)) ∈ lw_all := lw_g (lw_at lw_m16 133 rfl) rfl
theorem q4179 : (Jvm.Cond.methodLink "ScriptTypesModel" (488 : Nat) ({ cls := "ScriptTypesModel", name := "left", desc := "()I" } : Jvm.MethodName)) ∈ lw_all := lw_g (lw_at lw_m16 134 rfl) rfl
theorem q4180 : (Jvm.Cond.privateMethod ({ cls := "ScriptTypesModel", name := "left", desc := "()I" } : Jvm.MethodName)) ∈ lw_tbl := lw_at lw_m16 135 rfl
theorem q4181 : (Jvm.Cond.instanceMethod ({ cls := "ScriptTypesModel", name := "left", desc := "()I" } : Jvm.MethodName)) ∈ lw_all := lw_g (lw_at lw_m16 136 rfl) rfl
theorem q4182 : (Jvm.Cond.code ({ cls := "ScriptTypesModel", name := "left", desc := "()I" } : Jvm.MethodName) prog_44_method_55_code (2 : Nat) (Option.some Jvm.ClassFile.FieldType.int)) ∈ lw_all := lw_g (lw_at lw_m16 137 rfl) rfl
theorem q4183 : (Jvm.Cond.methodLink "ScriptTypesModel" (490 : Nat) ({ cls := "ScriptTypesModel", name := "fresh", desc := "()I" } : Jvm.MethodName)) ∈ lw_all := lw_g (lw_at lw_m16 138 rfl) rfl
theorem q4184 : (Jvm.Cond.privateMethod ({ cls := "ScriptTypesModel", name := "fresh", desc := "()I" } : Jvm.MethodName)) ∈ lw_tbl := lw_at lw_m16 139 rfl
theorem q4185 : (Jvm.Cond.instanceMethod ({ cls := "ScriptTypesModel", name := "fresh", desc := "()I" } : Jvm.MethodName)) ∈ lw_all := lw_g (lw_at lw_m16 140 rfl) rfl
theorem q4186 : (Jvm.Cond.code ({ cls := "ScriptTypesModel", name := "fresh", desc := "()I" } : Jvm.MethodName) prog_44_method_56_code (3 : Nat) (Option.some Jvm.ClassFile.FieldType.int)) ∈ lw_all := lw_g (lw_at lw_m16 141 rfl) rfl
theorem q4187 : (Jvm.Cond.methodLink "ScriptTypesModel" (493 : Nat) ({ cls := "ScriptTypesModel", name := "primary", desc := "()I" } : Jvm.MethodName)) ∈ lw_all := lw_g (lw_at lw_m16 142 rfl) rfl
theorem q4188 : (Jvm.Cond.privateMethod ({ cls := "ScriptTypesModel", name := "primary", desc := "()I" } : Jvm.MethodName)) ∈ lw_tbl := lw_at lw_m16 143 rfl
theorem q4189 : (Jvm.Cond.instanceMethod ({ cls := "ScriptTypesModel", name := "primary", desc := "()I" } : Jvm.MethodName)) ∈ lw_all := lw_g (lw_at lw_m16 144 rfl) rfl
theorem q4190 : (Jvm.Cond.code ({ cls := "ScriptTypesModel", name := "primary", desc := "()I" } : Jvm.MethodName) prog_44_method_60_code (4 : Nat) (Option.some Jvm.ClassFile.FieldType.int)) ∈ lw_all := lw_g (lw_at lw_m16 145 rfl) rfl
theorem q4191 : (Jvm.Cond.methodLink "ScriptTypesModel" (518 : Nat) ({ cls := "ScriptTypesModel", name := "bracketed", desc := "()I" } : Jvm.MethodName)) ∈ lw_all := lw_g (lw_at lw_m16 146 rfl) rfl
theorem q4192 : (Jvm.Cond.privateMethod ({ cls := "ScriptTypesModel", name := "bracketed", desc := "()I" } : Jvm.MethodName)) ∈ lw_tbl := lw_at lw_m16 147 rfl
theorem q4193 : (Jvm.Cond.instanceMethod ({ cls := "ScriptTypesModel", name := "bracketed", desc := "()I" } : Jvm.MethodName)) ∈ lw_all := lw_g (lw_at lw_m16 148 rfl) rfl
theorem q4194 : (Jvm.Cond.code ({ cls := "ScriptTypesModel", name := "bracketed", desc := "()I" } : Jvm.MethodName) prog_44_method_61_code (2 : Nat) (Option.some Jvm.ClassFile.FieldType.int)) ∈ lw_all := lw_g (lw_at lw_m16 149 rfl) rfl
theorem q4195 : (Jvm.Cond.methodLink "ScriptTypesModel" (505 : Nat) ({ cls := "ScriptTypesModel", name := "items", desc := "(III)I" } : Jvm.MethodName)) ∈ lw_all := lw_g (lw_at lw_m16 150 rfl) rfl
theorem q4196 : (Jvm.Cond.privateMethod ({ cls := "ScriptTypesModel", name := "items", desc := "(III)I" } : Jvm.MethodName)) ∈ lw_tbl := lw_at lw_m16 151 rfl
theorem q4197 : (Jvm.Cond.instanceMethod ({ cls := "ScriptTypesModel", name := "items", desc := "(III)I" } : Jvm.MethodName)) ∈ lw_all := lw_g (lw_at lw_m16 152 rfl) rfl
theorem q4198 : (Jvm.Cond.code ({ cls := "ScriptTypesModel", name := "items", desc := "(III)I" } : Jvm.MethodName) prog_44_method_59_code (7 : Nat) (Option.some Jvm.ClassFile.FieldType.int)) ∈ lw_all := lw_g (lw_at lw_m16 153 rfl) rfl
theorem q4199 : (Jvm.Cond.methodLink "ScriptTypesModel" (521 : Nat) ({ cls := "ScriptTypesModel", name := "pairs", desc := "()I" } : Jvm.MethodName)) ∈ lw_all := lw_g (lw_at lw_m16 154 rfl) rfl
theorem q4200 : (Jvm.Cond.privateMethod ({ cls := "ScriptTypesModel", name := "pairs", desc := "()I" } : Jvm.MethodName)) ∈ lw_tbl := lw_at lw_m16 155 rfl
theorem q4201 : (Jvm.Cond.instanceMethod ({ cls := "ScriptTypesModel", name := "pairs", desc := "()I" } : Jvm.MethodName)) ∈ lw_all := lw_g (lw_at lw_m16 156 rfl) rfl
theorem q4202 : (Jvm.Cond.code ({ cls := "ScriptTypesModel", name := "pairs", desc := "()I" } : Jvm.MethodName) prog_44_method_62_code (6 : Nat) (Option.some Jvm.ClassFile.FieldType.int)) ∈ lw_all := lw_g (lw_at lw_m16 157 rfl) rfl
theorem q4203 : (Jvm.Cond.methodLink "ScriptTypesModel" (499 : Nat) ({ cls := "ScriptTypesModel", name := "member", desc := "(I)I" } : Jvm.MethodName)) ∈ lw_all := lw_g (lw_at lw_m16 158 rfl) rfl
theorem q4204 : (Jvm.Cond.privateMethod ({ cls := "ScriptTypesModel", name := "member", desc := "(I)I" } : Jvm.MethodName)) ∈ lw_tbl := lw_at lw_m16 159 rfl
theorem q4205 : (Jvm.Cond.instanceMethod ({ cls := "ScriptTypesModel", name := "member", desc := "(I)I" } : Jvm.MethodName)) ∈ lw_all := lw_g (lw_at lw_m16 160 rfl) rfl
theorem q4206 : (Jvm.Cond.code ({ cls := "ScriptTypesModel", name := "member", desc := "(I)I" } : Jvm.MethodName) prog_44_method_57_code (3 : Nat) (Option.some Jvm.ClassFile.FieldType.int)) ∈ lw_all := lw_g (lw_at lw_m16 161 rfl) rfl
theorem q4207 : (Jvm.Cond.methodLink "ScriptTypesModel" (496 : Nat) ({ cls := "ScriptTypesModel", name := "arguments", desc := "()I" } : Jvm.MethodName)) ∈ lw_all := lw_g (lw_at lw_m16 162 rfl) rfl
theorem q4208 : (Jvm.Cond.privateMethod ({ cls := "ScriptTypesModel", name := "arguments", desc := "()I" } : Jvm.MethodName)) ∈ lw_tbl := lw_at lw_m16 163 rfl
theorem q4209 : (Jvm.Cond.instanceMethod ({ cls := "ScriptTypesModel", name := "arguments", desc := "()I" } : Jvm.MethodName)) ∈ lw_all := lw_g (lw_at lw_m16 164 rfl) rfl
theorem q4210 : (Jvm.Cond.code ({ cls := "ScriptTypesModel", name := "arguments", desc := "()I" } : Jvm.MethodName) prog_44_method_58_code (1 : Nat) (Option.some Jvm.ClassFile.FieldType.int)) ∈ lw_all := lw_g (lw_at lw_m16 165 rfl) rfl
theorem q4211 : (Jvm.Cond.methodLink "ScriptTypesModel" (463 : Nat) ({ cls := "ScriptTypesModel", name := "isTarget", desc := "(I)Z" } : Jvm.MethodName)) ∈ lw_all := lw_g (lw_at lw_m16 166 rfl) rfl
theorem q4212 : (Jvm.Cond.privateMethod ({ cls := "ScriptTypesModel", name := "isTarget", desc := "(I)Z" } : Jvm.MethodName)) ∈ lw_tbl := lw_at lw_m16 167 rfl
theorem q4213 : (Jvm.Cond.instanceMethod ({ cls := "ScriptTypesModel", name := "isTarget", desc := "(I)Z" } : Jvm.MethodName)) ∈ lw_all := lw_g (lw_at lw_m16 168 rfl) rfl
theorem q4214 : (Jvm.Cond.code ({ cls := "ScriptTypesModel", name := "isTarget", desc := "(I)Z" } : Jvm.MethodName) prog_44_method_45_code (2 : Nat) (Option.some Jvm.ClassFile.FieldType.boolean)) ∈ lw_all := lw_g (lw_at lw_m16 169 rfl) rfl
theorem q4215 : (Jvm.Cond.methodLink "ScriptTypesModel" (479 : Nat) ({ cls := "ScriptTypesModel", name := "bindsOf", desc := "(Z)I" } : Jvm.MethodName)) ∈ lw_all := lw_g (lw_at lw_m16 170 rfl) rfl
theorem q4216 : (Jvm.Cond.privateMethod ({ cls := "ScriptTypesModel", name := "bindsOf", desc := "(Z)I" } : Jvm.MethodName)) ∈ lw_tbl := lw_at lw_m16 171 rfl
theorem q4217 : (Jvm.Cond.instanceMethod ({ cls := "ScriptTypesModel", name := "bindsOf", desc := "(Z)I" } : Jvm.MethodName)) ∈ lw_all := lw_g (lw_at lw_m16 172 rfl) rfl
theorem q4218 : (Jvm.Cond.code ({ cls := "ScriptTypesModel", name := "bindsOf", desc := "(Z)I" } : Jvm.MethodName) prog_44_method_50_code (2 : Nat) (Option.some Jvm.ClassFile.FieldType.int)) ∈ lw_all := lw_g (lw_at lw_m16 173 rfl) rfl
theorem q4219 : (Jvm.Cond.methodLink "ScriptTypesModel" (482 : Nat) ({ cls := "ScriptTypesModel", name := "binaryOf", desc := "()I" } : Jvm.MethodName)) ∈ lw_all := lw_g (lw_at lw_m16 174 rfl) rfl
theorem q4220 : (Jvm.Cond.privateMethod ({ cls := "ScriptTypesModel", name := "binaryOf", desc := "()I" } : Jvm.MethodName)) ∈ lw_tbl := lw_at lw_m16 175 rfl
theorem q4221 : (Jvm.Cond.instanceMethod ({ cls := "ScriptTypesModel", name := "binaryOf", desc := "()I" } : Jvm.MethodName)) ∈ lw_all := lw_g (lw_at lw_m16 176 rfl) rfl
theorem q4222 : (Jvm.Cond.code ({ cls := "ScriptTypesModel", name := "binaryOf", desc := "()I" } : Jvm.MethodName) prog_44_method_51_code (1 : Nat) (Option.some Jvm.ClassFile.FieldType.int)) ∈ lw_all := lw_g (lw_at lw_m16 177 rfl) rfl
theorem q4223 : (Jvm.Cond.methodLink "ScriptTypesModel" (466 : Nat) ({ cls := "ScriptTypesModel", name := "opened", desc := "(Z)I" } : Jvm.MethodName)) ∈ lw_all := lw_g (lw_at lw_m16 178 rfl) rfl
theorem q4224 : (Jvm.Cond.privateMethod ({ cls := "ScriptTypesModel", name := "opened", desc := "(Z)I" } : Jvm.MethodName)) ∈ lw_tbl := lw_at lw_m16 179 rfl
theorem q4225 : (Jvm.Cond.instanceMethod ({ cls := "ScriptTypesModel", name := "opened", desc := "(Z)I" } : Jvm.MethodName)) ∈ lw_all := lw_g (lw_at lw_m16 180 rfl) rfl
theorem q4226 : (Jvm.Cond.code ({ cls := "ScriptTypesModel", name := "opened", desc := "(Z)I" } : Jvm.MethodName) prog_44_method_47_code (3 : Nat) (Option.some Jvm.ClassFile.FieldType.int)) ∈ lw_all := lw_g (lw_at lw_m16 181 rfl) rfl
theorem q4227 : (Jvm.Cond.methodLink "ScriptTypesModel" (460 : Nat) ({ cls := "ScriptTypesModel", name := "settingOf", desc := "()I" } : Jvm.MethodName)) ∈ lw_all := lw_g (lw_at lw_m16 182 rfl) rfl
theorem q4228 : (Jvm.Cond.privateMethod ({ cls := "ScriptTypesModel", name := "settingOf", desc := "()I" } : Jvm.MethodName)) ∈ lw_tbl := lw_at lw_m16 183 rfl
theorem q4229 : (Jvm.Cond.instanceMethod ({ cls := "ScriptTypesModel", name := "settingOf", desc := "()I" } : Jvm.MethodName)) ∈ lw_all := lw_g (lw_at lw_m16 184 rfl) rfl
theorem q4230 : (Jvm.Cond.code ({ cls := "ScriptTypesModel", name := "settingOf", desc := "()I" } : Jvm.MethodName) prog_44_method_46_code (1 : Nat) (Option.some Jvm.ClassFile.FieldType.int)) ∈ lw_all := lw_g (lw_at lw_m16 185 rfl) rfl
theorem q4231 : (Jvm.Cond.methodLink "ScriptTypesModel" (571 : Nat) ({ cls := "ScriptTypesModel", name := "endOfStatement", desc := "()V" } : Jvm.MethodName)) ∈ lw_all := lw_g (lw_at lw_m16 186 rfl) rfl
theorem q4232 : (Jvm.Cond.privateMethod ({ cls := "ScriptTypesModel", name := "endOfStatement", desc := "()V" } : Jvm.MethodName)) ∈ lw_tbl := lw_at lw_m16 187 rfl
theorem q4233 : (Jvm.Cond.instanceMethod ({ cls := "ScriptTypesModel", name := "endOfStatement", desc := "()V" } : Jvm.MethodName)) ∈ lw_all := lw_g (lw_at lw_m16 188 rfl) rfl
theorem q4234 : (Jvm.Cond.code ({ cls := "ScriptTypesModel", name := "endOfStatement", desc := "()V" } : Jvm.MethodName) prog_44_method_67_code (1 : Nat) (Option.none : Option Jvm.ClassFile.FieldType)) ∈ lw_all := lw_g (lw_at lw_m16 189 rfl) rfl
theorem q4235 : (Jvm.Cond.methodLink "ScriptTypesModel" (568 : Nat) ({ cls := "ScriptTypesModel", name := "declarations", desc := "(Z)I" } : Jvm.MethodName)) ∈ lw_all := lw_g (lw_at lw_m16 190 rfl) rfl
theorem q4236 : (Jvm.Cond.privateMethod ({ cls := "ScriptTypesModel", name := "declarations", desc := "(Z)I" } : Jvm.MethodName)) ∈ lw_tbl := lw_at lw_m16 191 rfl
theorem q4237 : (Jvm.Cond.instanceMethod ({ cls := "ScriptTypesModel", name := "declarations", desc := "(Z)I" } : Jvm.MethodName)) ∈ lw_all := lw_g (lw_at lw_m16 192 rfl) rfl
theorem q4238 : (Jvm.Cond.code ({ cls := "ScriptTypesModel", name := "declarations", desc := "(Z)I" } : Jvm.MethodName) prog_44_method_72_code (5 : Nat) (Option.some Jvm.ClassFile.FieldType.int)) ∈ lw_all := lw_g (lw_at lw_m16 193 rfl) rfl
theorem q4239 : (Jvm.Cond.methodLink "ScriptTypesModel" (574 : Nat) ({ cls := "ScriptTypesModel", name := "whether", desc := "()I" } : Jvm.MethodName)) ∈ lw_all := lw_g (lw_at lw_m16 194 rfl) rfl
theorem q4240 : (Jvm.Cond.privateMethod ({ cls := "ScriptTypesModel", name := "whether", desc := "()I" } : Jvm.MethodName)) ∈ lw_tbl := lw_at lw_m16 195 rfl
theorem q4241 : (Jvm.Cond.instanceMethod ({ cls := "ScriptTypesModel", name := "whether", desc := "()I" } : Jvm.MethodName)) ∈ lw_all := lw_g (lw_at lw_m16 196 rfl) rfl
theorem q4242 : (Jvm.Cond.code ({ cls := "ScriptTypesModel", name := "whether", desc := "()I" } : Jvm.MethodName) prog_44_method_75_code (4 : Nat) (Option.some Jvm.ClassFile.FieldType.int)) ∈ lw_all := lw_g (lw_at lw_m16 197 rfl) rfl
theorem q4243 : (Jvm.Cond.methodLink "ScriptTypesModel" (577 : Nat) ({ cls := "ScriptTypesModel", name := "condition", desc := "()I" } : Jvm.MethodName)) ∈ lw_all := lw_g (lw_at lw_m16 198 rfl) rfl
theorem q4244 : (Jvm.Cond.privateMethod ({ cls := "ScriptTypesModel", name := "condition", desc := "()I" } : Jvm.MethodName)) ∈ lw_tbl := lw_at lw_m16 199 rfl
theorem q4245 : (Jvm.Cond.instanceMethod ({ cls := "ScriptTypesModel", name := "condition", desc := "()I" } : Jvm.MethodName)) ∈ lw_all := lw_g (lw_at lw_m16 200 rfl) rfl
theorem q4246 : (Jvm.Cond.code ({ cls := "ScriptTypesModel", name := "condition", desc := "()I" } : Jvm.MethodName) prog_44_method_73_code (2 : Nat) (Option.some Jvm.ClassFile.FieldType.int)) ∈ lw_all := lw_g (lw_at lw_m16 201 rfl) rfl
theorem q4247 : (Jvm.Cond.methodLink "ScriptTypesModel" (580 : Nat) ({ cls := "ScriptTypesModel", name := "looped", desc := "()I" } : Jvm.MethodName)) ∈ lw_all := lw_g (lw_at lw_m16 202 rfl) rfl
theorem q4248 : (Jvm.Cond.privateMethod ({ cls := "ScriptTypesModel", name := "looped", desc := "()I" } : Jvm.MethodName)) ∈ lw_tbl := lw_at lw_m16 203 rfl
theorem q4249 : (Jvm.Cond.instanceMethod ({ cls := "ScriptTypesModel", name := "looped", desc := "()I" } : Jvm.MethodName)) ∈ lw_all := lw_g (lw_at lw_m16 204 rfl) rfl
theorem q4250 : (Jvm.Cond.code ({ cls := "ScriptTypesModel", name := "looped", desc := "()I" } : Jvm.MethodName) prog_44_method_74_code (2 : Nat) (Option.some Jvm.ClassFile.FieldType.int)) ∈ lw_all := lw_g (lw_at lw_m16 205 rfl) rfl
theorem q4251 : (Jvm.Cond.methodLink "ScriptTypesModel" (583 : Nat) ({ cls := "ScriptTypesModel", name := "until", desc := "()I" } : Jvm.MethodName)) ∈ lw_all := lw_g (lw_at lw_m16 206 rfl) rfl
theorem q4252 : (Jvm.Cond.privateMethod ({ cls := "ScriptTypesModel", name := "until", desc := "()I" } : Jvm.MethodName)) ∈ lw_tbl := lw_at lw_m16 207 rfl
theorem q4253 : (Jvm.Cond.instanceMethod ({ cls := "ScriptTypesModel", name := "until", desc := "()I" } : Jvm.MethodName)) ∈ lw_all := lw_g (lw_at lw_m16 208 rfl) rfl
theorem q4254 : (Jvm.Cond.code ({ cls := "ScriptTypesModel", name := "until", desc := "()I" } : Jvm.MethodName) prog_44_method_76_code (4 : Nat) (Option.some Jvm.ClassFile.FieldType.int)) ∈ lw_all := lw_g (lw_at lw_m16 209 rfl) rfl
theorem q4255 : (Jvm.Cond.methodLink "ScriptTypesModel" (600 : Nat) ({ cls := "ScriptTypesModel", name := "mustWord", desc := "(I)Z" } : Jvm.MethodName)) ∈ lw_all := lw_g (lw_at lw_m16 210 rfl) rfl
theorem q4256 : (Jvm.Cond.privateMethod ({ cls := "ScriptTypesModel", name := "mustWord", desc := "(I)Z" } : Jvm.MethodName)) ∈ lw_tbl := lw_at lw_m16 211 rfl
theorem q4257 : (Jvm.Cond.instanceMethod ({ cls := "ScriptTypesModel", name := "mustWord", desc := "(I)Z" } : Jvm.MethodName)) ∈ lw_all := lw_g (lw_at lw_m16 212 rfl) rfl
theorem q4258 : (Jvm.Cond.code ({ cls := "ScriptTypesModel", name := "mustWord", desc := "(I)Z" } : Jvm.MethodName) prog_44_method_28_code (2 : Nat) (Option.some Jvm.ClassFile.FieldType.boolean)) ∈ lw_all := lw_g (lw_at lw_m16 213 rfl) rfl
theorem q4259 : (Jvm.Cond.methodLink "ScriptTypesModel" (585 : Nat) ({ cls := "ScriptTypesModel", name := "counted", desc := "()I" } : Jvm.MethodName)) ∈ lw_all := lw_g (lw_at lw_m16 214 rfl) rfl
theorem q4260 : (Jvm.Cond.privateMethod ({ cls := "ScriptTypesModel", name := "counted", desc := "()I" } : Jvm.MethodName)) ∈ lw_tbl := lw_at lw_m16 215 rfl
theorem q4261 : (Jvm.Cond.instanceMethod ({ cls := "ScriptTypesModel", name := "counted", desc := "()I" } : Jvm.MethodName)) ∈ lw_all := lw_g (lw_at lw_m16 216 rfl) rfl
theorem q4262 : (Jvm.Cond.code ({ cls := "ScriptTypesModel", name := "counted", desc := "()I" } : Jvm.MethodName) prog_44_method_77_code (8 : Nat) (Option.some Jvm.ClassFile.FieldType.int)) ∈ lw_all := lw_g (lw_at lw_m16 217 rfl) rfl
theorem q4263 : (Jvm.Cond.methodLink "ScriptTypesModel" (603 : Nat) ({ cls := "ScriptTypesModel", name := "each", desc := "(Z)I" } : Jvm.MethodName)) ∈ lw_all := lw_g (lw_at lw_m16 218 rfl) rfl
theorem q4264 : (Jvm.Cond.privateMethod ({ cls := "ScriptTypesModel", name := "each", desc := "(Z)I" } : Jvm.MethodName)) ∈ lw_tbl := lw_at lw_m16 219 rfl
theorem q4265 : (Jvm.Cond.instanceMethod ({ cls := "ScriptTypesModel", name := "each", desc := "(Z)I" } : Jvm.MethodName)) ∈ lw_all := lw_g (lw_at lw_m16 220 rfl) rfl
theorem q4266 : (Jvm.Cond.code ({ cls := "ScriptTypesModel", name := "each", desc := "(Z)I" } : Jvm.MethodName) prog_44_method_78_code (4 : Nat) (Option.some Jvm.ClassFile.FieldType.int)) ∈ lw_all := lw_g (lw_at lw_m16 221 rfl) rfl
theorem q4267 : (Jvm.Cond.methodLink "ScriptTypesModel" (588 : Nat) ({ cls := "ScriptTypesModel", name := "back", desc := "()I" } : Jvm.MethodName)) ∈ lw_all := lw_g (lw_at lw_m16 222 rfl) rfl
theorem q4268 : (Jvm.Cond.privateMethod ({ cls := "ScriptTypesModel", name := "back", desc := "()I" } : Jvm.MethodName)) ∈ lw_tbl := lw_at lw_m16 223 rfl
theorem q4269 : (Jvm.Cond.instanceMethod ({ cls := "ScriptTypesModel", name := "back", desc := "()I" } : Jvm.MethodName)) ∈ lw_all := lw_g (lw_at lw_m16 224 rfl) rfl
theorem q4270 : (Jvm.Cond.code ({ cls := "ScriptTypesModel", name := "back", desc := "()I" } : Jvm.MethodName) prog_44_method_79_code (3 : Nat) (Option.some Jvm.ClassFile.FieldType.int)) ∈ lw_all := lw_g (lw_at lw_m16 225 rfl) rfl
theorem q4271 : (Jvm.Cond.methodLink "ScriptTypesModel" (591 : Nat) ({ cls := "ScriptTypesModel", name := "toss", desc := "()I" } : Jvm.MethodName)) ∈ lw_all := lw_g (lw_at lw_m16 226 rfl) rfl
theorem q4272 : (Jvm.Cond.privateMethod ({ cls := "ScriptTypesModel", name := "toss", desc := "()I" } : Jvm.MethodName)) ∈ lw_tbl := lw_at lw_m16 227 rfl
theorem q4273 : (Jvm.Cond.instanceMethod ({ cls := "ScriptTypesModel", name := "toss", desc := "()I" } : Jvm.MethodName)) ∈ lw_all := lw_g (lw_at lw_m16 228 rfl) rfl
theorem q4274 : (Jvm.Cond.code ({ cls := "ScriptTypesModel", name := "toss", desc := "()I" } : Jvm.MethodName) prog_44_method_80_code (2 : Nat) (Option.some Jvm.ClassFile.FieldType.int)) ∈ lw_all := lw_g (lw_at lw_m16 229 rfl) rfl
theorem q4275 : (Jvm.Cond.methodLink "ScriptTypesModel" (594 : Nat) ({ cls := "ScriptTypesModel", name := "attempt", desc := "()I" } : Jvm.MethodName)) ∈ lw_all := lw_g (lw_at lw_m16 230 rfl) rfl
theorem q4276 : (Jvm.Cond.privateMethod ({ cls := "ScriptTypesModel", name := "attempt", desc := "()I" } : Jvm.MethodName)) ∈ lw_tbl := lw_at lw_m16 231 rfl
theorem q4277 : (Jvm.Cond.instanceMethod ({ cls := "ScriptTypesModel", name := "attempt", desc := "()I" } : Jvm.MethodName)) ∈ lw_all := lw_g (lw_at lw_m16 232 rfl) rfl
theorem q4278 : (Jvm.Cond.code ({ cls := "ScriptTypesModel", name := "attempt", desc := "()I" } : Jvm.MethodName) prog_44_method_81_code (7 : Nat) (Option.some Jvm.ClassFile.FieldType.int)) ∈ lw_all := lw_g (lw_at lw_m16 233 rfl) rfl
theorem q4279 : (Jvm.Cond.methodLink "ScriptTypesModel" (597 : Nat) ({ cls := "ScriptTypesModel", name := "cases", desc := "()I" } : Jvm.MethodName)) ∈ lw_all := lw_g (lw_at lw_m16 234 rfl) rfl
theorem q4280 : (Jvm.Cond.privateMethod ({ cls := "ScriptTypesModel", name := "cases", desc := "()I" } : Jvm.MethodName)) ∈ lw_tbl := lw_at lw_m16 235 rfl
theorem q4281 : (Jvm.Cond.instanceMethod ({ cls := "ScriptTypesModel", name := "cases", desc := "()I" } : Jvm.MethodName)) ∈ lw_all := lw_g (lw_at lw_m16 236 rfl) rfl
theorem q4282 : (Jvm.Cond.code ({ cls := "ScriptTypesModel", name := "cases", desc := "()I" } : Jvm.MethodName) prog_44_method_82_code (10 : Nat) (Option.some Jvm.ClassFile.FieldType.int)) ∈ lw_all := lw_g (lw_at lw_m16 237 rfl) rfl
theorem q4283 : (Jvm.Cond.methodLink "ScriptTypesModel" (785 : Nat) ({ cls := "ScriptTypesModel", name := "compile", desc := "()Z" } : Jvm.MethodName)) ∈ lw_all := lw_g (lw_at lw_m16 238 rfl) rfl
theorem q4284 : (Jvm.Cond.privateMethod ({ cls := "ScriptTypesModel", name := "compile", desc := "()Z" } : Jvm.MethodName)) ∈ lw_tbl := lw_at lw_m16 239 rfl
theorem q4285 : (Jvm.Cond.instanceMethod ({ cls := "ScriptTypesModel", name := "compile", desc := "()Z" } : Jvm.MethodName)) ∈ lw_all := lw_g (lw_at lw_m17 0 rfl) rfl
theorem q4286 : (Jvm.Cond.code ({ cls := "ScriptTypesModel", name := "compile", desc := "()Z" } : Jvm.MethodName) prog_44_method_121_code (3 : Nat) (Option.some Jvm.ClassFile.FieldType.boolean)) ∈ lw_all := lw_g (lw_at lw_m17 1 rfl) rfl
theorem q4287 : (Jvm.Cond.methodLink "ScriptTypesModel" (753 : Nat) ({ cls := "ScriptTypesModel", name := "findVariables", desc := "(I)V" } : Jvm.MethodName)) ∈ lw_all := lw_g (lw_at lw_m17 2 rfl) rfl
theorem q4288 : (Jvm.Cond.privateMethod ({ cls := "ScriptTypesModel", name := "findVariables", desc := "(I)V" } : Jvm.MethodName)) ∈ lw_tbl := lw_at lw_m17 3 rfl
theorem q4289 : (Jvm.Cond.instanceMethod ({ cls := "ScriptTypesModel", name := "findVariables", desc := "(I)V" } : Jvm.MethodName)) ∈ lw_all := lw_g (lw_at lw_m17 4 rfl) rfl
theorem q4290 : (Jvm.Cond.code ({ cls := "ScriptTypesModel", name := "findVariables", desc := "(I)V" } : Jvm.MethodName) prog_44_method_118_code (3 : Nat) (Option.none : Option Jvm.ClassFile.FieldType)) ∈ lw_all := lw_g (lw_at lw_m17 5 rfl) rfl
theorem q4291 : (Jvm.Cond.methodLink "ScriptTypesModel" (750 : Nat) ({ cls := "ScriptTypesModel", name := "addVariable", desc := "(II)V" } : Jvm.MethodName)) ∈ lw_all := lw_g (lw_at lw_m17 6 rfl) rfl
theorem q4292 : (Jvm.Cond.privateMethod ({ cls := "ScriptTypesModel", name := "addVariable", desc := "(II)V" } : Jvm.MethodName)) ∈ lw_tbl := lw_at lw_m17 7 rfl
theorem q4293 : (Jvm.Cond.instanceMethod ({ cls := "ScriptTypesModel", name := "addVariable", desc := "(II)V" } : Jvm.MethodName)) ∈ lw_all := lw_g (lw_at lw_m17 8 rfl) rfl
theorem q4294 : (Jvm.Cond.code ({ cls := "ScriptTypesModel", name := "addVariable", desc := "(II)V" } : Jvm.MethodName) prog_44_method_119_code (3 : Nat) (Option.none : Option Jvm.ClassFile.FieldType)) ∈ lw_all := lw_g (lw_at lw_m17 9 rfl) rfl
theorem q4295 : (Jvm.Cond.methodLink "ScriptTypesModel" (622 : Nat) ({ cls := "ScriptTypesModel", name := "isVariable", desc := "(II)Z" } : Jvm.MethodName)) ∈ lw_all := lw_g (lw_at lw_m17 10 rfl) rfl
theorem q4296 : (Jvm.Cond.privateMethod ({ cls := "ScriptTypesModel", name := "isVariable", desc := "(II)Z" } : Jvm.MethodName)) ∈ lw_tbl := lw_at lw_m17 11 rfl
theorem q4297 : (Jvm.Cond.instanceMethod ({ cls := "ScriptTypesModel", name := "isVariable", desc := "(II)Z" } : Jvm.MethodName)) ∈ lw_all := lw_g (lw_at lw_m17 12 rfl) rfl
theorem q4298 : (Jvm.Cond.code ({ cls := "ScriptTypesModel", name := "isVariable", desc := "(II)Z" } : Jvm.MethodName) prog_44_method_87_code (5 : Nat) (Option.some Jvm.ClassFile.FieldType.boolean)) ∈ lw_all := lw_g (lw_at lw_m17 13 rfl) rfl
theorem q4299 : (Jvm.Cond.methodLink "ScriptTypesModel" (756 : Nat) ({ cls := "ScriptTypesModel", name := "codeFunction", desc := "(I)V" } : Jvm.MethodName)) ∈ lw_all := lw_g (lw_at lw_m17 14 rfl) rfl
theorem q4300 : (Jvm.Cond.privateMethod ({ cls := "ScriptTypesModel", name := "codeFunction", desc := "(I)V" } : Jvm.MethodName)) ∈ lw_tbl := lw_at lw_m17 15 rfl
theorem q4301 : (Jvm.Cond.instanceMethod ({ cls := "ScriptTypesModel", name := "codeFunction", desc := "(I)V" } : Jvm.MethodName)) ∈ lw_all := lw_g (lw_at lw_m17 16 rfl) rfl
theorem q4302 : (Jvm.Cond.code ({ cls := "ScriptTypesModel", name := "codeFunction", desc := "(I)V" } : Jvm.MethodName) prog_44_method_117_code (3 : Nat) (Option.none : Option Jvm.ClassFile.FieldType)) ∈ lw_all := lw_g (lw_at lw_m17 17 rfl) rfl
theorem q4303 : (Jvm.Cond.methodLink "ScriptTypesModel" (656 : Nat) ({ cls := "ScriptTypesModel", name := "constant", desc := "(II)V" } : Jvm.MethodName)) ∈ lw_all := lw_g (lw_at lw_m17 18 rfl) rfl
theorem q4304 : (Jvm.Cond.privateMethod ({ cls := "ScriptTypesModel", name := "constant", desc := "(II)V" } : Jvm.MethodName)) ∈ lw_tbl := lw_at lw_m17 19 rfl
theorem q4305 : (Jvm.Cond.instanceMethod ({ cls := "ScriptTypesModel", name := "constant", desc := "(II)V" } : Jvm.MethodName)) ∈ lw_all := lw_g (lw_at lw_m17 20 rfl) rfl
theorem q4306 : (Jvm.Cond.code ({ cls := "ScriptTypesModel", name := "constant", desc := "(II)V" } : Jvm.MethodName) prog_44_method_91_code (3 : Nat) (Option.none : Option Jvm.ClassFile.FieldType)) ∈ lw_all := lw_g (lw_at lw_m17 21 rfl) rfl
theorem q4307 : (Jvm.Cond.methodLink "ScriptTypesModel" (615 : Nat) ({ cls := "ScriptTypesModel", name := "emit", desc := "(III)V" } : Jvm.MethodName)) ∈ lw_all := lw_g (lw_at lw_m17 22 rfl) rfl
theorem q4308 : (Jvm.Cond.privateMethod ({ cls := "ScriptTypesModel", name := "emit", desc := "(III)V" } : Jvm.MethodName)) ∈ lw_tbl := lw_at lw_m17 23 rfl
theorem q4309 : (Jvm.Cond.instanceMethod ({ cls := "ScriptTypesModel", name := "emit", desc := "(III)V" } : Jvm.MethodName)) ∈ lw_all := lw_g (lw_at lw_m17 24 rfl) rfl
theorem q4310 : (Jvm.Cond.code ({ cls := "ScriptTypesModel", name := "emit", desc := "(III)V" } : Jvm.MethodName) prog_44_method_83_code (4 : Nat) (Option.none : Option Jvm.ClassFile.FieldType)) ∈ lw_all := lw_g (lw_at lw_m17 25 rfl) rfl
theorem q4311 : (Jvm.Cond.methodLink "ScriptTypesModel" (704 : Nat) ({ cls := "ScriptTypesModel", name := "set", desc := "(I)V" } : Jvm.MethodName)) ∈ lw_all := lw_g (lw_at lw_m17 26 rfl) rfl
theorem q4312 : (Jvm.Cond.privateMethod ({ cls := "ScriptTypesModel", name := "set", desc := "(I)V" } : Jvm.MethodName)) ∈ lw_tbl := lw_at lw_m17 27 rfl
theorem q4313 : (Jvm.Cond.instanceMethod ({ cls := "ScriptTypesModel", name := "set", desc := "(I)V" } : Jvm.MethodName)) ∈ lw_all := lw_g (lw_at lw_m17 28 rfl) rfl
theorem q4314 : (Jvm.Cond.code ({ cls := "ScriptTypesModel", name := "set", desc := "(I)V" } : Jvm.MethodName) prog_44_method_90_code (2 : Nat) (Option.none : Option Jvm.ClassFile.FieldType)) ∈ lw_all := lw_g (lw_at lw_m17 29 rfl) rfl
theorem q4315 : (Jvm.Cond.methodLink "ScriptTypesModel" (625 : Nat) ({ cls := "ScriptTypesModel", name := "named", desc := "(III)V" } : Jvm.MethodName)) ∈ lw_all := lw_g (lw_at lw_m17 30 rfl) rfl
theorem q4316 : (Jvm.Cond.privateMethod ({ cls := "ScriptTypesModel", name := "named", desc := "(III)V" } : Jvm.MethodName)) ∈ lw_tbl := lw_at lw_m17 31 rfl
theorem q4317 : (Jvm.Cond.instanceMethod ({ cls := "ScriptTypesModel", name := "named", desc := "(III)V" } : Jvm.MethodName)) ∈ lw_all := lw_g (lw_at lw_m17 32 rfl) rfl
theorem q4318 : (Jvm.Cond.code ({ cls := "ScriptTypesModel", name := "named", desc := "(III)V" } : Jvm.MethodName) prog_44_method_88_code (6 : Nat) (Option.none : Option Jvm.ClassFile.FieldType)) ∈ lw_all := lw_g (lw_at lw_m17 33 rfl) rfl
theorem q4319 : (Jvm.Cond.methodLink "ScriptTypesModel" (666 : Nat) ({ cls := "ScriptTypesModel", name := "emit", desc := "(I)V" } : Jvm.MethodName)) ∈ lw_all := lw_g (lw_at lw_m17 34 rfl) rfl
theorem q4320 : (Jvm.Cond.privateMethod ({ cls := "ScriptTypesModel", name := "emit", desc := "(I)V" } : Jvm.MethodName)) ∈ lw_tbl := lw_at lw_m17 35 rfl
theorem q4321 : (Jvm.Cond.instanceMethod ({ cls := "ScriptTypesModel", name := "emit", desc := "(I)V" } : Jvm.MethodName)) ∈ lw_all := lw_g (lw_at lw_m17 36 rfl) rfl
theorem q4322 : (Jvm.Cond.code ({ cls := "ScriptTypesModel", name := "emit", desc := "(I)V" } : Jvm.MethodName) prog_44_method_84_code (2 : Nat) (Option.none : Option Jvm.ClassFile.FieldType)) ∈ lw_all := lw_g (lw_at lw_m17 37 rfl) rfl
theorem q4323 : (Jvm.Cond.methodLink "ScriptTypesModel" (644 : Nat) ({ cls := "ScriptTypesModel", name := "part", desc := "(II)I" } : Jvm.MethodName)) ∈ lw_all := lw_g (lw_at lw_m17 38 rfl) rfl
theorem q4324 : (Jvm.Cond.privateMethod ({ cls := "ScriptTypesModel", name := "part", desc := "(II)I" } : Jvm.MethodName)) ∈ lw_tbl := lw_at lw_m17 39 rfl
theorem q4325 : (Jvm.Cond.instanceMethod ({ cls := "ScriptTypesModel", name := "part", desc := "(II)I" } : Jvm.MethodName)) ∈ lw_all := lw_g (lw_at lw_m17 40 rfl) rfl
theorem q4326 : (Jvm.Cond.code ({ cls := "ScriptTypesModel", name := "part", desc := "(II)I" } : Jvm.MethodName) prog_44_method_35_code (3 : Nat) (Option.some Jvm.ClassFile.FieldType.int)) ∈ lw_all := lw_g (lw_at lw_m17 41 rfl) rfl
theorem q4327 : (Jvm.Cond.methodLink "ScriptTypesModel" (713 : Nat) ({ cls := "ScriptTypesModel", name := "codes", desc := "(I)V" } : Jvm.MethodName)) ∈ lw_all := lw_g (lw_at lw_m17 42 rfl) rfl
theorem q4328 : (Jvm.Cond.privateMethod ({ cls := "ScriptTypesModel", name := "codes", desc := "(I)V" } : Jvm.MethodName)) ∈ lw_tbl := lw_at lw_m17 43 rfl
theorem q4329 : (Jvm.Cond.instanceMethod ({ cls := "ScriptTypesModel", name := "codes", desc := "(I)V" } : Jvm.MethodName)) ∈ lw_all := lw_g (lw_at lw_m17 44 rfl) rfl
theorem q4330 : (Jvm.Cond.code ({ cls := "ScriptTypesModel", name := "codes", desc := "(I)V" } : Jvm.MethodName) prog_44_method_107_code (4 : Nat) (Option.none : Option Jvm.ClassFile.FieldType)) ∈ lw_all := lw_g (lw_at lw_m17 45 rfl) rfl
theorem q4331 : (Jvm.Cond.methodLink "ScriptTypesModel" (710 : Nat) ({ cls := "ScriptTypesModel", name := "code", desc := "(I)V" } : Jvm.MethodName)) ∈ lw_all := lw_g (lw_at lw_m17 46 rfl) rfl
theorem q4332 : (Jvm.Cond.privateMethod ({ cls := "ScriptTypesModel", name := "code", desc := "(I)V" } : Jvm.MethodName)) ∈ lw_tbl := lw_at lw_m17 47 rfl
theorem q4333 : (Jvm.Cond.instanceMethod ({ cls := "ScriptTypesModel", name := "code", desc := "(I)V" } : Jvm.MethodName)) ∈ lw_all := lw_g (lw_at lw_m17 48 rfl) rfl
theorem q4334 : (Jvm.Cond.code ({ cls := "ScriptTypesModel", name := "code", desc := "(I)V" } : Jvm.MethodName) prog_44_method_108_code (9 : Nat) (Option.none : Option Jvm.ClassFile.FieldType)) ∈ lw_all := lw_g (lw_at lw_m17 49 rfl) rfl
theorem q4335 : (Jvm.Cond.methodLink "ScriptTypesModel" (716 : Nat) ({ cls := "ScriptTypesModel", name := "declare", desc := "(I)V" } : Jvm.MethodName)) ∈ lw_all := lw_g (lw_at lw_m17 50 rfl) rfl
theorem q4336 : (Jvm.Cond.privateMethod ({ cls := "ScriptTypesModel", name := "declare", desc := "(I)V" } : Jvm.MethodName)) ∈ lw_tbl := lw_at lw_m17 51 rfl
theorem q4337 : (Jvm.Cond.instanceMethod ({ cls := "ScriptTypesModel", name := "declare", desc := "(I)V" } : Jvm.MethodName)) ∈ lw_all := lw_g (lw_at lw_m17 52 rfl) rfl
theorem q4338 : (Jvm.Cond.code ({ cls := "ScriptTypesModel", name := "declare", desc := "(I)V" } : Jvm.MethodName) prog_44_method_110_code (3 : Nat) (Option.none : Option Jvm.ClassFile.FieldType)) ∈ lw_all := lw_g (lw_at lw_m17 53 rfl) rfl
theorem q4339 : (Jvm.Cond.methodLink "ScriptTypesModel" (668 : Nat) ({ cls := "ScriptTypesModel", name := "value", desc := "(I)V" } : Jvm.MethodName)) ∈ lw_all := lw_g (lw_at lw_m17 54 rfl) rfl
theorem q4340 : (Jvm.Cond.privateMethod ({ cls := "ScriptTypesModel", name := "value", desc := "(I)V" } : Jvm.MethodName)) ∈ lw_tbl := lw_at lw_m17 55 rfl
theorem q4341 : (Jvm.Cond.instanceMethod ({ cls := "ScriptTypesModel", name := "value", desc := "(I)V" } : Jvm.MethodName)) ∈ lw_all := lw_g (lw_at lw_m17 56 rfl) rfl
theorem q4342 : (Jvm.Cond.code ({ cls := "ScriptTypesModel", name := "value", desc := "(I)V" } : Jvm.MethodName) prog_44_method_97_code (4 : Nat) (Option.none : Option Jvm.ClassFile.FieldType)) ∈ lw_all := lw_g (lw_at lw_m17 57 rfl) rfl
theorem q4343 : (Jvm.Cond.methodLink "ScriptTypesModel" (653 : Nat) ({ cls := "ScriptTypesModel", name := "leftPart", desc := "(I)I" } : Jvm.MethodName)) ∈ lw_all := lw_g (lw_at lw_m17 58 rfl) rfl
theorem q4344 : (Jvm.Cond.privateMethod ({ cls := "ScriptTypesModel", name := "leftPart", desc := "(I)I" } : Jvm.MethodName)) ∈ lw_tbl := lw_at lw_m17 59 rfl
theorem q4345 : (Jvm.Cond.instanceMethod ({ cls := "ScriptTypesModel", name := "leftPart", desc := "(I)I" } : Jvm.MethodName)) ∈ lw_all := lw_g (lw_at lw_m17 60 rfl) rfl
theorem q4346 : (Jvm.Cond.code ({ cls := "ScriptTypesModel", name := "leftPart", desc := "(I)I" } : Jvm.MethodName) prog_44_method_95_code (2 : Nat) (Option.some Jvm.ClassFile.FieldType.int)) ∈ lw_all := lw_g (lw_at lw_m17 61 rfl) rfl
theorem q4347 : (Jvm.Cond.methodLink "ScriptTypesModel" (647 : Nat) ({ cls := "ScriptTypesModel", name := "isMemberCall", desc := "(I)Z" } : Jvm.MethodName)) ∈ lw_all := lw_g (lw_at lw_m17 62 rfl) rfl
theorem q4348 : (Jvm.Cond.privateMethod ({ cls := "ScriptTypesModel", name := "isMemberCall", desc := "(I)Z" } : Jvm.MethodName)) ∈ lw_tbl := lw_at lw_m17 63 rfl
theorem q4349 : (Jvm.Cond.instanceMethod ({ cls := "ScriptTypesModel", name := "isMemberCall", desc := "(I)Z" } : Jvm.MethodName)) ∈ lw_all := lw_g (lw_at lw_m17 64 rfl) rfl
theorem q4350 : (Jvm.Cond.code ({ cls := "ScriptTypesModel", name := "isMemberCall", desc := "(I)Z" } : Jvm.MethodName) prog_44_method_96_code (3 : Nat) (Option.some Jvm.ClassFile.FieldType.boolean)) ∈ lw_all := lw_g (lw_at lw_m17 65 rfl) rfl
theorem q4351 : (Jvm.Cond.methodLink "ScriptTypesModel" (660 : Nat) ({ cls := "ScriptTypesModel", name := "single", desc := "(I)V" } : Jvm.MethodName)) ∈ lw_all := lw_g (lw_at lw_m17 66 rfl) rfl
theorem q4352 : (Jvm.Cond.privateMethod ({ cls := "ScriptTypesModel", name := "single", desc := "(I)V" } : Jvm.MethodName)) ∈ lw_tbl := lw_at lw_m17 67 rfl
theorem q4353 : (Jvm.Cond.instanceMethod ({ cls := "ScriptTypesModel", name := "single", desc := "(I)V" } : Jvm.MethodName)) ∈ lw_all := lw_g (lw_at lw_m17 68 rfl) rfl
theorem q4354 : (Jvm.Cond.code ({ cls := "ScriptTypesModel", name := "single", desc := "(I)V" } : Jvm.MethodName) prog_44_method_99_code (6 : Nat) (Option.none : Option Jvm.ClassFile.FieldType)) ∈ lw_all := lw_g (lw_at lw_m17 69 rfl) rfl
theorem q4355 : (Jvm.Cond.methodLink "ScriptTypesModel" (680 : Nat) ({ cls := "ScriptTypesModel", name := "get", desc := "(I)V" } : Jvm.MethodName)) ∈ lw_all := lw_g (lw_at lw_m17 70 rfl) rfl
theorem q4356 : (Jvm.Cond.privateMethod ({ cls := "ScriptTypesModel", name := "get", desc := "(I)V" } : Jvm.MethodName)) ∈ lw_tbl := lw_at lw_m17 71 rfl
theorem q4357 : (Jvm.Cond.instanceMethod ({ cls := "ScriptTypesModel", name := "get", desc := "(I)V" } : Jvm.MethodName)) ∈ lw_all := lw_g (lw_at lw_m17 72 rfl) rfl
theorem q4358 : (Jvm.Cond.code ({ cls := "ScriptTypesModel", name := "get", desc := "(I)V" } : Jvm.MethodName) prog_44_method_89_code (2 : Nat) (Option.none : Option Jvm.ClassFile.FieldType)) ∈ lw_all := lw_g (lw_at lw_m17 73 rfl) rfl
theorem q4359 : (Jvm.Cond.methodLink "ScriptTypesModel" (683 : Nat) ({ cls := "ScriptTypesModel", name := "row", desc := "(I)V" } : Jvm.MethodName)) ∈ lw_all := lw_g (lw_at lw_m17 74 rfl) rfl
theorem q4360 : (Jvm.Cond.privateMethod ({ cls := "ScriptTypesModel", name := "row", desc := "(I)V" } : Jvm.MethodName)) ∈ lw_tbl := lw_at lw_m17 75 rfl
theorem q4361 : (Jvm.Cond.instanceMethod ({ cls := "ScriptTypesModel", name := "row", desc := "(I)V" } : Jvm.MethodName)) ∈ lw_all := lw_g (lw_at lw_m17 76 rfl) rfl
theorem q4362 : (Jvm.Cond.code ({ cls := "ScriptTypesModel", name := "row", desc := "(I)V" } : Jvm.MethodName) prog_44_method_100_code (4 : Nat) (Option.none : Option Jvm.ClassFile.FieldType)) ∈ lw_all := lw_g (lw_at lw_m17 77 rfl) rfl
theorem q4363 : (Jvm.Cond.methodLink "ScriptTypesModel" (686 : Nat) ({ cls := "ScriptTypesModel", name := "object", desc := "(I)V" } : Jvm.MethodName)) ∈ lw_all := lw_g (lw_at lw_m17 78 rfl) rfl
theorem q4364 : (Jvm.Cond.privateMethod ({ cls := "ScriptTypesModel", name := "object", desc := "(I)V" } : Jvm.MethodName)) ∈ lw_tbl := lw_at lw_m17 79 rfl
theorem q4365 : (Jvm.Cond.instanceMethod ({ cls := "ScriptTypesModel", name := "object", desc := "(I)V" } : Jvm.MethodName)) ∈ lw_all := lw_g (lw_at lw_m17 80 rfl) rfl
theorem q4366 : (Jvm.Cond.code ({ cls := "ScriptTypesModel", name := "object", desc := "(I)V" } : Jvm.MethodName) prog_44_method_101_code (3 : Nat) (Option.none : Option Jvm.ClassFile.FieldType)) ∈ lw_all := lw_g (lw_at lw_m17 81 rfl) rfl
theorem q4367 : (Jvm.Cond.methodLink "ScriptTypesModel" (671 : Nat) ({ cls := "ScriptTypesModel", name := "values", desc := "(I)I" } : Jvm.MethodName)) ∈ lw_all := lw_g (lw_at lw_m17 82 rfl) rfl
theorem q4368 : (Jvm.Cond.privateMethod ({ cls := "ScriptTypesModel", name := "values", desc := "(I)I" } : Jvm.MethodName)) ∈ lw_tbl := lw_at lw_m17 83 rfl
theorem q4369 : (Jvm.Cond.instanceMethod ({ cls := "ScriptTypesModel", name := "values", desc := "(I)I" } : Jvm.MethodName)) ∈ lw_all := lw_g (lw_at lw_m17 84 rfl) rfl
theorem q4370 : (Jvm.Cond.code ({ cls := "ScriptTypesModel", name := "values", desc := "(I)I" } : Jvm.MethodName) prog_44_method_102_code (4 : Nat) (Option.some Jvm.ClassFile.FieldType.int)) ∈ lw_all := lw_g (lw_at lw_m17 85 rfl) rfl
theorem q4371 : (Jvm.Cond.methodLink "ScriptTypesModel" (692 : Nat) ({ cls := "ScriptTypesModel", name := "unary", desc := "(II)V" } : Jvm.MethodName)) ∈ lw_all := lw_g (lw_at lw_m17 86 rfl) rfl
theorem q4372 : (Jvm.Cond.privateMethod ({ cls := "ScriptTypesModel", name := "unary", desc := "(II)V" } : Jvm.MethodName)) ∈ lw_tbl := lw_at lw_m17 87 rfl
theorem q4373 : (Jvm.Cond.instanceMethod ({ cls := "ScriptTypesModel", name := "unary", desc := "(II)V" } : Jvm.MethodName)) ∈ lw_all := lw_g (lw_at lw_m17 88 rfl) rfl
theorem q4374 : (Jvm.Cond.code ({ cls := "ScriptTypesModel", name := "unary", desc := "(II)V" } : Jvm.MethodName) prog_44_method_103_code (3 : Nat) (Option.none : Option Jvm.ClassFile.FieldType)) ∈ lw_all := lw_g (lw_at lw_m17 89 rfl) rfl
theorem q4375 : (Jvm.Cond.methodLink "ScriptTypesModel" (674 : Nat) ({ cls := "ScriptTypesModel", name := "mark", desc := "()I" } : Jvm.MethodName)) ∈ lw_all := lw_g (lw_at lw_m17 90 rfl) rfl
theorem q4376 : (Jvm.Cond.privateMethod ({ cls := "ScriptTypesModel", name := "mark", desc := "()I" } : Jvm.MethodName)) ∈ lw_tbl := lw_at lw_m17 91 rfl
theorem q4377 : (Jvm.Cond.instanceMethod ({ cls := "ScriptTypesModel", name := "mark", desc := "()I" } : Jvm.MethodName)) ∈ lw_all := lw_g (lw_at lw_m17 92 rfl) rfl
theorem q4378 : (Jvm.Cond.code ({ cls := "ScriptTypesModel", name := "mark", desc := "()I" } : Jvm.MethodName) prog_44_method_85_code (1 : Nat) (Option.some Jvm.ClassFile.FieldType.int)) ∈ lw_all := lw_g (lw_at lw_m17 93 rfl) rfl
theorem q4379 : (Jvm.Cond.methodLink "ScriptTypesModel" (677 : Nat) ({ cls := "ScriptTypesModel", name := "here", desc := "(I)V" } : Jvm.MethodName)) ∈ lw_all := lw_g (lw_at lw_m17 94 rfl) rfl
theorem q4380 : (Jvm.Cond.privateMethod ({ cls := "ScriptTypesModel", name := "here", desc := "(I)V" } : Jvm.MethodName)) ∈ lw_tbl := lw_at lw_m17 95 rfl
theorem q4381 : (Jvm.Cond.instanceMethod ({ cls := "ScriptTypesModel", name := "here", desc := "(I)V" } : Jvm.MethodName)) ∈ lw_all := lw_g (lw_at lw_m17 96 rfl) rfl
theorem q4382 : (Jvm.Cond.code ({ cls := "ScriptTypesModel", name := "here", desc := "(I)V" } : Jvm.MethodName) prog_44_method_86_code (2 : Nat) (Option.none : Option Jvm.ClassFile.FieldType)) ∈ lw_all := lw_g (lw_at lw_m17 97 rfl) rfl
theorem q4383 : (Jvm.Cond.methodLink "ScriptTypesModel" (695 : Nat) ({ cls := "ScriptTypesModel", name := "give", desc := "(III)V" } : Jvm.MethodName)) ∈ lw_all := lw_g (lw_at lw_m17 98 rfl) rfl
theorem q4384 : (Jvm.Cond.privateMethod ({ cls := "ScriptTypesModel", name := "give", desc := "(III)V" } : Jvm.MethodName)) ∈ lw_tbl := lw_at lw_m17 99 rfl
theorem q4385 : (Jvm.Cond.instanceMethod ({ cls := "ScriptTypesModel", name := "give", desc := "(III)V" } : Jvm.MethodName)) ∈ lw_all := lw_g (lw_at lw_m17 100 rfl) rfl
theorem q4386 : (Jvm.Cond.code ({ cls := "ScriptTypesModel", name := "give", desc := "(III)V" } : Jvm.MethodName) prog_44_method_104_code (5 : Nat) (Option.none : Option Jvm.ClassFile.FieldType)) ∈ lw_all := lw_g (lw_at lw_m17 101 rfl) rfl
theorem q4387 : (Jvm.Cond.methodLink "ScriptTypesModel" (698 : Nat) ({ cls := "ScriptTypesModel", name := "step", desc := "(II)V" } : Jvm.MethodName)) ∈ lw_all := lw_g (lw_at lw_m17 102 rfl) rfl
theorem q4388 : (Jvm.Cond.privateMethod ({ cls := "ScriptTypesModel", name := "step", desc := "(II)V" } : Jvm.MethodName)) ∈ lw_tbl := lw_at lw_m17 103 rfl
theorem q4389 : (Jvm.Cond.instanceMethod ({ cls := "ScriptTypesModel", name := "step", desc := "(II)V" } : Jvm.MethodName)) ∈ lw_all := lw_g (lw_at lw_m17 104 rfl) rfl
theorem q4390 : (Jvm.Cond.code ({ cls := "ScriptTypesModel", name := "step", desc := "(II)V" } : Jvm.MethodName) prog_44_method_105_code (3 : Nat) (Option.none : Option Jvm.ClassFile.FieldType)) ∈ lw_all := lw_g (lw_at lw_m17 105 rfl) rfl
theorem q4391 : (Jvm.Cond.methodLink "ScriptTypesModel" (701 : Nat) ({ cls := "ScriptTypesModel", name := "stepBehind", desc := "(II)V" } : Jvm.MethodName)) ∈ lw_all := lw_g (lw_at lw_m17 106 rfl) rfl
theorem q4392 : (Jvm.Cond.privateMethod ({ cls := "ScriptTypesModel", name := "stepBehind", desc := "(II)V" } : Jvm.MethodName)) ∈ lw_tbl := lw_at lw_m17 107 rfl
theorem q4393 : (Jvm.Cond.instanceMethod ({ cls := "ScriptTypesModel", name := "stepBehind", desc := "(II)V" } : Jvm.MethodName)) ∈ lw_all := lw_g (lw_at lw_m17 108 rfl) rfl
theorem q4394 : (Jvm.Cond.code ({ cls := "ScriptTypesModel", name := "stepBehind", desc := "(II)V" } : Jvm.MethodName) prog_44_method_106_code (3 : Nat) (Option.none : Option Jvm.ClassFile.FieldType)) ∈ lw_all := lw_g (lw_at lw_m17 109 rfl) rfl
theorem q4395 : (Jvm.Cond.methodLink "ScriptTypesModel" (663 : Nat) ({ cls := "ScriptTypesModel", name := "behind", desc := "(I)V" } : Jvm.MethodName)) ∈ lw_all := lw_g (lw_at lw_m17 110 rfl) rfl
theorem q4396 : (Jvm.Cond.privateMethod ({ cls := "ScriptTypesModel", name := "behind", desc := "(I)V" } : Jvm.MethodName)) ∈ lw_tbl := lw_at lw_m17 111 rfl
theorem q4397 : (Jvm.Cond.instanceMethod ({ cls := "ScriptTypesModel", name := "behind", desc := "(I)V" } : Jvm.MethodName)) ∈ lw_all := lw_g (lw_at lw_m17 112 rfl) rfl
theorem q4398 : (Jvm.Cond.code ({ cls := "ScriptTypesModel", name := "behind", desc := "(I)V" } : Jvm.MethodName) prog_44_method_98_code (5 : Nat) (Option.none : Option Jvm.ClassFile.FieldType)) ∈ lw_all := lw_g (lw_at lw_m17 113 rfl) rfl
theorem q4399 : (Jvm.Cond.methodLink "ScriptTypesModel" (719 : Nat) ({ cls := "ScriptTypesModel", name := "codeInside", desc := "(IIII)V" } : Jvm.MethodName)) ∈ lw_all := lw_g (lw_at lw_m17 114 rfl) rfl
theorem q4400 : (Jvm.Cond.privateMethod ({ cls := "ScriptTypesModel", name := "codeInside", desc := "(IIII)V" } : Jvm.MethodName)) ∈ lw_tbl := lw_at lw_m17 115 rfl
theorem q4401 : (Jvm.Cond.instanceMethod ({ cls := "ScriptTypesModel", name := "codeInside", desc := "(IIII)V" } : Jvm.MethodName)) ∈ lw_all := lw_g (lw_at lw_m17 116 rfl) rfl
theorem q4402 : (Jvm.Cond.code ({ cls := "ScriptTypesModel", name := "codeInside", desc := "(IIII)V" } : Jvm.MethodName) prog_44_method_109_code (7 : Nat) (Option.none : Option Jvm.ClassFile.FieldType)) ∈ lw_all := lw_g (lw_at lw_m17 117 rfl) rfl
theorem q4403 : (Jvm.Cond.methodLink "ScriptTypesModel" (723 : Nat) ({ cls := "ScriptTypesModel", name := "wrapIn", desc := "(IIII)V" } : Jvm.MethodName)) ∈ lw_all := lw_g (lw_at lw_m17 118 rfl) rfl
theorem q4404 : (Jvm.Cond.privateMethod ({ cls := "ScriptTypesModel", name := "wrapIn", desc := "(IIII)V" } : Jvm.MethodName)) ∈ lw_tbl := lw_at lw_m17 119 rfl
theorem q4405 : (Jvm.Cond.instanceMethod ({ cls := "ScriptTypesModel", name := "wrapIn", desc := "(IIII)V" } : Jvm.MethodName)) ∈ lw_all := lw_g (lw_at lw_m17 120 rfl) rfl
theorem q4406 : (Jvm.Cond.code ({ cls := "ScriptTypesModel", name := "wrapIn", desc := "(IIII)V" } : Jvm.MethodName) prog_44_method_94_code (5 : Nat) (Option.none : Option Jvm.ClassFile.FieldType)) ∈ lw_all := lw_g (lw_at lw_m17 121 rfl) rfl
theorem q4407 : (Jvm.Cond.methodLink "ScriptTypesModel" (640 : Nat) ({ cls := "ScriptTypesModel", name := "longer", desc := "([I)[I" } : Jvm.MethodName)) ∈ lw_all := lw_g (lw_at lw_m17 122 rfl) rfl
theorem q4408 : (Jvm.Cond.static ({ cls := "ScriptTypesModel", name := "longer", desc := "([I)[I" } : Jvm.MethodName)) ∈ lw_all := lw_g (lw_at lw_m17 123 rfl) rfl
theorem q4409 : (Jvm.Cond.code ({ cls := "ScriptTypesModel", name := "longer", desc := "([I)[I" } : Jvm.MethodName) prog_44_method_92_code (2 : Nat) (Option.some (Jvm.ClassFile.FieldType.array Jvm.ClassFile.FieldType.int))) ∈ lw_all := lw_g (lw_at lw_m17 124 rfl) rfl
theorem q4410 : (Jvm.Cond.methodLink "ScriptTypesModel" (628 : Nat) ({ cls := "java/lang/System", name := "arraycopy", desc := "(Ljava/lang/Object;ILjava/lang/Object;II)V" } : Jvm.MethodName)) ∈ lw_all := lw_g (lw_at lw_m17 125 rfl) rfl
theorem q4411 : (Jvm.Cond.methodLink "ScriptTypesModel" (726 : Nat) ({ cls := "ScriptTypesModel", name := "unwrap", desc := "(II)V" } : Jvm.MethodName)) ∈ lw_all := lw_g (lw_at lw_m17 126 rfl) rfl
theorem q4412 : (Jvm.Cond.privateMethod ({ cls := "ScriptTypesModel", name := "unwrap", desc := "(II)V" } : Jvm.MethodName)) ∈ lw_tbl := lw_at lw_m17 127 rfl
theorem q4413 : (Jvm.Cond.instanceMethod ({ cls := "ScriptTypesModel", name := "unwrap", desc := "(II)V" } : Jvm.MethodName)) ∈ lw_all := lw_g (lw_at lw_m17 128 rfl) rfl
theorem q4414 : (Jvm.Cond.code ({ cls := "ScriptTypesModel", name := "unwrap", desc := "(II)V" } : Jvm.MethodName) prog_44_method_93_code (3 : Nat) (Option.none : Option Jvm.ClassFile.FieldType)) ∈ lw_all := lw_g (lw_at lw_m17 129 rfl) rfl
theorem q4415 : (Jvm.Cond.methodLink "ScriptTypesModel" (729 : Nat) ({ cls := "ScriptTypesModel", name := "codeGo", desc := "(Z)V" } : Jvm.MethodName)) ∈ lw_all := lw_g (lw_at lw_m17 130 rfl) rfl
theorem q4416 : (Jvm.Cond.privateMethod ({ cls := "ScriptTypesModel", name := "codeGo", desc := "(Z)V" } : Jvm.MethodName)) ∈ lw_tbl := lw_at lw_m17 131 rfl
theorem q4417 : (Jvm.Cond.instanceMethod ({ cls := "ScriptTypesModel", name := "codeGo", desc := "(Z)V" } : Jvm.MethodName)) ∈ lw_all := lw_g (lw_at lw_m17 132 rfl) rfl
theorem q4418 : (Jvm.Cond.code ({ cls := "ScriptTypesModel", name := "codeGo", desc := "(Z)V" } : Jvm.MethodName) prog_44_method_112_code (3 : Nat) (Option.none : Option Jvm.ClassFile.FieldType)) ∈ lw_all := lw_g (lw_at lw_m17 133 rfl) rfl
theorem q4419 : (Jvm.Cond.methodLink "ScriptTypesModel" (744 : Nat) ({ cls := "ScriptTypesModel", name := "leave", desc := "(II)V" } : Jvm.MethodName)) ∈ lw_all := lw_g (lw_at lw_m17 134 rfl) rfl
theorem q4420 : (Jvm.Cond.privateMethod ({ cls := "ScriptTypesModel", name := "leave", desc := "(II)V" } : Jvm.MethodName)) ∈ lw_tbl := lw_at lw_m17 135 rfl
theorem q4421 : (Jvm.Cond.instanceMethod ({ cls := "ScriptTypesModel", name := "leave", desc := "(II)V" } : Jvm.MethodName)) ∈ lw_all := lw_g (lw_at lw_m17 136 rfl) rfl
theorem q4422 : (Jvm.Cond.code ({ cls := "ScriptTypesModel", name := "leave", desc := "(II)V" } : Jvm.MethodName) prog_44_method_111_code (6 : Nat) (Option.none : Option Jvm.ClassFile.FieldType)) ∈ lw_all := lw_g (lw_at lw_m17 137 rfl) rfl
theorem q4423 : (Jvm.Cond.methodLink "ScriptTypesModel" (732 : Nat) ({ cls := "ScriptTypesModel", name := "codeBack", desc := "(I)V" } : Jvm.MethodName)) ∈ lw_all := lw_g (lw_at lw_m17 138 rfl) rfl
theorem q4424 : (Jvm.Cond.privateMethod ({ cls := "ScriptTypesModel", name := "codeBack", desc := "(I)V" } : Jvm.MethodName)) ∈ lw_tbl := lw_at lw_m17 139 rfl
theorem q4425 : (Jvm.Cond.instanceMethod ({ cls := "ScriptTypesModel", name := "codeBack", desc := "(I)V" } : Jvm.MethodName)) ∈ lw_all := lw_g (lw_at lw_m17 140 rfl) rfl
theorem q4426 : (Jvm.Cond.code ({ cls := "ScriptTypesModel", name := "codeBack", desc := "(I)V" } : Jvm.MethodName) prog_44_method_113_code (4 : Nat) (Option.none : Option Jvm.ClassFile.FieldType)) ∈ lw_all := lw_g (lw_at lw_m17 141 rfl) rfl
theorem q4427 : (Jvm.Cond.methodLink "ScriptTypesModel" (735 : Nat) ({ cls := "ScriptTypesModel", name := "codeAttempt", desc := "(I)V" } : Jvm.MethodName)) ∈ lw_all := lw_g (lw_at lw_m17 142 rfl) rfl
theorem q4428 : (Jvm.Cond.privateMethod ({ cls := "ScriptTypesModel", name := "codeAttempt", desc := "(I)V" } : Jvm.MethodName)) ∈ lw_tbl := lw_at lw_m17 143 rfl
theorem q4429 : (Jvm.Cond.instanceMethod ({ cls := "ScriptTypesModel", name := "codeAttempt", desc := "(I)V" } : Jvm.MethodName)) ∈ lw_all := lw_g (lw_at lw_m17 144 rfl) rfl
theorem q4430 : (Jvm.Cond.code ({ cls := "ScriptTypesModel", name := "codeAttempt", desc := "(I)V" } : Jvm.MethodName) prog_44_method_114_code (7 : Nat) (Option.none : Option Jvm.ClassFile.FieldType)) ∈ lw_all := lw_g (lw_at lw_m17 145 rfl) rfl
theorem q4431 : (Jvm.Cond.methodLink "ScriptTypesModel" (747 : Nat) ({ cls := "ScriptTypesModel", name := "codeCatch", desc := "(I)V" } : Jvm.MethodName)) ∈ lw_all := lw_g (lw_at lw_m17 146 rfl) rfl
theorem q4432 : (Jvm.Cond.privateMethod ({ cls := "ScriptTypesModel", name := "codeCatch", desc := "(I)V" } : Jvm.MethodName)) ∈ lw_tbl := lw_at lw_m17 147 rfl
theorem q4433 : (Jvm.Cond.instanceMethod ({ cls := "ScriptTypesModel", name := "codeCatch", desc := "(I)V" } : Jvm.MethodName)) ∈ lw_all := lw_g (lw_at lw_m17 148 rfl) rfl
theorem q4434 : (Jvm.Cond.code ({ cls := "ScriptTypesModel", name := "codeCatch", desc := "(I)V" } : Jvm.MethodName) prog_44_method_115_code (6 : Nat) (Option.none : Option Jvm.ClassFile.FieldType)) ∈ lw_all := lw_g (lw_at lw_m17 149 rfl) rfl
theorem q4435 : (Jvm.Cond.methodLink "ScriptTypesModel" (738 : Nat) ({ cls := "ScriptTypesModel", name := "codeCases", desc := "(II)V" } : Jvm.MethodName)) ∈ lw_all := lw_g (lw_at lw_m17 150 rfl) rfl
theorem q4436 : (Jvm.Cond.privateMethod ({ cls := "ScriptTypesModel", name := "codeCases", desc := "(II)V" } : Jvm.MethodName)) ∈ lw_tbl := lw_at lw_m17 151 rfl
theorem q4437 : (Jvm.Cond.instanceMethod ({ cls := "ScriptTypesModel", name := "codeCases", desc := "(II)V" } : Jvm.MethodName)) ∈ lw_all := lw_g (lw_at lw_m17 152 rfl) rfl
theorem q4438 : (Jvm.Cond.code ({ cls := "ScriptTypesModel", name := "codeCases", desc := "(II)V" } : Jvm.MethodName) prog_44_method_116_code (9 : Nat) (Option.none : Option Jvm.ClassFile.FieldType)) ∈ lw_all := lw_g (lw_at lw_m17 153 rfl) rfl
theorem q4439 : (Jvm.Cond.methodLink "ScriptTypesModel" (759 : Nat) ({ cls := "ScriptTypesModel", name := "isJump", desc := "(I)Z" } : Jvm.MethodName)) ∈ lw_all := lw_g (lw_at lw_m17 154 rfl) rfl
theorem q4440 : (Jvm.Cond.static ({ cls := "ScriptTypesModel", name := "isJump", desc := "(I)Z" } : Jvm.MethodName)) ∈ lw_all := lw_g (lw_at lw_m17 155 rfl) rfl
theorem q4441 : (Jvm.Cond.code ({ cls := "ScriptTypesModel", name := "isJump", desc := "(I)Z" } : Jvm.MethodName) prog_44_method_120_code (1 : Nat) (Option.some Jvm.ClassFile.FieldType.boolean)) ∈ lw_all := lw_g (lw_at lw_m17 156 rfl) rfl
theorem q4442 : (Jvm.Cond.constantLong "ScriptTypesModel" (768 : Nat) (450000 : Int64)) ∈ lw_all := lw_g (lw_at lw_m17 157 rfl) rfl
theorem q4443 : (Jvm.Cond.methodLink "ScriptTypesLaw" (59 : Nat) ({ cls := "ScriptTypesModel", name := "begin", desc := "()V" } : Jvm.MethodName)) ∈ lw_all := lw_g (lw_at lw_m17 158 rfl) rfl
theorem q4444 : (Jvm.Cond.instanceMethod ({ cls := "ScriptTypesModel", name := "begin", desc := "()V" } : Jvm.MethodName)) ∈ lw_all := lw_g (lw_at lw_m17 159 rfl) rfl
theorem q4445 : (Jvm.Cond.selects "ScriptTypesModel" ({ cls := "ScriptTypesModel", name := "begin", desc := "()V" } : Jvm.MethodName) ({ cls := "ScriptTypesModel", name := "begin", desc := "()V" } : Jvm.MethodName)) ∈ lw_all := lw_g (lw_at lw_m17 160 rfl) rfl
theorem q4446 : (Jvm.Cond.code ({ cls := "ScriptTypesModel", name := "begin", desc := "()V" } : Jvm.MethodName) prog_44_method_148_code (2 : Nat) (Option.none : Option Jvm.ClassFile.FieldType)) ∈ lw_all := lw_g (lw_at lw_m17 161 rfl) rfl
theorem q4447 : (Jvm.Cond.methodLink "ScriptTypesModel" (867 : Nat) ({ cls := "ScriptTypesModel", name := "build", desc := "(III)V" } : Jvm.MethodName)) ∈ lw_all := lw_g (lw_at lw_m17 162 rfl) rfl
theorem q4448 : (Jvm.Cond.privateMethod ({ cls := "ScriptTypesModel", name := "build", desc := "(III)V" } : Jvm.MethodName)) ∈ lw_tbl := lw_at lw_m17 163 rfl
theorem q4449 : (Jvm.Cond.instanceMethod ({ cls := "ScriptTypesModel", name := "build", desc := "(III)V" } : Jvm.MethodName)) ∈ lw_all := lw_g (lw_at lw_m17 164 rfl) rfl
theorem q4450 : (Jvm.Cond.code ({ cls := "ScriptTypesModel", name := "build", desc := "(III)V" } : Jvm.MethodName) prog_44_method_147_code (5 : Nat) (Option.none : Option Jvm.ClassFile.FieldType)) ∈ lw_all := lw_g (lw_at lw_m17 165 rfl) rfl
theorem q4451 : (Jvm.Cond.methodLink "ScriptTypesModel" (858 : Nat) ({ cls := "ScriptTypesModel", name := "newObject", desc := "(III)I" } : Jvm.MethodName)) ∈ lw_all := lw_g (lw_at lw_m17 166 rfl) rfl
theorem q4452 : (Jvm.Cond.privateMethod ({ cls := "ScriptTypesModel", name := "newObject", desc := "(III)I" } : Jvm.MethodName)) ∈ lw_tbl := lw_at lw_m17 167 rfl
theorem q4453 : (Jvm.Cond.instanceMethod ({ cls := "ScriptTypesModel", name := "newObject", desc := "(III)I" } : Jvm.MethodName)) ∈ lw_all := lw_g (lw_at lw_m17 168 rfl) rfl
theorem q4454 : (Jvm.Cond.code ({ cls := "ScriptTypesModel", name := "newObject", desc := "(III)I" } : Jvm.MethodName) prog_44_method_140_code (5 : Nat) (Option.some Jvm.ClassFile.FieldType.int)) ∈ lw_all := lw_g (lw_at lw_m17 169 rfl) rfl
theorem q4455 : (Jvm.Cond.methodLink "ScriptTypesModel" (870 : Nat) ({ cls := "ScriptTypesModel", name := "set", desc := "(IIII)V" } : Jvm.MethodName)) ∈ lw_all := lw_g (lw_at lw_m17 170 rfl) rfl
theorem q4456 : (Jvm.Cond.privateMethod ({ cls := "ScriptTypesModel", name := "set", desc := "(IIII)V" } : Jvm.MethodName)) ∈ lw_tbl := lw_at lw_m17 171 rfl
theorem q4457 : (Jvm.Cond.instanceMethod ({ cls := "ScriptTypesModel", name := "set", desc := "(IIII)V" } : Jvm.MethodName)) ∈ lw_all := lw_g (lw_at lw_m17 172 rfl) rfl
theorem q4458 : (Jvm.Cond.code ({ cls := "ScriptTypesModel", name := "set", desc := "(IIII)V" } : Jvm.MethodName) prog_44_method_142_code (6 : Nat) (Option.none : Option Jvm.ClassFile.FieldType)) ∈ lw_all := lw_g (lw_at lw_m17 173 rfl) rfl
theorem q4459 : (Jvm.Cond.methodLink "ScriptTypesModel" (846 : Nat) ({ cls := "ScriptTypesModel", name := "findProperty", desc := "(II)I" } : Jvm.MethodName)) ∈ lw_all := lw_g (lw_at lw_m17 174 rfl) rfl
theorem q4460 : (Jvm.Cond.privateMethod ({ cls := "ScriptTypesModel", name := "findProperty", desc := "(II)I" } : Jvm.MethodName)) ∈ lw_tbl := lw_at lw_m17 175 rfl
theorem q4461 : (Jvm.Cond.instanceMethod ({ cls := "ScriptTypesModel", name := "findProperty", desc := "(II)I" } : Jvm.MethodName)) ∈ lw_all := lw_g (lw_at lw_m17 176 rfl) rfl
theorem q4462 : (Jvm.Cond.code ({ cls := "ScriptTypesModel", name := "findProperty", desc := "(II)I" } : Jvm.MethodName) prog_44_method_141_code (4 : Nat) (Option.some Jvm.ClassFile.FieldType.int)) ∈ lw_all := lw_g (lw_at lw_m17 177 rfl) rfl
theorem q4463 : (Jvm.Cond.methodLink "ScriptTypesModel" (875 : Nat) ({ cls := "ScriptTypesModel", name := "enterFrame", desc := "(IIIII)V" } : Jvm.MethodName)) ∈ lw_all := lw_g (lw_at lw_m17 178 rfl) rfl
theorem q4464 : (Jvm.Cond.privateMethod ({ cls := "ScriptTypesModel", name := "enterFrame", desc := "(IIIII)V" } : Jvm.MethodName)) ∈ lw_tbl := lw_at lw_m17 179 rfl
theorem q4465 : (Jvm.Cond.instanceMethod ({ cls := "ScriptTypesModel", name := "enterFrame", desc := "(IIIII)V" } : Jvm.MethodName)) ∈ lw_all := lw_g (lw_at lw_m17 180 rfl) rfl
theorem q4466 : (Jvm.Cond.code ({ cls := "ScriptTypesModel", name := "enterFrame", desc := "(IIIII)V" } : Jvm.MethodName) prog_44_method_149_code (7 : Nat) (Option.none : Option Jvm.ClassFile.FieldType)) ∈ lw_all := lw_g (lw_at lw_m17 181 rfl) rfl
theorem q4467 : (Jvm.Cond.methodLink "ScriptTypesLaw" (66 : Nat) ({ cls := "ScriptTypesModel", name := "run", desc := "(I)I" } : Jvm.MethodName)) ∈ lw_all := lw_g (lw_at lw_m17 182 rfl) rfl
theorem q4468 : (Jvm.Cond.instanceMethod ({ cls := "ScriptTypesModel", name := "run", desc := "(I)I" } : Jvm.MethodName)) ∈ lw_all := lw_g (lw_at lw_m17 183 rfl) rfl
theorem q4469 : (Jvm.Cond.selects "ScriptTypesModel" ({ cls := "ScriptTypesModel", name := "run", desc := "(I)I" } : Jvm.MethodName) ({ cls := "ScriptTypesModel", name := "run", desc := "(I)I" } : Jvm.MethodName)) ∈ lw_all := lw_g (lw_at lw_m17 184 rfl) rfl
theorem q4470 : (Jvm.Cond.code ({ cls := "ScriptTypesModel", name := "run", desc := "(I)I" } : Jvm.MethodName) prog_44_method_159_code (3 : Nat) (Option.some Jvm.ClassFile.FieldType.int)) ∈ lw_all := lw_g (lw_at lw_m17 185 rfl) rfl
theorem q4471 : (Jvm.Cond.methodLink "ScriptTypesModel" (899 : Nat) ({ cls := "ScriptTypesModel", name := "in", desc := "(III)Z" } : Jvm.MethodName)) ∈ lw_all := lw_g (lw_at lw_m17 186 rfl) rfl
theorem q4472 : (Jvm.Cond.static ({ cls := "ScriptTypesModel", name := "in", desc := "(III)Z" } : Jvm.MethodName)) ∈ lw_all := lw_g (lw_at lw_m17 187 rfl) rfl
theorem q4473 : (Jvm.Cond.code ({ cls := "ScriptTypesModel", name := "in", desc := "(III)Z" } : Jvm.MethodName) prog_44_method_5_code (3 : Nat) (Option.some Jvm.ClassFile.FieldType.boolean)) ∈ lw_all := lw_g (lw_at lw_m17 188 rfl) rfl
theorem q4474 : (Jvm.Cond.methodLink "ScriptTypesModel" (902 : Nat) ({ cls := "ScriptTypesModel", name := "step", desc := "()V" } : Jvm.MethodName)) ∈ lw_all := lw_g (lw_at lw_m17 189 rfl) rfl
theorem q4475 : (Jvm.Cond.privateMethod ({ cls := "ScriptTypesModel", name := "step", desc := "()V" } : Jvm.MethodName)) ∈ lw_tbl := lw_at lw_m17 190 rfl
theorem q4476 : (Jvm.Cond.instanceMethod ({ cls := "ScriptTypesModel", name := "step", desc := "()V" } : Jvm.MethodName)) ∈ lw_all := lw_g (lw_at lw_m17 191 rfl) rfl
theorem q4477 : (Jvm.Cond.code ({ cls := "ScriptTypesModel", name := "step", desc := "()V" } : Jvm.MethodName) prog_44_method_161_code (5 : Nat) (Option.none : Option Jvm.ClassFile.FieldType)) ∈ lw_all := lw_g (lw_at lw_m17 192 rfl) rfl
theorem q4478 : (Jvm.Cond.methodLink "ScriptTypesModel" (822 : Nat) ({ cls := "ScriptTypesModel", name := "give", desc := "(II)V" } : Jvm.MethodName)) ∈ lw_all := lw_g (lw_at lw_m17 193 rfl) rfl
theorem q4479 : (Jvm.Cond.privateMethod ({ cls := "ScriptTypesModel", name := "give", desc := "(II)V" } : Jvm.MethodName)) ∈ lw_tbl := lw_at lw_m17 194 rfl
theorem q4480 : (Jvm.Cond.instanceMethod ({ cls := "ScriptTypesModel", name := "give", desc := "(II)V" } : Jvm.MethodName)) ∈ lw_all := lw_g (lw_at lw_m17 195 rfl) rfl
theorem q4481 : (Jvm.Cond.code ({ cls := "ScriptTypesModel", name := "give", desc := "(II)V" } : Jvm.MethodName) prog_44_method_123_code (3 : Nat) (Option.none : Option Jvm.ClassFile.FieldType)) ∈ lw_all := lw_g (lw_at lw_m17 196 rfl) rfl
theorem q4482 : (Jvm.Cond.methodLink "ScriptTypesModel" (904 : Nat) ({ cls := "ScriptTypesModel", name := "gives", desc := "(I)V" } : Jvm.MethodName)) ∈ lw_all := lw_g (lw_at lw_m17 197 rfl) rfl
theorem q4483 : (Jvm.Cond.privateMethod ({ cls := "ScriptTypesModel", name := "gives", desc := "(I)V" } : Jvm.MethodName)) ∈ lw_tbl := lw_at lw_m17 198 rfl
theorem q4484 : (Jvm.Cond.instanceMethod ({ cls := "ScriptTypesModel", name := "gives", desc := "(I)V" } : Jvm.MethodName)) ∈ lw_all := lw_g (lw_at lw_m17 199 rfl) rfl
theorem q4485 : (Jvm.Cond.code ({ cls := "ScriptTypesModel", name := "gives", desc := "(I)V" } : Jvm.MethodName) prog_44_method_156_code (2 : Nat) (Option.none : Option Jvm.ClassFile.FieldType)) ∈ lw_all := lw_g (lw_at lw_m17 200 rfl) rfl
theorem q4486 : (Jvm.Cond.methodLink "ScriptTypesModel" (882 : Nat) ({ cls := "ScriptTypesModel", name := "drop", desc := "(I)V" } : Jvm.MethodName)) ∈ lw_all := lw_g (lw_at lw_m17 201 rfl) rfl
theorem q4487 : (Jvm.Cond.privateMethod ({ cls := "ScriptTypesModel", name := "drop", desc := "(I)V" } : Jvm.MethodName)) ∈ lw_tbl := lw_at lw_m17 202 rfl
theorem q4488 : (Jvm.Cond.instanceMethod ({ cls := "ScriptTypesModel", name := "drop", desc := "(I)V" } : Jvm.MethodName)) ∈ lw_all := lw_g (lw_at lw_m17 203 rfl) rfl
theorem q4489 : (Jvm.Cond.code ({ cls := "ScriptTypesModel", name := "drop", desc := "(I)V" } : Jvm.MethodName) prog_44_method_154_code (2 : Nat) (Option.none : Option Jvm.ClassFile.FieldType)) ∈ lw_all := lw_g (lw_at lw_m17 204 rfl) rfl
theorem q4490 : (Jvm.Cond.methodLink "ScriptTypesModel" (885 : Nat) ({ cls := "ScriptTypesModel", name := "push", desc := "(II)V" } : Jvm.MethodName)) ∈ lw_all := lw_g (lw_at lw_m17 205 rfl) rfl
theorem q4491 : (Jvm.Cond.privateMethod ({ cls := "ScriptTypesModel", name := "push", desc := "(II)V" } : Jvm.MethodName)) ∈ lw_tbl := lw_at lw_m17 206 rfl
theorem q4492 : (Jvm.Cond.instanceMethod ({ cls := "ScriptTypesModel", name := "push", desc := "(II)V" } : Jvm.MethodName)) ∈ lw_all := lw_g (lw_at lw_m17 207 rfl) rfl
theorem q4493 : (Jvm.Cond.code ({ cls := "ScriptTypesModel", name := "push", desc := "(II)V" } : Jvm.MethodName) prog_44_method_153_code (3 : Nat) (Option.none : Option Jvm.ClassFile.FieldType)) ∈ lw_all := lw_g (lw_at lw_m17 208 rfl) rfl
theorem q4494 : (Jvm.Cond.methodLink "ScriptTypesModel" (879 : Nat) ({ cls := "ScriptTypesModel", name := "top", desc := "()I" } : Jvm.MethodName)) ∈ lw_all := lw_g (lw_at lw_m17 209 rfl) rfl
theorem q4495 : (Jvm.Cond.privateMethod ({ cls := "ScriptTypesModel", name := "top", desc := "()I" } : Jvm.MethodName)) ∈ lw_tbl := lw_at lw_m17 210 rfl
theorem q4496 : (Jvm.Cond.instanceMethod ({ cls := "ScriptTypesModel", name := "top", desc := "()I" } : Jvm.MethodName)) ∈ lw_all := lw_g (lw_at lw_m17 211 rfl) rfl
theorem q4497 : (Jvm.Cond.code ({ cls := "ScriptTypesModel", name := "top", desc := "()I" } : Jvm.MethodName) prog_44_method_150_code (1 : Nat) (Option.some Jvm.ClassFile.FieldType.int)) ∈ lw_all := lw_g (lw_at lw_m17 212 rfl) rfl
theorem q4498 : (Jvm.Cond.methodLink "ScriptTypesModel" (888 : Nat) ({ cls := "ScriptTypesModel", name := "goOn", desc := "()V" } : Jvm.MethodName)) ∈ lw_all := lw_g (lw_at lw_m17 213 rfl) rfl
theorem q4499 : (Jvm.Cond.privateMethod ({ cls := "ScriptTypesModel", name := "goOn", desc := "()V" } : Jvm.MethodName)) ∈ lw_tbl := lw_at lw_m17 214 rfl
theorem q4500 : (Jvm.Cond.instanceMethod ({ cls := "ScriptTypesModel", name := "goOn", desc := "()V" } : Jvm.MethodName)) ∈ lw_all := lw_g (lw_at lw_m17 215 rfl) rfl
theorem q4501 : (Jvm.Cond.code ({ cls := "ScriptTypesModel", name := "goOn", desc := "()V" } : Jvm.MethodName) prog_44_method_155_code (1 : Nat) (Option.none : Option Jvm.ClassFile.FieldType)) ∈ lw_all := lw_g (lw_at lw_m17 216 rfl) rfl
theorem q4502 : (Jvm.Cond.methodLink "ScriptTypesModel" (907 : Nat) ({ cls := "ScriptTypesModel", name := "scopeAt", desc := "(I)I" } : Jvm.MethodName)) ∈ lw_all := lw_g (lw_at lw_m17 217 rfl) rfl
theorem q4503 : (Jvm.Cond.privateMethod ({ cls := "ScriptTypesModel", name := "scopeAt", desc := "(I)I" } : Jvm.MethodName)) ∈ lw_tbl := lw_at lw_m17 218 rfl
theorem q4504 : (Jvm.Cond.instanceMethod ({ cls := "ScriptTypesModel", name := "scopeAt", desc := "(I)I" } : Jvm.MethodName)) ∈ lw_all := lw_g (lw_at lw_m17 219 rfl) rfl
theorem q4505 : (Jvm.Cond.code ({ cls := "ScriptTypesModel", name := "scopeAt", desc := "(I)I" } : Jvm.MethodName) prog_44_method_160_code (4 : Nat) (Option.some Jvm.ClassFile.FieldType.int)) ∈ lw_all := lw_g (lw_at lw_m17 220 rfl) rfl
theorem q4506 : (Jvm.Cond.methodLink "ScriptTypesModel" (910 : Nat) ({ cls := "ScriptTypesModel", name := "sortAt", desc := "(I)I" } : Jvm.MethodName)) ∈ lw_all := lw_g (lw_at lw_m17 221 rfl) rfl
theorem q4507 : (Jvm.Cond.privateMethod ({ cls := "ScriptTypesModel", name := "sortAt", desc := "(I)I" } : Jvm.MethodName)) ∈ lw_tbl := lw_at lw_m17 222 rfl
theorem q4508 : (Jvm.Cond.instanceMethod ({ cls := "ScriptTypesModel", name := "sortAt", desc := "(I)I" } : Jvm.MethodName)) ∈ lw_all := lw_g (lw_at lw_m17 223 rfl) rfl
theorem q4509 : (Jvm.Cond.code ({ cls := "ScriptTypesModel", name := "sortAt", desc := "(I)I" } : Jvm.MethodName) prog_44_method_151_code (2 : Nat) (Option.some Jvm.ClassFile.FieldType.int)) ∈ lw_all := lw_g (lw_at lw_m17 224 rfl) rfl
theorem q4510 : (Jvm.Cond.methodLink "ScriptTypesModel" (913 : Nat) ({ cls := "ScriptTypesModel", name := "valueAt", desc := "(I)I" } : Jvm.MethodName)) ∈ lw_all := lw_g (lw_at lw_m17 225 rfl) rfl
theorem q4511 : (Jvm.Cond.privateMethod ({ cls := "ScriptTypesModel", name := "valueAt", desc := "(I)I" } : Jvm.MethodName)) ∈ lw_tbl := lw_at lw_m17 226 rfl
theorem q4512 : (Jvm.Cond.instanceMethod ({ cls := "ScriptTypesModel", name := "valueAt", desc := "(I)I" } : Jvm.MethodName)) ∈ lw_all := lw_g (lw_at lw_m17 227 rfl) rfl
theorem q4513 : (Jvm.Cond.code ({ cls := "ScriptTypesModel", name := "valueAt", desc := "(I)I" } : Jvm.MethodName) prog_44_method_152_code (2 : Nat) (Option.some Jvm.ClassFile.FieldType.int)) ∈ lw_all := lw_g (lw_at lw_m17 228 rfl) rfl
theorem q4514 : (Jvm.Cond.methodLink "ScriptTypesModel" (916 : Nat) ({ cls := "ScriptTypesModel", name := "global", desc := "(ZI)V" } : Jvm.MethodName)) ∈ lw_all := lw_g (lw_at lw_m17 229 rfl) rfl
theorem q4515 : (Jvm.Cond.privateMethod ({ cls := "ScriptTypesModel", name := "global", desc := "(ZI)V" } : Jvm.MethodName)) ∈ lw_tbl := lw_at lw_m17 230 rfl
theorem q4516 : (Jvm.Cond.instanceMethod ({ cls := "ScriptTypesModel", name := "global", desc := "(ZI)V" } : Jvm.MethodName)) ∈ lw_all := lw_g (lw_at lw_m17 231 rfl) rfl
theorem q4517 : (Jvm.Cond.code ({ cls := "ScriptTypesModel", name := "global", desc := "(ZI)V" } : Jvm.MethodName) prog_44_method_169_code (4 : Nat) (Option.none : Option Jvm.ClassFile.FieldType)) ∈ lw_all := lw_g (lw_at lw_m17 232 rfl) rfl
theorem q4518 : (Jvm.Cond.methodLink "ScriptTypesModel" (966 : Nat) ({ cls := "ScriptTypesModel", name := "error", desc := "(I)V" } : Jvm.MethodName)) ∈ lw_all := lw_g (lw_at lw_m17 233 rfl) rfl
theorem q4519 : (Jvm.Cond.privateMethod ({ cls := "ScriptTypesModel", name := "error", desc := "(I)V" } : Jvm.MethodName)) ∈ lw_tbl := lw_at lw_m17 234 rfl
theorem q4520 : (Jvm.Cond.instanceMethod ({ cls := "ScriptTypesModel", name := "error", desc := "(I)V" } : Jvm.MethodName)) ∈ lw_all := lw_g (lw_at lw_m17 235 rfl) rfl
theorem q4521 : (Jvm.Cond.code ({ cls := "ScriptTypesModel", name := "error", desc := "(I)V" } : Jvm.MethodName) prog_44_method_158_code (3 : Nat) (Option.none : Option Jvm.ClassFile.FieldType)) ∈ lw_all := lw_g (lw_at lw_m17 236 rfl) rfl
theorem q4522 : (Jvm.Cond.methodLink "ScriptTypesModel" (897 : Nat) ({ cls := "ScriptTypesModel", name := "toss", desc := "(II)V" } : Jvm.MethodName)) ∈ lw_all := lw_g (lw_at lw_m17 237 rfl) rfl
theorem q4523 : (Jvm.Cond.privateMethod ({ cls := "ScriptTypesModel", name := "toss", desc := "(II)V" } : Jvm.MethodName)) ∈ lw_tbl := lw_at lw_m17 238 rfl
theorem q4524 : (Jvm.Cond.instanceMethod ({ cls := "ScriptTypesModel", name := "toss", desc := "(II)V" } : Jvm.MethodName)) ∈ lw_all := lw_g (lw_at lw_m17 239 rfl) rfl
theorem q4525 : (Jvm.Cond.code ({ cls := "ScriptTypesModel", name := "toss", desc := "(II)V" } : Jvm.MethodName) prog_44_method_157_code (5 : Nat) (Option.none : Option Jvm.ClassFile.FieldType)) ∈ lw_all := lw_g (lw_at lw_m18 0 rfl) rfl
theorem q4526 : (Jvm.Cond.methodLink "ScriptTypesModel" (937 : Nat) ({ cls := "ScriptTypesModel", name := "typeOf", desc := "(II)I" } : Jvm.MethodName)) ∈ lw_all := lw_g (lw_at lw_m18 1 rfl) rfl
theorem q4527 : (Jvm.Cond.privateMethod ({ cls := "ScriptTypesModel", name := "typeOf", desc := "(II)I" } : Jvm.MethodName)) ∈ lw_tbl := lw_at lw_m18 2 rfl
theorem q4528 : (Jvm.Cond.instanceMethod ({ cls := "ScriptTypesModel", name := "typeOf", desc := "(II)I" } : Jvm.MethodName)) ∈ lw_all := lw_g (lw_at lw_m18 3 rfl) rfl
theorem q4529 : (Jvm.Cond.code ({ cls := "ScriptTypesModel", name := "typeOf", desc := "(II)I" } : Jvm.MethodName) prog_44_method_170_code (3 : Nat) (Option.some Jvm.ClassFile.FieldType.int)) ∈ lw_all := lw_g (lw_at lw_m18 4 rfl) rfl
theorem q4530 : (Jvm.Cond.methodLink "ScriptTypesModel" (920 : Nat) ({ cls := "ScriptTypesModel", name := "siteLabel", desc := "(I)I" } : Jvm.MethodName)) ∈ lw_all := lw_g (lw_at lw_m18 5 rfl) rfl
theorem q4531 : (Jvm.Cond.privateMethod ({ cls := "ScriptTypesModel", name := "siteLabel", desc := "(I)I" } : Jvm.MethodName)) ∈ lw_tbl := lw_at lw_m18 6 rfl
theorem q4532 : (Jvm.Cond.instanceMethod ({ cls := "ScriptTypesModel", name := "siteLabel", desc := "(I)I" } : Jvm.MethodName)) ∈ lw_all := lw_g (lw_at lw_m18 7 rfl) rfl
theorem q4533 : (Jvm.Cond.code ({ cls := "ScriptTypesModel", name := "siteLabel", desc := "(I)I" } : Jvm.MethodName) prog_44_method_167_code (2 : Nat) (Option.some Jvm.ClassFile.FieldType.int)) ∈ lw_all := lw_g (lw_at lw_m18 8 rfl) rfl
theorem q4534 : (Jvm.Cond.methodLink "ScriptTypesModel" (923 : Nat) ({ cls := "ScriptTypesModel", name := "newArray", desc := "(I)I" } : Jvm.MethodName)) ∈ lw_all := lw_g (lw_at lw_m18 9 rfl) rfl
theorem q4535 : (Jvm.Cond.privateMethod ({ cls := "ScriptTypesModel", name := "newArray", desc := "(I)I" } : Jvm.MethodName)) ∈ lw_tbl := lw_at lw_m18 10 rfl
theorem q4536 : (Jvm.Cond.instanceMethod ({ cls := "ScriptTypesModel", name := "newArray", desc := "(I)I" } : Jvm.MethodName)) ∈ lw_all := lw_g (lw_at lw_m18 11 rfl) rfl
theorem q4537 : (Jvm.Cond.code ({ cls := "ScriptTypesModel", name := "newArray", desc := "(I)I" } : Jvm.MethodName) prog_44_method_168_code (3 : Nat) (Option.some Jvm.ClassFile.FieldType.int)) ∈ lw_all := lw_g (lw_at lw_m18 12 rfl) rfl
theorem q4538 : (Jvm.Cond.methodLink "ScriptTypesModel" (926 : Nat) ({ cls := "ScriptTypesModel", name := "makeFunction", desc := "(I)V" } : Jvm.MethodName)) ∈ lw_all := lw_g (lw_at lw_m18 13 rfl) rfl
theorem q4539 : (Jvm.Cond.privateMethod ({ cls := "ScriptTypesModel", name := "makeFunction", desc := "(I)V" } : Jvm.MethodName)) ∈ lw_tbl := lw_at lw_m18 14 rfl
theorem q4540 : (Jvm.Cond.instanceMethod ({ cls := "ScriptTypesModel", name := "makeFunction", desc := "(I)V" } : Jvm.MethodName)) ∈ lw_all := lw_g (lw_at lw_m18 15 rfl) rfl
theorem q4541 : (Jvm.Cond.code ({ cls := "ScriptTypesModel", name := "makeFunction", desc := "(I)V" } : Jvm.MethodName) prog_44_method_171_code (5 : Nat) (Option.none : Option Jvm.ClassFile.FieldType)) ∈ lw_all := lw_g (lw_at lw_m18 16 rfl) rfl
theorem q4542 : (Jvm.Cond.methodLink "ScriptTypesModel" (929 : Nat) ({ cls := "ScriptTypesModel", name := "get", desc := "()V" } : Jvm.MethodName)) ∈ lw_all := lw_g (lw_at lw_m18 17 rfl) rfl
theorem q4543 : (Jvm.Cond.privateMethod ({ cls := "ScriptTypesModel", name := "get", desc := "()V" } : Jvm.MethodName)) ∈ lw_tbl := lw_at lw_m18 18 rfl
theorem q4544 : (Jvm.Cond.instanceMethod ({ cls := "ScriptTypesModel", name := "get", desc := "()V" } : Jvm.MethodName)) ∈ lw_all := lw_g (lw_at lw_m18 19 rfl) rfl
theorem q4545 : (Jvm.Cond.code ({ cls := "ScriptTypesModel", name := "get", desc := "()V" } : Jvm.MethodName) prog_44_method_172_code (5 : Nat) (Option.none : Option Jvm.ClassFile.FieldType)) ∈ lw_all := lw_g (lw_at lw_m18 20 rfl) rfl
theorem q4546 : (Jvm.Cond.methodLink "ScriptTypesModel" (969 : Nat) ({ cls := "ScriptTypesModel", name := "textOf", desc := "(II)I" } : Jvm.MethodName)) ∈ lw_all := lw_g (lw_at lw_m18 21 rfl) rfl
theorem q4547 : (Jvm.Cond.privateMethod ({ cls := "ScriptTypesModel", name := "textOf", desc := "(II)I" } : Jvm.MethodName)) ∈ lw_tbl := lw_at lw_m18 22 rfl
theorem q4548 : (Jvm.Cond.instanceMethod ({ cls := "ScriptTypesModel", name := "textOf", desc := "(II)I" } : Jvm.MethodName)) ∈ lw_all := lw_g (lw_at lw_m18 23 rfl) rfl
theorem q4549 : (Jvm.Cond.code ({ cls := "ScriptTypesModel", name := "textOf", desc := "(II)I" } : Jvm.MethodName) prog_44_method_127_code (3 : Nat) (Option.some Jvm.ClassFile.FieldType.int)) ∈ lw_all := lw_g (lw_at lw_m18 24 rfl) rfl
theorem q4550 : (Jvm.Cond.methodLink "ScriptTypesModel" (800 : Nat) ({ cls := "ScriptTypesModel", name := "putText", desc := "(II)V" } : Jvm.MethodName)) ∈ lw_all := lw_g (lw_at lw_m18 25 rfl) rfl
theorem q4551 : (Jvm.Cond.privateMethod ({ cls := "ScriptTypesModel", name := "putText", desc := "(II)V" } : Jvm.MethodName)) ∈ lw_tbl := lw_at lw_m18 26 rfl
theorem q4552 : (Jvm.Cond.instanceMethod ({ cls := "ScriptTypesModel", name := "putText", desc := "(II)V" } : Jvm.MethodName)) ∈ lw_all := lw_g (lw_at lw_m18 27 rfl) rfl
theorem q4553 : (Jvm.Cond.code ({ cls := "ScriptTypesModel", name := "putText", desc := "(II)V" } : Jvm.MethodName) prog_44_method_126_code (3 : Nat) (Option.none : Option Jvm.ClassFile.FieldType)) ∈ lw_all := lw_g (lw_at lw_m18 28 rfl) rfl
theorem q4554 : (Jvm.Cond.methodLink "ScriptTypesModel" (797 : Nat) ({ cls := "ScriptTypesModel", name := "putString", desc := "(I)V" } : Jvm.MethodName)) ∈ lw_all := lw_g (lw_at lw_m18 29 rfl) rfl
theorem q4555 : (Jvm.Cond.privateMethod ({ cls := "ScriptTypesModel", name := "putString", desc := "(I)V" } : Jvm.MethodName)) ∈ lw_tbl := lw_at lw_m18 30 rfl
theorem q4556 : (Jvm.Cond.instanceMethod ({ cls := "ScriptTypesModel", name := "putString", desc := "(I)V" } : Jvm.MethodName)) ∈ lw_all := lw_g (lw_at lw_m18 31 rfl) rfl
theorem q4557 : (Jvm.Cond.code ({ cls := "ScriptTypesModel", name := "putString", desc := "(I)V" } : Jvm.MethodName) prog_44_method_125_code (3 : Nat) (Option.none : Option Jvm.ClassFile.FieldType)) ∈ lw_all := lw_g (lw_at lw_m18 32 rfl) rfl
theorem q4558 : (Jvm.Cond.methodLink "ScriptTypesModel" (803 : Nat) ({ cls := "ScriptTypesModel", name := "made", desc := "()I" } : Jvm.MethodName)) ∈ lw_all := lw_g (lw_at lw_m18 33 rfl) rfl
theorem q4559 : (Jvm.Cond.privateMethod ({ cls := "ScriptTypesModel", name := "made", desc := "()I" } : Jvm.MethodName)) ∈ lw_tbl := lw_at lw_m18 34 rfl
theorem q4560 : (Jvm.Cond.instanceMethod ({ cls := "ScriptTypesModel", name := "made", desc := "()I" } : Jvm.MethodName)) ∈ lw_all := lw_g (lw_at lw_m18 35 rfl) rfl
theorem q4561 : (Jvm.Cond.code ({ cls := "ScriptTypesModel", name := "made", desc := "()I" } : Jvm.MethodName) prog_44_method_124_code (2 : Nat) (Option.some Jvm.ClassFile.FieldType.int)) ∈ lw_all := lw_g (lw_at lw_m18 36 rfl) rfl
theorem q4562 : (Jvm.Cond.methodLink "ScriptTypesModel" (972 : Nat) ({ cls := "ScriptTypesModel", name := "read", desc := "(II)Z" } : Jvm.MethodName)) ∈ lw_all := lw_g (lw_at lw_m18 37 rfl) rfl
theorem q4563 : (Jvm.Cond.privateMethod ({ cls := "ScriptTypesModel", name := "read", desc := "(II)Z" } : Jvm.MethodName)) ∈ lw_tbl := lw_at lw_m18 38 rfl
theorem q4564 : (Jvm.Cond.instanceMethod ({ cls := "ScriptTypesModel", name := "read", desc := "(II)Z" } : Jvm.MethodName)) ∈ lw_all := lw_g (lw_at lw_m18 39 rfl) rfl
theorem q4565 : (Jvm.Cond.code ({ cls := "ScriptTypesModel", name := "read", desc := "(II)Z" } : Jvm.MethodName) prog_44_method_144_code (5 : Nat) (Option.some Jvm.ClassFile.FieldType.boolean)) ∈ lw_all := lw_g (lw_at lw_m18 40 rfl) rfl
theorem q4566 : (Jvm.Cond.methodLink "ScriptTypesModel" (931 : Nat) ({ cls := "ScriptTypesModel", name := "putInto", desc := "()V" } : Jvm.MethodName)) ∈ lw_all := lw_g (lw_at lw_m18 41 rfl) rfl
theorem q4567 : (Jvm.Cond.privateMethod ({ cls := "ScriptTypesModel", name := "putInto", desc := "()V" } : Jvm.MethodName)) ∈ lw_tbl := lw_at lw_m18 42 rfl
theorem q4568 : (Jvm.Cond.instanceMethod ({ cls := "ScriptTypesModel", name := "putInto", desc := "()V" } : Jvm.MethodName)) ∈ lw_all := lw_g (lw_at lw_m18 43 rfl) rfl
theorem q4569 : (Jvm.Cond.code ({ cls := "ScriptTypesModel", name := "putInto", desc := "()V" } : Jvm.MethodName) prog_44_method_173_code (6 : Nat) (Option.none : Option Jvm.ClassFile.FieldType)) ∈ lw_all := lw_g (lw_at lw_m18 44 rfl) rfl
theorem q4570 : (Jvm.Cond.methodLink "ScriptTypesModel" (975 : Nat) ({ cls := "ScriptTypesModel", name := "indexOf", desc := "(I)I" } : Jvm.MethodName)) ∈ lw_all := lw_g (lw_at lw_m18 45 rfl) rfl
theorem q4571 : (Jvm.Cond.privateMethod ({ cls := "ScriptTypesModel", name := "indexOf", desc := "(I)I" } : Jvm.MethodName)) ∈ lw_tbl := lw_at lw_m18 46 rfl
theorem q4572 : (Jvm.Cond.instanceMethod ({ cls := "ScriptTypesModel", name := "indexOf", desc := "(I)I" } : Jvm.MethodName)) ∈ lw_all := lw_g (lw_at lw_m18 47 rfl) rfl
theorem q4573 : (Jvm.Cond.code ({ cls := "ScriptTypesModel", name := "indexOf", desc := "(I)I" } : Jvm.MethodName) prog_44_method_146_code (5 : Nat) (Option.some Jvm.ClassFile.FieldType.int)) ∈ lw_all := lw_g (lw_at lw_m18 48 rfl) rfl
theorem q4574 : (Jvm.Cond.methodLink "ScriptTypesModel" (978 : Nat) ({ cls := "ScriptTypesModel", name := "lengthOf", desc := "(I)I" } : Jvm.MethodName)) ∈ lw_all := lw_g (lw_at lw_m18 49 rfl) rfl
theorem q4575 : (Jvm.Cond.privateMethod ({ cls := "ScriptTypesModel", name := "lengthOf", desc := "(I)I" } : Jvm.MethodName)) ∈ lw_tbl := lw_at lw_m18 50 rfl
theorem q4576 : (Jvm.Cond.instanceMethod ({ cls := "ScriptTypesModel", name := "lengthOf", desc := "(I)I" } : Jvm.MethodName)) ∈ lw_all := lw_g (lw_at lw_m18 51 rfl) rfl
theorem q4577 : (Jvm.Cond.code ({ cls := "ScriptTypesModel", name := "lengthOf", desc := "(I)I" } : Jvm.MethodName) prog_44_method_145_code (2 : Nat) (Option.some Jvm.ClassFile.FieldType.int)) ∈ lw_all := lw_g (lw_at lw_m18 52 rfl) rfl
theorem q4578 : (Jvm.Cond.methodLink "ScriptTypesModel" (934 : Nat) ({ cls := "ScriptTypesModel", name := "delete", desc := "()V" } : Jvm.MethodName)) ∈ lw_all := lw_g (lw_at lw_m18 53 rfl) rfl
theorem q4579 : (Jvm.Cond.privateMethod ({ cls := "ScriptTypesModel", name := "delete", desc := "()V" } : Jvm.MethodName)) ∈ lw_tbl := lw_at lw_m18 54 rfl
theorem q4580 : (Jvm.Cond.instanceMethod ({ cls := "ScriptTypesModel", name := "delete", desc := "()V" } : Jvm.MethodName)) ∈ lw_all := lw_g (lw_at lw_m18 55 rfl) rfl
theorem q4581 : (Jvm.Cond.code ({ cls := "ScriptTypesModel", name := "delete", desc := "()V" } : Jvm.MethodName) prog_44_method_174_code (5 : Nat) (Option.none : Option Jvm.ClassFile.FieldType)) ∈ lw_all := lw_g (lw_at lw_m18 56 rfl) rfl
theorem q4582 : (Jvm.Cond.methodLink "ScriptTypesModel" (981 : Nat) ({ cls := "ScriptTypesModel", name := "remove", desc := "(II)V" } : Jvm.MethodName)) ∈ lw_all := lw_g (lw_at lw_m18 57 rfl) rfl
theorem q4583 : (Jvm.Cond.privateMethod ({ cls := "ScriptTypesModel", name := "remove", desc := "(II)V" } : Jvm.MethodName)) ∈ lw_tbl := lw_at lw_m18 58 rfl
theorem q4584 : (Jvm.Cond.instanceMethod ({ cls := "ScriptTypesModel", name := "remove", desc := "(II)V" } : Jvm.MethodName)) ∈ lw_all := lw_g (lw_at lw_m18 59 rfl) rfl
theorem q4585 : (Jvm.Cond.code ({ cls := "ScriptTypesModel", name := "remove", desc := "(II)V" } : Jvm.MethodName) prog_44_method_143_code (6 : Nat) (Option.none : Option Jvm.ClassFile.FieldType)) ∈ lw_all := lw_g (lw_at lw_m18 60 rfl) rfl
theorem q4586 : (Jvm.Cond.methodLink "ScriptTypesModel" (827 : Nat) ({ cls := "ScriptTypesModel", name := "truth", desc := "(Z)V" } : Jvm.MethodName)) ∈ lw_all := lw_g (lw_at lw_m18 61 rfl) rfl
theorem q4587 : (Jvm.Cond.privateMethod ({ cls := "ScriptTypesModel", name := "truth", desc := "(Z)V" } : Jvm.MethodName)) ∈ lw_tbl := lw_at lw_m18 62 rfl
theorem q4588 : (Jvm.Cond.instanceMethod ({ cls := "ScriptTypesModel", name := "truth", desc := "(Z)V" } : Jvm.MethodName)) ∈ lw_all := lw_g (lw_at lw_m18 63 rfl) rfl
theorem q4589 : (Jvm.Cond.code ({ cls := "ScriptTypesModel", name := "truth", desc := "(Z)V" } : Jvm.MethodName) prog_44_method_135_code (2 : Nat) (Option.none : Option Jvm.ClassFile.FieldType)) ∈ lw_all := lw_g (lw_at lw_m18 64 rfl) rfl
theorem q4590 : (Jvm.Cond.methodLink "ScriptTypesModel" (940 : Nat) ({ cls := "ScriptTypesModel", name := "unaryOf", desc := "(III)V" } : Jvm.MethodName)) ∈ lw_all := lw_g (lw_at lw_m18 65 rfl) rfl
theorem q4591 : (Jvm.Cond.privateMethod ({ cls := "ScriptTypesModel", name := "unaryOf", desc := "(III)V" } : Jvm.MethodName)) ∈ lw_tbl := lw_at lw_m18 66 rfl
theorem q4592 : (Jvm.Cond.instanceMethod ({ cls := "ScriptTypesModel", name := "unaryOf", desc := "(III)V" } : Jvm.MethodName)) ∈ lw_all := lw_g (lw_at lw_m18 67 rfl) rfl
theorem q4593 : (Jvm.Cond.code ({ cls := "ScriptTypesModel", name := "unaryOf", desc := "(III)V" } : Jvm.MethodName) prog_44_method_136_code (5 : Nat) (Option.none : Option Jvm.ClassFile.FieldType)) ∈ lw_all := lw_g (lw_at lw_m18 68 rfl) rfl
theorem q4594 : (Jvm.Cond.methodLink "ScriptTypesModel" (824 : Nat) ({ cls := "ScriptTypesModel", name := "isTrue", desc := "(II)Z" } : Jvm.MethodName)) ∈ lw_all := lw_g (lw_at lw_m18 69 rfl) rfl
theorem q4595 : (Jvm.Cond.privateMethod ({ cls := "ScriptTypesModel", name := "isTrue", desc := "(II)Z" } : Jvm.MethodName)) ∈ lw_tbl := lw_at lw_m18 70 rfl
theorem q4596 : (Jvm.Cond.instanceMethod ({ cls := "ScriptTypesModel", name := "isTrue", desc := "(II)Z" } : Jvm.MethodName)) ∈ lw_all := lw_g (lw_at lw_m18 71 rfl) rfl
theorem q4597 : (Jvm.Cond.code ({ cls := "ScriptTypesModel", name := "isTrue", desc := "(II)Z" } : Jvm.MethodName) prog_44_method_130_code (3 : Nat) (Option.some Jvm.ClassFile.FieldType.boolean)) ∈ lw_all := lw_g (lw_at lw_m18 72 rfl) rfl
theorem q4598 : (Jvm.Cond.methodLink "ScriptTypesModel" (816 : Nat) ({ cls := "ScriptTypesModel", name := "numberOf", desc := "(II)I" } : Jvm.MethodName)) ∈ lw_all := lw_g (lw_at lw_m18 73 rfl) rfl
theorem q4599 : (Jvm.Cond.privateMethod ({ cls := "ScriptTypesModel", name := "numberOf", desc := "(II)I" } : Jvm.MethodName)) ∈ lw_tbl := lw_at lw_m18 74 rfl
theorem q4600 : (Jvm.Cond.instanceMethod ({ cls := "ScriptTypesModel", name := "numberOf", desc := "(II)I" } : Jvm.MethodName)) ∈ lw_all := lw_g (lw_at lw_m18 75 rfl) rfl
theorem q4601 : (Jvm.Cond.code ({ cls := "ScriptTypesModel", name := "numberOf", desc := "(II)I" } : Jvm.MethodName) prog_44_method_128_code (3 : Nat) (Option.some Jvm.ClassFile.FieldType.int)) ∈ lw_all := lw_g (lw_at lw_m18 76 rfl) rfl
theorem q4602 : (Jvm.Cond.methodLink "ScriptTypesModel" (809 : Nat) ({ cls := "ScriptTypesModel", name := "numberOfString", desc := "(I)I" } : Jvm.MethodName)) ∈ lw_all := lw_g (lw_at lw_m18 77 rfl) rfl
theorem q4603 : (Jvm.Cond.privateMethod ({ cls := "ScriptTypesModel", name := "numberOfString", desc := "(I)I" } : Jvm.MethodName)) ∈ lw_tbl := lw_at lw_m18 78 rfl
theorem q4604 : (Jvm.Cond.instanceMethod ({ cls := "ScriptTypesModel", name := "numberOfString", desc := "(I)I" } : Jvm.MethodName)) ∈ lw_all := lw_g (lw_at lw_m18 79 rfl) rfl
theorem q4605 : (Jvm.Cond.code ({ cls := "ScriptTypesModel", name := "numberOfString", desc := "(I)I" } : Jvm.MethodName) prog_44_method_129_code (8 : Nat) (Option.some Jvm.ClassFile.FieldType.int)) ∈ lw_all := lw_g (lw_at lw_m18 80 rfl) rfl
theorem q4606 : (Jvm.Cond.methodLink "ScriptTypesModel" (943 : Nat) ({ cls := "ScriptTypesModel", name := "binary", desc := "(I)V" } : Jvm.MethodName)) ∈ lw_all := lw_g (lw_at lw_m18 81 rfl) rfl
theorem q4607 : (Jvm.Cond.privateMethod ({ cls := "ScriptTypesModel", name := "binary", desc := "(I)V" } : Jvm.MethodName)) ∈ lw_tbl := lw_at lw_m18 82 rfl
theorem q4608 : (Jvm.Cond.instanceMethod ({ cls := "ScriptTypesModel", name := "binary", desc := "(I)V" } : Jvm.MethodName)) ∈ lw_all := lw_g (lw_at lw_m18 83 rfl) rfl
theorem q4609 : (Jvm.Cond.code ({ cls := "ScriptTypesModel", name := "binary", desc := "(I)V" } : Jvm.MethodName) prog_44_method_175_code (6 : Nat) (Option.none : Option Jvm.ClassFile.FieldType)) ∈ lw_all := lw_g (lw_at lw_m18 84 rfl) rfl
theorem q4610 : (Jvm.Cond.methodLink "ScriptTypesModel" (984 : Nat) ({ cls := "ScriptTypesModel", name := "within", desc := "(IIII)V" } : Jvm.MethodName)) ∈ lw_all := lw_g (lw_at lw_m18 85 rfl) rfl
theorem q4611 : (Jvm.Cond.privateMethod ({ cls := "ScriptTypesModel", name := "within", desc := "(IIII)V" } : Jvm.MethodName)) ∈ lw_tbl := lw_at lw_m18 86 rfl
theorem q4612 : (Jvm.Cond.instanceMethod ({ cls := "ScriptTypesModel", name := "within", desc := "(IIII)V" } : Jvm.MethodName)) ∈ lw_all := lw_g (lw_at lw_m18 87 rfl) rfl
theorem q4613 : (Jvm.Cond.code ({ cls := "ScriptTypesModel", name := "within", desc := "(IIII)V" } : Jvm.MethodName) prog_44_method_176_code (7 : Nat) (Option.none : Option Jvm.ClassFile.FieldType)) ∈ lw_all := lw_g (lw_at lw_m18 88 rfl) rfl
theorem q4614 : (Jvm.Cond.methodLink "ScriptTypesModel" (987 : Nat) ({ cls := "ScriptTypesModel", name := "isMadeBy", desc := "(IIII)V" } : Jvm.MethodName)) ∈ lw_all := lw_g (lw_at lw_m18 89 rfl) rfl
theorem q4615 : (Jvm.Cond.privateMethod ({ cls := "ScriptTypesModel", name := "isMadeBy", desc := "(IIII)V" } : Jvm.MethodName)) ∈ lw_tbl := lw_at lw_m18 90 rfl
theorem q4616 : (Jvm.Cond.instanceMethod ({ cls := "ScriptTypesModel", name := "isMadeBy", desc := "(IIII)V" } : Jvm.MethodName)) ∈ lw_all := lw_g (lw_at lw_m18 91 rfl) rfl
theorem q4617 : (Jvm.Cond.code ({ cls := "ScriptTypesModel", name := "isMadeBy", desc := "(IIII)V" } : Jvm.MethodName) prog_44_method_178_code (9 : Nat) (Option.none : Option Jvm.ClassFile.FieldType)) ∈ lw_all := lw_g (lw_at lw_m18 92 rfl) rfl
theorem q4618 : (Jvm.Cond.methodLink "ScriptTypesModel" (992 : Nat) ({ cls := "ScriptTypesModel", name := "isFunction", desc := "(II)Z" } : Jvm.MethodName)) ∈ lw_all := lw_g (lw_at lw_m18 93 rfl) rfl
theorem q4619 : (Jvm.Cond.privateMethod ({ cls := "ScriptTypesModel", name := "isFunction", desc := "(II)Z" } : Jvm.MethodName)) ∈ lw_tbl := lw_at lw_m18 94 rfl
theorem q4620 : (Jvm.Cond.instanceMethod ({ cls := "ScriptTypesModel", name := "isFunction", desc := "(II)Z" } : Jvm.MethodName)) ∈ lw_all := lw_g (lw_at lw_m18 95 rfl) rfl
theorem q4621 : (Jvm.Cond.code ({ cls := "ScriptTypesModel", name := "isFunction", desc := "(II)Z" } : Jvm.MethodName) prog_44_method_177_code (3 : Nat) (Option.some Jvm.ClassFile.FieldType.boolean)) ∈ lw_all := lw_g (lw_at lw_m18 96 rfl) rfl
theorem q4622 : (Jvm.Cond.methodLink "ScriptTypesModel" (990 : Nat) ({ cls := "ScriptTypesModel", name := "binaryOf", desc := "(IIIII)V" } : Jvm.MethodName)) ∈ lw_all := lw_g (lw_at lw_m18 97 rfl) rfl
theorem q4623 : (Jvm.Cond.privateMethod ({ cls := "ScriptTypesModel", name := "binaryOf", desc := "(IIIII)V" } : Jvm.MethodName)) ∈ lw_tbl := lw_at lw_m18 98 rfl
theorem q4624 : (Jvm.Cond.instanceMethod ({ cls := "ScriptTypesModel", name := "binaryOf", desc := "(IIIII)V" } : Jvm.MethodName)) ∈ lw_all := lw_g (lw_at lw_m18 99 rfl) rfl
theorem q4625 : (Jvm.Cond.code ({ cls := "ScriptTypesModel", name := "binaryOf", desc := "(IIIII)V" } : Jvm.MethodName) prog_44_method_138_code (10 : Nat) (Option.none : Option Jvm.ClassFile.FieldType)) ∈ lw_all := lw_g (lw_at lw_m18 100 rfl) rfl
theorem q4626 : (Jvm.Cond.methodLink "ScriptTypesModel" (830 : Nat) ({ cls := "ScriptTypesModel", name := "joinsTexts", desc := "(III)Z" } : Jvm.MethodName)) ∈ lw_all := lw_g (lw_at lw_m18 101 rfl) rfl
theorem q4627 : (Jvm.Cond.privateMethod ({ cls := "ScriptTypesModel", name := "joinsTexts", desc := "(III)Z" } : Jvm.MethodName)) ∈ lw_tbl := lw_at lw_m18 102 rfl
theorem q4628 : (Jvm.Cond.instanceMethod ({ cls := "ScriptTypesModel", name := "joinsTexts", desc := "(III)Z" } : Jvm.MethodName)) ∈ lw_all := lw_g (lw_at lw_m18 103 rfl) rfl
theorem q4629 : (Jvm.Cond.code ({ cls := "ScriptTypesModel", name := "joinsTexts", desc := "(III)Z" } : Jvm.MethodName) prog_44_method_137_code (4 : Nat) (Option.some Jvm.ClassFile.FieldType.boolean)) ∈ lw_all := lw_g (lw_at lw_m18 104 rfl) rfl
theorem q4630 : (Jvm.Cond.methodLink "ScriptTypesModel" (834 : Nat) ({ cls := "ScriptTypesModel", name := "isEqual", desc := "(IIII)Z" } : Jvm.MethodName)) ∈ lw_all := lw_g (lw_at lw_m18 105 rfl) rfl
theorem q4631 : (Jvm.Cond.privateMethod ({ cls := "ScriptTypesModel", name := "isEqual", desc := "(IIII)Z" } : Jvm.MethodName)) ∈ lw_tbl := lw_at lw_m18 106 rfl
theorem q4632 : (Jvm.Cond.instanceMethod ({ cls := "ScriptTypesModel", name := "isEqual", desc := "(IIII)Z" } : Jvm.MethodName)) ∈ lw_all := lw_g (lw_at lw_m18 107 rfl) rfl
theorem q4633 : (Jvm.Cond.code ({ cls := "ScriptTypesModel", name := "isEqual", desc := "(IIII)Z" } : Jvm.MethodName) prog_44_method_132_code (8 : Nat) (Option.some Jvm.ClassFile.FieldType.boolean)) ∈ lw_all := lw_g (lw_at lw_m18 108 rfl) rfl
theorem q4634 : (Jvm.Cond.methodLink "ScriptTypesModel" (812 : Nat) ({ cls := "ScriptTypesModel", name := "isSame", desc := "(IIII)Z" } : Jvm.MethodName)) ∈ lw_all := lw_g (lw_at lw_m18 109 rfl) rfl
theorem q4635 : (Jvm.Cond.static ({ cls := "ScriptTypesModel", name := "isSame", desc := "(IIII)Z" } : Jvm.MethodName)) ∈ lw_all := lw_g (lw_at lw_m18 110 rfl) rfl
theorem q4636 : (Jvm.Cond.code ({ cls := "ScriptTypesModel", name := "isSame", desc := "(IIII)Z" } : Jvm.MethodName) prog_44_method_131_code (4 : Nat) (Option.some Jvm.ClassFile.FieldType.boolean)) ∈ lw_all := lw_g (lw_at lw_m18 111 rfl) rfl
theorem q4637 : (Jvm.Cond.methodLink "ScriptTypesModel" (837 : Nat) ({ cls := "ScriptTypesModel", name := "compares", desc := "(IIIII)Z" } : Jvm.MethodName)) ∈ lw_all := lw_g (lw_at lw_m18 112 rfl) rfl
theorem q4638 : (Jvm.Cond.privateMethod ({ cls := "ScriptTypesModel", name := "compares", desc := "(IIIII)Z" } : Jvm.MethodName)) ∈ lw_tbl := lw_at lw_m18 113 rfl
theorem q4639 : (Jvm.Cond.instanceMethod ({ cls := "ScriptTypesModel", name := "compares", desc := "(IIIII)Z" } : Jvm.MethodName)) ∈ lw_all := lw_g (lw_at lw_m18 114 rfl) rfl
theorem q4640 : (Jvm.Cond.code ({ cls := "ScriptTypesModel", name := "compares", desc := "(IIIII)Z" } : Jvm.MethodName) prog_44_method_134_code (11 : Nat) (Option.some Jvm.ClassFile.FieldType.boolean)) ∈ lw_all := lw_g (lw_at lw_m18 115 rfl) rfl
theorem q4641 : (Jvm.Cond.methodLink "ScriptTypesModel" (819 : Nat) ({ cls := "ScriptTypesModel", name := "orderOf", desc := "(II)I" } : Jvm.MethodName)) ∈ lw_all := lw_g (lw_at lw_m18 116 rfl) rfl
theorem q4642 : (Jvm.Cond.privateMethod ({ cls := "ScriptTypesModel", name := "orderOf", desc := "(II)I" } : Jvm.MethodName)) ∈ lw_tbl := lw_at lw_m18 117 rfl
theorem q4643 : (Jvm.Cond.instanceMethod ({ cls := "ScriptTypesModel", name := "orderOf", desc := "(II)I" } : Jvm.MethodName)) ∈ lw_all := lw_g (lw_at lw_m18 118 rfl) rfl
theorem q4644 : (Jvm.Cond.code ({ cls := "ScriptTypesModel", name := "orderOf", desc := "(II)I" } : Jvm.MethodName) prog_44_method_133_code (4 : Nat) (Option.some Jvm.ClassFile.FieldType.int)) ∈ lw_all := lw_g (lw_at lw_m18 119 rfl) rfl
theorem q4645 : (Jvm.Cond.methodLink "ScriptTypesModel" (841 : Nat) ({ cls := "ScriptTypesModel", name := "bits", desc := "(III)I" } : Jvm.MethodName)) ∈ lw_all := lw_g (lw_at lw_m18 120 rfl) rfl
theorem q4646 : (Jvm.Cond.static ({ cls := "ScriptTypesModel", name := "bits", desc := "(III)I" } : Jvm.MethodName)) ∈ lw_all := lw_g (lw_at lw_m18 121 rfl) rfl
theorem q4647 : (Jvm.Cond.code ({ cls := "ScriptTypesModel", name := "bits", desc := "(III)I" } : Jvm.MethodName) prog_44_method_139_code (3 : Nat) (Option.some Jvm.ClassFile.FieldType.int)) ∈ lw_all := lw_g (lw_at lw_m18 122 rfl) rfl
theorem q4648 : (Jvm.Cond.methodLink "ScriptTypesModel" (945 : Nat) ({ cls := "ScriptTypesModel", name := "call", desc := "(I)V" } : Jvm.MethodName)) ∈ lw_all := lw_g (lw_at lw_m18 123 rfl) rfl
theorem q4649 : (Jvm.Cond.privateMethod ({ cls := "ScriptTypesModel", name := "call", desc := "(I)V" } : Jvm.MethodName)) ∈ lw_tbl := lw_at lw_m18 124 rfl
theorem q4650 : (Jvm.Cond.instanceMethod ({ cls := "ScriptTypesModel", name := "call", desc := "(I)V" } : Jvm.MethodName)) ∈ lw_all := lw_g (lw_at lw_m18 125 rfl) rfl
theorem q4651 : (Jvm.Cond.code ({ cls := "ScriptTypesModel", name := "call", desc := "(I)V" } : Jvm.MethodName) prog_44_method_181_code (3 : Nat) (Option.none : Option Jvm.ClassFile.FieldType)) ∈ lw_all := lw_g (lw_at lw_m18 126 rfl) rfl
theorem q4652 : (Jvm.Cond.methodLink "ScriptTypesModel" (1001 : Nat) ({ cls := "ScriptTypesModel", name := "callOf", desc := "(IIIIII)V" } : Jvm.MethodName)) ∈ lw_all := lw_g (lw_at lw_m18 127 rfl) rfl
theorem q4653 : (Jvm.Cond.privateMethod ({ cls := "ScriptTypesModel", name := "callOf", desc := "(IIIIII)V" } : Jvm.MethodName)) ∈ lw_tbl := lw_at lw_m18 128 rfl
theorem q4654 : (Jvm.Cond.instanceMethod ({ cls := "ScriptTypesModel", name := "callOf", desc := "(IIIIII)V" } : Jvm.MethodName)) ∈ lw_all := lw_g (lw_at lw_m18 129 rfl) rfl
theorem q4655 : (Jvm.Cond.code ({ cls := "ScriptTypesModel", name := "callOf", desc := "(IIIIII)V" } : Jvm.MethodName) prog_44_method_182_code (7 : Nat) (Option.none : Option Jvm.ClassFile.FieldType)) ∈ lw_all := lw_g (lw_at lw_m18 130 rfl) rfl
theorem q4656 : (Jvm.Cond.methodLink "ScriptTypesModel" (1005 : Nat) ({ cls := "ScriptTypesModel", name := "callAgain", desc := "(III)V" } : Jvm.MethodName)) ∈ lw_all := lw_g (lw_at lw_m18 131 rfl) rfl
theorem q4657 : (Jvm.Cond.privateMethod ({ cls := "ScriptTypesModel", name := "callAgain", desc := "(III)V" } : Jvm.MethodName)) ∈ lw_tbl := lw_at lw_m18 132 rfl
theorem q4658 : (Jvm.Cond.instanceMethod ({ cls := "ScriptTypesModel", name := "callAgain", desc := "(III)V" } : Jvm.MethodName)) ∈ lw_all := lw_g (lw_at lw_m18 133 rfl) rfl
theorem q4659 : (Jvm.Cond.code ({ cls := "ScriptTypesModel", name := "callAgain", desc := "(III)V" } : Jvm.MethodName) prog_44_method_183_code (6 : Nat) (Option.none : Option Jvm.ClassFile.FieldType)) ∈ lw_all := lw_g (lw_at lw_m18 134 rfl) rfl
theorem q4660 : (Jvm.Cond.methodLink "ScriptTypesModel" (1014 : Nat) ({ cls := "ScriptTypesModel", name := "argumentSort", desc := "(I)I" } : Jvm.MethodName)) ∈ lw_all := lw_g (lw_at lw_m18 135 rfl) rfl
theorem q4661 : (Jvm.Cond.privateMethod ({ cls := "ScriptTypesModel", name := "argumentSort", desc := "(I)I" } : Jvm.MethodName)) ∈ lw_tbl := lw_at lw_m18 136 rfl
theorem q4662 : (Jvm.Cond.instanceMethod ({ cls := "ScriptTypesModel", name := "argumentSort", desc := "(I)I" } : Jvm.MethodName)) ∈ lw_all := lw_g (lw_at lw_m18 137 rfl) rfl
theorem q4663 : (Jvm.Cond.code ({ cls := "ScriptTypesModel", name := "argumentSort", desc := "(I)I" } : Jvm.MethodName) prog_44_method_179_code (2 : Nat) (Option.some Jvm.ClassFile.FieldType.int)) ∈ lw_all := lw_g (lw_at lw_m18 138 rfl) rfl
theorem q4664 : (Jvm.Cond.methodLink "ScriptTypesModel" (1017 : Nat) ({ cls := "ScriptTypesModel", name := "argument", desc := "(I)I" } : Jvm.MethodName)) ∈ lw_all := lw_g (lw_at lw_m18 139 rfl) rfl
theorem q4665 : (Jvm.Cond.privateMethod ({ cls := "ScriptTypesModel", name := "argument", desc := "(I)I" } : Jvm.MethodName)) ∈ lw_tbl := lw_at lw_m18 140 rfl
theorem q4666 : (Jvm.Cond.instanceMethod ({ cls := "ScriptTypesModel", name := "argument", desc := "(I)I" } : Jvm.MethodName)) ∈ lw_all := lw_g (lw_at lw_m18 141 rfl) rfl
theorem q4667 : (Jvm.Cond.code ({ cls := "ScriptTypesModel", name := "argument", desc := "(I)I" } : Jvm.MethodName) prog_44_method_180_code (2 : Nat) (Option.some Jvm.ClassFile.FieldType.int)) ∈ lw_all := lw_g (lw_at lw_m18 142 rfl) rfl
theorem q4668 : (Jvm.Cond.methodLink "ScriptTypesModel" (1008 : Nat) ({ cls := "ScriptTypesModel", name := "nativeOf", desc := "(IIII)V" } : Jvm.MethodName)) ∈ lw_all := lw_g (lw_at lw_m18 143 rfl) rfl
theorem q4669 : (Jvm.Cond.privateMethod ({ cls := "ScriptTypesModel", name := "nativeOf", desc := "(IIII)V" } : Jvm.MethodName)) ∈ lw_tbl := lw_at lw_m18 144 rfl
theorem q4670 : (Jvm.Cond.instanceMethod ({ cls := "ScriptTypesModel", name := "nativeOf", desc := "(IIII)V" } : Jvm.MethodName)) ∈ lw_all := lw_g (lw_at lw_m18 145 rfl) rfl
theorem q4671 : (Jvm.Cond.code ({ cls := "ScriptTypesModel", name := "nativeOf", desc := "(IIII)V" } : Jvm.MethodName) prog_44_method_187_code (9 : Nat) (Option.none : Option Jvm.ClassFile.FieldType)) ∈ lw_all := lw_g (lw_at lw_m18 146 rfl) rfl
theorem q4672 : (Jvm.Cond.methodLink "ScriptTypesModel" (1020 : Nat) ({ cls := "ScriptTypesModel", name := "nativeWith", desc := "(IIIII)Z" } : Jvm.MethodName)) ∈ lw_all := lw_g (lw_at lw_m18 147 rfl) rfl
theorem q4673 : (Jvm.Cond.privateMethod ({ cls := "ScriptTypesModel", name := "nativeWith", desc := "(IIIII)Z" } : Jvm.MethodName)) ∈ lw_tbl := lw_at lw_m18 148 rfl
theorem q4674 : (Jvm.Cond.instanceMethod ({ cls := "ScriptTypesModel", name := "nativeWith", desc := "(IIIII)Z" } : Jvm.MethodName)) ∈ lw_all := lw_g (lw_at lw_m18 149 rfl) rfl
theorem q4675 : (Jvm.Cond.code ({ cls := "ScriptTypesModel", name := "nativeWith", desc := "(IIIII)Z" } : Jvm.MethodName) prog_44_method_188_code (7 : Nat) (Option.some Jvm.ClassFile.FieldType.boolean)) ∈ lw_all := lw_g (lw_at lw_m18 150 rfl) rfl
theorem q4676 : (Jvm.Cond.methodLink "ScriptTypesModel" (1023 : Nat) ({ cls := "ScriptTypesModel", name := "pushInto", desc := "(III)V" } : Jvm.MethodName)) ∈ lw_all := lw_g (lw_at lw_m18 151 rfl) rfl
theorem q4677 : (Jvm.Cond.privateMethod ({ cls := "ScriptTypesModel", name := "pushInto", desc := "(III)V" } : Jvm.MethodName)) ∈ lw_tbl := lw_at lw_m18 152 rfl
theorem q4678 : (Jvm.Cond.instanceMethod ({ cls := "ScriptTypesModel", name := "pushInto", desc := "(III)V" } : Jvm.MethodName)) ∈ lw_all := lw_g (lw_at lw_m18 153 rfl) rfl
theorem q4679 : (Jvm.Cond.code ({ cls := "ScriptTypesModel", name := "pushInto", desc := "(III)V" } : Jvm.MethodName) prog_44_method_189_code (6 : Nat) (Option.none : Option Jvm.ClassFile.FieldType)) ∈ lw_all := lw_g (lw_at lw_m18 154 rfl) rfl
theorem q4680 : (Jvm.Cond.methodLink "ScriptTypesModel" (1026 : Nat) ({ cls := "ScriptTypesModel", name := "pop", desc := "(I)V" } : Jvm.MethodName)) ∈ lw_all := lw_g (lw_at lw_m18 155 rfl) rfl
theorem q4681 : (Jvm.Cond.privateMethod ({ cls := "ScriptTypesModel", name := "pop", desc := "(I)V" } : Jvm.MethodName)) ∈ lw_tbl := lw_at lw_m18 156 rfl
theorem q4682 : (Jvm.Cond.instanceMethod ({ cls := "ScriptTypesModel", name := "pop", desc := "(I)V" } : Jvm.MethodName)) ∈ lw_all := lw_g (lw_at lw_m18 157 rfl) rfl
theorem q4683 : (Jvm.Cond.code ({ cls := "ScriptTypesModel", name := "pop", desc := "(I)V" } : Jvm.MethodName) prog_44_method_190_code (5 : Nat) (Option.none : Option Jvm.ClassFile.FieldType)) ∈ lw_all := lw_g (lw_at lw_m18 158 rfl) rfl
theorem q4684 : (Jvm.Cond.methodLink "ScriptTypesModel" (1029 : Nat) ({ cls := "ScriptTypesModel", name := "hasOwn", desc := "(III)V" } : Jvm.MethodName)) ∈ lw_all := lw_g (lw_at lw_m18 159 rfl) rfl
theorem q4685 : (Jvm.Cond.privateMethod ({ cls := "ScriptTypesModel", name := "hasOwn", desc := "(III)V" } : Jvm.MethodName)) ∈ lw_tbl := lw_at lw_m18 160 rfl
theorem q4686 : (Jvm.Cond.instanceMethod ({ cls := "ScriptTypesModel", name := "hasOwn", desc := "(III)V" } : Jvm.MethodName)) ∈ lw_all := lw_g (lw_at lw_m18 161 rfl) rfl
theorem q4687 : (Jvm.Cond.code ({ cls := "ScriptTypesModel", name := "hasOwn", desc := "(III)V" } : Jvm.MethodName) prog_44_method_191_code (5 : Nat) (Option.none : Option Jvm.ClassFile.FieldType)) ∈ lw_all := lw_g (lw_at lw_m18 162 rfl) rfl
theorem q4688 : (Jvm.Cond.methodLink "ScriptTypesModel" (1032 : Nat) ({ cls := "ScriptTypesModel", name := "charAt", desc := "(III)V" } : Jvm.MethodName)) ∈ lw_all := lw_g (lw_at lw_m18 163 rfl) rfl
theorem q4689 : (Jvm.Cond.privateMethod ({ cls := "ScriptTypesModel", name := "charAt", desc := "(III)V" } : Jvm.MethodName)) ∈ lw_tbl := lw_at lw_m18 164 rfl
theorem q4690 : (Jvm.Cond.instanceMethod ({ cls := "ScriptTypesModel", name := "charAt", desc := "(III)V" } : Jvm.MethodName)) ∈ lw_all := lw_g (lw_at lw_m18 165 rfl) rfl
theorem q4691 : (Jvm.Cond.code ({ cls := "ScriptTypesModel", name := "charAt", desc := "(III)V" } : Jvm.MethodName) prog_44_method_192_code (5 : Nat) (Option.none : Option Jvm.ClassFile.FieldType)) ∈ lw_all := lw_g (lw_at lw_m18 166 rfl) rfl
theorem q4692 : (Jvm.Cond.methodLink "ScriptTypesModel" (1011 : Nat) ({ cls := "ScriptTypesModel", name := "enter", desc := "(IIIII)V" } : Jvm.MethodName)) ∈ lw_all := lw_g (lw_at lw_m18 167 rfl) rfl
theorem q4693 : (Jvm.Cond.privateMethod ({ cls := "ScriptTypesModel", name := "enter", desc := "(IIIII)V" } : Jvm.MethodName)) ∈ lw_tbl := lw_at lw_m18 168 rfl
theorem q4694 : (Jvm.Cond.instanceMethod ({ cls := "ScriptTypesModel", name := "enter", desc := "(IIIII)V" } : Jvm.MethodName)) ∈ lw_all := lw_g (lw_at lw_m18 169 rfl) rfl
theorem q4695 : (Jvm.Cond.code ({ cls := "ScriptTypesModel", name := "enter", desc := "(IIIII)V" } : Jvm.MethodName) prog_44_method_184_code (13 : Nat) (Option.none : Option Jvm.ClassFile.FieldType)) ∈ lw_all := lw_g (lw_at lw_m18 170 rfl) rfl
theorem q4696 : (Jvm.Cond.methodLink "ScriptTypesModel" (948 : Nat) ({ cls := "ScriptTypesModel", name := "makeNew", desc := "(II)V" } : Jvm.MethodName)) ∈ lw_all := lw_g (lw_at lw_m18 171 rfl) rfl
theorem q4697 : (Jvm.Cond.privateMethod ({ cls := "ScriptTypesModel", name := "makeNew", desc := "(II)V" } : Jvm.MethodName)) ∈ lw_tbl := lw_at lw_m18 172 rfl
theorem q4698 : (Jvm.Cond.instanceMethod ({ cls := "ScriptTypesModel", name := "makeNew", desc := "(II)V" } : Jvm.MethodName)) ∈ lw_all := lw_g (lw_at lw_m18 173 rfl) rfl
theorem q4699 : (Jvm.Cond.code ({ cls := "ScriptTypesModel", name := "makeNew", desc := "(II)V" } : Jvm.MethodName) prog_44_method_186_code (9 : Nat) (Option.none : Option Jvm.ClassFile.FieldType)) ∈ lw_all := lw_g (lw_at lw_m18 174 rfl) rfl
theorem q4700 : (Jvm.Cond.methodLink "ScriptTypesModel" (951 : Nat) ({ cls := "ScriptTypesModel", name := "stepOther", desc := "(II)V" } : Jvm.MethodName)) ∈ lw_all := lw_g (lw_at lw_m18 175 rfl) rfl
theorem q4701 : (Jvm.Cond.privateMethod ({ cls := "ScriptTypesModel", name := "stepOther", desc := "(II)V" } : Jvm.MethodName)) ∈ lw_tbl := lw_at lw_m18 176 rfl
theorem q4702 : (Jvm.Cond.instanceMethod ({ cls := "ScriptTypesModel", name := "stepOther", desc := "(II)V" } : Jvm.MethodName)) ∈ lw_all := lw_g (lw_at lw_m18 177 rfl) rfl
theorem q4703 : (Jvm.Cond.code ({ cls := "ScriptTypesModel", name := "stepOther", desc := "(II)V" } : Jvm.MethodName) prog_44_method_162_code (8 : Nat) (Option.none : Option Jvm.ClassFile.FieldType)) ∈ lw_all := lw_g (lw_at lw_m18 178 rfl) rfl
theorem q4704 : (Jvm.Cond.methodLink "ScriptTypesModel" (954 : Nat) ({ cls := "ScriptTypesModel", name := "under", desc := "(II)V" } : Jvm.MethodName)) ∈ lw_all := lw_g (lw_at lw_m18 179 rfl) rfl
theorem q4705 : (Jvm.Cond.privateMethod ({ cls := "ScriptTypesModel", name := "under", desc := "(II)V" } : Jvm.MethodName)) ∈ lw_tbl := lw_at lw_m18 180 rfl
theorem q4706 : (Jvm.Cond.instanceMethod ({ cls := "ScriptTypesModel", name := "under", desc := "(II)V" } : Jvm.MethodName)) ∈ lw_all := lw_g (lw_at lw_m18 181 rfl) rfl
theorem q4707 : (Jvm.Cond.code ({ cls := "ScriptTypesModel", name := "under", desc := "(II)V" } : Jvm.MethodName) prog_44_method_163_code (5 : Nat) (Option.none : Option Jvm.ClassFile.FieldType)) ∈ lw_all := lw_g (lw_at lw_m18 182 rfl) rfl
theorem q4708 : (Jvm.Cond.methodLink "ScriptTypesModel" (957 : Nat) ({ cls := "ScriptTypesModel", name := "goBack", desc := "(II)V" } : Jvm.MethodName)) ∈ lw_all := lw_g (lw_at lw_m18 183 rfl) rfl
theorem q4709 : (Jvm.Cond.privateMethod ({ cls := "ScriptTypesModel", name := "goBack", desc := "(II)V" } : Jvm.MethodName)) ∈ lw_tbl := lw_at lw_m18 184 rfl
theorem q4710 : (Jvm.Cond.instanceMethod ({ cls := "ScriptTypesModel", name := "goBack", desc := "(II)V" } : Jvm.MethodName)) ∈ lw_all := lw_g (lw_at lw_m18 185 rfl) rfl
theorem q4711 : (Jvm.Cond.code ({ cls := "ScriptTypesModel", name := "goBack", desc := "(II)V" } : Jvm.MethodName) prog_44_method_185_code (4 : Nat) (Option.none : Option Jvm.ClassFile.FieldType)) ∈ lw_all := lw_g (lw_at lw_m18 186 rfl) rfl
theorem q4712 : (Jvm.Cond.methodLink "ScriptTypesModel" (960 : Nat) ({ cls := "ScriptTypesModel", name := "goNext", desc := "(I)V" } : Jvm.MethodName)) ∈ lw_all := lw_g (lw_at lw_m18 187 rfl) rfl
theorem q4713 : (Jvm.Cond.privateMethod ({ cls := "ScriptTypesModel", name := "goNext", desc := "(I)V" } : Jvm.MethodName)) ∈ lw_tbl := lw_at lw_m18 188 rfl
theorem q4714 : (Jvm.Cond.instanceMethod ({ cls := "ScriptTypesModel", name := "goNext", desc := "(I)V" } : Jvm.MethodName)) ∈ lw_all := lw_g (lw_at lw_m18 189 rfl) rfl
theorem q4715 : (Jvm.Cond.code ({ cls := "ScriptTypesModel", name := "goNext", desc := "(I)V" } : Jvm.MethodName) prog_44_method_165_code (3 : Nat) (Option.none : Option Jvm.ClassFile.FieldType)) ∈ lw_all := lw_g (lw_at lw_m18 190 rfl) rfl
theorem q4716 : (Jvm.Cond.methodLink "ScriptTypesModel" (963 : Nat) ({ cls := "ScriptTypesModel", name := "nextOf", desc := "(I)I" } : Jvm.MethodName)) ∈ lw_all := lw_g (lw_at lw_m18 191 rfl) rfl
theorem q4717 : (Jvm.Cond.privateMethod ({ cls := "ScriptTypesModel", name := "nextOf", desc := "(I)I" } : Jvm.MethodName)) ∈ lw_tbl := lw_at lw_m18 192 rfl
theorem q4718 : (Jvm.Cond.instanceMethod ({ cls := "ScriptTypesModel", name := "nextOf", desc := "(I)I" } : Jvm.MethodName)) ∈ lw_all := lw_g (lw_at lw_m18 193 rfl) rfl
theorem q4719 : (Jvm.Cond.code ({ cls := "ScriptTypesModel", name := "nextOf", desc := "(I)I" } : Jvm.MethodName) prog_44_method_164_code (4 : Nat) (Option.some Jvm.ClassFile.FieldType.int)) ∈ lw_all := lw_g (lw_at lw_m18 194 rfl) rfl
theorem q4720 : (Jvm.Cond.methodLink "ScriptTypesLaw" (44 : Nat) ({ cls := "ScriptTypesModel", name := "count", desc := "(I)I" } : Jvm.MethodName)) ∈ lw_all := lw_g (lw_at lw_m18 195 rfl) rfl
theorem q4721 : (Jvm.Cond.instanceMethod ({ cls := "ScriptTypesModel", name := "count", desc := "(I)I" } : Jvm.MethodName)) ∈ lw_all := lw_g (lw_at lw_m18 196 rfl) rfl
theorem q4722 : (Jvm.Cond.selects "ScriptTypesModel" ({ cls := "ScriptTypesModel", name := "count", desc := "(I)I" } : Jvm.MethodName) ({ cls := "ScriptTypesModel", name := "count", desc := "(I)I" } : Jvm.MethodName)) ∈ lw_all := lw_g (lw_at lw_m18 197 rfl) rfl
theorem q4723 : (Jvm.Cond.code ({ cls := "ScriptTypesModel", name := "count", desc := "(I)I" } : Jvm.MethodName) prog_44_method_193_code (3 : Nat) (Option.some Jvm.ClassFile.FieldType.int)) ∈ lw_all := lw_g (lw_at lw_m18 198 rfl) rfl
theorem q4724 : (Jvm.Cond.methodLink "ScriptTypesLaw" (49 : Nat) ({ cls := "ScriptTypesModel", name := "letter", desc := "(II)I" } : Jvm.MethodName)) ∈ lw_all := lw_g (lw_at lw_m18 199 rfl) rfl
theorem q4725 : (Jvm.Cond.instanceMethod ({ cls := "ScriptTypesModel", name := "letter", desc := "(II)I" } : Jvm.MethodName)) ∈ lw_all := lw_g (lw_at lw_m18 200 rfl) rfl
theorem q4726 : (Jvm.Cond.selects "ScriptTypesModel" ({ cls := "ScriptTypesModel", name := "letter", desc := "(II)I" } : Jvm.MethodName) ({ cls := "ScriptTypesModel", name := "letter", desc := "(II)I" } : Jvm.MethodName)) ∈ lw_all := lw_g (lw_at lw_m18 201 rfl) rfl
theorem q4727 : (Jvm.Cond.code ({ cls := "ScriptTypesModel", name := "letter", desc := "(II)I" } : Jvm.MethodName) prog_44_method_194_code (3 : Nat) (Option.some Jvm.ClassFile.FieldType.int)) ∈ lw_all := lw_g (lw_at lw_m18 202 rfl) rfl
theorem q4728 : (Jvm.Cond.methodLink "ScriptTypesLaw" (53 : Nat) ({ cls := "ScriptTypesModel", name := "instruction", desc := "(II)I" } : Jvm.MethodName)) ∈ lw_all := lw_g (lw_at lw_m18 203 rfl) rfl
theorem q4729 : (Jvm.Cond.instanceMethod ({ cls := "ScriptTypesModel", name := "instruction", desc := "(II)I" } : Jvm.MethodName)) ∈ lw_all := lw_g (lw_at lw_m18 204 rfl) rfl
theorem q4730 : (Jvm.Cond.selects "ScriptTypesModel" ({ cls := "ScriptTypesModel", name := "instruction", desc := "(II)I" } : Jvm.MethodName) ({ cls := "ScriptTypesModel", name := "instruction", desc := "(II)I" } : Jvm.MethodName)) ∈ lw_all := lw_g (lw_at lw_m18 205 rfl) rfl
theorem q4731 : (Jvm.Cond.code ({ cls := "ScriptTypesModel", name := "instruction", desc := "(II)I" } : Jvm.MethodName) prog_44_method_195_code (3 : Nat) (Option.some Jvm.ClassFile.FieldType.int)) ∈ lw_all := lw_g (lw_at lw_m18 206 rfl) rfl
theorem q4732 : (Jvm.Cond.methodLink "ScriptTypesLaw" (70 : Nat) ({ cls := "ScriptTypesModel", name := "frame", desc := "(II)I" } : Jvm.MethodName)) ∈ lw_all := lw_g (lw_at lw_m18 207 rfl) rfl
theorem q4733 : (Jvm.Cond.instanceMethod ({ cls := "ScriptTypesModel", name := "frame", desc := "(II)I" } : Jvm.MethodName)) ∈ lw_all := lw_g (lw_at lw_m18 208 rfl) rfl
theorem q4734 : (Jvm.Cond.selects "ScriptTypesModel" ({ cls := "ScriptTypesModel", name := "frame", desc := "(II)I" } : Jvm.MethodName) ({ cls := "ScriptTypesModel", name := "frame", desc := "(II)I" } : Jvm.MethodName)) ∈ lw_all := lw_g (lw_at lw_m18 209 rfl) rfl
theorem q4735 : (Jvm.Cond.code ({ cls := "ScriptTypesModel", name := "frame", desc := "(II)I" } : Jvm.MethodName) prog_44_method_196_code (4 : Nat) (Option.some Jvm.ClassFile.FieldType.int)) ∈ lw_all := lw_g (lw_at lw_m18 210 rfl) rfl
theorem q4736 : (Jvm.Cond.methodLink "ScriptTypesLaw" (75 : Nat) ({ cls := "ScriptTypesModel", name := "value", desc := "(III)I" } : Jvm.MethodName)) ∈ lw_all := lw_g (lw_at lw_m18 211 rfl) rfl
theorem q4737 : (Jvm.Cond.instanceMethod ({ cls := "ScriptTypesModel", name := "value", desc := "(III)I" } : Jvm.MethodName)) ∈ lw_all := lw_g (lw_at lw_m18 212 rfl) rfl
theorem q4738 : (Jvm.Cond.selects "ScriptTypesModel" ({ cls := "ScriptTypesModel", name := "value", desc := "(III)I" } : Jvm.MethodName) ({ cls := "ScriptTypesModel", name := "value", desc := "(III)I" } : Jvm.MethodName)) ∈ lw_all := lw_g (lw_at lw_m18 213 rfl) rfl
theorem q4739 : (Jvm.Cond.code ({ cls := "ScriptTypesModel", name := "value", desc := "(III)I" } : Jvm.MethodName) prog_44_method_198_code (6 : Nat) (Option.some Jvm.ClassFile.FieldType.int)) ∈ lw_all := lw_g (lw_at lw_m18 214 rfl) rfl
theorem q4740 : (Jvm.Cond.methodLink "ScriptTypesModel" (1037 : Nat) ({ cls := "ScriptTypesModel", name := "told", desc := "(III)I" } : Jvm.MethodName)) ∈ lw_all := lw_g (lw_at lw_m18 215 rfl) rfl
theorem q4741 : (Jvm.Cond.privateMethod ({ cls := "ScriptTypesModel", name := "told", desc := "(III)I" } : Jvm.MethodName)) ∈ lw_tbl := lw_at lw_m18 216 rfl
theorem q4742 : (Jvm.Cond.instanceMethod ({ cls := "ScriptTypesModel", name := "told", desc := "(III)I" } : Jvm.MethodName)) ∈ lw_all := lw_g (lw_at lw_m18 217 rfl) rfl
theorem q4743 : (Jvm.Cond.code ({ cls := "ScriptTypesModel", name := "told", desc := "(III)I" } : Jvm.MethodName) prog_44_method_197_code (4 : Nat) (Option.some Jvm.ClassFile.FieldType.int)) ∈ lw_all := lw_g (lw_at lw_m18 218 rfl) rfl
theorem q4744 : (Jvm.Cond.methodLink "ScriptTypesModel" (1040 : Nat) ({ cls := "ScriptTypesModel", name := "leftOf", desc := "(I)I" } : Jvm.MethodName)) ∈ lw_all := lw_g (lw_at lw_m18 219 rfl) rfl
theorem q4745 : (Jvm.Cond.privateMethod ({ cls := "ScriptTypesModel", name := "leftOf", desc := "(I)I" } : Jvm.MethodName)) ∈ lw_tbl := lw_at lw_m18 220 rfl
theorem q4746 : (Jvm.Cond.instanceMethod ({ cls := "ScriptTypesModel", name := "leftOf", desc := "(I)I" } : Jvm.MethodName)) ∈ lw_all := lw_g (lw_at lw_m18 221 rfl) rfl
theorem q4747 : (Jvm.Cond.code ({ cls := "ScriptTypesModel", name := "leftOf", desc := "(I)I" } : Jvm.MethodName) prog_44_method_166_code (6 : Nat) (Option.some Jvm.ClassFile.FieldType.int)) ∈ lw_all := lw_g (lw_at lw_m18 222 rfl) rfl
theorem q4748 : (Jvm.Cond.methodLink "ScriptTypesLaw" (79 : Nat) ({ cls := "ScriptTypesModel", name := "object", desc := "(II)I" } : Jvm.MethodName)) ∈ lw_all := lw_g (lw_at lw_m18 223 rfl) rfl
theorem q4749 : (Jvm.Cond.instanceMethod ({ cls := "ScriptTypesModel", name := "object", desc := "(II)I" } : Jvm.MethodName)) ∈ lw_all := lw_g (lw_at lw_m18 224 rfl) rfl
theorem q4750 : (Jvm.Cond.selects "ScriptTypesModel" ({ cls := "ScriptTypesModel", name := "object", desc := "(II)I" } : Jvm.MethodName) ({ cls := "ScriptTypesModel", name := "object", desc := "(II)I" } : Jvm.MethodName)) ∈ lw_all := lw_g (lw_at lw_m18 225 rfl) rfl
theorem q4751 : (Jvm.Cond.code ({ cls := "ScriptTypesModel", name := "object", desc := "(II)I" } : Jvm.MethodName) prog_44_method_199_code (5 : Nat) (Option.some Jvm.ClassFile.FieldType.int)) ∈ lw_all := lw_g (lw_at lw_m18 226 rfl) rfl
theorem q4752 : (Jvm.Cond.methodLink "ScriptTypesLaw" (83 : Nat) ({ cls := "ScriptTypesModel", name := "property", desc := "(III)I" } : Jvm.MethodName)) ∈ lw_all := lw_g (lw_at lw_m18 227 rfl) rfl
theorem q4753 : (Jvm.Cond.instanceMethod ({ cls := "ScriptTypesModel", name := "property", desc := "(III)I" } : Jvm.MethodName)) ∈ lw_all := lw_g (lw_at lw_m18 228 rfl) rfl
theorem q4754 : (Jvm.Cond.selects "ScriptTypesModel" ({ cls := "ScriptTypesModel", name := "property", desc := "(III)I" } : Jvm.MethodName) ({ cls := "ScriptTypesModel", name := "property", desc := "(III)I" } : Jvm.MethodName)) ∈ lw_all := lw_g (lw_at lw_m18 229 rfl) rfl
theorem q4755 : (Jvm.Cond.code ({ cls := "ScriptTypesModel", name := "property", desc := "(III)I" } : Jvm.MethodName) prog_44_method_200_code (6 : Nat) (Option.some Jvm.ClassFile.FieldType.int)) ∈ lw_all := lw_g (lw_at lw_m18 230 rfl) rfl
theorem q4756 : (Jvm.Cond.methodLink "ScriptTypesLaw" (87 : Nat) ({ cls := "ScriptTypesModel", name := "printed", desc := "(II)I" } : Jvm.MethodName)) ∈ lw_all := lw_g (lw_at lw_m18 231 rfl) rfl
theorem q4757 : (Jvm.Cond.instanceMethod ({ cls := "ScriptTypesModel", name := "printed", desc := "(II)I" } : Jvm.MethodName)) ∈ lw_all := lw_g (lw_at lw_m18 232 rfl) rfl
theorem q4758 : (Jvm.Cond.selects "ScriptTypesModel" ({ cls := "ScriptTypesModel", name := "printed", desc := "(II)I" } : Jvm.MethodName) ({ cls := "ScriptTypesModel", name := "printed", desc := "(II)I" } : Jvm.MethodName)) ∈ lw_all := lw_g (lw_at lw_m18 233 rfl) rfl
theorem q4759 : (Jvm.Cond.code ({ cls := "ScriptTypesModel", name := "printed", desc := "(II)I" } : Jvm.MethodName) prog_44_method_201_code (4 : Nat) (Option.some Jvm.ClassFile.FieldType.int)) ∈ lw_all := lw_g (lw_at lw_m18 234 rfl) rfl
theorem q4760 : (Jvm.Cond.methodLink "ScriptTypesLaw" (91 : Nat) ({ cls := "ScriptTypesModel", name := "uncaught", desc := "(I)I" } : Jvm.MethodName)) ∈ lw_all := lw_g (lw_at lw_m18 235 rfl) rfl
theorem q4761 : (Jvm.Cond.instanceMethod ({ cls := "ScriptTypesModel", name := "uncaught", desc := "(I)I" } : Jvm.MethodName)) ∈ lw_all := lw_g (lw_at lw_m18 236 rfl) rfl
theorem q4762 : (Jvm.Cond.selects "ScriptTypesModel" ({ cls := "ScriptTypesModel", name := "uncaught", desc := "(I)I" } : Jvm.MethodName) ({ cls := "ScriptTypesModel", name := "uncaught", desc := "(I)I" } : Jvm.MethodName)) ∈ lw_all := lw_g (lw_at lw_m18 237 rfl) rfl
theorem q4763 : (Jvm.Cond.code ({ cls := "ScriptTypesModel", name := "uncaught", desc := "(I)I" } : Jvm.MethodName) prog_44_method_202_code (2 : Nat) (Option.some Jvm.ClassFile.FieldType.int)) ∈ lw_all := lw_g (lw_at lw_m18 238 rfl) rfl
theorem q4764 : (Jvm.Cond.methodLink "ScriptTypesLaw" (95 : Nat) ({ cls := "ScriptTypesModel", name := "solve", desc := "()I" } : Jvm.MethodName)) ∈ lw_all := lw_g (lw_at lw_m18 239 rfl) rfl
theorem q4765 : (Jvm.Cond.instanceMethod ({ cls := "ScriptTypesModel", name := "solve", desc := "()I" } : Jvm.MethodName)) ∈ lw_all := lw_g (lw_at lw_m19 0 rfl) rfl
theorem q4766 : (Jvm.Cond.selects "ScriptTypesModel" ({ cls := "ScriptTypesModel", name := "solve", desc := "()I" } : Jvm.MethodName) ({ cls := "ScriptTypesModel", name := "solve", desc := "()I" } : Jvm.MethodName)) ∈ lw_all := lw_g (lw_at lw_m19 1 rfl) rfl
theorem q4767 : (Jvm.Cond.code ({ cls := "ScriptTypesModel", name := "solve", desc := "()I" } : Jvm.MethodName) prog_44_method_295_code (3 : Nat) (Option.some Jvm.ClassFile.FieldType.int)) ∈ lw_all := lw_g (lw_at lw_m19 2 rfl) rfl
theorem q4768 : (Jvm.Cond.methodLink "ScriptTypesModel" (1373 : Nat) ({ cls := "ScriptTypesModel", name := "findSorts", desc := "()V" } : Jvm.MethodName)) ∈ lw_all := lw_g (lw_at lw_m19 3 rfl) rfl
theorem q4769 : (Jvm.Cond.privateMethod ({ cls := "ScriptTypesModel", name := "findSorts", desc := "()V" } : Jvm.MethodName)) ∈ lw_tbl := lw_at lw_m19 4 rfl
theorem q4770 : (Jvm.Cond.instanceMethod ({ cls := "ScriptTypesModel", name := "findSorts", desc := "()V" } : Jvm.MethodName)) ∈ lw_all := lw_g (lw_at lw_m19 5 rfl) rfl
theorem q4771 : (Jvm.Cond.code ({ cls := "ScriptTypesModel", name := "findSorts", desc := "()V" } : Jvm.MethodName) prog_44_method_292_code (4 : Nat) (Option.none : Option Jvm.ClassFile.FieldType)) ∈ lw_all := lw_g (lw_at lw_m19 6 rfl) rfl
theorem q4772 : (Jvm.Cond.constant "ScriptTypesModel" (1379 : Nat) (465000 : Int32)) ∈ lw_all := lw_g (lw_at lw_m19 7 rfl) rfl
theorem q4773 : (Jvm.Cond.constant "ScriptTypesModel" (1380 : Nat) (647340 : Int32)) ∈ lw_all := lw_g (lw_at lw_m19 8 rfl) rfl
theorem q4774 : (Jvm.Cond.methodLink "ScriptTypesModel" (1381 : Nat) ({ cls := "ScriptTypesModel", name := "beginWork", desc := "()V" } : Jvm.MethodName)) ∈ lw_all := lw_g (lw_at lw_m19 9 rfl) rfl
theorem q4775 : (Jvm.Cond.privateMethod ({ cls := "ScriptTypesModel", name := "beginWork", desc := "()V" } : Jvm.MethodName)) ∈ lw_tbl := lw_at lw_m19 10 rfl
theorem q4776 : (Jvm.Cond.instanceMethod ({ cls := "ScriptTypesModel", name := "beginWork", desc := "()V" } : Jvm.MethodName)) ∈ lw_all := lw_g (lw_at lw_m19 11 rfl) rfl
theorem q4777 : (Jvm.Cond.code ({ cls := "ScriptTypesModel", name := "beginWork", desc := "()V" } : Jvm.MethodName) prog_44_method_294_code (2 : Nat) (Option.none : Option Jvm.ClassFile.FieldType)) ∈ lw_all := lw_g (lw_at lw_m19 12 rfl) rfl
theorem q4778 : (Jvm.Cond.methodLink "ScriptTypesModel" (1104 : Nat) ({ cls := "ScriptTypesModel", name := "clearState", desc := "(I)V" } : Jvm.MethodName)) ∈ lw_all := lw_g (lw_at lw_m19 13 rfl) rfl
theorem q4779 : (Jvm.Cond.privateMethod ({ cls := "ScriptTypesModel", name := "clearState", desc := "(I)V" } : Jvm.MethodName)) ∈ lw_tbl := lw_at lw_m19 14 rfl
theorem q4780 : (Jvm.Cond.instanceMethod ({ cls := "ScriptTypesModel", name := "clearState", desc := "(I)V" } : Jvm.MethodName)) ∈ lw_all := lw_g (lw_at lw_m19 15 rfl) rfl
theorem q4781 : (Jvm.Cond.code ({ cls := "ScriptTypesModel", name := "clearState", desc := "(I)V" } : Jvm.MethodName) prog_44_method_235_code (5 : Nat) (Option.none : Option Jvm.ClassFile.FieldType)) ∈ lw_all := lw_g (lw_at lw_m19 16 rfl) rfl
theorem q4782 : (Jvm.Cond.methodLink "ScriptTypesModel" (1085 : Nat) ({ cls := "ScriptTypesModel", name := "fieldsAt", desc := "(I)I" } : Jvm.MethodName)) ∈ lw_all := lw_g (lw_at lw_m19 17 rfl) rfl
theorem q4783 : (Jvm.Cond.privateMethod ({ cls := "ScriptTypesModel", name := "fieldsAt", desc := "(I)I" } : Jvm.MethodName)) ∈ lw_tbl := lw_at lw_m19 18 rfl
theorem q4784 : (Jvm.Cond.instanceMethod ({ cls := "ScriptTypesModel", name := "fieldsAt", desc := "(I)I" } : Jvm.MethodName)) ∈ lw_all := lw_g (lw_at lw_m19 19 rfl) rfl
theorem q4785 : (Jvm.Cond.code ({ cls := "ScriptTypesModel", name := "fieldsAt", desc := "(I)I" } : Jvm.MethodName) prog_44_method_224_code (2 : Nat) (Option.some Jvm.ClassFile.FieldType.int)) ∈ lw_all := lw_g (lw_at lw_m19 20 rfl) rfl
theorem q4786 : (Jvm.Cond.constant "ScriptTypesModel" (1084 : Nat) (635640 : Int32)) ∈ lw_all := lw_g (lw_at lw_m19 21 rfl) rfl
theorem q4787 : (Jvm.Cond.methodLink "ScriptTypesModel" (1066 : Nat) ({ cls := "ScriptTypesModel", name := "empty", desc := "(I)V" } : Jvm.MethodName)) ∈ lw_all := lw_g (lw_at lw_m19 22 rfl) rfl
theorem q4788 : (Jvm.Cond.privateMethod ({ cls := "ScriptTypesModel", name := "empty", desc := "(I)V" } : Jvm.MethodName)) ∈ lw_tbl := lw_at lw_m19 23 rfl
theorem q4789 : (Jvm.Cond.instanceMethod ({ cls := "ScriptTypesModel", name := "empty", desc := "(I)V" } : Jvm.MethodName)) ∈ lw_all := lw_g (lw_at lw_m19 24 rfl) rfl
theorem q4790 : (Jvm.Cond.code ({ cls := "ScriptTypesModel", name := "empty", desc := "(I)V" } : Jvm.MethodName) prog_44_method_207_code (2 : Nat) (Option.none : Option Jvm.ClassFile.FieldType)) ∈ lw_all := lw_g (lw_at lw_m19 25 rfl) rfl
theorem q4791 : (Jvm.Cond.methodLink "ScriptTypesModel" (1101 : Nat) ({ cls := "ScriptTypesModel", name := "of", desc := "(II)I" } : Jvm.MethodName)) ∈ lw_all := lw_g (lw_at lw_m19 26 rfl) rfl
theorem q4792 : (Jvm.Cond.privateMethod ({ cls := "ScriptTypesModel", name := "of", desc := "(II)I" } : Jvm.MethodName)) ∈ lw_tbl := lw_at lw_m19 27 rfl
theorem q4793 : (Jvm.Cond.instanceMethod ({ cls := "ScriptTypesModel", name := "of", desc := "(II)I" } : Jvm.MethodName)) ∈ lw_all := lw_g (lw_at lw_m19 28 rfl) rfl
theorem q4794 : (Jvm.Cond.code ({ cls := "ScriptTypesModel", name := "of", desc := "(II)I" } : Jvm.MethodName) prog_44_method_227_code (3 : Nat) (Option.some Jvm.ClassFile.FieldType.int)) ∈ lw_all := lw_g (lw_at lw_m19 29 rfl) rfl
theorem q4795 : (Jvm.Cond.methodLink "ScriptTypesModel" (1088 : Nat) ({ cls := "ScriptTypesModel", name := "labelsAt", desc := "(I)I" } : Jvm.MethodName)) ∈ lw_all := lw_g (lw_at lw_m19 30 rfl) rfl
theorem q4796 : (Jvm.Cond.privateMethod ({ cls := "ScriptTypesModel", name := "labelsAt", desc := "(I)I" } : Jvm.MethodName)) ∈ lw_tbl := lw_at lw_m19 31 rfl
theorem q4797 : (Jvm.Cond.instanceMethod ({ cls := "ScriptTypesModel", name := "labelsAt", desc := "(I)I" } : Jvm.MethodName)) ∈ lw_all := lw_g (lw_at lw_m19 32 rfl) rfl
theorem q4798 : (Jvm.Cond.code ({ cls := "ScriptTypesModel", name := "labelsAt", desc := "(I)I" } : Jvm.MethodName) prog_44_method_225_code (2 : Nat) (Option.some Jvm.ClassFile.FieldType.int)) ∈ lw_all := lw_g (lw_at lw_m19 33 rfl) rfl
theorem q4799 : (Jvm.Cond.methodLink "ScriptTypesModel" (1098 : Nat) ({ cls := "ScriptTypesModel", name := "thisAt", desc := "(I)I" } : Jvm.MethodName)) ∈ lw_all := lw_g (lw_at lw_m19 34 rfl) rfl
theorem q4800 : (Jvm.Cond.privateMethod ({ cls := "ScriptTypesModel", name := "thisAt", desc := "(I)I" } : Jvm.MethodName)) ∈ lw_tbl := lw_at lw_m19 35 rfl
theorem q4801 : (Jvm.Cond.instanceMethod ({ cls := "ScriptTypesModel", name := "thisAt", desc := "(I)I" } : Jvm.MethodName)) ∈ lw_all := lw_g (lw_at lw_m19 36 rfl) rfl
theorem q4802 : (Jvm.Cond.code ({ cls := "ScriptTypesModel", name := "thisAt", desc := "(I)I" } : Jvm.MethodName) prog_44_method_228_code (2 : Nat) (Option.some Jvm.ClassFile.FieldType.int)) ∈ lw_all := lw_g (lw_at lw_m19 37 rfl) rfl
theorem q4803 : (Jvm.Cond.constant "ScriptTypesModel" (1091 : Nat) (635000 : Int32)) ∈ lw_all := lw_g (lw_at lw_m19 38 rfl) rfl
theorem q4804 : (Jvm.Cond.methodLink "ScriptTypesModel" (1182 : Nat) ({ cls := "ScriptTypesModel", name := "newLabel", desc := "(II)V" } : Jvm.MethodName)) ∈ lw_all := lw_g (lw_at lw_m19 39 rfl) rfl
theorem q4805 : (Jvm.Cond.privateMethod ({ cls := "ScriptTypesModel", name := "newLabel", desc := "(II)V" } : Jvm.MethodName)) ∈ lw_tbl := lw_at lw_m19 40 rfl
theorem q4806 : (Jvm.Cond.instanceMethod ({ cls := "ScriptTypesModel", name := "newLabel", desc := "(II)V" } : Jvm.MethodName)) ∈ lw_all := lw_g (lw_at lw_m19 41 rfl) rfl
theorem q4807 : (Jvm.Cond.code ({ cls := "ScriptTypesModel", name := "newLabel", desc := "(II)V" } : Jvm.MethodName) prog_44_method_253_code (5 : Nat) (Option.none : Option Jvm.ClassFile.FieldType)) ∈ lw_all := lw_g (lw_at lw_m19 42 rfl) rfl
theorem q4808 : (Jvm.Cond.methodLink "ScriptTypesModel" (1163 : Nat) ({ cls := "ScriptTypesModel", name := "field", desc := "(III)I" } : Jvm.MethodName)) ∈ lw_all := lw_g (lw_at lw_m19 43 rfl) rfl
theorem q4809 : (Jvm.Cond.privateMethod ({ cls := "ScriptTypesModel", name := "field", desc := "(III)I" } : Jvm.MethodName)) ∈ lw_tbl := lw_at lw_m19 44 rfl
theorem q4810 : (Jvm.Cond.instanceMethod ({ cls := "ScriptTypesModel", name := "field", desc := "(III)I" } : Jvm.MethodName)) ∈ lw_all := lw_g (lw_at lw_m19 45 rfl) rfl
theorem q4811 : (Jvm.Cond.code ({ cls := "ScriptTypesModel", name := "field", desc := "(III)I" } : Jvm.MethodName) prog_44_method_226_code (4 : Nat) (Option.some Jvm.ClassFile.FieldType.int)) ∈ lw_all := lw_g (lw_at lw_m19 46 rfl) rfl
theorem q4812 : (Jvm.Cond.methodLink "ScriptTypesModel" (1056 : Nat) ({ cls := "ScriptTypesModel", name := "write", desc := "(IIII)V" } : Jvm.MethodName)) ∈ lw_all := lw_g (lw_at lw_m19 47 rfl) rfl
theorem q4813 : (Jvm.Cond.privateMethod ({ cls := "ScriptTypesModel", name := "write", desc := "(IIII)V" } : Jvm.MethodName)) ∈ lw_tbl := lw_at lw_m19 48 rfl
theorem q4814 : (Jvm.Cond.instanceMethod ({ cls := "ScriptTypesModel", name := "write", desc := "(IIII)V" } : Jvm.MethodName)) ∈ lw_all := lw_g (lw_at lw_m19 49 rfl) rfl
theorem q4815 : (Jvm.Cond.code ({ cls := "ScriptTypesModel", name := "write", desc := "(IIII)V" } : Jvm.MethodName) prog_44_method_206_code (5 : Nat) (Option.none : Option Jvm.ClassFile.FieldType)) ∈ lw_all := lw_g (lw_at lw_m19 50 rfl) rfl
theorem q4816 : (Jvm.Cond.methodLink "ScriptTypesModel" (1370 : Nat) ({ cls := "ScriptTypesModel", name := "hasField", desc := "(III)V" } : Jvm.MethodName)) ∈ lw_all := lw_g (lw_at lw_m19 51 rfl) rfl
theorem q4817 : (Jvm.Cond.privateMethod ({ cls := "ScriptTypesModel", name := "hasField", desc := "(III)V" } : Jvm.MethodName)) ∈ lw_tbl := lw_at lw_m19 52 rfl
theorem q4818 : (Jvm.Cond.instanceMethod ({ cls := "ScriptTypesModel", name := "hasField", desc := "(III)V" } : Jvm.MethodName)) ∈ lw_all := lw_g (lw_at lw_m19 53 rfl) rfl
theorem q4819 : (Jvm.Cond.code ({ cls := "ScriptTypesModel", name := "hasField", desc := "(III)V" } : Jvm.MethodName) prog_44_method_293_code (4 : Nat) (Option.none : Option Jvm.ClassFile.FieldType)) ∈ lw_all := lw_g (lw_at lw_m19 54 rfl) rfl
theorem q4820 : (Jvm.Cond.methodLink "ScriptTypesModel" (1244 : Nat) ({ cls := "ScriptTypesModel", name := "fresh", desc := "(II)I" } : Jvm.MethodName)) ∈ lw_all := lw_g (lw_at lw_m19 55 rfl) rfl
theorem q4821 : (Jvm.Cond.privateMethod ({ cls := "ScriptTypesModel", name := "fresh", desc := "(II)I" } : Jvm.MethodName)) ∈ lw_tbl := lw_at lw_m19 56 rfl
theorem q4822 : (Jvm.Cond.instanceMethod ({ cls := "ScriptTypesModel", name := "fresh", desc := "(II)I" } : Jvm.MethodName)) ∈ lw_all := lw_g (lw_at lw_m19 57 rfl) rfl
theorem q4823 : (Jvm.Cond.code ({ cls := "ScriptTypesModel", name := "fresh", desc := "(II)I" } : Jvm.MethodName) prog_44_method_254_code (4 : Nat) (Option.some Jvm.ClassFile.FieldType.int)) ∈ lw_all := lw_g (lw_at lw_m19 58 rfl) rfl
theorem q4824 : (Jvm.Cond.methodLink "ScriptTypesModel" (1081 : Nat) ({ cls := "ScriptTypesModel", name := "addLabel", desc := "(II)V" } : Jvm.MethodName)) ∈ lw_all := lw_g (lw_at lw_m19 59 rfl) rfl
theorem q4825 : (Jvm.Cond.privateMethod ({ cls := "ScriptTypesModel", name := "addLabel", desc := "(II)V" } : Jvm.MethodName)) ∈ lw_tbl := lw_at lw_m19 60 rfl
theorem q4826 : (Jvm.Cond.instanceMethod ({ cls := "ScriptTypesModel", name := "addLabel", desc := "(II)V" } : Jvm.MethodName)) ∈ lw_all := lw_g (lw_at lw_m19 61 rfl) rfl
theorem q4827 : (Jvm.Cond.code ({ cls := "ScriptTypesModel", name := "addLabel", desc := "(II)V" } : Jvm.MethodName) prog_44_method_217_code (3 : Nat) (Option.none : Option Jvm.ClassFile.FieldType)) ∈ lw_all := lw_g (lw_at lw_m19 62 rfl) rfl
theorem q4828 : (Jvm.Cond.methodLink "ScriptTypesModel" (1078 : Nat) ({ cls := "ScriptTypesModel", name := "addString", desc := "(II)V" } : Jvm.MethodName)) ∈ lw_all := lw_g (lw_at lw_m19 63 rfl) rfl
theorem q4829 : (Jvm.Cond.privateMethod ({ cls := "ScriptTypesModel", name := "addString", desc := "(II)V" } : Jvm.MethodName)) ∈ lw_tbl := lw_at lw_m19 64 rfl
theorem q4830 : (Jvm.Cond.instanceMethod ({ cls := "ScriptTypesModel", name := "addString", desc := "(II)V" } : Jvm.MethodName)) ∈ lw_all := lw_g (lw_at lw_m19 65 rfl) rfl
theorem q4831 : (Jvm.Cond.code ({ cls := "ScriptTypesModel", name := "addString", desc := "(II)V" } : Jvm.MethodName) prog_44_method_216_code (5 : Nat) (Option.none : Option Jvm.ClassFile.FieldType)) ∈ lw_all := lw_g (lw_at lw_m19 66 rfl) rfl
theorem q4832 : (Jvm.Cond.constant "ScriptTypesModel" (1065 : Nat) (647790 : Int32)) ∈ lw_all := lw_g (lw_at lw_m19 67 rfl) rfl
theorem q4833 : (Jvm.Cond.methodLink "ScriptTypesModel" (1069 : Nat) ({ cls := "ScriptTypesModel", name := "join", desc := "(II)Z" } : Jvm.MethodName)) ∈ lw_all := lw_g (lw_at lw_m19 68 rfl) rfl
theorem q4834 : (Jvm.Cond.privateMethod ({ cls := "ScriptTypesModel", name := "join", desc := "(II)Z" } : Jvm.MethodName)) ∈ lw_tbl := lw_at lw_m19 69 rfl
theorem q4835 : (Jvm.Cond.instanceMethod ({ cls := "ScriptTypesModel", name := "join", desc := "(II)Z" } : Jvm.MethodName)) ∈ lw_all := lw_g (lw_at lw_m19 70 rfl) rfl
theorem q4836 : (Jvm.Cond.code ({ cls := "ScriptTypesModel", name := "join", desc := "(II)Z" } : Jvm.MethodName) prog_44_method_209_code (13 : Nat) (Option.some Jvm.ClassFile.FieldType.boolean)) ∈ lw_all := lw_g (lw_at lw_m19 71 rfl) rfl
theorem q4837 : (Jvm.Cond.methodLink "ScriptTypesModel" (1047 : Nat) ({ cls := "ScriptTypesModel", name := "has", desc := "(I)I" } : Jvm.MethodName)) ∈ lw_all := lw_g (lw_at lw_m19 72 rfl) rfl
theorem q4838 : (Jvm.Cond.privateMethod ({ cls := "ScriptTypesModel", name := "has", desc := "(I)I" } : Jvm.MethodName)) ∈ lw_tbl := lw_at lw_m19 73 rfl
theorem q4839 : (Jvm.Cond.instanceMethod ({ cls := "ScriptTypesModel", name := "has", desc := "(I)I" } : Jvm.MethodName)) ∈ lw_all := lw_g (lw_at lw_m19 74 rfl) rfl
theorem q4840 : (Jvm.Cond.code ({ cls := "ScriptTypesModel", name := "has", desc := "(I)I" } : Jvm.MethodName) prog_44_method_203_code (2 : Nat) (Option.some Jvm.ClassFile.FieldType.int)) ∈ lw_all := lw_g (lw_at lw_m19 75 rfl) rfl
theorem q4841 : (Jvm.Cond.constantLong "ScriptTypesModel" (1043 : Nat) (1023 : Int64)) ∈ lw_all := lw_g (lw_at lw_m19 76 rfl) rfl
theorem q4842 : (Jvm.Cond.methodLink "ScriptTypesModel" (1050 : Nat) ({ cls := "ScriptTypesModel", name := "number", desc := "(I)I" } : Jvm.MethodName)) ∈ lw_all := lw_g (lw_at lw_m19 77 rfl) rfl
theorem q4843 : (Jvm.Cond.privateMethod ({ cls := "ScriptTypesModel", name := "number", desc := "(I)I" } : Jvm.MethodName)) ∈ lw_tbl := lw_at lw_m19 78 rfl
theorem q4844 : (Jvm.Cond.instanceMethod ({ cls := "ScriptTypesModel", name := "number", desc := "(I)I" } : Jvm.MethodName)) ∈ lw_all := lw_g (lw_at lw_m19 79 rfl) rfl
theorem q4845 : (Jvm.Cond.code ({ cls := "ScriptTypesModel", name := "number", desc := "(I)I" } : Jvm.MethodName) prog_44_method_205_code (2 : Nat) (Option.some Jvm.ClassFile.FieldType.int)) ∈ lw_all := lw_g (lw_at lw_m19 80 rfl) rfl
theorem q4846 : (Jvm.Cond.methodLink "ScriptTypesModel" (1053 : Nat) ({ cls := "ScriptTypesModel", name := "name", desc := "(I)I" } : Jvm.MethodName)) ∈ lw_all := lw_g (lw_at lw_m19 81 rfl) rfl
theorem q4847 : (Jvm.Cond.privateMethod ({ cls := "ScriptTypesModel", name := "name", desc := "(I)I" } : Jvm.MethodName)) ∈ lw_tbl := lw_at lw_m19 82 rfl
theorem q4848 : (Jvm.Cond.instanceMethod ({ cls := "ScriptTypesModel", name := "name", desc := "(I)I" } : Jvm.MethodName)) ∈ lw_all := lw_g (lw_at lw_m19 83 rfl) rfl
theorem q4849 : (Jvm.Cond.code ({ cls := "ScriptTypesModel", name := "name", desc := "(I)I" } : Jvm.MethodName) prog_44_method_204_code (2 : Nat) (Option.some Jvm.ClassFile.FieldType.int)) ∈ lw_all := lw_g (lw_at lw_m19 84 rfl) rfl
theorem q4850 : (Jvm.Cond.constantLong "ScriptTypesModel" (1045 : Nat) (127 : Int64)) ∈ lw_all := lw_g (lw_at lw_m19 85 rfl) rfl
theorem q4851 : (Jvm.Cond.methodLink "ScriptTypesModel" (1072 : Nat) ({ cls := "ScriptTypesModel", name := "addSort", desc := "(II)V" } : Jvm.MethodName)) ∈ lw_all := lw_g (lw_at lw_m19 86 rfl) rfl
theorem q4852 : (Jvm.Cond.privateMethod ({ cls := "ScriptTypesModel", name := "addSort", desc := "(II)V" } : Jvm.MethodName)) ∈ lw_tbl := lw_at lw_m19 87 rfl
theorem q4853 : (Jvm.Cond.instanceMethod ({ cls := "ScriptTypesModel", name := "addSort", desc := "(II)V" } : Jvm.MethodName)) ∈ lw_all := lw_g (lw_at lw_m19 88 rfl) rfl
theorem q4854 : (Jvm.Cond.code ({ cls := "ScriptTypesModel", name := "addSort", desc := "(II)V" } : Jvm.MethodName) prog_44_method_214_code (5 : Nat) (Option.none : Option Jvm.ClassFile.FieldType)) ∈ lw_all := lw_g (lw_at lw_m19 89 rfl) rfl
theorem q4855 : (Jvm.Cond.methodLink "ScriptTypesModel" (1191 : Nat) ({ cls := "ScriptTypesModel", name := "flow", desc := "(I)V" } : Jvm.MethodName)) ∈ lw_all := lw_g (lw_at lw_m19 90 rfl) rfl
theorem q4856 : (Jvm.Cond.privateMethod ({ cls := "ScriptTypesModel", name := "flow", desc := "(I)V" } : Jvm.MethodName)) ∈ lw_tbl := lw_at lw_m19 91 rfl
theorem q4857 : (Jvm.Cond.instanceMethod ({ cls := "ScriptTypesModel", name := "flow", desc := "(I)V" } : Jvm.MethodName)) ∈ lw_all := lw_g (lw_at lw_m19 92 rfl) rfl
theorem q4858 : (Jvm.Cond.code ({ cls := "ScriptTypesModel", name := "flow", desc := "(I)V" } : Jvm.MethodName) prog_44_method_236_code (5 : Nat) (Option.none : Option Jvm.ClassFile.FieldType)) ∈ lw_all := lw_g (lw_at lw_m19 93 rfl) rfl
theorem q4859 : (Jvm.Cond.constantLong "ScriptTypesModel" (1110 : Nat) (-1 : Int64)) ∈ lw_all := lw_g (lw_at lw_m19 94 rfl) rfl
theorem q4860 : (Jvm.Cond.methodLink "ScriptTypesModel" (1112 : Nat) ({ cls := "ScriptTypesModel", name := "joinLabel", desc := "(II)Z" } : Jvm.MethodName)) ∈ lw_all := lw_g (lw_at lw_m19 95 rfl) rfl
theorem q4861 : (Jvm.Cond.privateMethod ({ cls := "ScriptTypesModel", name := "joinLabel", desc := "(II)Z" } : Jvm.MethodName)) ∈ lw_tbl := lw_at lw_m19 96 rfl
theorem q4862 : (Jvm.Cond.instanceMethod ({ cls := "ScriptTypesModel", name := "joinLabel", desc := "(II)Z" } : Jvm.MethodName)) ∈ lw_all := lw_g (lw_at lw_m19 97 rfl) rfl
theorem q4863 : (Jvm.Cond.code ({ cls := "ScriptTypesModel", name := "joinLabel", desc := "(II)Z" } : Jvm.MethodName) prog_44_method_237_code (4 : Nat) (Option.some Jvm.ClassFile.FieldType.boolean)) ∈ lw_all := lw_g (lw_at lw_m19 98 rfl) rfl
theorem q4864 : (Jvm.Cond.methodLink "ScriptTypesModel" (1384 : Nat) ({ cls := "ScriptTypesModel", name := "ways", desc := "(I)V" } : Jvm.MethodName)) ∈ lw_all := lw_g (lw_at lw_m19 99 rfl) rfl
theorem q4865 : (Jvm.Cond.privateMethod ({ cls := "ScriptTypesModel", name := "ways", desc := "(I)V" } : Jvm.MethodName)) ∈ lw_tbl := lw_at lw_m19 100 rfl
theorem q4866 : (Jvm.Cond.instanceMethod ({ cls := "ScriptTypesModel", name := "ways", desc := "(I)V" } : Jvm.MethodName)) ∈ lw_all := lw_g (lw_at lw_m19 101 rfl) rfl
theorem q4867 : (Jvm.Cond.code ({ cls := "ScriptTypesModel", name := "ways", desc := "(I)V" } : Jvm.MethodName) prog_44_method_266_code (6 : Nat) (Option.none : Option Jvm.ClassFile.FieldType)) ∈ lw_all := lw_g (lw_at lw_m19 102 rfl) rfl
theorem q4868 : (Jvm.Cond.methodLink "ScriptTypesModel" (1211 : Nat) ({ cls := "ScriptTypesModel", name := "load", desc := "(I)V" } : Jvm.MethodName)) ∈ lw_all := lw_g (lw_at lw_m19 103 rfl) rfl
theorem q4869 : (Jvm.Cond.privateMethod ({ cls := "ScriptTypesModel", name := "load", desc := "(I)V" } : Jvm.MethodName)) ∈ lw_tbl := lw_at lw_m19 104 rfl
theorem q4870 : (Jvm.Cond.instanceMethod ({ cls := "ScriptTypesModel", name := "load", desc := "(I)V" } : Jvm.MethodName)) ∈ lw_all := lw_g (lw_at lw_m19 105 rfl) rfl
theorem q4871 : (Jvm.Cond.code ({ cls := "ScriptTypesModel", name := "load", desc := "(I)V" } : Jvm.MethodName) prog_44_method_232_code (4 : Nat) (Option.none : Option Jvm.ClassFile.FieldType)) ∈ lw_all := lw_g (lw_at lw_m19 106 rfl) rfl
theorem q4872 : (Jvm.Cond.methodLink "ScriptTypesModel" (1092 : Nat) ({ cls := "ScriptTypesModel", name := "copySet", desc := "(II)V" } : Jvm.MethodName)) ∈ lw_all := lw_g (lw_at lw_m19 107 rfl) rfl
theorem q4873 : (Jvm.Cond.privateMethod ({ cls := "ScriptTypesModel", name := "copySet", desc := "(II)V" } : Jvm.MethodName)) ∈ lw_tbl := lw_at lw_m19 108 rfl
theorem q4874 : (Jvm.Cond.instanceMethod ({ cls := "ScriptTypesModel", name := "copySet", desc := "(II)V" } : Jvm.MethodName)) ∈ lw_all := lw_g (lw_at lw_m19 109 rfl) rfl
theorem q4875 : (Jvm.Cond.code ({ cls := "ScriptTypesModel", name := "copySet", desc := "(II)V" } : Jvm.MethodName) prog_44_method_208_code (3 : Nat) (Option.none : Option Jvm.ClassFile.FieldType)) ∈ lw_all := lw_g (lw_at lw_m19 110 rfl) rfl
theorem q4876 : (Jvm.Cond.methodLink "ScriptTypesModel" (1095 : Nat) ({ cls := "ScriptTypesModel", name := "loadRest", desc := "(I)V" } : Jvm.MethodName)) ∈ lw_all := lw_g (lw_at lw_m19 111 rfl) rfl
theorem q4877 : (Jvm.Cond.privateMethod ({ cls := "ScriptTypesModel", name := "loadRest", desc := "(I)V" } : Jvm.MethodName)) ∈ lw_tbl := lw_at lw_m19 112 rfl
theorem q4878 : (Jvm.Cond.instanceMethod ({ cls := "ScriptTypesModel", name := "loadRest", desc := "(I)V" } : Jvm.MethodName)) ∈ lw_all := lw_g (lw_at lw_m19 113 rfl) rfl
theorem q4879 : (Jvm.Cond.code ({ cls := "ScriptTypesModel", name := "loadRest", desc := "(I)V" } : Jvm.MethodName) prog_44_method_233_code (5 : Nat) (Option.none : Option Jvm.ClassFile.FieldType)) ∈ lw_all := lw_g (lw_at lw_m19 114 rfl) rfl
theorem q4880 : (Jvm.Cond.constant "ScriptTypesModel" (1218 : Nat) (647740 : Int32)) ∈ lw_all := lw_g (lw_at lw_m19 115 rfl) rfl
theorem q4881 : (Jvm.Cond.methodLink "ScriptTypesModel" (1219 : Nat) ({ cls := "ScriptTypesModel", name := "addValue", desc := "(III)V" } : Jvm.MethodName)) ∈ lw_all := lw_g (lw_at lw_m19 116 rfl) rfl
theorem q4882 : (Jvm.Cond.privateMethod ({ cls := "ScriptTypesModel", name := "addValue", desc := "(III)V" } : Jvm.MethodName)) ∈ lw_tbl := lw_at lw_m19 117 rfl
theorem q4883 : (Jvm.Cond.instanceMethod ({ cls := "ScriptTypesModel", name := "addValue", desc := "(III)V" } : Jvm.MethodName)) ∈ lw_all := lw_g (lw_at lw_m19 118 rfl) rfl
theorem q4884 : (Jvm.Cond.code ({ cls := "ScriptTypesModel", name := "addValue", desc := "(III)V" } : Jvm.MethodName) prog_44_method_219_code (4 : Nat) (Option.none : Option Jvm.ClassFile.FieldType)) ∈ lw_all := lw_g (lw_at lw_m19 119 rfl) rfl
theorem q4885 : (Jvm.Cond.methodLink "ScriptTypesModel" (1075 : Nat) ({ cls := "ScriptTypesModel", name := "addNumber", desc := "(II)V" } : Jvm.MethodName)) ∈ lw_all := lw_g (lw_at lw_m19 120 rfl) rfl
theorem q4886 : (Jvm.Cond.privateMethod ({ cls := "ScriptTypesModel", name := "addNumber", desc := "(II)V" } : Jvm.MethodName)) ∈ lw_tbl := lw_at lw_m19 121 rfl
theorem q4887 : (Jvm.Cond.instanceMethod ({ cls := "ScriptTypesModel", name := "addNumber", desc := "(II)V" } : Jvm.MethodName)) ∈ lw_all := lw_g (lw_at lw_m19 122 rfl) rfl
theorem q4888 : (Jvm.Cond.code ({ cls := "ScriptTypesModel", name := "addNumber", desc := "(II)V" } : Jvm.MethodName) prog_44_method_215_code (5 : Nat) (Option.none : Option Jvm.ClassFile.FieldType)) ∈ lw_all := lw_g (lw_at lw_m19 123 rfl) rfl
theorem q4889 : (Jvm.Cond.methodLink "ScriptTypesModel" (1201 : Nat) ({ cls := "ScriptTypesModel", name := "pushSet", desc := "()I" } : Jvm.MethodName)) ∈ lw_all := lw_g (lw_at lw_m19 124 rfl) rfl
theorem q4890 : (Jvm.Cond.privateMethod ({ cls := "ScriptTypesModel", name := "pushSet", desc := "()I" } : Jvm.MethodName)) ∈ lw_tbl := lw_at lw_m19 125 rfl
theorem q4891 : (Jvm.Cond.instanceMethod ({ cls := "ScriptTypesModel", name := "pushSet", desc := "()I" } : Jvm.MethodName)) ∈ lw_all := lw_g (lw_at lw_m19 126 rfl) rfl
theorem q4892 : (Jvm.Cond.code ({ cls := "ScriptTypesModel", name := "pushSet", desc := "()I" } : Jvm.MethodName) prog_44_method_231_code (2 : Nat) (Option.some Jvm.ClassFile.FieldType.int)) ∈ lw_all := lw_g (lw_at lw_m19 127 rfl) rfl
theorem q4893 : (Jvm.Cond.methodLink "ScriptTypesModel" (1222 : Nat) ({ cls := "ScriptTypesModel", name := "on", desc := "()V" } : Jvm.MethodName)) ∈ lw_all := lw_g (lw_at lw_m19 128 rfl) rfl
theorem q4894 : (Jvm.Cond.privateMethod ({ cls := "ScriptTypesModel", name := "on", desc := "()V" } : Jvm.MethodName)) ∈ lw_tbl := lw_at lw_m19 129 rfl
theorem q4895 : (Jvm.Cond.instanceMethod ({ cls := "ScriptTypesModel", name := "on", desc := "()V" } : Jvm.MethodName)) ∈ lw_all := lw_g (lw_at lw_m19 130 rfl) rfl
theorem q4896 : (Jvm.Cond.code ({ cls := "ScriptTypesModel", name := "on", desc := "()V" } : Jvm.MethodName) prog_44_method_259_code (1 : Nat) (Option.none : Option Jvm.ClassFile.FieldType)) ∈ lw_all := lw_g (lw_at lw_m19 131 rfl) rfl
theorem q4897 : (Jvm.Cond.methodLink "ScriptTypesModel" (1225 : Nat) ({ cls := "ScriptTypesModel", name := "scopesAt", desc := "(II)V" } : Jvm.MethodName)) ∈ lw_all := lw_g (lw_at lw_m19 132 rfl) rfl
theorem q4898 : (Jvm.Cond.privateMethod ({ cls := "ScriptTypesModel", name := "scopesAt", desc := "(II)V" } : Jvm.MethodName)) ∈ lw_tbl := lw_at lw_m19 133 rfl
theorem q4899 : (Jvm.Cond.instanceMethod ({ cls := "ScriptTypesModel", name := "scopesAt", desc := "(II)V" } : Jvm.MethodName)) ∈ lw_all := lw_g (lw_at lw_m19 134 rfl) rfl
theorem q4900 : (Jvm.Cond.code ({ cls := "ScriptTypesModel", name := "scopesAt", desc := "(II)V" } : Jvm.MethodName) prog_44_method_265_code (6 : Nat) (Option.none : Option Jvm.ClassFile.FieldType)) ∈ lw_all := lw_g (lw_at lw_m19 135 rfl) rfl
theorem q4901 : (Jvm.Cond.constant "ScriptTypesModel" (1217 : Nat) (647793 : Int32)) ∈ lw_all := lw_g (lw_at lw_m19 136 rfl) rfl
theorem q4902 : (Jvm.Cond.methodLink "ScriptTypesModel" (1125 : Nat) ({ cls := "ScriptTypesModel", name := "isIn", desc := "(JJI)Z" } : Jvm.MethodName)) ∈ lw_all := lw_g (lw_at lw_m19 137 rfl) rfl
theorem q4903 : (Jvm.Cond.static ({ cls := "ScriptTypesModel", name := "isIn", desc := "(JJI)Z" } : Jvm.MethodName)) ∈ lw_all := lw_g (lw_at lw_m19 138 rfl) rfl
theorem q4904 : (Jvm.Cond.code ({ cls := "ScriptTypesModel", name := "isIn", desc := "(JJI)Z" } : Jvm.MethodName) prog_44_method_218_code (5 : Nat) (Option.some Jvm.ClassFile.FieldType.boolean)) ∈ lw_all := lw_g (lw_at lw_m19 139 rfl) rfl
theorem q4905 : (Jvm.Cond.methodLink "ScriptTypesModel" (1135 : Nat) ({ cls := "ScriptTypesModel", name := "noKeys", desc := "()V" } : Jvm.MethodName)) ∈ lw_all := lw_g (lw_at lw_m19 140 rfl) rfl
theorem q4906 : (Jvm.Cond.privateMethod ({ cls := "ScriptTypesModel", name := "noKeys", desc := "()V" } : Jvm.MethodName)) ∈ lw_tbl := lw_at lw_m19 141 rfl
theorem q4907 : (Jvm.Cond.instanceMethod ({ cls := "ScriptTypesModel", name := "noKeys", desc := "()V" } : Jvm.MethodName)) ∈ lw_all := lw_g (lw_at lw_m19 142 rfl) rfl
theorem q4908 : (Jvm.Cond.code ({ cls := "ScriptTypesModel", name := "noKeys", desc := "()V" } : Jvm.MethodName) prog_44_method_245_code (1 : Nat) (Option.none : Option Jvm.ClassFile.FieldType)) ∈ lw_all := lw_g (lw_at lw_m19 143 rfl) rfl
theorem q4909 : (Jvm.Cond.methodLink "ScriptTypesModel" (1138 : Nat) ({ cls := "ScriptTypesModel", name := "addKey", desc := "(I)V" } : Jvm.MethodName)) ∈ lw_all := lw_g (lw_at lw_m19 144 rfl) rfl
theorem q4910 : (Jvm.Cond.privateMethod ({ cls := "ScriptTypesModel", name := "addKey", desc := "(I)V" } : Jvm.MethodName)) ∈ lw_tbl := lw_at lw_m19 145 rfl
theorem q4911 : (Jvm.Cond.instanceMethod ({ cls := "ScriptTypesModel", name := "addKey", desc := "(I)V" } : Jvm.MethodName)) ∈ lw_all := lw_g (lw_at lw_m19 146 rfl) rfl
theorem q4912 : (Jvm.Cond.code ({ cls := "ScriptTypesModel", name := "addKey", desc := "(I)V" } : Jvm.MethodName) prog_44_method_242_code (2 : Nat) (Option.none : Option Jvm.ClassFile.FieldType)) ∈ lw_all := lw_g (lw_at lw_m19 147 rfl) rfl
theorem q4913 : (Jvm.Cond.methodLink "ScriptTypesModel" (1228 : Nat) ({ cls := "ScriptTypesModel", name := "joinPlain", desc := "(II)V" } : Jvm.MethodName)) ∈ lw_all := lw_g (lw_at lw_m19 148 rfl) rfl
theorem q4914 : (Jvm.Cond.privateMethod ({ cls := "ScriptTypesModel", name := "joinPlain", desc := "(II)V" } : Jvm.MethodName)) ∈ lw_tbl := lw_at lw_m19 149 rfl
theorem q4915 : (Jvm.Cond.instanceMethod ({ cls := "ScriptTypesModel", name := "joinPlain", desc := "(II)V" } : Jvm.MethodName)) ∈ lw_all := lw_g (lw_at lw_m19 150 rfl) rfl
theorem q4916 : (Jvm.Cond.code ({ cls := "ScriptTypesModel", name := "joinPlain", desc := "(II)V" } : Jvm.MethodName) prog_44_method_267_code (5 : Nat) (Option.none : Option Jvm.ClassFile.FieldType)) ∈ lw_all := lw_g (lw_at lw_m19 151 rfl) rfl
theorem q4917 : (Jvm.Cond.constant "ScriptTypesModel" (1273 : Nat) (647794 : Int32)) ∈ lw_all := lw_g (lw_at lw_m19 152 rfl) rfl
theorem q4918 : (Jvm.Cond.methodLink "ScriptTypesModel" (1059 : Nat) ({ cls := "ScriptTypesModel", name := "plainly", desc := "(I)I" } : Jvm.MethodName)) ∈ lw_all := lw_g (lw_at lw_m19 153 rfl) rfl
theorem q4919 : (Jvm.Cond.privateMethod ({ cls := "ScriptTypesModel", name := "plainly", desc := "(I)I" } : Jvm.MethodName)) ∈ lw_tbl := lw_at lw_m19 154 rfl
theorem q4920 : (Jvm.Cond.instanceMethod ({ cls := "ScriptTypesModel", name := "plainly", desc := "(I)I" } : Jvm.MethodName)) ∈ lw_all := lw_g (lw_at lw_m19 155 rfl) rfl
theorem q4921 : (Jvm.Cond.code ({ cls := "ScriptTypesModel", name := "plainly", desc := "(I)I" } : Jvm.MethodName) prog_44_method_211_code (2 : Nat) (Option.some Jvm.ClassFile.FieldType.int)) ∈ lw_all := lw_g (lw_at lw_m19 156 rfl) rfl
theorem q4922 : (Jvm.Cond.methodLink "ScriptTypesModel" (1231 : Nat) ({ cls := "ScriptTypesModel", name := "isEmpty", desc := "(I)Z" } : Jvm.MethodName)) ∈ lw_all := lw_g (lw_at lw_m19 157 rfl) rfl
theorem q4923 : (Jvm.Cond.privateMethod ({ cls := "ScriptTypesModel", name := "isEmpty", desc := "(I)Z" } : Jvm.MethodName)) ∈ lw_tbl := lw_at lw_m19 158 rfl
theorem q4924 : (Jvm.Cond.instanceMethod ({ cls := "ScriptTypesModel", name := "isEmpty", desc := "(I)Z" } : Jvm.MethodName)) ∈ lw_all := lw_g (lw_at lw_m19 159 rfl) rfl
theorem q4925 : (Jvm.Cond.code ({ cls := "ScriptTypesModel", name := "isEmpty", desc := "(I)Z" } : Jvm.MethodName) prog_44_method_212_code (2 : Nat) (Option.some Jvm.ClassFile.FieldType.boolean)) ∈ lw_all := lw_g (lw_at lw_m19 160 rfl) rfl
theorem q4926 : (Jvm.Cond.methodLink "ScriptTypesModel" (1062 : Nat) ({ cls := "ScriptTypesModel", name := "hasLabels", desc := "(I)Z" } : Jvm.MethodName)) ∈ lw_all := lw_g (lw_at lw_m19 161 rfl) rfl
theorem q4927 : (Jvm.Cond.privateMethod ({ cls := "ScriptTypesModel", name := "hasLabels", desc := "(I)Z" } : Jvm.MethodName)) ∈ lw_tbl := lw_at lw_m19 162 rfl
theorem q4928 : (Jvm.Cond.instanceMethod ({ cls := "ScriptTypesModel", name := "hasLabels", desc := "(I)Z" } : Jvm.MethodName)) ∈ lw_all := lw_g (lw_at lw_m19 163 rfl) rfl
theorem q4929 : (Jvm.Cond.code ({ cls := "ScriptTypesModel", name := "hasLabels", desc := "(I)Z" } : Jvm.MethodName) prog_44_method_210_code (2 : Nat) (Option.some Jvm.ClassFile.FieldType.boolean)) ∈ lw_all := lw_g (lw_at lw_m19 164 rfl) rfl
theorem q4930 : (Jvm.Cond.methodLink "ScriptTypesModel" (1195 : Nat) ({ cls := "ScriptTypesModel", name := "fromTop", desc := "(I)I" } : Jvm.MethodName)) ∈ lw_all := lw_g (lw_at lw_m19 165 rfl) rfl
theorem q4931 : (Jvm.Cond.privateMethod ({ cls := "ScriptTypesModel", name := "fromTop", desc := "(I)I" } : Jvm.MethodName)) ∈ lw_tbl := lw_at lw_m19 166 rfl
theorem q4932 : (Jvm.Cond.instanceMethod ({ cls := "ScriptTypesModel", name := "fromTop", desc := "(I)I" } : Jvm.MethodName)) ∈ lw_all := lw_g (lw_at lw_m19 167 rfl) rfl
theorem q4933 : (Jvm.Cond.code ({ cls := "ScriptTypesModel", name := "fromTop", desc := "(I)I" } : Jvm.MethodName) prog_44_method_230_code (2 : Nat) (Option.some Jvm.ClassFile.FieldType.int)) ∈ lw_all := lw_g (lw_at lw_m19 168 rfl) rfl
theorem q4934 : (Jvm.Cond.methodLink "ScriptTypesModel" (1234 : Nat) ({ cls := "ScriptTypesModel", name := "writeTo", desc := "(JJIZZ)V" } : Jvm.MethodName)) ∈ lw_all := lw_g (lw_at lw_m19 169 rfl) rfl
theorem q4935 : (Jvm.Cond.privateMethod ({ cls := "ScriptTypesModel", name := "writeTo", desc := "(JJIZZ)V" } : Jvm.MethodName)) ∈ lw_tbl := lw_at lw_m19 170 rfl
theorem q4936 : (Jvm.Cond.instanceMethod ({ cls := "ScriptTypesModel", name := "writeTo", desc := "(JJIZZ)V" } : Jvm.MethodName)) ∈ lw_all := lw_g (lw_at lw_m19 171 rfl) rfl
theorem q4937 : (Jvm.Cond.code ({ cls := "ScriptTypesModel", name := "writeTo", desc := "(JJIZZ)V" } : Jvm.MethodName) prog_44_method_252_code (14 : Nat) (Option.none : Option Jvm.ClassFile.FieldType)) ∈ lw_all := lw_g (lw_at lw_m19 172 rfl) rfl
theorem q4938 : (Jvm.Cond.methodLink "ScriptTypesModel" (1129 : Nat) ({ cls := "java/lang/Long", name := "bitCount", desc := "(J)I" } : Jvm.MethodName)) ∈ lw_all := lw_g (lw_at lw_m19 173 rfl) rfl
theorem q4939 : (Jvm.Cond.methodLink "ScriptTypesModel" (1166 : Nat) ({ cls := "ScriptTypesModel", name := "isSingle", desc := "(I)Z" } : Jvm.MethodName)) ∈ lw_all := lw_g (lw_at lw_m19 174 rfl) rfl
theorem q4940 : (Jvm.Cond.static ({ cls := "ScriptTypesModel", name := "isSingle", desc := "(I)Z" } : Jvm.MethodName)) ∈ lw_all := lw_g (lw_at lw_m19 175 rfl) rfl
theorem q4941 : (Jvm.Cond.code ({ cls := "ScriptTypesModel", name := "isSingle", desc := "(I)Z" } : Jvm.MethodName) prog_44_method_241_code (1 : Nat) (Option.some Jvm.ClassFile.FieldType.boolean)) ∈ lw_all := lw_g (lw_at lw_m19 176 rfl) rfl
theorem q4942 : (Jvm.Cond.methodLink "ScriptTypesModel" (1150 : Nat) ({ cls := "ScriptTypesModel", name := "manyKeys", desc := "()I" } : Jvm.MethodName)) ∈ lw_all := lw_g (lw_at lw_m19 177 rfl) rfl
theorem q4943 : (Jvm.Cond.privateMethod ({ cls := "ScriptTypesModel", name := "manyKeys", desc := "()I" } : Jvm.MethodName)) ∈ lw_tbl := lw_at lw_m19 178 rfl
theorem q4944 : (Jvm.Cond.instanceMethod ({ cls := "ScriptTypesModel", name := "manyKeys", desc := "()I" } : Jvm.MethodName)) ∈ lw_all := lw_g (lw_at lw_m19 179 rfl) rfl
theorem q4945 : (Jvm.Cond.code ({ cls := "ScriptTypesModel", name := "manyKeys", desc := "()I" } : Jvm.MethodName) prog_44_method_244_code (1 : Nat) (Option.some Jvm.ClassFile.FieldType.int)) ∈ lw_all := lw_g (lw_at lw_m19 180 rfl) rfl
theorem q4946 : (Jvm.Cond.methodLink "ScriptTypesModel" (1153 : Nat) ({ cls := "ScriptTypesModel", name := "hasKey", desc := "(I)Z" } : Jvm.MethodName)) ∈ lw_all := lw_g (lw_at lw_m19 181 rfl) rfl
theorem q4947 : (Jvm.Cond.privateMethod ({ cls := "ScriptTypesModel", name := "hasKey", desc := "(I)Z" } : Jvm.MethodName)) ∈ lw_tbl := lw_at lw_m19 182 rfl
theorem q4948 : (Jvm.Cond.instanceMethod ({ cls := "ScriptTypesModel", name := "hasKey", desc := "(I)Z" } : Jvm.MethodName)) ∈ lw_all := lw_g (lw_at lw_m19 183 rfl) rfl
theorem q4949 : (Jvm.Cond.code ({ cls := "ScriptTypesModel", name := "hasKey", desc := "(I)Z" } : Jvm.MethodName) prog_44_method_243_code (2 : Nat) (Option.some Jvm.ClassFile.FieldType.boolean)) ∈ lw_all := lw_g (lw_at lw_m19 184 rfl) rfl
theorem q4950 : (Jvm.Cond.methodLink "ScriptTypesModel" (1169 : Nat) ({ cls := "ScriptTypesModel", name := "isArrayLabel", desc := "(I)Z" } : Jvm.MethodName)) ∈ lw_all := lw_g (lw_at lw_m19 185 rfl) rfl
theorem q4951 : (Jvm.Cond.privateMethod ({ cls := "ScriptTypesModel", name := "isArrayLabel", desc := "(I)Z" } : Jvm.MethodName)) ∈ lw_tbl := lw_at lw_m19 186 rfl
theorem q4952 : (Jvm.Cond.instanceMethod ({ cls := "ScriptTypesModel", name := "isArrayLabel", desc := "(I)Z" } : Jvm.MethodName)) ∈ lw_all := lw_g (lw_at lw_m19 187 rfl) rfl
theorem q4953 : (Jvm.Cond.code ({ cls := "ScriptTypesModel", name := "isArrayLabel", desc := "(I)Z" } : Jvm.MethodName) prog_44_method_240_code (3 : Nat) (Option.some Jvm.ClassFile.FieldType.boolean)) ∈ lw_all := lw_g (lw_at lw_m19 188 rfl) rfl
theorem q4954 : (Jvm.Cond.methodLink "ScriptTypesModel" (1238 : Nat) ({ cls := "ScriptTypesModel", name := "waysOfGlobal", desc := "(IZ)V" } : Jvm.MethodName)) ∈ lw_all := lw_g (lw_at lw_m19 189 rfl) rfl
theorem q4955 : (Jvm.Cond.privateMethod ({ cls := "ScriptTypesModel", name := "waysOfGlobal", desc := "(IZ)V" } : Jvm.MethodName)) ∈ lw_tbl := lw_at lw_m19 190 rfl
theorem q4956 : (Jvm.Cond.instanceMethod ({ cls := "ScriptTypesModel", name := "waysOfGlobal", desc := "(IZ)V" } : Jvm.MethodName)) ∈ lw_all := lw_g (lw_at lw_m19 191 rfl) rfl
theorem q4957 : (Jvm.Cond.code ({ cls := "ScriptTypesModel", name := "waysOfGlobal", desc := "(IZ)V" } : Jvm.MethodName) prog_44_method_271_code (7 : Nat) (Option.none : Option Jvm.ClassFile.FieldType)) ∈ lw_all := lw_g (lw_at lw_m19 192 rfl) rfl
theorem q4958 : (Jvm.Cond.methodLink "ScriptTypesModel" (1289 : Nat) ({ cls := "ScriptTypesModel", name := "typesOf", desc := "(II)V" } : Jvm.MethodName)) ∈ lw_all := lw_g (lw_at lw_m19 193 rfl) rfl
theorem q4959 : (Jvm.Cond.privateMethod ({ cls := "ScriptTypesModel", name := "typesOf", desc := "(II)V" } : Jvm.MethodName)) ∈ lw_tbl := lw_at lw_m19 194 rfl
theorem q4960 : (Jvm.Cond.instanceMethod ({ cls := "ScriptTypesModel", name := "typesOf", desc := "(II)V" } : Jvm.MethodName)) ∈ lw_all := lw_g (lw_at lw_m19 195 rfl) rfl
theorem q4961 : (Jvm.Cond.code ({ cls := "ScriptTypesModel", name := "typesOf", desc := "(II)V" } : Jvm.MethodName) prog_44_method_272_code (5 : Nat) (Option.none : Option Jvm.ClassFile.FieldType)) ∈ lw_all := lw_g (lw_at lw_m19 196 rfl) rfl
theorem q4962 : (Jvm.Cond.methodLink "ScriptTypesModel" (1115 : Nat) ({ cls := "ScriptTypesModel", name := "isFunctionLabel", desc := "(I)Z" } : Jvm.MethodName)) ∈ lw_all := lw_g (lw_at lw_m19 197 rfl) rfl
theorem q4963 : (Jvm.Cond.privateMethod ({ cls := "ScriptTypesModel", name := "isFunctionLabel", desc := "(I)Z" } : Jvm.MethodName)) ∈ lw_tbl := lw_at lw_m19 198 rfl
theorem q4964 : (Jvm.Cond.instanceMethod ({ cls := "ScriptTypesModel", name := "isFunctionLabel", desc := "(I)Z" } : Jvm.MethodName)) ∈ lw_all := lw_g (lw_at lw_m19 199 rfl) rfl
theorem q4965 : (Jvm.Cond.code ({ cls := "ScriptTypesModel", name := "isFunctionLabel", desc := "(I)Z" } : Jvm.MethodName) prog_44_method_238_code (2 : Nat) (Option.some Jvm.ClassFile.FieldType.boolean)) ∈ lw_all := lw_g (lw_at lw_m19 200 rfl) rfl
theorem q4966 : (Jvm.Cond.methodLink "ScriptTypesModel" (1258 : Nat) ({ cls := "ScriptTypesModel", name := "replace", desc := "(II)V" } : Jvm.MethodName)) ∈ lw_all := lw_g (lw_at lw_m19 201 rfl) rfl
theorem q4967 : (Jvm.Cond.privateMethod ({ cls := "ScriptTypesModel", name := "replace", desc := "(II)V" } : Jvm.MethodName)) ∈ lw_tbl := lw_at lw_m19 202 rfl
theorem q4968 : (Jvm.Cond.instanceMethod ({ cls := "ScriptTypesModel", name := "replace", desc := "(II)V" } : Jvm.MethodName)) ∈ lw_all := lw_g (lw_at lw_m19 203 rfl) rfl
theorem q4969 : (Jvm.Cond.code ({ cls := "ScriptTypesModel", name := "replace", desc := "(II)V" } : Jvm.MethodName) prog_44_method_268_code (3 : Nat) (Option.none : Option Jvm.ClassFile.FieldType)) ∈ lw_all := lw_g (lw_at lw_m19 204 rfl) rfl
theorem q4970 : (Jvm.Cond.methodLink "ScriptTypesModel" (1292 : Nat) ({ cls := "ScriptTypesModel", name := "error", desc := "(II)V" } : Jvm.MethodName)) ∈ lw_all := lw_g (lw_at lw_m19 205 rfl) rfl
theorem q4971 : (Jvm.Cond.privateMethod ({ cls := "ScriptTypesModel", name := "error", desc := "(II)V" } : Jvm.MethodName)) ∈ lw_tbl := lw_at lw_m19 206 rfl
theorem q4972 : (Jvm.Cond.instanceMethod ({ cls := "ScriptTypesModel", name := "error", desc := "(II)V" } : Jvm.MethodName)) ∈ lw_all := lw_g (lw_at lw_m19 207 rfl) rfl
theorem q4973 : (Jvm.Cond.code ({ cls := "ScriptTypesModel", name := "error", desc := "(II)V" } : Jvm.MethodName) prog_44_method_264_code (3 : Nat) (Option.none : Option Jvm.ClassFile.FieldType)) ∈ lw_all := lw_g (lw_at lw_m19 208 rfl) rfl
theorem q4974 : (Jvm.Cond.methodLink "ScriptTypesModel" (1214 : Nat) ({ cls := "ScriptTypesModel", name := "errorNow", desc := "(I)V" } : Jvm.MethodName)) ∈ lw_all := lw_g (lw_at lw_m19 209 rfl) rfl
theorem q4975 : (Jvm.Cond.privateMethod ({ cls := "ScriptTypesModel", name := "errorNow", desc := "(I)V" } : Jvm.MethodName)) ∈ lw_tbl := lw_at lw_m19 210 rfl
theorem q4976 : (Jvm.Cond.instanceMethod ({ cls := "ScriptTypesModel", name := "errorNow", desc := "(I)V" } : Jvm.MethodName)) ∈ lw_all := lw_g (lw_at lw_m19 211 rfl) rfl
theorem q4977 : (Jvm.Cond.code ({ cls := "ScriptTypesModel", name := "errorNow", desc := "(I)V" } : Jvm.MethodName) prog_44_method_263_code (3 : Nat) (Option.none : Option Jvm.ClassFile.FieldType)) ∈ lw_all := lw_g (lw_at lw_m19 212 rfl) rfl
theorem q4978 : (Jvm.Cond.methodLink "ScriptTypesModel" (1204 : Nat) ({ cls := "ScriptTypesModel", name := "addNew", desc := "(IIZI)V" } : Jvm.MethodName)) ∈ lw_all := lw_g (lw_at lw_m19 213 rfl) rfl
theorem q4979 : (Jvm.Cond.privateMethod ({ cls := "ScriptTypesModel", name := "addNew", desc := "(IIZI)V" } : Jvm.MethodName)) ∈ lw_tbl := lw_at lw_m19 214 rfl
theorem q4980 : (Jvm.Cond.instanceMethod ({ cls := "ScriptTypesModel", name := "addNew", desc := "(IIZI)V" } : Jvm.MethodName)) ∈ lw_all := lw_g (lw_at lw_m19 215 rfl) rfl
theorem q4981 : (Jvm.Cond.code ({ cls := "ScriptTypesModel", name := "addNew", desc := "(IIZI)V" } : Jvm.MethodName) prog_44_method_255_code (8 : Nat) (Option.none : Option Jvm.ClassFile.FieldType)) ∈ lw_all := lw_g (lw_at lw_m19 216 rfl) rfl
theorem q4982 : (Jvm.Cond.methodLink "ScriptTypesModel" (1172 : Nat) ({ cls := "ScriptTypesModel", name := "addTextOf", desc := "(II)V" } : Jvm.MethodName)) ∈ lw_all := lw_g (lw_at lw_m19 217 rfl) rfl
theorem q4983 : (Jvm.Cond.privateMethod ({ cls := "ScriptTypesModel", name := "addTextOf", desc := "(II)V" } : Jvm.MethodName)) ∈ lw_tbl := lw_at lw_m19 218 rfl
theorem q4984 : (Jvm.Cond.instanceMethod ({ cls := "ScriptTypesModel", name := "addTextOf", desc := "(II)V" } : Jvm.MethodName)) ∈ lw_all := lw_g (lw_at lw_m19 219 rfl) rfl
theorem q4985 : (Jvm.Cond.code ({ cls := "ScriptTypesModel", name := "addTextOf", desc := "(II)V" } : Jvm.MethodName) prog_44_method_249_code (5 : Nat) (Option.none : Option Jvm.ClassFile.FieldType)) ∈ lw_all := lw_g (lw_at lw_m19 220 rfl) rfl
theorem q4986 : (Jvm.Cond.methodLink "ScriptTypesModel" (1147 : Nat) ({ cls := "ScriptTypesModel", name := "keysOf", desc := "(I)V" } : Jvm.MethodName)) ∈ lw_all := lw_g (lw_at lw_m19 221 rfl) rfl
theorem q4987 : (Jvm.Cond.privateMethod ({ cls := "ScriptTypesModel", name := "keysOf", desc := "(I)V" } : Jvm.MethodName)) ∈ lw_tbl := lw_at lw_m19 222 rfl
theorem q4988 : (Jvm.Cond.instanceMethod ({ cls := "ScriptTypesModel", name := "keysOf", desc := "(I)V" } : Jvm.MethodName)) ∈ lw_all := lw_g (lw_at lw_m19 223 rfl) rfl
theorem q4989 : (Jvm.Cond.code ({ cls := "ScriptTypesModel", name := "keysOf", desc := "(I)V" } : Jvm.MethodName) prog_44_method_246_code (5 : Nat) (Option.none : Option Jvm.ClassFile.FieldType)) ∈ lw_all := lw_g (lw_at lw_m19 224 rfl) rfl
theorem q4990 : (Jvm.Cond.methodLink "ScriptTypesModel" (1141 : Nat) ({ cls := "ScriptTypesModel", name := "nameOfNumber", desc := "(I)I" } : Jvm.MethodName)) ∈ lw_all := lw_g (lw_at lw_m19 225 rfl) rfl
theorem q4991 : (Jvm.Cond.privateMethod ({ cls := "ScriptTypesModel", name := "nameOfNumber", desc := "(I)I" } : Jvm.MethodName)) ∈ lw_tbl := lw_at lw_m19 226 rfl
theorem q4992 : (Jvm.Cond.instanceMethod ({ cls := "ScriptTypesModel", name := "nameOfNumber", desc := "(I)I" } : Jvm.MethodName)) ∈ lw_all := lw_g (lw_at lw_m19 227 rfl) rfl
theorem q4993 : (Jvm.Cond.code ({ cls := "ScriptTypesModel", name := "nameOfNumber", desc := "(I)I" } : Jvm.MethodName) prog_44_method_248_code (2 : Nat) (Option.some Jvm.ClassFile.FieldType.int)) ∈ lw_all := lw_g (lw_at lw_m19 228 rfl) rfl
theorem q4994 : (Jvm.Cond.methodLink "ScriptTypesModel" (1144 : Nat) ({ cls := "ScriptTypesModel", name := "findName", desc := "()I" } : Jvm.MethodName)) ∈ lw_all := lw_g (lw_at lw_m19 229 rfl) rfl
theorem q4995 : (Jvm.Cond.privateMethod ({ cls := "ScriptTypesModel", name := "findName", desc := "()I" } : Jvm.MethodName)) ∈ lw_tbl := lw_at lw_m19 230 rfl
theorem q4996 : (Jvm.Cond.instanceMethod ({ cls := "ScriptTypesModel", name := "findName", desc := "()I" } : Jvm.MethodName)) ∈ lw_all := lw_g (lw_at lw_m19 231 rfl) rfl
theorem q4997 : (Jvm.Cond.code ({ cls := "ScriptTypesModel", name := "findName", desc := "()I" } : Jvm.MethodName) prog_44_method_247_code (2 : Nat) (Option.some Jvm.ClassFile.FieldType.int)) ∈ lw_all := lw_g (lw_at lw_m19 232 rfl) rfl
theorem q4998 : (Jvm.Cond.constant "ScriptTypesModel" (1194 : Nat) (647792 : Int32)) ∈ lw_all := lw_g (lw_at lw_m19 233 rfl) rfl
theorem q4999 : (Jvm.Cond.methodLink "ScriptTypesModel" (1198 : Nat) ({ cls := "ScriptTypesModel", name := "tossSet", desc := "(I)V" } : Jvm.MethodName)) ∈ lw_all := lw_g (lw_at lw_m19 234 rfl) rfl
theorem q5000 : (Jvm.Cond.privateMethod ({ cls := "ScriptTypesModel", name := "tossSet", desc := "(I)V" } : Jvm.MethodName)) ∈ lw_tbl := lw_at lw_m19 235 rfl
theorem q5001 : (Jvm.Cond.instanceMethod ({ cls := "ScriptTypesModel", name := "tossSet", desc := "(I)V" } : Jvm.MethodName)) ∈ lw_all := lw_g (lw_at lw_m19 236 rfl) rfl
theorem q5002 : (Jvm.Cond.code ({ cls := "ScriptTypesModel", name := "tossSet", desc := "(I)V" } : Jvm.MethodName) prog_44_method_262_code (3 : Nat) (Option.none : Option Jvm.ClassFile.FieldType)) ∈ lw_all := lw_g (lw_at lw_m19 237 rfl) rfl
theorem q5003 : (Jvm.Cond.methodLink "ScriptTypesModel" (1241 : Nat) ({ cls := "ScriptTypesModel", name := "make", desc := "(II)V" } : Jvm.MethodName)) ∈ lw_all := lw_g (lw_at lw_m19 238 rfl) rfl
theorem q5004 : (Jvm.Cond.privateMethod ({ cls := "ScriptTypesModel", name := "make", desc := "(II)V" } : Jvm.MethodName)) ∈ lw_tbl := lw_at lw_m19 239 rfl
theorem q5005 : (Jvm.Cond.instanceMethod ({ cls := "ScriptTypesModel", name := "make", desc := "(II)V" } : Jvm.MethodName)) ∈ lw_all := lw_g (lw_at lw_m20 0 rfl) rfl
theorem q5006 : (Jvm.Cond.code ({ cls := "ScriptTypesModel", name := "make", desc := "(II)V" } : Jvm.MethodName) prog_44_method_257_code (6 : Nat) (Option.none : Option Jvm.ClassFile.FieldType)) ∈ lw_all := lw_g (lw_at lw_m20 1 rfl) rfl
theorem q5007 : (Jvm.Cond.methodLink "ScriptTypesModel" (1175 : Nat) ({ cls := "ScriptTypesModel", name := "renameIn", desc := "(II)V" } : Jvm.MethodName)) ∈ lw_all := lw_g (lw_at lw_m20 2 rfl) rfl
theorem q5008 : (Jvm.Cond.privateMethod ({ cls := "ScriptTypesModel", name := "renameIn", desc := "(II)V" } : Jvm.MethodName)) ∈ lw_tbl := lw_at lw_m20 3 rfl
theorem q5009 : (Jvm.Cond.instanceMethod ({ cls := "ScriptTypesModel", name := "renameIn", desc := "(II)V" } : Jvm.MethodName)) ∈ lw_all := lw_g (lw_at lw_m20 4 rfl) rfl
theorem q5010 : (Jvm.Cond.code ({ cls := "ScriptTypesModel", name := "renameIn", desc := "(II)V" } : Jvm.MethodName) prog_44_method_256_code (3 : Nat) (Option.none : Option Jvm.ClassFile.FieldType)) ∈ lw_all := lw_g (lw_at lw_m20 5 rfl) rfl
theorem q5011 : (Jvm.Cond.constant "ScriptTypesModel" (1181 : Nat) (647791 : Int32)) ∈ lw_all := lw_g (lw_at lw_m20 6 rfl) rfl
theorem q5012 : (Jvm.Cond.methodLink "ScriptTypesModel" (1246 : Nat) ({ cls := "ScriptTypesModel", name := "waysOfGet", desc := "()V" } : Jvm.MethodName)) ∈ lw_all := lw_g (lw_at lw_m20 7 rfl) rfl
theorem q5013 : (Jvm.Cond.privateMethod ({ cls := "ScriptTypesModel", name := "waysOfGet", desc := "()V" } : Jvm.MethodName)) ∈ lw_tbl := lw_at lw_m20 8 rfl
theorem q5014 : (Jvm.Cond.instanceMethod ({ cls := "ScriptTypesModel", name := "waysOfGet", desc := "()V" } : Jvm.MethodName)) ∈ lw_all := lw_g (lw_at lw_m20 9 rfl) rfl
theorem q5015 : (Jvm.Cond.code ({ cls := "ScriptTypesModel", name := "waysOfGet", desc := "()V" } : Jvm.MethodName) prog_44_method_275_code (6 : Nat) (Option.none : Option Jvm.ClassFile.FieldType)) ∈ lw_all := lw_g (lw_at lw_m20 10 rfl) rfl
theorem q5016 : (Jvm.Cond.methodLink "ScriptTypesModel" (1303 : Nat) ({ cls := "ScriptTypesModel", name := "getOfString", desc := "(II)V" } : Jvm.MethodName)) ∈ lw_all := lw_g (lw_at lw_m20 11 rfl) rfl
theorem q5017 : (Jvm.Cond.privateMethod ({ cls := "ScriptTypesModel", name := "getOfString", desc := "(II)V" } : Jvm.MethodName)) ∈ lw_tbl := lw_at lw_m20 12 rfl
theorem q5018 : (Jvm.Cond.instanceMethod ({ cls := "ScriptTypesModel", name := "getOfString", desc := "(II)V" } : Jvm.MethodName)) ∈ lw_all := lw_g (lw_at lw_m20 13 rfl) rfl
theorem q5019 : (Jvm.Cond.code ({ cls := "ScriptTypesModel", name := "getOfString", desc := "(II)V" } : Jvm.MethodName) prog_44_method_276_code (4 : Nat) (Option.none : Option Jvm.ClassFile.FieldType)) ∈ lw_all := lw_g (lw_at lw_m20 14 rfl) rfl
theorem q5020 : (Jvm.Cond.methodLink "ScriptTypesModel" (1294 : Nat) ({ cls := "ScriptTypesModel", name := "isAlone", desc := "(I)Z" } : Jvm.MethodName)) ∈ lw_all := lw_g (lw_at lw_m20 15 rfl) rfl
theorem q5021 : (Jvm.Cond.privateMethod ({ cls := "ScriptTypesModel", name := "isAlone", desc := "(I)Z" } : Jvm.MethodName)) ∈ lw_tbl := lw_at lw_m20 16 rfl
theorem q5022 : (Jvm.Cond.instanceMethod ({ cls := "ScriptTypesModel", name := "isAlone", desc := "(I)Z" } : Jvm.MethodName)) ∈ lw_all := lw_g (lw_at lw_m20 17 rfl) rfl
theorem q5023 : (Jvm.Cond.code ({ cls := "ScriptTypesModel", name := "isAlone", desc := "(I)Z" } : Jvm.MethodName) prog_44_method_213_code (3 : Nat) (Option.some Jvm.ClassFile.FieldType.boolean)) ∈ lw_all := lw_g (lw_at lw_m20 18 rfl) rfl
theorem q5024 : (Jvm.Cond.constantLong "ScriptTypesModel" (1310 : Nat) (-2 : Int64)) ∈ lw_all := lw_g (lw_at lw_m20 19 rfl) rfl
theorem q5025 : (Jvm.Cond.constantLong "ScriptTypesModel" (1312 : Nat) (16 : Int64)) ∈ lw_all := lw_g (lw_at lw_m20 20 rfl) rfl
theorem q5026 : (Jvm.Cond.methodLink "ScriptTypesModel" (1306 : Nat) ({ cls := "ScriptTypesModel", name := "readFrom", desc := "(JJI)V" } : Jvm.MethodName)) ∈ lw_all := lw_g (lw_at lw_m20 21 rfl) rfl
theorem q5027 : (Jvm.Cond.privateMethod ({ cls := "ScriptTypesModel", name := "readFrom", desc := "(JJI)V" } : Jvm.MethodName)) ∈ lw_tbl := lw_at lw_m20 22 rfl
theorem q5028 : (Jvm.Cond.instanceMethod ({ cls := "ScriptTypesModel", name := "readFrom", desc := "(JJI)V" } : Jvm.MethodName)) ∈ lw_all := lw_g (lw_at lw_m20 23 rfl) rfl
theorem q5029 : (Jvm.Cond.code ({ cls := "ScriptTypesModel", name := "readFrom", desc := "(JJI)V" } : Jvm.MethodName) prog_44_method_250_code (7 : Nat) (Option.none : Option Jvm.ClassFile.FieldType)) ∈ lw_all := lw_g (lw_at lw_m20 24 rfl) rfl
theorem q5030 : (Jvm.Cond.methodLink "ScriptTypesModel" (1159 : Nat) ({ cls := "ScriptTypesModel", name := "readKey", desc := "(JJII)V" } : Jvm.MethodName)) ∈ lw_all := lw_g (lw_at lw_m20 25 rfl) rfl
theorem q5031 : (Jvm.Cond.privateMethod ({ cls := "ScriptTypesModel", name := "readKey", desc := "(JJII)V" } : Jvm.MethodName)) ∈ lw_tbl := lw_at lw_m20 26 rfl
theorem q5032 : (Jvm.Cond.instanceMethod ({ cls := "ScriptTypesModel", name := "readKey", desc := "(JJII)V" } : Jvm.MethodName)) ∈ lw_all := lw_g (lw_at lw_m20 27 rfl) rfl
theorem q5033 : (Jvm.Cond.code ({ cls := "ScriptTypesModel", name := "readKey", desc := "(JJII)V" } : Jvm.MethodName) prog_44_method_251_code (19 : Nat) (Option.none : Option Jvm.ClassFile.FieldType)) ∈ lw_all := lw_g (lw_at lw_m20 28 rfl) rfl
theorem q5034 : (Jvm.Cond.methodLink "ScriptTypesModel" (1249 : Nat) ({ cls := "ScriptTypesModel", name := "waysOfPut", desc := "()V" } : Jvm.MethodName)) ∈ lw_all := lw_g (lw_at lw_m20 29 rfl) rfl
theorem q5035 : (Jvm.Cond.privateMethod ({ cls := "ScriptTypesModel", name := "waysOfPut", desc := "()V" } : Jvm.MethodName)) ∈ lw_tbl := lw_at lw_m20 30 rfl
theorem q5036 : (Jvm.Cond.instanceMethod ({ cls := "ScriptTypesModel", name := "waysOfPut", desc := "()V" } : Jvm.MethodName)) ∈ lw_all := lw_g (lw_at lw_m20 31 rfl) rfl
theorem q5037 : (Jvm.Cond.code ({ cls := "ScriptTypesModel", name := "waysOfPut", desc := "()V" } : Jvm.MethodName) prog_44_method_277_code (7 : Nat) (Option.none : Option Jvm.ClassFile.FieldType)) ∈ lw_all := lw_g (lw_at lw_m20 32 rfl) rfl
theorem q5038 : (Jvm.Cond.methodLink "ScriptTypesModel" (1252 : Nat) ({ cls := "ScriptTypesModel", name := "waysOfDelete", desc := "()V" } : Jvm.MethodName)) ∈ lw_all := lw_g (lw_at lw_m20 33 rfl) rfl
theorem q5039 : (Jvm.Cond.privateMethod ({ cls := "ScriptTypesModel", name := "waysOfDelete", desc := "()V" } : Jvm.MethodName)) ∈ lw_tbl := lw_at lw_m20 34 rfl
theorem q5040 : (Jvm.Cond.instanceMethod ({ cls := "ScriptTypesModel", name := "waysOfDelete", desc := "()V" } : Jvm.MethodName)) ∈ lw_all := lw_g (lw_at lw_m20 35 rfl) rfl
theorem q5041 : (Jvm.Cond.code ({ cls := "ScriptTypesModel", name := "waysOfDelete", desc := "()V" } : Jvm.MethodName) prog_44_method_278_code (11 : Nat) (Option.none : Option Jvm.ClassFile.FieldType)) ∈ lw_all := lw_g (lw_at lw_m20 36 rfl) rfl
theorem q5042 : (Jvm.Cond.methodLink "ScriptTypesModel" (1255 : Nat) ({ cls := "ScriptTypesModel", name := "unarySet", desc := "(III)V" } : Jvm.MethodName)) ∈ lw_all := lw_g (lw_at lw_m20 37 rfl) rfl
theorem q5043 : (Jvm.Cond.privateMethod ({ cls := "ScriptTypesModel", name := "unarySet", desc := "(III)V" } : Jvm.MethodName)) ∈ lw_tbl := lw_at lw_m20 38 rfl
theorem q5044 : (Jvm.Cond.instanceMethod ({ cls := "ScriptTypesModel", name := "unarySet", desc := "(III)V" } : Jvm.MethodName)) ∈ lw_all := lw_g (lw_at lw_m20 39 rfl) rfl
theorem q5045 : (Jvm.Cond.code ({ cls := "ScriptTypesModel", name := "unarySet", desc := "(III)V" } : Jvm.MethodName) prog_44_method_273_code (4 : Nat) (Option.none : Option Jvm.ClassFile.FieldType)) ∈ lw_all := lw_g (lw_at lw_m20 40 rfl) rfl
theorem q5046 : (Jvm.Cond.methodLink "ScriptTypesModel" (1297 : Nat) ({ cls := "ScriptTypesModel", name := "sortOfAlone", desc := "(I)I" } : Jvm.MethodName)) ∈ lw_all := lw_g (lw_at lw_m20 41 rfl) rfl
theorem q5047 : (Jvm.Cond.privateMethod ({ cls := "ScriptTypesModel", name := "sortOfAlone", desc := "(I)I" } : Jvm.MethodName)) ∈ lw_tbl := lw_at lw_m20 42 rfl
theorem q5048 : (Jvm.Cond.instanceMethod ({ cls := "ScriptTypesModel", name := "sortOfAlone", desc := "(I)I" } : Jvm.MethodName)) ∈ lw_all := lw_g (lw_at lw_m20 43 rfl) rfl
theorem q5049 : (Jvm.Cond.code ({ cls := "ScriptTypesModel", name := "sortOfAlone", desc := "(I)I" } : Jvm.MethodName) prog_44_method_220_code (3 : Nat) (Option.some Jvm.ClassFile.FieldType.int)) ∈ lw_all := lw_g (lw_at lw_m20 44 rfl) rfl
theorem q5050 : (Jvm.Cond.methodLink "ScriptTypesModel" (1300 : Nat) ({ cls := "ScriptTypesModel", name := "valueOfAlone", desc := "(I)I" } : Jvm.MethodName)) ∈ lw_all := lw_g (lw_at lw_m20 45 rfl) rfl
theorem q5051 : (Jvm.Cond.privateMethod ({ cls := "ScriptTypesModel", name := "valueOfAlone", desc := "(I)I" } : Jvm.MethodName)) ∈ lw_tbl := lw_at lw_m20 46 rfl
theorem q5052 : (Jvm.Cond.instanceMethod ({ cls := "ScriptTypesModel", name := "valueOfAlone", desc := "(I)I" } : Jvm.MethodName)) ∈ lw_all := lw_g (lw_at lw_m20 47 rfl) rfl
theorem q5053 : (Jvm.Cond.code ({ cls := "ScriptTypesModel", name := "valueOfAlone", desc := "(I)I" } : Jvm.MethodName) prog_44_method_221_code (2 : Nat) (Option.some Jvm.ClassFile.FieldType.int)) ∈ lw_all := lw_g (lw_at lw_m20 48 rfl) rfl
theorem q5054 : (Jvm.Cond.methodLink "ScriptTypesModel" (1286 : Nat) ({ cls := "ScriptTypesModel", name := "mayBeFalse", desc := "(I)Z" } : Jvm.MethodName)) ∈ lw_all := lw_g (lw_at lw_m20 49 rfl) rfl
theorem q5055 : (Jvm.Cond.privateMethod ({ cls := "ScriptTypesModel", name := "mayBeFalse", desc := "(I)Z" } : Jvm.MethodName)) ∈ lw_tbl := lw_at lw_m20 50 rfl
theorem q5056 : (Jvm.Cond.instanceMethod ({ cls := "ScriptTypesModel", name := "mayBeFalse", desc := "(I)Z" } : Jvm.MethodName)) ∈ lw_all := lw_g (lw_at lw_m20 51 rfl) rfl
theorem q5057 : (Jvm.Cond.code ({ cls := "ScriptTypesModel", name := "mayBeFalse", desc := "(I)Z" } : Jvm.MethodName) prog_44_method_223_code (3 : Nat) (Option.some Jvm.ClassFile.FieldType.boolean)) ∈ lw_all := lw_g (lw_at lw_m20 52 rfl) rfl
theorem q5058 : (Jvm.Cond.methodLink "ScriptTypesModel" (1283 : Nat) ({ cls := "ScriptTypesModel", name := "mayBeTrue", desc := "(I)Z" } : Jvm.MethodName)) ∈ lw_all := lw_g (lw_at lw_m20 53 rfl) rfl
theorem q5059 : (Jvm.Cond.privateMethod ({ cls := "ScriptTypesModel", name := "mayBeTrue", desc := "(I)Z" } : Jvm.MethodName)) ∈ lw_tbl := lw_at lw_m20 54 rfl
theorem q5060 : (Jvm.Cond.instanceMethod ({ cls := "ScriptTypesModel", name := "mayBeTrue", desc := "(I)Z" } : Jvm.MethodName)) ∈ lw_all := lw_g (lw_at lw_m20 55 rfl) rfl
theorem q5061 : (Jvm.Cond.code ({ cls := "ScriptTypesModel", name := "mayBeTrue", desc := "(I)Z" } : Jvm.MethodName) prog_44_method_222_code (3 : Nat) (Option.some Jvm.ClassFile.FieldType.boolean)) ∈ lw_all := lw_g (lw_at lw_m20 56 rfl) rfl
theorem q5062 : (Jvm.Cond.methodLink "ScriptTypesModel" (1261 : Nat) ({ cls := "ScriptTypesModel", name := "waysOfBinary", desc := "(I)V" } : Jvm.MethodName)) ∈ lw_all := lw_g (lw_at lw_m20 57 rfl) rfl
theorem q5063 : (Jvm.Cond.privateMethod ({ cls := "ScriptTypesModel", name := "waysOfBinary", desc := "(I)V" } : Jvm.MethodName)) ∈ lw_tbl := lw_at lw_m20 58 rfl
theorem q5064 : (Jvm.Cond.instanceMethod ({ cls := "ScriptTypesModel", name := "waysOfBinary", desc := "(I)V" } : Jvm.MethodName)) ∈ lw_all := lw_g (lw_at lw_m20 59 rfl) rfl
theorem q5065 : (Jvm.Cond.code ({ cls := "ScriptTypesModel", name := "waysOfBinary", desc := "(I)V" } : Jvm.MethodName) prog_44_method_279_code (6 : Nat) (Option.none : Option Jvm.ClassFile.FieldType)) ∈ lw_all := lw_g (lw_at lw_m20 60 rfl) rfl
theorem q5066 : (Jvm.Cond.methodLink "ScriptTypesModel" (1314 : Nat) ({ cls := "ScriptTypesModel", name := "isMadeBySet", desc := "(III)Z" } : Jvm.MethodName)) ∈ lw_all := lw_g (lw_at lw_m20 61 rfl) rfl
theorem q5067 : (Jvm.Cond.privateMethod ({ cls := "ScriptTypesModel", name := "isMadeBySet", desc := "(III)Z" } : Jvm.MethodName)) ∈ lw_tbl := lw_at lw_m20 62 rfl
theorem q5068 : (Jvm.Cond.instanceMethod ({ cls := "ScriptTypesModel", name := "isMadeBySet", desc := "(III)Z" } : Jvm.MethodName)) ∈ lw_all := lw_g (lw_at lw_m20 63 rfl) rfl
theorem q5069 : (Jvm.Cond.code ({ cls := "ScriptTypesModel", name := "isMadeBySet", desc := "(III)Z" } : Jvm.MethodName) prog_44_method_280_code (10 : Nat) (Option.some Jvm.ClassFile.FieldType.boolean)) ∈ lw_all := lw_g (lw_at lw_m20 64 rfl) rfl
theorem q5070 : (Jvm.Cond.methodLink "ScriptTypesModel" (1317 : Nat) ({ cls := "ScriptTypesModel", name := "binarySet", desc := "(IIII)V" } : Jvm.MethodName)) ∈ lw_all := lw_g (lw_at lw_m20 65 rfl) rfl
theorem q5071 : (Jvm.Cond.privateMethod ({ cls := "ScriptTypesModel", name := "binarySet", desc := "(IIII)V" } : Jvm.MethodName)) ∈ lw_tbl := lw_at lw_m20 66 rfl
theorem q5072 : (Jvm.Cond.instanceMethod ({ cls := "ScriptTypesModel", name := "binarySet", desc := "(IIII)V" } : Jvm.MethodName)) ∈ lw_all := lw_g (lw_at lw_m20 67 rfl) rfl
theorem q5073 : (Jvm.Cond.code ({ cls := "ScriptTypesModel", name := "binarySet", desc := "(IIII)V" } : Jvm.MethodName) prog_44_method_274_code (7 : Nat) (Option.none : Option Jvm.ClassFile.FieldType)) ∈ lw_all := lw_g (lw_at lw_m20 68 rfl) rfl
theorem q5074 : (Jvm.Cond.methodLink "ScriptTypesModel" (1264 : Nat) ({ cls := "ScriptTypesModel", name := "waysOfCall", desc := "(I)V" } : Jvm.MethodName)) ∈ lw_all := lw_g (lw_at lw_m20 69 rfl) rfl
theorem q5075 : (Jvm.Cond.privateMethod ({ cls := "ScriptTypesModel", name := "waysOfCall", desc := "(I)V" } : Jvm.MethodName)) ∈ lw_tbl := lw_at lw_m20 70 rfl
theorem q5076 : (Jvm.Cond.instanceMethod ({ cls := "ScriptTypesModel", name := "waysOfCall", desc := "(I)V" } : Jvm.MethodName)) ∈ lw_all := lw_g (lw_at lw_m20 71 rfl) rfl
theorem q5077 : (Jvm.Cond.code ({ cls := "ScriptTypesModel", name := "waysOfCall", desc := "(I)V" } : Jvm.MethodName) prog_44_method_281_code (3 : Nat) (Option.none : Option Jvm.ClassFile.FieldType)) ∈ lw_all := lw_g (lw_at lw_m20 72 rfl) rfl
theorem q5078 : (Jvm.Cond.methodLink "ScriptTypesModel" (1320 : Nat) ({ cls := "ScriptTypesModel", name := "callWays", desc := "(IIIII)V" } : Jvm.MethodName)) ∈ lw_all := lw_g (lw_at lw_m20 73 rfl) rfl
theorem q5079 : (Jvm.Cond.privateMethod ({ cls := "ScriptTypesModel", name := "callWays", desc := "(IIIII)V" } : Jvm.MethodName)) ∈ lw_tbl := lw_at lw_m20 74 rfl
theorem q5080 : (Jvm.Cond.instanceMethod ({ cls := "ScriptTypesModel", name := "callWays", desc := "(IIIII)V" } : Jvm.MethodName)) ∈ lw_all := lw_g (lw_at lw_m20 75 rfl) rfl
theorem q5081 : (Jvm.Cond.code ({ cls := "ScriptTypesModel", name := "callWays", desc := "(IIIII)V" } : Jvm.MethodName) prog_44_method_282_code (14 : Nat) (Option.none : Option Jvm.ClassFile.FieldType)) ∈ lw_all := lw_g (lw_at lw_m20 76 rfl) rfl
theorem q5082 : (Jvm.Cond.methodLink "ScriptTypesModel" (1323 : Nat) ({ cls := "ScriptTypesModel", name := "onStack", desc := "(II)I" } : Jvm.MethodName)) ∈ lw_all := lw_g (lw_at lw_m20 77 rfl) rfl
theorem q5083 : (Jvm.Cond.privateMethod ({ cls := "ScriptTypesModel", name := "onStack", desc := "(II)I" } : Jvm.MethodName)) ∈ lw_tbl := lw_at lw_m20 78 rfl
theorem q5084 : (Jvm.Cond.instanceMethod ({ cls := "ScriptTypesModel", name := "onStack", desc := "(II)I" } : Jvm.MethodName)) ∈ lw_all := lw_g (lw_at lw_m20 79 rfl) rfl
theorem q5085 : (Jvm.Cond.code ({ cls := "ScriptTypesModel", name := "onStack", desc := "(II)I" } : Jvm.MethodName) prog_44_method_229_code (3 : Nat) (Option.some Jvm.ClassFile.FieldType.int)) ∈ lw_all := lw_g (lw_at lw_m20 80 rfl) rfl
theorem q5086 : (Jvm.Cond.methodLink "ScriptTypesModel" (1326 : Nat) ({ cls := "ScriptTypesModel", name := "codeOfLabel", desc := "(I)I" } : Jvm.MethodName)) ∈ lw_all := lw_g (lw_at lw_m20 81 rfl) rfl
theorem q5087 : (Jvm.Cond.privateMethod ({ cls := "ScriptTypesModel", name := "codeOfLabel", desc := "(I)I" } : Jvm.MethodName)) ∈ lw_tbl := lw_at lw_m20 82 rfl
theorem q5088 : (Jvm.Cond.instanceMethod ({ cls := "ScriptTypesModel", name := "codeOfLabel", desc := "(I)I" } : Jvm.MethodName)) ∈ lw_all := lw_g (lw_at lw_m20 83 rfl) rfl
theorem q5089 : (Jvm.Cond.code ({ cls := "ScriptTypesModel", name := "codeOfLabel", desc := "(I)I" } : Jvm.MethodName) prog_44_method_239_code (2 : Nat) (Option.some Jvm.ClassFile.FieldType.int)) ∈ lw_all := lw_g (lw_at lw_m20 84 rfl) rfl
theorem q5090 : (Jvm.Cond.methodLink "ScriptTypesModel" (1329 : Nat) ({ cls := "ScriptTypesModel", name := "nativeWays", desc := "(IIIII)V" } : Jvm.MethodName)) ∈ lw_all := lw_g (lw_at lw_m20 85 rfl) rfl
theorem q5091 : (Jvm.Cond.privateMethod ({ cls := "ScriptTypesModel", name := "nativeWays", desc := "(IIIII)V" } : Jvm.MethodName)) ∈ lw_tbl := lw_at lw_m20 86 rfl
theorem q5092 : (Jvm.Cond.instanceMethod ({ cls := "ScriptTypesModel", name := "nativeWays", desc := "(IIIII)V" } : Jvm.MethodName)) ∈ lw_all := lw_g (lw_at lw_m20 87 rfl) rfl
theorem q5093 : (Jvm.Cond.code ({ cls := "ScriptTypesModel", name := "nativeWays", desc := "(IIIII)V" } : Jvm.MethodName) prog_44_method_288_code (10 : Nat) (Option.none : Option Jvm.ClassFile.FieldType)) ∈ lw_all := lw_g (lw_at lw_m20 88 rfl) rfl
theorem q5094 : (Jvm.Cond.constant "ScriptTypesModel" (1358 : Nat) (647760 : Int32)) ∈ lw_all := lw_g (lw_at lw_m20 89 rfl) rfl
theorem q5095 : (Jvm.Cond.constant "ScriptTypesModel" (1359 : Nat) (647761 : Int32)) ∈ lw_all := lw_g (lw_at lw_m20 90 rfl) rfl
theorem q5096 : (Jvm.Cond.constant "ScriptTypesModel" (1360 : Nat) (647762 : Int32)) ∈ lw_all := lw_g (lw_at lw_m20 91 rfl) rfl
theorem q5097 : (Jvm.Cond.methodLink "ScriptTypesModel" (1361 : Nat) ({ cls := "ScriptTypesModel", name := "isNaNOf", desc := "(II)V" } : Jvm.MethodName)) ∈ lw_all := lw_g (lw_at lw_m20 92 rfl) rfl
theorem q5098 : (Jvm.Cond.privateMethod ({ cls := "ScriptTypesModel", name := "isNaNOf", desc := "(II)V" } : Jvm.MethodName)) ∈ lw_tbl := lw_at lw_m20 93 rfl
theorem q5099 : (Jvm.Cond.instanceMethod ({ cls := "ScriptTypesModel", name := "isNaNOf", desc := "(II)V" } : Jvm.MethodName)) ∈ lw_all := lw_g (lw_at lw_m20 94 rfl) rfl
theorem q5100 : (Jvm.Cond.code ({ cls := "ScriptTypesModel", name := "isNaNOf", desc := "(II)V" } : Jvm.MethodName) prog_44_method_289_code (4 : Nat) (Option.none : Option Jvm.ClassFile.FieldType)) ∈ lw_all := lw_g (lw_at lw_m20 95 rfl) rfl
theorem q5101 : (Jvm.Cond.methodLink "ScriptTypesModel" (1364 : Nat) ({ cls := "ScriptTypesModel", name := "rowWays", desc := "(IIII)Z" } : Jvm.MethodName)) ∈ lw_all := lw_g (lw_at lw_m20 96 rfl) rfl
theorem q5102 : (Jvm.Cond.privateMethod ({ cls := "ScriptTypesModel", name := "rowWays", desc := "(IIII)Z" } : Jvm.MethodName)) ∈ lw_tbl := lw_at lw_m20 97 rfl
theorem q5103 : (Jvm.Cond.instanceMethod ({ cls := "ScriptTypesModel", name := "rowWays", desc := "(IIII)Z" } : Jvm.MethodName)) ∈ lw_all := lw_g (lw_at lw_m20 98 rfl) rfl
theorem q5104 : (Jvm.Cond.code ({ cls := "ScriptTypesModel", name := "rowWays", desc := "(IIII)Z" } : Jvm.MethodName) prog_44_method_290_code (10 : Nat) (Option.some Jvm.ClassFile.FieldType.boolean)) ∈ lw_all := lw_g (lw_at lw_m20 99 rfl) rfl
theorem q5105 : (Jvm.Cond.methodLink "ScriptTypesModel" (1367 : Nat) ({ cls := "ScriptTypesModel", name := "ownWays", desc := "(III)Z" } : Jvm.MethodName)) ∈ lw_all := lw_g (lw_at lw_m20 100 rfl) rfl
theorem q5106 : (Jvm.Cond.privateMethod ({ cls := "ScriptTypesModel", name := "ownWays", desc := "(III)Z" } : Jvm.MethodName)) ∈ lw_tbl := lw_at lw_m20 101 rfl
theorem q5107 : (Jvm.Cond.instanceMethod ({ cls := "ScriptTypesModel", name := "ownWays", desc := "(III)Z" } : Jvm.MethodName)) ∈ lw_all := lw_g (lw_at lw_m20 102 rfl) rfl
theorem q5108 : (Jvm.Cond.code ({ cls := "ScriptTypesModel", name := "ownWays", desc := "(III)Z" } : Jvm.MethodName) prog_44_method_291_code (6 : Nat) (Option.some Jvm.ClassFile.FieldType.boolean)) ∈ lw_all := lw_g (lw_at lw_m20 103 rfl) rfl
theorem q5109 : (Jvm.Cond.methodLink "ScriptTypesModel" (1332 : Nat) ({ cls := "ScriptTypesModel", name := "codeWays", desc := "(IJJIIIII)V" } : Jvm.MethodName)) ∈ lw_all := lw_g (lw_at lw_m20 104 rfl) rfl
theorem q5110 : (Jvm.Cond.privateMethod ({ cls := "ScriptTypesModel", name := "codeWays", desc := "(IJJIIIII)V" } : Jvm.MethodName)) ∈ lw_tbl := lw_at lw_m20 105 rfl
theorem q5111 : (Jvm.Cond.instanceMethod ({ cls := "ScriptTypesModel", name := "codeWays", desc := "(IJJIIIII)V" } : Jvm.MethodName)) ∈ lw_all := lw_g (lw_at lw_m20 106 rfl) rfl
theorem q5112 : (Jvm.Cond.code ({ cls := "ScriptTypesModel", name := "codeWays", desc := "(IJJIIIII)V" } : Jvm.MethodName) prog_44_method_285_code (16 : Nat) (Option.none : Option Jvm.ClassFile.FieldType)) ∈ lw_all := lw_g (lw_at lw_m20 107 rfl) rfl
theorem q5113 : (Jvm.Cond.methodLink "ScriptTypesModel" (1336 : Nat) ({ cls := "ScriptTypesModel", name := "prepare", desc := "(JJI)V" } : Jvm.MethodName)) ∈ lw_all := lw_g (lw_at lw_m20 108 rfl) rfl
theorem q5114 : (Jvm.Cond.privateMethod ({ cls := "ScriptTypesModel", name := "prepare", desc := "(JJI)V" } : Jvm.MethodName)) ∈ lw_tbl := lw_at lw_m20 109 rfl
theorem q5115 : (Jvm.Cond.instanceMethod ({ cls := "ScriptTypesModel", name := "prepare", desc := "(JJI)V" } : Jvm.MethodName)) ∈ lw_all := lw_g (lw_at lw_m20 110 rfl) rfl
theorem q5116 : (Jvm.Cond.code ({ cls := "ScriptTypesModel", name := "prepare", desc := "(JJI)V" } : Jvm.MethodName) prog_44_method_284_code (13 : Nat) (Option.none : Option Jvm.ClassFile.FieldType)) ∈ lw_all := lw_g (lw_at lw_m20 111 rfl) rfl
theorem q5117 : (Jvm.Cond.constant "ScriptTypesModel" (1339 : Nat) (647750 : Int32)) ∈ lw_all := lw_g (lw_at lw_m20 112 rfl) rfl
theorem q5118 : (Jvm.Cond.constantLong "ScriptTypesModel" (1340 : Nat) (2 : Int64)) ∈ lw_all := lw_g (lw_at lw_m20 113 rfl) rfl
theorem q5119 : (Jvm.Cond.methodLink "ScriptTypesModel" (1342 : Nat) ({ cls := "ScriptTypesModel", name := "enterCode", desc := "(IZZIIII)V" } : Jvm.MethodName)) ∈ lw_all := lw_g (lw_at lw_m20 114 rfl) rfl
theorem q5120 : (Jvm.Cond.privateMethod ({ cls := "ScriptTypesModel", name := "enterCode", desc := "(IZZIIII)V" } : Jvm.MethodName)) ∈ lw_tbl := lw_at lw_m20 115 rfl
theorem q5121 : (Jvm.Cond.instanceMethod ({ cls := "ScriptTypesModel", name := "enterCode", desc := "(IZZIIII)V" } : Jvm.MethodName)) ∈ lw_all := lw_g (lw_at lw_m20 116 rfl) rfl
theorem q5122 : (Jvm.Cond.code ({ cls := "ScriptTypesModel", name := "enterCode", desc := "(IZZIIII)V" } : Jvm.MethodName) prog_44_method_287_code (14 : Nat) (Option.none : Option Jvm.ClassFile.FieldType)) ∈ lw_all := lw_g (lw_at lw_m20 117 rfl) rfl
theorem q5123 : (Jvm.Cond.constant "ScriptTypesModel" (1357 : Nat) (647753 : Int32)) ∈ lw_all := lw_g (lw_at lw_m20 118 rfl) rfl
theorem q5124 : (Jvm.Cond.methodLink "ScriptTypesModel" (1346 : Nat) ({ cls := "ScriptTypesModel", name := "comeBack", desc := "(I)V" } : Jvm.MethodName)) ∈ lw_all := lw_g (lw_at lw_m20 119 rfl) rfl
theorem q5125 : (Jvm.Cond.privateMethod ({ cls := "ScriptTypesModel", name := "comeBack", desc := "(I)V" } : Jvm.MethodName)) ∈ lw_tbl := lw_at lw_m20 120 rfl
theorem q5126 : (Jvm.Cond.instanceMethod ({ cls := "ScriptTypesModel", name := "comeBack", desc := "(I)V" } : Jvm.MethodName)) ∈ lw_all := lw_g (lw_at lw_m20 121 rfl) rfl
theorem q5127 : (Jvm.Cond.code ({ cls := "ScriptTypesModel", name := "comeBack", desc := "(I)V" } : Jvm.MethodName) prog_44_method_286_code (3 : Nat) (Option.none : Option Jvm.ClassFile.FieldType)) ∈ lw_all := lw_g (lw_at lw_m20 122 rfl) rfl
theorem q5128 : (Jvm.Cond.methodLink "ScriptTypesModel" (1350 : Nat) ({ cls := "ScriptTypesModel", name := "age", desc := "(I)V" } : Jvm.MethodName)) ∈ lw_all := lw_g (lw_at lw_m20 123 rfl) rfl
theorem q5129 : (Jvm.Cond.privateMethod ({ cls := "ScriptTypesModel", name := "age", desc := "(I)V" } : Jvm.MethodName)) ∈ lw_tbl := lw_at lw_m20 124 rfl
theorem q5130 : (Jvm.Cond.instanceMethod ({ cls := "ScriptTypesModel", name := "age", desc := "(I)V" } : Jvm.MethodName)) ∈ lw_all := lw_g (lw_at lw_m20 125 rfl) rfl
theorem q5131 : (Jvm.Cond.code ({ cls := "ScriptTypesModel", name := "age", desc := "(I)V" } : Jvm.MethodName) prog_44_method_258_code (3 : Nat) (Option.none : Option Jvm.ClassFile.FieldType)) ∈ lw_all := lw_g (lw_at lw_m20 126 rfl) rfl
theorem q5132 : (Jvm.Cond.constant "ScriptTypesModel" (1353 : Nat) (647752 : Int32)) ∈ lw_all := lw_g (lw_at lw_m20 127 rfl) rfl
theorem q5133 : (Jvm.Cond.methodLink "ScriptTypesModel" (1354 : Nat) ({ cls := "ScriptTypesModel", name := "loadLabels", desc := "(I)V" } : Jvm.MethodName)) ∈ lw_all := lw_g (lw_at lw_m20 128 rfl) rfl
theorem q5134 : (Jvm.Cond.privateMethod ({ cls := "ScriptTypesModel", name := "loadLabels", desc := "(I)V" } : Jvm.MethodName)) ∈ lw_tbl := lw_at lw_m20 129 rfl
theorem q5135 : (Jvm.Cond.instanceMethod ({ cls := "ScriptTypesModel", name := "loadLabels", desc := "(I)V" } : Jvm.MethodName)) ∈ lw_all := lw_g (lw_at lw_m20 130 rfl) rfl
theorem q5136 : (Jvm.Cond.code ({ cls := "ScriptTypesModel", name := "loadLabels", desc := "(I)V" } : Jvm.MethodName) prog_44_method_234_code (4 : Nat) (Option.none : Option Jvm.ClassFile.FieldType)) ∈ lw_all := lw_g (lw_at lw_m20 131 rfl) rfl
theorem q5137 : (Jvm.Cond.constant "ScriptTypesModel" (1349 : Nat) (647751 : Int32)) ∈ lw_all := lw_g (lw_at lw_m20 132 rfl) rfl
theorem q5138 : (Jvm.Cond.methodLink "ScriptTypesModel" (1267 : Nat) ({ cls := "ScriptTypesModel", name := "waysOfNew", desc := "(II)V" } : Jvm.MethodName)) ∈ lw_all := lw_g (lw_at lw_m20 133 rfl) rfl
theorem q5139 : (Jvm.Cond.privateMethod ({ cls := "ScriptTypesModel", name := "waysOfNew", desc := "(II)V" } : Jvm.MethodName)) ∈ lw_tbl := lw_at lw_m20 134 rfl
theorem q5140 : (Jvm.Cond.instanceMethod ({ cls := "ScriptTypesModel", name := "waysOfNew", desc := "(II)V" } : Jvm.MethodName)) ∈ lw_all := lw_g (lw_at lw_m20 135 rfl) rfl
theorem q5141 : (Jvm.Cond.code ({ cls := "ScriptTypesModel", name := "waysOfNew", desc := "(II)V" } : Jvm.MethodName) prog_44_method_283_code (13 : Nat) (Option.none : Option Jvm.ClassFile.FieldType)) ∈ lw_all := lw_g (lw_at lw_m20 136 rfl) rfl
theorem q5142 : (Jvm.Cond.methodLink "ScriptTypesModel" (1270 : Nat) ({ cls := "ScriptTypesModel", name := "waysOfOther", desc := "(II)V" } : Jvm.MethodName)) ∈ lw_all := lw_g (lw_at lw_m20 137 rfl) rfl
theorem q5143 : (Jvm.Cond.privateMethod ({ cls := "ScriptTypesModel", name := "waysOfOther", desc := "(II)V" } : Jvm.MethodName)) ∈ lw_tbl := lw_at lw_m20 138 rfl
theorem q5144 : (Jvm.Cond.instanceMethod ({ cls := "ScriptTypesModel", name := "waysOfOther", desc := "(II)V" } : Jvm.MethodName)) ∈ lw_all := lw_g (lw_at lw_m20 139 rfl) rfl
theorem q5145 : (Jvm.Cond.code ({ cls := "ScriptTypesModel", name := "waysOfOther", desc := "(II)V" } : Jvm.MethodName) prog_44_method_269_code (5 : Nat) (Option.none : Option Jvm.ClassFile.FieldType)) ∈ lw_all := lw_g (lw_at lw_m20 140 rfl) rfl
theorem q5146 : (Jvm.Cond.methodLink "ScriptTypesModel" (1274 : Nat) ({ cls := "ScriptTypesModel", name := "to", desc := "(I)V" } : Jvm.MethodName)) ∈ lw_all := lw_g (lw_at lw_m20 141 rfl) rfl
theorem q5147 : (Jvm.Cond.privateMethod ({ cls := "ScriptTypesModel", name := "to", desc := "(I)V" } : Jvm.MethodName)) ∈ lw_tbl := lw_at lw_m20 142 rfl
theorem q5148 : (Jvm.Cond.instanceMethod ({ cls := "ScriptTypesModel", name := "to", desc := "(I)V" } : Jvm.MethodName)) ∈ lw_all := lw_g (lw_at lw_m20 143 rfl) rfl
theorem q5149 : (Jvm.Cond.code ({ cls := "ScriptTypesModel", name := "to", desc := "(I)V" } : Jvm.MethodName) prog_44_method_260_code (2 : Nat) (Option.none : Option Jvm.ClassFile.FieldType)) ∈ lw_all := lw_g (lw_at lw_m20 144 rfl) rfl
theorem q5150 : (Jvm.Cond.methodLink "ScriptTypesModel" (1277 : Nat) ({ cls := "ScriptTypesModel", name := "waysOfTest", desc := "(III)V" } : Jvm.MethodName)) ∈ lw_all := lw_g (lw_at lw_m20 145 rfl) rfl
theorem q5151 : (Jvm.Cond.privateMethod ({ cls := "ScriptTypesModel", name := "waysOfTest", desc := "(III)V" } : Jvm.MethodName)) ∈ lw_tbl := lw_at lw_m20 146 rfl
theorem q5152 : (Jvm.Cond.instanceMethod ({ cls := "ScriptTypesModel", name := "waysOfTest", desc := "(III)V" } : Jvm.MethodName)) ∈ lw_all := lw_g (lw_at lw_m20 147 rfl) rfl
theorem q5153 : (Jvm.Cond.code ({ cls := "ScriptTypesModel", name := "waysOfTest", desc := "(III)V" } : Jvm.MethodName) prog_44_method_270_code (8 : Nat) (Option.none : Option Jvm.ClassFile.FieldType)) ∈ lw_all := lw_g (lw_at lw_m20 148 rfl) rfl
theorem q5154 : (Jvm.Cond.methodLink "ScriptTypesModel" (1280 : Nat) ({ cls := "ScriptTypesModel", name := "tossTop", desc := "()V" } : Jvm.MethodName)) ∈ lw_all := lw_g (lw_at lw_m20 149 rfl) rfl
theorem q5155 : (Jvm.Cond.privateMethod ({ cls := "ScriptTypesModel", name := "tossTop", desc := "()V" } : Jvm.MethodName)) ∈ lw_tbl := lw_at lw_m20 150 rfl
theorem q5156 : (Jvm.Cond.instanceMethod ({ cls := "ScriptTypesModel", name := "tossTop", desc := "()V" } : Jvm.MethodName)) ∈ lw_all := lw_g (lw_at lw_m20 151 rfl) rfl
theorem q5157 : (Jvm.Cond.code ({ cls := "ScriptTypesModel", name := "tossTop", desc := "()V" } : Jvm.MethodName) prog_44_method_261_code (2 : Nat) (Option.none : Option Jvm.ClassFile.FieldType)) ∈ lw_all := lw_g (lw_at lw_m20 152 rfl) rfl
theorem q5158 : (Jvm.Cond.methodLink "ScriptTypesLaw" (99 : Nat) ({ cls := "ScriptTypesModel", name := "height", desc := "(I)I" } : Jvm.MethodName)) ∈ lw_all := lw_g (lw_at lw_m20 153 rfl) rfl
theorem q5159 : (Jvm.Cond.instanceMethod ({ cls := "ScriptTypesModel", name := "height", desc := "(I)I" } : Jvm.MethodName)) ∈ lw_all := lw_g (lw_at lw_m20 154 rfl) rfl
theorem q5160 : (Jvm.Cond.selects "ScriptTypesModel" ({ cls := "ScriptTypesModel", name := "height", desc := "(I)I" } : Jvm.MethodName) ({ cls := "ScriptTypesModel", name := "height", desc := "(I)I" } : Jvm.MethodName)) ∈ lw_all := lw_g (lw_at lw_m20 155 rfl) rfl
theorem q5161 : (Jvm.Cond.code ({ cls := "ScriptTypesModel", name := "height", desc := "(I)I" } : Jvm.MethodName) prog_44_method_298_code (2 : Nat) (Option.some Jvm.ClassFile.FieldType.int)) ∈ lw_all := lw_g (lw_at lw_m20 156 rfl) rfl
theorem q5162 : (Jvm.Cond.methodLink "ScriptTypesModel" (1387 : Nat) ({ cls := "ScriptTypesModel", name := "isReached", desc := "(I)Z" } : Jvm.MethodName)) ∈ lw_all := lw_g (lw_at lw_m20 157 rfl) rfl
theorem q5163 : (Jvm.Cond.privateMethod ({ cls := "ScriptTypesModel", name := "isReached", desc := "(I)Z" } : Jvm.MethodName)) ∈ lw_tbl := lw_at lw_m20 158 rfl
theorem q5164 : (Jvm.Cond.instanceMethod ({ cls := "ScriptTypesModel", name := "isReached", desc := "(I)Z" } : Jvm.MethodName)) ∈ lw_all := lw_g (lw_at lw_m20 159 rfl) rfl
theorem q5165 : (Jvm.Cond.code ({ cls := "ScriptTypesModel", name := "isReached", desc := "(I)Z" } : Jvm.MethodName) prog_44_method_296_code (2 : Nat) (Option.some Jvm.ClassFile.FieldType.boolean)) ∈ lw_all := lw_g (lw_at lw_m20 160 rfl) rfl
theorem q5166 : (Jvm.Cond.methodLink "ScriptTypesLaw" (104 : Nat) ({ cls := "ScriptTypesModel", name := "slot", desc := "(III)J" } : Jvm.MethodName)) ∈ lw_all := lw_g (lw_at lw_m20 161 rfl) rfl
theorem q5167 : (Jvm.Cond.instanceMethod ({ cls := "ScriptTypesModel", name := "slot", desc := "(III)J" } : Jvm.MethodName)) ∈ lw_all := lw_g (lw_at lw_m20 162 rfl) rfl
theorem q5168 : (Jvm.Cond.selects "ScriptTypesModel" ({ cls := "ScriptTypesModel", name := "slot", desc := "(III)J" } : Jvm.MethodName) ({ cls := "ScriptTypesModel", name := "slot", desc := "(III)J" } : Jvm.MethodName)) ∈ lw_all := lw_g (lw_at lw_m20 163 rfl) rfl
theorem q5169 : (Jvm.Cond.code ({ cls := "ScriptTypesModel", name := "slot", desc := "(III)J" } : Jvm.MethodName) prog_44_method_299_code (4 : Nat) (Option.some Jvm.ClassFile.FieldType.long)) ∈ lw_all := lw_g (lw_at lw_m20 164 rfl) rfl
theorem q5170 : (Jvm.Cond.methodLink "ScriptTypesModel" (1390 : Nat) ({ cls := "ScriptTypesModel", name := "tell", desc := "(II)J" } : Jvm.MethodName)) ∈ lw_all := lw_g (lw_at lw_m20 165 rfl) rfl
theorem q5171 : (Jvm.Cond.privateMethod ({ cls := "ScriptTypesModel", name := "tell", desc := "(II)J" } : Jvm.MethodName)) ∈ lw_tbl := lw_at lw_m20 166 rfl
theorem q5172 : (Jvm.Cond.instanceMethod ({ cls := "ScriptTypesModel", name := "tell", desc := "(II)J" } : Jvm.MethodName)) ∈ lw_all := lw_g (lw_at lw_m20 167 rfl) rfl
theorem q5173 : (Jvm.Cond.code ({ cls := "ScriptTypesModel", name := "tell", desc := "(II)J" } : Jvm.MethodName) prog_44_method_297_code (3 : Nat) (Option.some Jvm.ClassFile.FieldType.long)) ∈ lw_all := lw_g (lw_at lw_m20 168 rfl) rfl
theorem q5174 : (Jvm.Cond.methodLink "ScriptTypesLaw" (109 : Nat) ({ cls := "ScriptTypesModel", name := "field", desc := "(IIII)J" } : Jvm.MethodName)) ∈ lw_all := lw_g (lw_at lw_m20 169 rfl) rfl
theorem q5175 : (Jvm.Cond.instanceMethod ({ cls := "ScriptTypesModel", name := "field", desc := "(IIII)J" } : Jvm.MethodName)) ∈ lw_all := lw_g (lw_at lw_m20 170 rfl) rfl
theorem q5176 : (Jvm.Cond.selects "ScriptTypesModel" ({ cls := "ScriptTypesModel", name := "field", desc := "(IIII)J" } : Jvm.MethodName) ({ cls := "ScriptTypesModel", name := "field", desc := "(IIII)J" } : Jvm.MethodName)) ∈ lw_all := lw_g (lw_at lw_m20 171 rfl) rfl
theorem q5177 : (Jvm.Cond.code ({ cls := "ScriptTypesModel", name := "field", desc := "(IIII)J" } : Jvm.MethodName) prog_44_method_300_code (6 : Nat) (Option.some Jvm.ClassFile.FieldType.long)) ∈ lw_all := lw_g (lw_at lw_m20 172 rfl) rfl
theorem q5178 : (Jvm.Cond.methodLink "ScriptTypesLaw" (113 : Nat) ({ cls := "ScriptTypesModel", name := "link", desc := "(III)J" } : Jvm.MethodName)) ∈ lw_all := lw_g (lw_at lw_m20 173 rfl) rfl
theorem q5179 : (Jvm.Cond.instanceMethod ({ cls := "ScriptTypesModel", name := "link", desc := "(III)J" } : Jvm.MethodName)) ∈ lw_all := lw_g (lw_at lw_m20 174 rfl) rfl
theorem q5180 : (Jvm.Cond.selects "ScriptTypesModel" ({ cls := "ScriptTypesModel", name := "link", desc := "(III)J" } : Jvm.MethodName) ({ cls := "ScriptTypesModel", name := "link", desc := "(III)J" } : Jvm.MethodName)) ∈ lw_all := lw_g (lw_at lw_m20 175 rfl) rfl
theorem q5181 : (Jvm.Cond.code ({ cls := "ScriptTypesModel", name := "link", desc := "(III)J" } : Jvm.MethodName) prog_44_method_301_code (5 : Nat) (Option.some Jvm.ClassFile.FieldType.long)) ∈ lw_all := lw_g (lw_at lw_m20 176 rfl) rfl
theorem q5182 : (Jvm.Cond.methodLink "ScriptTypesLaw" (117 : Nat) ({ cls := "ScriptTypesModel", name := "result", desc := "(III)J" } : Jvm.MethodName)) ∈ lw_all := lw_g (lw_at lw_m20 177 rfl) rfl
theorem q5183 : (Jvm.Cond.instanceMethod ({ cls := "ScriptTypesModel", name := "result", desc := "(III)J" } : Jvm.MethodName)) ∈ lw_all := lw_g (lw_at lw_m20 178 rfl) rfl
theorem q5184 : (Jvm.Cond.selects "ScriptTypesModel" ({ cls := "ScriptTypesModel", name := "result", desc := "(III)J" } : Jvm.MethodName) ({ cls := "ScriptTypesModel", name := "result", desc := "(III)J" } : Jvm.MethodName)) ∈ lw_all := lw_g (lw_at lw_m20 179 rfl) rfl
theorem q5185 : (Jvm.Cond.code ({ cls := "ScriptTypesModel", name := "result", desc := "(III)J" } : Jvm.MethodName) prog_44_method_302_code (5 : Nat) (Option.some Jvm.ClassFile.FieldType.long)) ∈ lw_all := lw_g (lw_at lw_m20 180 rfl) rfl
theorem q5186 : (Jvm.Cond.methodLink "ScriptTypesLaw" (121 : Nat) ({ cls := "ScriptTypesModel", name := "warns", desc := "(I)I" } : Jvm.MethodName)) ∈ lw_all := lw_g (lw_at lw_m20 181 rfl) rfl
theorem q5187 : (Jvm.Cond.instanceMethod ({ cls := "ScriptTypesModel", name := "warns", desc := "(I)I" } : Jvm.MethodName)) ∈ lw_all := lw_g (lw_at lw_m20 182 rfl) rfl
theorem q5188 : (Jvm.Cond.selects "ScriptTypesModel" ({ cls := "ScriptTypesModel", name := "warns", desc := "(I)I" } : Jvm.MethodName) ({ cls := "ScriptTypesModel", name := "warns", desc := "(I)I" } : Jvm.MethodName)) ∈ lw_all := lw_g (lw_at lw_m20 183 rfl) rfl
theorem q5189 : (Jvm.Cond.code ({ cls := "ScriptTypesModel", name := "warns", desc := "(I)I" } : Jvm.MethodName) prog_44_method_303_code (2 : Nat) (Option.some Jvm.ClassFile.FieldType.int)) ∈ lw_all := lw_g (lw_at lw_m20 184 rfl) rfl
theorem q5190 : (Jvm.Cond.sameMethod "java/lang/Throwable" "java/lang/Throwable" "fillInStackTrace" "(I)Ljava/lang/Throwable;") ∈ lw_all := lw_g (lw_at lw_m20 185 rfl) rfl
theorem q5191 : (Jvm.Cond.selects "ScriptTypes$Block" ({ cls := "ScriptTypes$Block", name := "code", desc := "(LScriptTypes$Coder;)V" } : Jvm.MethodName) ({ cls := "ScriptTypes$Block", name := "code", desc := "(LScriptTypes$Coder;)V" } : Jvm.MethodName)) ∈ lw_all := lw_g (lw_at lw_m20 186 rfl) rfl
theorem q5192 : (Jvm.Cond.castable "ScriptTypes$Ahead" "ScriptTypes$Node") ∈ lw_tbl := lw_at lw_m20 187 rfl
theorem q5193 : (Jvm.Cond.castable "ScriptTypes$Block" "ScriptTypes$Node") ∈ lw_tbl := lw_at lw_m20 188 rfl
theorem q5194 : (Jvm.Cond.castable "ScriptTypes$Both" "ScriptTypes$Node") ∈ lw_tbl := lw_at lw_m20 189 rfl
theorem q5195 : (Jvm.Cond.castable "ScriptTypes$Bracketed" "ScriptTypes$Node") ∈ lw_tbl := lw_at lw_m20 190 rfl
theorem q5196 : (Jvm.Cond.castable "ScriptTypes$Choice" "ScriptTypes$Node") ∈ lw_tbl := lw_at lw_m20 191 rfl
theorem q5197 : (Jvm.Cond.castable "ScriptTypes$Commas" "ScriptTypes$Node") ∈ lw_tbl := lw_at lw_m20 192 rfl
theorem q5198 : (Jvm.Cond.castable "ScriptTypes$Counts" "ScriptTypes$Node") ∈ lw_tbl := lw_at lw_m20 193 rfl
theorem q5199 : (Jvm.Cond.castable "ScriptTypes$Drops" "ScriptTypes$Node") ∈ lw_tbl := lw_at lw_m20 194 rfl
theorem q5200 : (Jvm.Cond.castable "ScriptTypes$Each" "ScriptTypes$Node") ∈ lw_tbl := lw_at lw_m20 195 rfl
theorem q5201 : (Jvm.Cond.castable "ScriptTypes$Goes" "ScriptTypes$Node") ∈ lw_tbl := lw_at lw_m20 196 rfl
theorem q5202 : (Jvm.Cond.castable "ScriptTypes$If" "ScriptTypes$Node") ∈ lw_tbl := lw_at lw_m20 197 rfl
theorem q5203 : (Jvm.Cond.castable "ScriptTypes$Items" "ScriptTypes$Node") ∈ lw_tbl := lw_at lw_m20 198 rfl
theorem q5204 : (Jvm.Cond.castable "ScriptTypes$Left" "ScriptTypes$Node") ∈ lw_tbl := lw_at lw_m20 199 rfl
theorem q5205 : (Jvm.Cond.castable "ScriptTypes$Literal" "ScriptTypes$Node") ∈ lw_tbl := lw_at lw_m20 200 rfl
theorem q5206 : (Jvm.Cond.castable "ScriptTypes$Loop" "ScriptTypes$Node") ∈ lw_tbl := lw_at lw_m20 201 rfl
theorem q5207 : (Jvm.Cond.castable "ScriptTypes$Made" "ScriptTypes$Node") ∈ lw_tbl := lw_at lw_m20 202 rfl
theorem q5208 : (Jvm.Cond.castable "ScriptTypes$Name" "ScriptTypes$Node") ∈ lw_tbl := lw_at lw_m20 203 rfl
theorem q5209 : (Jvm.Cond.castable "ScriptTypes$New" "ScriptTypes$Node") ∈ lw_tbl := lw_at lw_m20 204 rfl
theorem q5210 : (Jvm.Cond.castable "ScriptTypes$Return" "ScriptTypes$Node") ∈ lw_tbl := lw_at lw_m20 205 rfl
theorem q5211 : (Jvm.Cond.castable "ScriptTypes$Row" "ScriptTypes$Node") ∈ lw_tbl := lw_at lw_m20 206 rfl
theorem q5212 : (Jvm.Cond.castable "ScriptTypes$Sets" "ScriptTypes$Node") ∈ lw_tbl := lw_at lw_m20 207 rfl
theorem q5213 : (Jvm.Cond.castable "ScriptTypes$Switch" "ScriptTypes$Node") ∈ lw_tbl := lw_at lw_m20 208 rfl
theorem q5214 : (Jvm.Cond.castable "ScriptTypes$This" "ScriptTypes$Node") ∈ lw_tbl := lw_at lw_m20 209 rfl
theorem q5215 : (Jvm.Cond.castable "ScriptTypes$Throw" "ScriptTypes$Node") ∈ lw_tbl := lw_at lw_m20 210 rfl
theorem q5216 : (Jvm.Cond.castable "ScriptTypes$Try" "ScriptTypes$Node") ∈ lw_tbl := lw_at lw_m20 211 rfl
theorem q5217 : (Jvm.Cond.castable "ScriptTypes$Bag" "java/lang/Object") ∈ lw_tbl := lw_at lw_m20 212 rfl
theorem q5218 : (Jvm.Cond.sameMethod "[Ljava/lang/Object;" "java/lang/Object" "getClass" "()Ljava/lang/Class;") ∈ lw_all := lw_g (lw_at lw_m20 213 rfl) rfl
theorem q5219 : (Jvm.Cond.selects "[Ljava/lang/Object;" ({ cls := "java/lang/Object", name := "getClass", desc := "()Ljava/lang/Class;" } : Jvm.MethodName) ({ cls := "java/lang/Object", name := "getClass", desc := "()Ljava/lang/Class;" } : Jvm.MethodName)) ∈ lw_all := lw_g (lw_at lw_m20 214 rfl) rfl
theorem q5220 : (Jvm.Cond.declares ({ cls := "java/lang/Object", name := "getClass", desc := "()Ljava/lang/Class;" } : Jvm.MethodName)) ∈ lw_tbl := lw_at lw_m20 215 rfl
theorem q5221 : (Jvm.Cond.castable "ScriptTypes" "java/lang/Object") ∈ lw_tbl := lw_at lw_m20 216 rfl
theorem q5222 : (Jvm.Cond.castable "ScriptTypes$Texts" "java/lang/Object") ∈ lw_tbl := lw_at lw_m20 217 rfl
theorem q5223 : (Jvm.Cond.castable "java/util/ArrayList" "java/lang/Object") ∈ lw_tbl := lw_at lw_m20 218 rfl
theorem q5224 : (Jvm.Cond.castable "ScriptTypes$Coder" "java/lang/Object") ∈ lw_tbl := lw_at lw_m20 219 rfl
theorem q5225 : (Jvm.Cond.castable "ScriptTypes$NoRoom" "java/lang/Object") ∈ lw_tbl := lw_at lw_m20 220 rfl
theorem q5226 : (Jvm.Cond.castable "ScriptTypes$Thrown" "java/lang/Object") ∈ lw_tbl := lw_at lw_m20 221 rfl
theorem q5227 : (Jvm.Cond.castable "ScriptTypes$Kept" "java/lang/Object") ∈ lw_tbl := lw_at lw_m20 222 rfl
theorem q5228 : (Jvm.Cond.castable "ScriptTypesModel" "java/lang/Object") ∈ lw_tbl := lw_at lw_m20 223 rfl
theorem q5229 : (Jvm.Cond.castable "ScriptTypes$Parser" "java/lang/Object") ∈ lw_tbl := lw_at lw_m20 224 rfl
theorem q5230 : (Jvm.Cond.castable "ScriptTypes$Tokens" "java/lang/Object") ∈ lw_tbl := lw_at lw_m20 225 rfl
theorem q5231 : (Jvm.Cond.castable "ScriptTypes$Code" "java/lang/Object") ∈ lw_tbl := lw_at lw_m20 226 rfl
theorem q5232 : (Jvm.Cond.castable "ScriptTypes$Fault" "java/lang/Object") ∈ lw_tbl := lw_at lw_m20 227 rfl
theorem q5233 : (Jvm.Cond.castable "ScriptTypes$Block" "java/lang/Object") ∈ lw_tbl := lw_at lw_m20 228 rfl
theorem q5234 : (Jvm.Cond.castable "ScriptTypes$Drops" "java/lang/Object") ∈ lw_tbl := lw_at lw_m20 229 rfl
theorem q5235 : (Jvm.Cond.castable "ScriptTypes$Sets" "java/lang/Object") ∈ lw_tbl := lw_at lw_m20 230 rfl
theorem q5236 : (Jvm.Cond.castable "ScriptTypes$Name" "java/lang/Object") ∈ lw_tbl := lw_at lw_m20 231 rfl
theorem q5237 : (Jvm.Cond.castable "ScriptTypes$Literal" "java/lang/Object") ∈ lw_tbl := lw_at lw_m20 232 rfl
theorem q5238 : (Jvm.Cond.castable "ScriptTypes$This" "java/lang/Object") ∈ lw_tbl := lw_at lw_m20 233 rfl
theorem q5239 : (Jvm.Cond.castable "ScriptTypes$Made" "java/lang/Object") ∈ lw_tbl := lw_at lw_m20 234 rfl
theorem q5240 : (Jvm.Cond.castable "ScriptTypes$Bracketed" "java/lang/Object") ∈ lw_tbl := lw_at lw_m20 235 rfl
theorem q5241 : (Jvm.Cond.castable "ScriptTypes$Commas" "java/lang/Object") ∈ lw_tbl := lw_at lw_m20 236 rfl
theorem q5242 : (Jvm.Cond.castable "ScriptTypes$Items" "java/lang/Object") ∈ lw_tbl := lw_at lw_m20 237 rfl
theorem q5243 : (Jvm.Cond.castable "ScriptTypes$Left" "java/lang/Object") ∈ lw_tbl := lw_at lw_m20 238 rfl
theorem q5244 : (Jvm.Cond.castable "ScriptTypes$Suffix" "java/lang/Object") ∈ lw_tbl := lw_at lw_m20 239 rfl
theorem q5245 : (Jvm.Cond.castable "ScriptTypes$New" "java/lang/Object") ∈ lw_tbl := lw_at lw_m21 0 rfl
theorem q5246 : (Jvm.Cond.castable "ScriptTypes$Counts" "java/lang/Object") ∈ lw_tbl := lw_at lw_m21 1 rfl
theorem q5247 : (Jvm.Cond.castable "ScriptTypes$Ahead" "java/lang/Object") ∈ lw_tbl := lw_at lw_m21 2 rfl
theorem q5248 : (Jvm.Cond.castable "ScriptTypes$Both" "java/lang/Object") ∈ lw_tbl := lw_at lw_m21 3 rfl
theorem q5249 : (Jvm.Cond.castable "ScriptTypes$Row" "java/lang/Object") ∈ lw_tbl := lw_at lw_m21 4 rfl
theorem q5250 : (Jvm.Cond.castable "ScriptTypes$Choice" "java/lang/Object") ∈ lw_tbl := lw_at lw_m21 5 rfl
theorem q5251 : (Jvm.Cond.castable "ScriptTypes$If" "java/lang/Object") ∈ lw_tbl := lw_at lw_m21 6 rfl
theorem q5252 : (Jvm.Cond.castable "ScriptTypes$Loop" "java/lang/Object") ∈ lw_tbl := lw_at lw_m21 7 rfl
theorem q5253 : (Jvm.Cond.castable "ScriptTypes$Each" "java/lang/Object") ∈ lw_tbl := lw_at lw_m21 8 rfl
theorem q5254 : (Jvm.Cond.castable "ScriptTypes$Goes" "java/lang/Object") ∈ lw_tbl := lw_at lw_m21 9 rfl
theorem q5255 : (Jvm.Cond.castable "ScriptTypes$Return" "java/lang/Object") ∈ lw_tbl := lw_at lw_m21 10 rfl
theorem q5256 : (Jvm.Cond.castable "ScriptTypes$Throw" "java/lang/Object") ∈ lw_tbl := lw_at lw_m21 11 rfl
theorem q5257 : (Jvm.Cond.castable "ScriptTypes$Try" "java/lang/Object") ∈ lw_tbl := lw_at lw_m21 12 rfl
theorem q5258 : (Jvm.Cond.castable "ScriptTypes$Switch" "java/lang/Object") ∈ lw_tbl := lw_at lw_m21 13 rfl
theorem q5259 : (Jvm.Cond.castable "ScriptTypes$Around" "java/lang/Object") ∈ lw_tbl := lw_at lw_m21 14 rfl
theorem q5260 : (Jvm.Cond.castable "ScriptTypes$Jumps" "java/lang/Object") ∈ lw_tbl := lw_at lw_m21 15 rfl
theorem q5261 : (Jvm.Cond.castable "java/lang/IllegalStateException" "java/lang/Object") ∈ lw_tbl := lw_at lw_m21 16 rfl
theorem q5262 : (Jvm.Cond.castable "java/lang/IllegalArgumentException" "java/lang/Object") ∈ lw_tbl := lw_at lw_m21 17 rfl
theorem q5263 : (Jvm.Cond.castable "ScriptTypes$Table" "java/lang/Object") ∈ lw_tbl := lw_at lw_m21 18 rfl
theorem q5264 : (Jvm.Cond.castable "ScriptTypes$Work" "java/lang/Object") ∈ lw_tbl := lw_at lw_m21 19 rfl
theorem q5265 : (Jvm.Cond.castable "java/lang/Throwable" "java/lang/Object") ∈ lw_tbl := lw_at lw_m21 20 rfl
theorem q5266 : (Jvm.Cond.castable "java/lang/String" "java/lang/Object") ∈ lw_tbl := lw_at lw_m21 21 rfl
theorem q5267 : (Jvm.Cond.castable "[I" "java/lang/Object") ∈ lw_tbl := lw_at lw_m21 22 rfl
theorem q5268 : (Jvm.Cond.castable "[B" "java/lang/Object") ∈ lw_tbl := lw_at lw_m21 23 rfl
theorem q5269 : (Jvm.Cond.castable "[S" "java/lang/Object") ∈ lw_tbl := lw_at lw_m21 24 rfl
theorem q5270 : (Jvm.Cond.castable "[Z" "java/lang/Object") ∈ lw_tbl := lw_at lw_m21 25 rfl
theorem q5271 : (Jvm.Cond.castable "[LScriptTypes$Bag;" "java/lang/Object") ∈ lw_tbl := lw_at lw_m21 26 rfl
theorem q5272 : (Jvm.Cond.castable "[J" "java/lang/Object") ∈ lw_tbl := lw_at lw_m21 27 rfl
theorem q5273 : (Jvm.Cond.castable "[Ljava/lang/Object;" "java/lang/Object") ∈ lw_tbl := lw_at lw_m21 28 rfl
theorem q5274 : (Jvm.Cond.castable "[C" "java/lang/Object") ∈ lw_tbl := lw_at lw_m21 29 rfl
theorem q5275 : (Jvm.Cond.fieldLink "java/lang/String" (9 : Nat) "java/lang/String" "value" "[B") ∈ lw_all := lw_g (lw_at lw_m21 30 rfl) rfl
theorem q5276 : (Jvm.Cond.fieldLink "java/lang/String" (15 : Nat) "java/lang/String" "coder" "B") ∈ lw_all := lw_g (lw_at lw_m21 31 rfl) rfl
