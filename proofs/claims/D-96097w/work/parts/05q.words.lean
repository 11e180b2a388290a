set_option maxRecDepth 100000
theorem q86 : (Jvm.Cond.initialized "BakedBeforeLaw") ∈ lw_all := lw_g (lw_at lw_m1 0 rfl) rfl
theorem q87 : (Jvm.Cond.initialized "BakedBefore") ∈ lw_all := lw_g (lw_at lw_m1 1 rfl) rfl
theorem q88 : (Jvm.Cond.initialized "BakedBefore$Time") ∈ lw_all := lw_g (lw_at lw_m1 2 rfl) rfl
theorem q89 : (Jvm.Cond.initialized "BakedBefore$Kiln") ∈ lw_all := lw_g (lw_at lw_m1 3 rfl) rfl
theorem q90 : (Jvm.Cond.initialized "java/util/AbstractCollection") ∈ lw_all := lw_g (lw_at lw_m1 4 rfl) rfl
theorem q91 : (Jvm.Cond.initialized "java/util/AbstractList") ∈ lw_all := lw_g (lw_at lw_m1 5 rfl) rfl
theorem q92 : (Jvm.Cond.initialized "java/util/ArrayList") ∈ lw_all := lw_g (lw_at lw_m1 6 rfl) rfl
theorem q93 : (Jvm.Cond.initialized "BakedBefore$Look") ∈ lw_all := lw_g (lw_at lw_m1 7 rfl) rfl
theorem q94 : (Jvm.Cond.initialized "BakedBefore$Trace") ∈ lw_all := lw_g (lw_at lw_m1 8 rfl) rfl
theorem q95 : (Jvm.Cond.initialized "BakedBefore$Tape") ∈ lw_all := lw_g (lw_at lw_m1 9 rfl) rfl
theorem q96 : (Jvm.Cond.initialized "BakedBeforeModel") ∈ lw_all := lw_g (lw_at lw_m1 10 rfl) rfl
theorem q97 : (Jvm.Cond.initialized "BakedBefore$Loaf") ∈ lw_all := lw_g (lw_at lw_m1 11 rfl) rfl
theorem q98 : (Jvm.Cond.initialized "BakedBefore$Clean") ∈ lw_all := lw_g (lw_at lw_m1 12 rfl) rfl
theorem q99 : (Jvm.Cond.initialized "BakedBefore$Greedy") ∈ lw_all := lw_g (lw_at lw_m1 13 rfl) rfl
theorem q100 : (Jvm.Cond.initialized "BakedBefore$Holy") ∈ lw_all := lw_g (lw_at lw_m1 14 rfl) rfl
theorem q101 : (Jvm.Cond.initialized "BakedBefore$Rye") ∈ lw_all := lw_g (lw_at lw_m1 15 rfl) rfl
theorem q102 : (Jvm.Cond.initialized "BakedBefore$Poisoned") ∈ lw_all := lw_g (lw_at lw_m1 16 rfl) rfl
theorem q103 : (Jvm.Cond.initialized "BakedBefore$Shy") ∈ lw_all := lw_g (lw_at lw_m1 17 rfl) rfl
theorem q104 : (Jvm.Cond.initialized "java/util/Objects") ∈ lw_all := lw_g (lw_at lw_m1 18 rfl) rfl
theorem q105 : (Jvm.Cond.initialized "jdk/internal/util/Preconditions") ∈ lw_all := lw_g (lw_at lw_m1 19 rfl) rfl
theorem q106 : (Jvm.Cond.initialized "java/lang/Math") ∈ lw_all := lw_g (lw_at lw_m1 20 rfl) rfl
theorem q107 : (Jvm.Cond.initialized "java/lang/String") ∈ lw_all := lw_g (lw_at lw_m1 21 rfl) rfl
theorem q108 : (Jvm.Cond.initialized "java/lang/StringLatin1") ∈ lw_all := lw_g (lw_at lw_m1 22 rfl) rfl
theorem q109 : (Jvm.Cond.initialized "java/lang/StringUTF16") ∈ lw_all := lw_g (lw_at lw_m1 23 rfl) rfl
theorem q110 : (Jvm.Cond.initialized "BakedBefore$Reader") ∈ lw_all := lw_g (lw_at lw_m1 24 rfl) rfl
theorem q111 : (Jvm.Cond.initialized "java/lang/Throwable") ∈ lw_all := lw_g (lw_at lw_m1 25 rfl) rfl
theorem q112 : (Jvm.Cond.initialized "java/lang/Exception") ∈ lw_all := lw_g (lw_at lw_m1 26 rfl) rfl
theorem q113 : (Jvm.Cond.initialized "java/lang/RuntimeException") ∈ lw_all := lw_g (lw_at lw_m1 27 rfl) rfl
theorem q114 : (Jvm.Cond.initialized "BakedBefore$Off") ∈ lw_all := lw_g (lw_at lw_m1 28 rfl) rfl
theorem q115 : (Jvm.Cond.initialized "BakedBefore$Clause") ∈ lw_all := lw_g (lw_at lw_m1 29 rfl) rfl
theorem q116 : (Jvm.Cond.initialized "BakedBefore$Test") ∈ lw_all := lw_g (lw_at lw_m1 30 rfl) rfl
theorem q117 : (Jvm.Cond.initialized "BakedBefore$Some") ∈ lw_all := lw_g (lw_at lw_m1 31 rfl) rfl
theorem q118 : (Jvm.Cond.initialized "BakedBefore$Not") ∈ lw_all := lw_g (lw_at lw_m1 32 rfl) rfl
theorem q119 : (Jvm.Cond.initialized "BakedBefore$Against") ∈ lw_all := lw_g (lw_at lw_m1 33 rfl) rfl
theorem q120 : (Jvm.Cond.initialized "jdk/internal/util/ArraysSupport") ∈ lw_all := lw_g (lw_at lw_m1 34 rfl) rfl
theorem q121 : (Jvm.Cond.initialized "java/util/Arrays") ∈ lw_all := lw_g (lw_at lw_m1 35 rfl) rfl
theorem q122 : (Jvm.Cond.initialized "java/lang/System") ∈ lw_all := lw_g (lw_at lw_m1 36 rfl) rfl
theorem q123 : (Jvm.Cond.initialized "java/lang/Integer") ∈ lw_all := lw_g (lw_at lw_m1 37 rfl) rfl
theorem q124 : (Jvm.Cond.initialized "java/lang/ClassCastException") ∈ lw_all := lw_g (lw_at lw_m1 38 rfl) rfl
theorem q125 : (Jvm.Cond.initialized "java/lang/NullPointerException") ∈ lw_all := lw_g (lw_at lw_m1 39 rfl) rfl
theorem q126 : (Jvm.Cond.initialized "java/lang/NegativeArraySizeException") ∈ lw_all := lw_g (lw_at lw_m1 40 rfl) rfl
theorem q127 : (Jvm.Cond.initialized "java/lang/ArrayStoreException") ∈ lw_all := lw_g (lw_at lw_m1 41 rfl) rfl
theorem q128 : (Jvm.Cond.initialized "java/lang/IndexOutOfBoundsException") ∈ lw_all := lw_g (lw_at lw_m1 42 rfl) rfl
theorem q129 : (Jvm.Cond.initialized "java/lang/ArrayIndexOutOfBoundsException") ∈ lw_all := lw_g (lw_at lw_m1 43 rfl) rfl
theorem q130 : (Jvm.Cond.classLink "BakedBeforeLaw" (7 : Nat) "BakedBefore") ∈ lw_all := lw_g (lw_at lw_m1 44 rfl) rfl
theorem q131 : (Jvm.Cond.instantiable "BakedBefore" (31 : Nat)) ∈ lw_all := lw_g (lw_at lw_m1 45 rfl) rfl
theorem q132 : (Jvm.Cond.methodLink "BakedBeforeLaw" (9 : Nat) ({ cls := "BakedBefore", name := "<init>", desc := "()V" } : Jvm.MethodName)) ∈ lw_all := lw_g (lw_at lw_m1 46 rfl) rfl
theorem q133 : (Jvm.Cond.instanceMethod ({ cls := "BakedBefore", name := "<init>", desc := "()V" } : Jvm.MethodName)) ∈ lw_all := lw_g (lw_at lw_m1 47 rfl) rfl
theorem q134 : (Jvm.Cond.code ({ cls := "BakedBefore", name := "<init>", desc := "()V" } : Jvm.MethodName) prog_1_method_2_code (2 : Nat) (Option.none : Option Jvm.ClassFile.FieldType)) ∈ lw_all := lw_g (lw_at lw_m1 48 rfl) rfl
theorem q135 : (Jvm.Cond.methodLink "BakedBefore" (3 : Nat) ({ cls := "java/lang/Object", name := "<init>", desc := "()V" } : Jvm.MethodName)) ∈ lw_all := lw_g (lw_at lw_m1 49 rfl) rfl
theorem q136 : (Jvm.Cond.instanceMethod ({ cls := "java/lang/Object", name := "<init>", desc := "()V" } : Jvm.MethodName)) ∈ lw_all := lw_g (lw_at lw_m1 50 rfl) rfl
theorem q137 : (Jvm.Cond.code ({ cls := "java/lang/Object", name := "<init>", desc := "()V" } : Jvm.MethodName) object_method_1_code (1 : Nat) (Option.none : Option Jvm.ClassFile.FieldType)) ∈ lw_all := lw_g (lw_at lw_m1 51 rfl) rfl
theorem q138 : (Jvm.Cond.classLink "BakedBefore" (11 : Nat) "BakedBefore$Loaf") ∈ lw_all := lw_g (lw_at lw_m1 52 rfl) rfl
theorem q139 : (Jvm.Cond.arrayOver (Jvm.ClassFile.FieldType.object "BakedBefore$Loaf")) ∈ lw_tbl := lw_at lw_m1 53 rfl
theorem q140 : (Jvm.Cond.classLink "BakedBefore" (24 : Nat) "BakedBefore$Time") ∈ lw_all := lw_g (lw_at lw_m1 54 rfl) rfl
theorem q141 : (Jvm.Cond.instantiable "BakedBefore$Time" (2 : Nat)) ∈ lw_all := lw_g (lw_at lw_m1 55 rfl) rfl
theorem q142 : (Jvm.Cond.methodLinkNest "BakedBefore" (26 : Nat) ({ cls := "BakedBefore$Time", name := "<init>", desc := "()V" } : Jvm.MethodName) "BakedBefore") ∈ lw_tbl := lw_at lw_m1 56 rfl
theorem q143 : (Jvm.Cond.instanceMethod ({ cls := "BakedBefore$Time", name := "<init>", desc := "()V" } : Jvm.MethodName)) ∈ lw_all := lw_g (lw_at lw_m1 57 rfl) rfl
theorem q144 : (Jvm.Cond.code ({ cls := "BakedBefore$Time", name := "<init>", desc := "()V" } : Jvm.MethodName) prog_20_method_1_code (1 : Nat) (Option.none : Option Jvm.ClassFile.FieldType)) ∈ lw_all := lw_g (lw_at lw_m1 58 rfl) rfl
theorem q145 : (Jvm.Cond.methodLink "BakedBefore$Time" (3 : Nat) ({ cls := "java/lang/Object", name := "<init>", desc := "()V" } : Jvm.MethodName)) ∈ lw_all := lw_g (lw_at lw_m1 59 rfl) rfl
theorem q146 : (Jvm.Cond.fieldLink "BakedBefore$Time" (9 : Nat) "BakedBefore$Time" "held" "[I") ∈ lw_all := lw_g (lw_at lw_m1 60 rfl) rfl
theorem q147 : (Jvm.Cond.fieldLinkNest "BakedBefore" (195 : Nat) "BakedBefore$Time" "held" "[I" "BakedBefore") ∈ lw_tbl := lw_at lw_m1 61 rfl
theorem q148 : (Jvm.Cond.fieldLink "BakedBefore$Time" (21 : Nat) "BakedBefore$Time" "hour" "I") ∈ lw_all := lw_g (lw_at lw_m1 62 rfl) rfl
theorem q149 : (Jvm.Cond.fieldLinkNest "BakedBefore" (163 : Nat) "BakedBefore$Time" "hour" "I" "BakedBefore") ∈ lw_tbl := lw_at lw_m1 63 rfl
theorem q150 : (Jvm.Cond.laysFinal "BakedBefore$Time" "BakedBefore$Time" "held" "[I") ∈ lw_all := lw_g (lw_at lw_m1 64 rfl) rfl
theorem q151 : (Jvm.Cond.soleField "BakedBefore$Time" "held") ∈ lw_all := lw_g (lw_at lw_m1 65 rfl) rfl
theorem q152 : (Jvm.Cond.lays "BakedBefore$Time" "BakedBefore$Time" "hour" "I") ∈ lw_all := lw_g (lw_at lw_m1 66 rfl) rfl
theorem q153 : (Jvm.Cond.soleField "BakedBefore$Time" "hour") ∈ lw_all := lw_g (lw_at lw_m1 67 rfl) rfl
theorem q154 : (Jvm.Cond.superclass "BakedBefore$Time" "java/lang/Object") ∈ lw_all := lw_g (lw_at lw_m1 68 rfl) rfl
theorem q155 : (Jvm.Cond.arrayClass Jvm.ClassFile.FieldType.int) ∈ lw_all := lw_g (lw_at lw_m1 69 rfl) rfl
theorem q156 : (Jvm.Cond.classLink "BakedBefore" (38 : Nat) "BakedBefore$Kiln") ∈ lw_all := lw_g (lw_at lw_m1 70 rfl) rfl
theorem q157 : (Jvm.Cond.instantiable "BakedBefore$Kiln" (5 : Nat)) ∈ lw_all := lw_g (lw_at lw_m1 71 rfl) rfl
theorem q158 : (Jvm.Cond.methodLinkNest "BakedBefore" (40 : Nat) ({ cls := "BakedBefore$Kiln", name := "<init>", desc := "()V" } : Jvm.MethodName) "BakedBefore") ∈ lw_tbl := lw_at lw_m1 72 rfl
theorem q159 : (Jvm.Cond.instanceMethod ({ cls := "BakedBefore$Kiln", name := "<init>", desc := "()V" } : Jvm.MethodName)) ∈ lw_all := lw_g (lw_at lw_m1 73 rfl) rfl
theorem q160 : (Jvm.Cond.code ({ cls := "BakedBefore$Kiln", name := "<init>", desc := "()V" } : Jvm.MethodName) prog_7_method_1_code (1 : Nat) (Option.none : Option Jvm.ClassFile.FieldType)) ∈ lw_all := lw_g (lw_at lw_m1 74 rfl) rfl
theorem q161 : (Jvm.Cond.methodLink "BakedBefore$Kiln" (3 : Nat) ({ cls := "java/lang/Object", name := "<init>", desc := "()V" } : Jvm.MethodName)) ∈ lw_all := lw_g (lw_at lw_m1 75 rfl) rfl
theorem q162 : (Jvm.Cond.classLink "BakedBefore$Kiln" (9 : Nat) "java/util/ArrayList") ∈ lw_all := lw_g (lw_at lw_m1 76 rfl) rfl
theorem q163 : (Jvm.Cond.instantiable "java/util/ArrayList" (3 : Nat)) ∈ lw_all := lw_g (lw_at lw_m1 77 rfl) rfl
theorem q164 : (Jvm.Cond.methodLink "BakedBefore$Kiln" (11 : Nat) ({ cls := "java/util/ArrayList", name := "<init>", desc := "()V" } : Jvm.MethodName)) ∈ lw_all := lw_g (lw_at lw_m1 78 rfl) rfl
theorem q165 : (Jvm.Cond.instanceMethod ({ cls := "java/util/ArrayList", name := "<init>", desc := "()V" } : Jvm.MethodName)) ∈ lw_all := lw_g (lw_at lw_m1 79 rfl) rfl
theorem q166 : (Jvm.Cond.code ({ cls := "java/util/ArrayList", name := "<init>", desc := "()V" } : Jvm.MethodName) prog_48_method_2_code (1 : Nat) (Option.none : Option Jvm.ClassFile.FieldType)) ∈ lw_all := lw_g (lw_at lw_m1 80 rfl) rfl
theorem q167 : (Jvm.Cond.methodLink "java/util/ArrayList" (1 : Nat) ({ cls := "java/util/AbstractList", name := "<init>", desc := "()V" } : Jvm.MethodName)) ∈ lw_all := lw_g (lw_at lw_m1 81 rfl) rfl
theorem q168 : (Jvm.Cond.instanceMethod ({ cls := "java/util/AbstractList", name := "<init>", desc := "()V" } : Jvm.MethodName)) ∈ lw_all := lw_g (lw_at lw_m1 82 rfl) rfl
theorem q169 : (Jvm.Cond.code ({ cls := "java/util/AbstractList", name := "<init>", desc := "()V" } : Jvm.MethodName) prog_47_method_1_code (1 : Nat) (Option.none : Option Jvm.ClassFile.FieldType)) ∈ lw_all := lw_g (lw_at lw_m1 83 rfl) rfl
theorem q170 : (Jvm.Cond.methodLink "java/util/AbstractList" (1 : Nat) ({ cls := "java/util/AbstractCollection", name := "<init>", desc := "()V" } : Jvm.MethodName)) ∈ lw_all := lw_g (lw_at lw_m1 84 rfl) rfl
theorem q171 : (Jvm.Cond.instanceMethod ({ cls := "java/util/AbstractCollection", name := "<init>", desc := "()V" } : Jvm.MethodName)) ∈ lw_all := lw_g (lw_at lw_m1 85 rfl) rfl
theorem q172 : (Jvm.Cond.code ({ cls := "java/util/AbstractCollection", name := "<init>", desc := "()V" } : Jvm.MethodName) prog_46_method_1_code (1 : Nat) (Option.none : Option Jvm.ClassFile.FieldType)) ∈ lw_all := lw_g (lw_at lw_m1 86 rfl) rfl
theorem q173 : (Jvm.Cond.methodLink "java/util/AbstractCollection" (1 : Nat) ({ cls := "java/lang/Object", name := "<init>", desc := "()V" } : Jvm.MethodName)) ∈ lw_all := lw_g (lw_at lw_m1 87 rfl) rfl
theorem q174 : (Jvm.Cond.fieldLink "java/util/ArrayList" (39 : Nat) "java/util/ArrayList" "DEFAULTCAPACITY_EMPTY_ELEMENTDATA" "[Ljava/lang/Object;") ∈ lw_all := lw_g (lw_at lw_m1 88 rfl) rfl
theorem q175 : (Jvm.Cond.laysStatic "java/util/ArrayList" "DEFAULTCAPACITY_EMPTY_ELEMENTDATA" "[Ljava/lang/Object;") ∈ lw_tbl := lw_at lw_m1 89 rfl
theorem q176 : (Jvm.Cond.fieldLink "java/util/ArrayList" (9 : Nat) "java/util/ArrayList" "elementData" "[Ljava/lang/Object;") ∈ lw_all := lw_g (lw_at lw_m1 90 rfl) rfl
theorem q177 : (Jvm.Cond.fieldLink "java/util/ArrayList" (48 : Nat) "java/util/ArrayList" "size" "I") ∈ lw_all := lw_g (lw_at lw_m1 91 rfl) rfl
theorem q178 : (Jvm.Cond.fieldLink "java/util/AbstractList" (7 : Nat) "java/util/AbstractList" "modCount" "I") ∈ lw_all := lw_g (lw_at lw_m1 92 rfl) rfl
theorem q179 : (Jvm.Cond.fieldLink "java/util/ArrayList" (63 : Nat) "java/util/ArrayList" "modCount" "I") ∈ lw_all := lw_g (lw_at lw_m1 93 rfl) rfl
theorem q180 : (Jvm.Cond.sameField "java/util/ArrayList" "java/util/AbstractList" "modCount" "I") ∈ lw_all := lw_g (lw_at lw_m1 94 rfl) rfl
theorem q181 : (Jvm.Cond.lays "java/util/ArrayList" "java/util/ArrayList" "elementData" "[Ljava/lang/Object;") ∈ lw_all := lw_g (lw_at lw_m1 95 rfl) rfl
theorem q182 : (Jvm.Cond.soleField "java/util/ArrayList" "elementData") ∈ lw_all := lw_g (lw_at lw_m1 96 rfl) rfl
theorem q183 : (Jvm.Cond.lays "java/util/ArrayList" "java/util/ArrayList" "size" "I") ∈ lw_all := lw_g (lw_at lw_m1 97 rfl) rfl
theorem q184 : (Jvm.Cond.soleField "java/util/ArrayList" "size") ∈ lw_all := lw_g (lw_at lw_m1 98 rfl) rfl
theorem q185 : (Jvm.Cond.lays "java/util/ArrayList" "java/util/AbstractList" "modCount" "I") ∈ lw_all := lw_g (lw_at lw_m1 99 rfl) rfl
theorem q186 : (Jvm.Cond.soleField "java/util/AbstractList" "modCount") ∈ lw_all := lw_g (lw_at lw_m1 100 rfl) rfl
theorem q187 : (Jvm.Cond.superclass "java/util/ArrayList" "java/util/AbstractList") ∈ lw_all := lw_g (lw_at lw_m1 101 rfl) rfl
theorem q188 : (Jvm.Cond.arrayClass Jvm.ClassFile.FieldType.byte) ∈ lw_all := lw_g (lw_at lw_m1 102 rfl) rfl
theorem q189 : (Jvm.Cond.fieldLink "BakedBefore$Kiln" (12 : Nat) "BakedBefore$Kiln" "takes" "Ljava/util/ArrayList;") ∈ lw_all := lw_g (lw_at lw_m1 103 rfl) rfl
theorem q190 : (Jvm.Cond.fieldLinkNest "BakedBefore$Reader" (111 : Nat) "BakedBefore$Kiln" "takes" "Ljava/util/ArrayList;" "BakedBefore") ∈ lw_tbl := lw_at lw_m1 104 rfl
theorem q191 : (Jvm.Cond.fieldLink "BakedBefore$Kiln" (18 : Nat) "BakedBefore$Kiln" "mores" "Ljava/util/ArrayList;") ∈ lw_all := lw_g (lw_at lw_m1 105 rfl) rfl
theorem q192 : (Jvm.Cond.fieldLinkNest "BakedBefore$Reader" (120 : Nat) "BakedBefore$Kiln" "mores" "Ljava/util/ArrayList;" "BakedBefore") ∈ lw_tbl := lw_at lw_m1 106 rfl
theorem q193 : (Jvm.Cond.fieldLink "BakedBefore$Kiln" (21 : Nat) "BakedBefore$Kiln" "fees" "Ljava/util/ArrayList;") ∈ lw_all := lw_g (lw_at lw_m1 107 rfl) rfl
theorem q194 : (Jvm.Cond.fieldLinkNest "BakedBefore$Reader" (125 : Nat) "BakedBefore$Kiln" "fees" "Ljava/util/ArrayList;" "BakedBefore") ∈ lw_tbl := lw_at lw_m1 108 rfl
theorem q195 : (Jvm.Cond.fieldLinkNest "BakedBefore$Reader" (135 : Nat) "BakedBefore$Kiln" "many" "I" "BakedBefore") ∈ lw_tbl := lw_at lw_m1 109 rfl
theorem q196 : (Jvm.Cond.fieldLink "BakedBefore$Kiln" (24 : Nat) "BakedBefore$Kiln" "cold" "I") ∈ lw_all := lw_g (lw_at lw_m1 110 rfl) rfl
theorem q197 : (Jvm.Cond.fieldLinkNest "BakedBefore$Reader" (132 : Nat) "BakedBefore$Kiln" "cold" "I" "BakedBefore") ∈ lw_tbl := lw_at lw_m1 111 rfl
theorem q198 : (Jvm.Cond.fieldLinkNest "BakedBefore" (242 : Nat) "BakedBefore$Kiln" "cold" "I" "BakedBefore") ∈ lw_tbl := lw_at lw_m1 112 rfl
theorem q199 : (Jvm.Cond.laysFinal "BakedBefore$Kiln" "BakedBefore$Kiln" "takes" "Ljava/util/ArrayList;") ∈ lw_all := lw_g (lw_at lw_m1 113 rfl) rfl
theorem q200 : (Jvm.Cond.soleField "BakedBefore$Kiln" "takes") ∈ lw_all := lw_g (lw_at lw_m1 114 rfl) rfl
theorem q201 : (Jvm.Cond.laysFinal "BakedBefore$Kiln" "BakedBefore$Kiln" "mores" "Ljava/util/ArrayList;") ∈ lw_all := lw_g (lw_at lw_m1 115 rfl) rfl
theorem q202 : (Jvm.Cond.soleField "BakedBefore$Kiln" "mores") ∈ lw_all := lw_g (lw_at lw_m1 116 rfl) rfl
theorem q203 : (Jvm.Cond.laysFinal "BakedBefore$Kiln" "BakedBefore$Kiln" "fees" "Ljava/util/ArrayList;") ∈ lw_all := lw_g (lw_at lw_m1 117 rfl) rfl
theorem q204 : (Jvm.Cond.soleField "BakedBefore$Kiln" "fees") ∈ lw_all := lw_g (lw_at lw_m1 118 rfl) rfl
theorem q205 : (Jvm.Cond.lays "BakedBefore$Kiln" "BakedBefore$Kiln" "many" "I") ∈ lw_all := lw_g (lw_at lw_m1 119 rfl) rfl
theorem q206 : (Jvm.Cond.soleField "BakedBefore$Kiln" "many") ∈ lw_all := lw_g (lw_at lw_m1 120 rfl) rfl
theorem q207 : (Jvm.Cond.lays "BakedBefore$Kiln" "BakedBefore$Kiln" "cold" "I") ∈ lw_all := lw_g (lw_at lw_m1 121 rfl) rfl
theorem q208 : (Jvm.Cond.soleField "BakedBefore$Kiln" "cold") ∈ lw_all := lw_g (lw_at lw_m1 122 rfl) rfl
theorem q209 : (Jvm.Cond.superclass "BakedBefore$Kiln" "java/lang/Object") ∈ lw_all := lw_g (lw_at lw_m1 123 rfl) rfl
theorem q210 : (Jvm.Cond.classLink "BakedBefore" (45 : Nat) "BakedBefore$Look") ∈ lw_all := lw_g (lw_at lw_m1 124 rfl) rfl
theorem q211 : (Jvm.Cond.instantiable "BakedBefore$Look" (6 : Nat)) ∈ lw_all := lw_g (lw_at lw_m1 125 rfl) rfl
theorem q212 : (Jvm.Cond.methodLinkNest "BakedBefore" (47 : Nat) ({ cls := "BakedBefore$Look", name := "<init>", desc := "()V" } : Jvm.MethodName) "BakedBefore") ∈ lw_tbl := lw_at lw_m1 126 rfl
theorem q213 : (Jvm.Cond.instanceMethod ({ cls := "BakedBefore$Look", name := "<init>", desc := "()V" } : Jvm.MethodName)) ∈ lw_all := lw_g (lw_at lw_m1 127 rfl) rfl
theorem q214 : (Jvm.Cond.code ({ cls := "BakedBefore$Look", name := "<init>", desc := "()V" } : Jvm.MethodName) prog_9_method_1_code (1 : Nat) (Option.none : Option Jvm.ClassFile.FieldType)) ∈ lw_all := lw_g (lw_at lw_m1 128 rfl) rfl
theorem q215 : (Jvm.Cond.methodLink "BakedBefore$Look" (1 : Nat) ({ cls := "java/lang/Object", name := "<init>", desc := "()V" } : Jvm.MethodName)) ∈ lw_all := lw_g (lw_at lw_m1 129 rfl) rfl
theorem q216 : (Jvm.Cond.fieldLink "BakedBefore$Look" (7 : Nat) "BakedBefore$Look" "loaf" "I") ∈ lw_all := lw_g (lw_at lw_m1 130 rfl) rfl
theorem q217 : (Jvm.Cond.fieldLinkNest "BakedBefore" (147 : Nat) "BakedBefore$Look" "loaf" "I" "BakedBefore") ∈ lw_tbl := lw_at lw_m1 131 rfl
theorem q218 : (Jvm.Cond.fieldLink "BakedBefore$Look" (13 : Nat) "BakedBefore$Look" "kind" "I") ∈ lw_all := lw_g (lw_at lw_m1 132 rfl) rfl
theorem q219 : (Jvm.Cond.fieldLinkNest "BakedBefore" (154 : Nat) "BakedBefore$Look" "kind" "I" "BakedBefore") ∈ lw_tbl := lw_at lw_m1 133 rfl
theorem q220 : (Jvm.Cond.fieldLink "BakedBefore$Look" (16 : Nat) "BakedBefore$Look" "taste" "I") ∈ lw_all := lw_g (lw_at lw_m1 134 rfl) rfl
theorem q221 : (Jvm.Cond.fieldLinkNest "BakedBefore" (156 : Nat) "BakedBefore$Look" "taste" "I" "BakedBefore") ∈ lw_tbl := lw_at lw_m1 135 rfl
theorem q222 : (Jvm.Cond.fieldLink "BakedBefore$Look" (19 : Nat) "BakedBefore$Look" "v" "I") ∈ lw_all := lw_g (lw_at lw_m1 136 rfl) rfl
theorem q223 : (Jvm.Cond.fieldLinkNest "BakedBefore" (162 : Nat) "BakedBefore$Look" "v" "I" "BakedBefore") ∈ lw_tbl := lw_at lw_m1 137 rfl
theorem q224 : (Jvm.Cond.fieldLink "BakedBefore$Look" (22 : Nat) "BakedBefore$Look" "hour" "I") ∈ lw_all := lw_g (lw_at lw_m1 138 rfl) rfl
theorem q225 : (Jvm.Cond.fieldLinkNest "BakedBefore" (166 : Nat) "BakedBefore$Look" "hour" "I" "BakedBefore") ∈ lw_tbl := lw_at lw_m1 139 rfl
theorem q226 : (Jvm.Cond.fieldLink "BakedBefore$Look" (25 : Nat) "BakedBefore$Look" "oven" "I") ∈ lw_all := lw_g (lw_at lw_m1 140 rfl) rfl
theorem q227 : (Jvm.Cond.fieldLinkNest "BakedBefore" (167 : Nat) "BakedBefore$Look" "oven" "I" "BakedBefore") ∈ lw_tbl := lw_at lw_m1 141 rfl
theorem q228 : (Jvm.Cond.lays "BakedBefore$Look" "BakedBefore$Look" "loaf" "I") ∈ lw_all := lw_g (lw_at lw_m1 142 rfl) rfl
theorem q229 : (Jvm.Cond.soleField "BakedBefore$Look" "loaf") ∈ lw_all := lw_g (lw_at lw_m1 143 rfl) rfl
theorem q230 : (Jvm.Cond.lays "BakedBefore$Look" "BakedBefore$Look" "kind" "I") ∈ lw_all := lw_g (lw_at lw_m1 144 rfl) rfl
theorem q231 : (Jvm.Cond.soleField "BakedBefore$Look" "kind") ∈ lw_all := lw_g (lw_at lw_m1 145 rfl) rfl
theorem q232 : (Jvm.Cond.lays "BakedBefore$Look" "BakedBefore$Look" "taste" "I") ∈ lw_all := lw_g (lw_at lw_m1 146 rfl) rfl
theorem q233 : (Jvm.Cond.soleField "BakedBefore$Look" "taste") ∈ lw_all := lw_g (lw_at lw_m1 147 rfl) rfl
theorem q234 : (Jvm.Cond.lays "BakedBefore$Look" "BakedBefore$Look" "v" "I") ∈ lw_all := lw_g (lw_at lw_m1 148 rfl) rfl
theorem q235 : (Jvm.Cond.soleField "BakedBefore$Look" "v") ∈ lw_all := lw_g (lw_at lw_m1 149 rfl) rfl
theorem q236 : (Jvm.Cond.lays "BakedBefore$Look" "BakedBefore$Look" "hour" "I") ∈ lw_all := lw_g (lw_at lw_m1 150 rfl) rfl
theorem q237 : (Jvm.Cond.soleField "BakedBefore$Look" "hour") ∈ lw_all := lw_g (lw_at lw_m1 151 rfl) rfl
theorem q238 : (Jvm.Cond.lays "BakedBefore$Look" "BakedBefore$Look" "oven" "I") ∈ lw_all := lw_g (lw_at lw_m1 152 rfl) rfl
theorem q239 : (Jvm.Cond.soleField "BakedBefore$Look" "oven") ∈ lw_all := lw_g (lw_at lw_m1 153 rfl) rfl
theorem q240 : (Jvm.Cond.superclass "BakedBefore$Look" "java/lang/Object") ∈ lw_all := lw_g (lw_at lw_m1 154 rfl) rfl
theorem q241 : (Jvm.Cond.classLink "BakedBefore" (52 : Nat) "BakedBefore$Trace") ∈ lw_all := lw_g (lw_at lw_m1 155 rfl) rfl
theorem q242 : (Jvm.Cond.instantiable "BakedBefore$Trace" (2 : Nat)) ∈ lw_all := lw_g (lw_at lw_m1 156 rfl) rfl
theorem q243 : (Jvm.Cond.methodLinkNest "BakedBefore" (54 : Nat) ({ cls := "BakedBefore$Trace", name := "<init>", desc := "()V" } : Jvm.MethodName) "BakedBefore") ∈ lw_tbl := lw_at lw_m1 157 rfl
theorem q244 : (Jvm.Cond.instanceMethod ({ cls := "BakedBefore$Trace", name := "<init>", desc := "()V" } : Jvm.MethodName)) ∈ lw_all := lw_g (lw_at lw_m1 158 rfl) rfl
theorem q245 : (Jvm.Cond.code ({ cls := "BakedBefore$Trace", name := "<init>", desc := "()V" } : Jvm.MethodName) prog_21_method_1_code (1 : Nat) (Option.none : Option Jvm.ClassFile.FieldType)) ∈ lw_all := lw_g (lw_at lw_m1 159 rfl) rfl
theorem q246 : (Jvm.Cond.methodLink "BakedBefore$Trace" (3 : Nat) ({ cls := "java/lang/Object", name := "<init>", desc := "()V" } : Jvm.MethodName)) ∈ lw_all := lw_g (lw_at lw_m1 160 rfl) rfl
theorem q247 : (Jvm.Cond.fieldLink "BakedBefore$Trace" (9 : Nat) "BakedBefore$Trace" "bodies" "[I") ∈ lw_all := lw_g (lw_at lw_m1 161 rfl) rfl
theorem q248 : (Jvm.Cond.fieldLinkNest "BakedBefore" (374 : Nat) "BakedBefore$Trace" "bodies" "[I" "BakedBefore") ∈ lw_tbl := lw_at lw_m1 162 rfl
theorem q249 : (Jvm.Cond.fieldLink "BakedBefore$Trace" (15 : Nat) "BakedBefore$Trace" "count" "I") ∈ lw_all := lw_g (lw_at lw_m1 163 rfl) rfl
theorem q250 : (Jvm.Cond.fieldLinkNest "BakedBefore" (362 : Nat) "BakedBefore$Trace" "count" "I" "BakedBefore") ∈ lw_tbl := lw_at lw_m1 164 rfl
theorem q251 : (Jvm.Cond.laysFinal "BakedBefore$Trace" "BakedBefore$Trace" "bodies" "[I") ∈ lw_all := lw_g (lw_at lw_m1 165 rfl) rfl
theorem q252 : (Jvm.Cond.soleField "BakedBefore$Trace" "bodies") ∈ lw_all := lw_g (lw_at lw_m1 166 rfl) rfl
theorem q253 : (Jvm.Cond.lays "BakedBefore$Trace" "BakedBefore$Trace" "count" "I") ∈ lw_all := lw_g (lw_at lw_m1 167 rfl) rfl
theorem q254 : (Jvm.Cond.soleField "BakedBefore$Trace" "count") ∈ lw_all := lw_g (lw_at lw_m1 168 rfl) rfl
theorem q255 : (Jvm.Cond.superclass "BakedBefore$Trace" "java/lang/Object") ∈ lw_all := lw_g (lw_at lw_m1 169 rfl) rfl
theorem q256 : (Jvm.Cond.classLink "BakedBefore" (66 : Nat) "BakedBefore$Tape") ∈ lw_all := lw_g (lw_at lw_m1 170 rfl) rfl
theorem q257 : (Jvm.Cond.arrayOver (Jvm.ClassFile.FieldType.object "BakedBefore$Tape")) ∈ lw_tbl := lw_at lw_m1 171 rfl
theorem q258 : (Jvm.Cond.arrayOver (Jvm.ClassFile.FieldType.object "BakedBefore$Time")) ∈ lw_tbl := lw_at lw_m1 172 rfl
theorem q259 : (Jvm.Cond.instantiable "BakedBefore$Tape" (1 : Nat)) ∈ lw_all := lw_g (lw_at lw_m1 173 rfl) rfl
theorem q260 : (Jvm.Cond.methodLinkNest "BakedBefore" (106 : Nat) ({ cls := "BakedBefore$Tape", name := "<init>", desc := "()V" } : Jvm.MethodName) "BakedBefore") ∈ lw_tbl := lw_at lw_m1 174 rfl
theorem q261 : (Jvm.Cond.instanceMethod ({ cls := "BakedBefore$Tape", name := "<init>", desc := "()V" } : Jvm.MethodName)) ∈ lw_all := lw_g (lw_at lw_m1 175 rfl) rfl
theorem q262 : (Jvm.Cond.code ({ cls := "BakedBefore$Tape", name := "<init>", desc := "()V" } : Jvm.MethodName) prog_17_method_1_code (1 : Nat) (Option.none : Option Jvm.ClassFile.FieldType)) ∈ lw_all := lw_g (lw_at lw_m1 176 rfl) rfl
theorem q263 : (Jvm.Cond.methodLink "BakedBefore$Tape" (3 : Nat) ({ cls := "java/lang/Object", name := "<init>", desc := "()V" } : Jvm.MethodName)) ∈ lw_all := lw_g (lw_at lw_m1 177 rfl) rfl
theorem q264 : (Jvm.Cond.fieldLink "BakedBefore$Tape" (9 : Nat) "BakedBefore$Tape" "row" "Ljava/lang/Object;") ∈ lw_all := lw_g (lw_at lw_m1 178 rfl) rfl
theorem q265 : (Jvm.Cond.fieldLinkNest "BakedBefore" (336 : Nat) "BakedBefore$Tape" "row" "Ljava/lang/Object;" "BakedBefore") ∈ lw_tbl := lw_at lw_m1 179 rfl
theorem q266 : (Jvm.Cond.lays "BakedBefore$Tape" "BakedBefore$Tape" "row" "Ljava/lang/Object;") ∈ lw_all := lw_g (lw_at lw_m1 180 rfl) rfl
theorem q267 : (Jvm.Cond.soleField "BakedBefore$Tape" "row") ∈ lw_all := lw_g (lw_at lw_m1 181 rfl) rfl
theorem q268 : (Jvm.Cond.superclass "BakedBefore$Tape" "java/lang/Object") ∈ lw_all := lw_g (lw_at lw_m1 182 rfl) rfl
theorem q269 : (Jvm.Cond.arrayClass Jvm.ClassFile.FieldType.boolean) ∈ lw_all := lw_g (lw_at lw_m1 183 rfl) rfl
theorem q270 : (Jvm.Cond.fieldLink "BakedBefore" (13 : Nat) "BakedBefore" "loaves" "[LBakedBefore$Loaf;") ∈ lw_all := lw_g (lw_at lw_m1 184 rfl) rfl
theorem q271 : (Jvm.Cond.fieldLink "BakedBefore" (17 : Nat) "BakedBefore" "gives" "[I") ∈ lw_all := lw_g (lw_at lw_m1 185 rfl) rfl
theorem q272 : (Jvm.Cond.fieldLink "BakedBefore" (21 : Nat) "BakedBefore" "bears" "[I") ∈ lw_all := lw_g (lw_at lw_m1 186 rfl) rfl
theorem q273 : (Jvm.Cond.fieldLink "BakedBefore" (107 : Nat) "BakedBefore" "many" "I") ∈ lw_all := lw_g (lw_at lw_m1 187 rfl) rfl
theorem q274 : (Jvm.Cond.fieldLink "BakedBefore" (27 : Nat) "BakedBefore" "now" "LBakedBefore$Time;") ∈ lw_all := lw_g (lw_at lw_m1 188 rfl) rfl
theorem q275 : (Jvm.Cond.fieldLink "BakedBefore" (31 : Nat) "BakedBefore" "tried" "LBakedBefore$Time;") ∈ lw_all := lw_g (lw_at lw_m1 189 rfl) rfl
theorem q276 : (Jvm.Cond.fieldLink "BakedBefore" (34 : Nat) "BakedBefore" "text" "[B") ∈ lw_all := lw_g (lw_at lw_m1 190 rfl) rfl
theorem q277 : (Jvm.Cond.fieldLink "BakedBefore" (223 : Nat) "BakedBefore" "texted" "I") ∈ lw_all := lw_g (lw_at lw_m1 191 rfl) rfl
theorem q278 : (Jvm.Cond.fieldLink "BakedBefore" (226 : Nat) "BakedBefore" "kilnMany" "I") ∈ lw_all := lw_g (lw_at lw_m1 192 rfl) rfl
theorem q279 : (Jvm.Cond.fieldLink "BakedBefore" (41 : Nat) "BakedBefore" "kiln" "LBakedBefore$Kiln;") ∈ lw_all := lw_g (lw_at lw_m1 193 rfl) rfl
theorem q280 : (Jvm.Cond.fieldLink "BakedBefore" (48 : Nat) "BakedBefore" "look" "LBakedBefore$Look;") ∈ lw_all := lw_g (lw_at lw_m1 194 rfl) rfl
theorem q281 : (Jvm.Cond.fieldLink "BakedBefore" (55 : Nat) "BakedBefore" "trace" "LBakedBefore$Trace;") ∈ lw_all := lw_g (lw_at lw_m1 195 rfl) rfl
theorem q282 : (Jvm.Cond.fieldLink "BakedBefore" (59 : Nat) "BakedBefore" "book" "[B") ∈ lw_all := lw_g (lw_at lw_m1 196 rfl) rfl
theorem q283 : (Jvm.Cond.fieldLink "BakedBefore" (62 : Nat) "BakedBefore" "bookSpoiled" "[Z") ∈ lw_all := lw_g (lw_at lw_m1 197 rfl) rfl
theorem q284 : (Jvm.Cond.fieldLink "BakedBefore" (322 : Nat) "BakedBefore" "bookMany" "I") ∈ lw_all := lw_g (lw_at lw_m1 198 rfl) rfl
theorem q285 : (Jvm.Cond.fieldLink "BakedBefore" (68 : Nat) "BakedBefore" "tapes" "[LBakedBefore$Tape;") ∈ lw_all := lw_g (lw_at lw_m1 199 rfl) rfl
theorem q286 : (Jvm.Cond.fieldLink "BakedBefore" (72 : Nat) "BakedBefore" "took" "[I") ∈ lw_all := lw_g (lw_at lw_m1 200 rfl) rfl
theorem q287 : (Jvm.Cond.fieldLink "BakedBefore" (75 : Nat) "BakedBefore" "left" "[I") ∈ lw_all := lw_g (lw_at lw_m1 201 rfl) rfl
theorem q288 : (Jvm.Cond.fieldLink "BakedBefore" (78 : Nat) "BakedBefore" "stages" "[LBakedBefore$Time;") ∈ lw_all := lw_g (lw_at lw_m1 202 rfl) rfl
theorem q289 : (Jvm.Cond.fieldLink "BakedBefore" (82 : Nat) "BakedBefore" "row" "[I") ∈ lw_all := lw_g (lw_at lw_m1 203 rfl) rfl
theorem q290 : (Jvm.Cond.fieldLink "BakedBefore" (85 : Nat) "BakedBefore" "bestRow" "[I") ∈ lw_all := lw_g (lw_at lw_m1 204 rfl) rfl
theorem q291 : (Jvm.Cond.fieldLink "BakedBefore" (255 : Nat) "BakedBefore" "fewest" "I") ∈ lw_all := lw_g (lw_at lw_m1 205 rfl) rfl
theorem q292 : (Jvm.Cond.fieldLink "BakedBefore" (88 : Nat) "BakedBefore" "imageNow" "LBakedBefore$Time;") ∈ lw_all := lw_g (lw_at lw_m1 206 rfl) rfl
theorem q293 : (Jvm.Cond.fieldLink "BakedBefore" (91 : Nat) "BakedBefore" "imageLoaves" "[LBakedBefore$Loaf;") ∈ lw_all := lw_g (lw_at lw_m1 207 rfl) rfl
theorem q294 : (Jvm.Cond.fieldLink "BakedBefore" (94 : Nat) "BakedBefore" "imageGives" "[I") ∈ lw_all := lw_g (lw_at lw_m1 208 rfl) rfl
theorem q295 : (Jvm.Cond.fieldLink "BakedBefore" (97 : Nat) "BakedBefore" "imageBears" "[I") ∈ lw_all := lw_g (lw_at lw_m1 209 rfl) rfl
theorem q296 : (Jvm.Cond.fieldLink "BakedBefore" (100 : Nat) "BakedBefore" "imageBook" "[B") ∈ lw_all := lw_g (lw_at lw_m1 210 rfl) rfl
theorem q297 : (Jvm.Cond.fieldLink "BakedBefore" (103 : Nat) "BakedBefore" "imageSpoiled" "[Z") ∈ lw_all := lw_g (lw_at lw_m1 211 rfl) rfl
theorem q298 : (Jvm.Cond.fieldLink "BakedBefore" (353 : Nat) "BakedBefore" "imageMany" "I") ∈ lw_all := lw_g (lw_at lw_m1 212 rfl) rfl
theorem q299 : (Jvm.Cond.fieldLink "BakedBefore" (356 : Nat) "BakedBefore" "imageBooked" "I") ∈ lw_all := lw_g (lw_at lw_m1 213 rfl) rfl
theorem q300 : (Jvm.Cond.fieldLink "BakedBefore" (359 : Nat) "BakedBefore" "imageKiln" "LBakedBefore$Kiln;") ∈ lw_all := lw_g (lw_at lw_m1 214 rfl) rfl
theorem q301 : (Jvm.Cond.laysFinal "BakedBefore" "BakedBefore" "loaves" "[LBakedBefore$Loaf;") ∈ lw_all := lw_g (lw_at lw_m1 215 rfl) rfl
theorem q302 : (Jvm.Cond.soleField "BakedBefore" "loaves") ∈ lw_all := lw_g (lw_at lw_m1 216 rfl) rfl
theorem q303 : (Jvm.Cond.laysFinal "BakedBefore" "BakedBefore" "gives" "[I") ∈ lw_all := lw_g (lw_at lw_m1 217 rfl) rfl
theorem q304 : (Jvm.Cond.soleField "BakedBefore" "gives") ∈ lw_all := lw_g (lw_at lw_m1 218 rfl) rfl
theorem q305 : (Jvm.Cond.laysFinal "BakedBefore" "BakedBefore" "bears" "[I") ∈ lw_all := lw_g (lw_at lw_m1 219 rfl) rfl
theorem q306 : (Jvm.Cond.soleField "BakedBefore" "bears") ∈ lw_all := lw_g (lw_at lw_m1 220 rfl) rfl
theorem q307 : (Jvm.Cond.lays "BakedBefore" "BakedBefore" "many" "I") ∈ lw_all := lw_g (lw_at lw_m1 221 rfl) rfl
theorem q308 : (Jvm.Cond.soleField "BakedBefore" "many") ∈ lw_all := lw_g (lw_at lw_m1 222 rfl) rfl
theorem q309 : (Jvm.Cond.laysFinal "BakedBefore" "BakedBefore" "now" "LBakedBefore$Time;") ∈ lw_all := lw_g (lw_at lw_m1 223 rfl) rfl
theorem q310 : (Jvm.Cond.soleField "BakedBefore" "now") ∈ lw_all := lw_g (lw_at lw_m1 224 rfl) rfl
theorem q311 : (Jvm.Cond.laysFinal "BakedBefore" "BakedBefore" "tried" "LBakedBefore$Time;") ∈ lw_all := lw_g (lw_at lw_m1 225 rfl) rfl
theorem q312 : (Jvm.Cond.soleField "BakedBefore" "tried") ∈ lw_all := lw_g (lw_at lw_m1 226 rfl) rfl
theorem q313 : (Jvm.Cond.laysFinal "BakedBefore" "BakedBefore" "text" "[B") ∈ lw_all := lw_g (lw_at lw_m1 227 rfl) rfl
theorem q314 : (Jvm.Cond.soleField "BakedBefore" "text") ∈ lw_all := lw_g (lw_at lw_m1 228 rfl) rfl
theorem q315 : (Jvm.Cond.lays "BakedBefore" "BakedBefore" "texted" "I") ∈ lw_all := lw_g (lw_at lw_m1 229 rfl) rfl
theorem q316 : (Jvm.Cond.soleField "BakedBefore" "texted") ∈ lw_all := lw_g (lw_at lw_m1 230 rfl) rfl
theorem q317 : (Jvm.Cond.lays "BakedBefore" "BakedBefore" "kilnMany" "I") ∈ lw_all := lw_g (lw_at lw_m1 231 rfl) rfl
theorem q318 : (Jvm.Cond.soleField "BakedBefore" "kilnMany") ∈ lw_all := lw_g (lw_at lw_m1 232 rfl) rfl
theorem q319 : (Jvm.Cond.lays "BakedBefore" "BakedBefore" "kiln" "LBakedBefore$Kiln;") ∈ lw_all := lw_g (lw_at lw_m1 233 rfl) rfl
theorem q320 : (Jvm.Cond.soleField "BakedBefore" "kiln") ∈ lw_all := lw_g (lw_at lw_m1 234 rfl) rfl
theorem q321 : (Jvm.Cond.laysFinal "BakedBefore" "BakedBefore" "look" "LBakedBefore$Look;") ∈ lw_all := lw_g (lw_at lw_m1 235 rfl) rfl
theorem q322 : (Jvm.Cond.soleField "BakedBefore" "look") ∈ lw_all := lw_g (lw_at lw_m1 236 rfl) rfl
theorem q323 : (Jvm.Cond.laysFinal "BakedBefore" "BakedBefore" "trace" "LBakedBefore$Trace;") ∈ lw_all := lw_g (lw_at lw_m1 237 rfl) rfl
theorem q324 : (Jvm.Cond.soleField "BakedBefore" "trace") ∈ lw_all := lw_g (lw_at lw_m1 238 rfl) rfl
theorem q325 : (Jvm.Cond.laysFinal "BakedBefore" "BakedBefore" "book" "[B") ∈ lw_all := lw_g (lw_at lw_m1 239 rfl) rfl
theorem q326 : (Jvm.Cond.soleField "BakedBefore" "book") ∈ lw_all := lw_g (lw_at lw_m2 0 rfl) rfl
theorem q327 : (Jvm.Cond.laysFinal "BakedBefore" "BakedBefore" "bookSpoiled" "[Z") ∈ lw_all := lw_g (lw_at lw_m2 1 rfl) rfl
theorem q328 : (Jvm.Cond.soleField "BakedBefore" "bookSpoiled") ∈ lw_all := lw_g (lw_at lw_m2 2 rfl) rfl
theorem q329 : (Jvm.Cond.lays "BakedBefore" "BakedBefore" "bookMany" "I") ∈ lw_all := lw_g (lw_at lw_m2 3 rfl) rfl
theorem q330 : (Jvm.Cond.soleField "BakedBefore" "bookMany") ∈ lw_all := lw_g (lw_at lw_m2 4 rfl) rfl
theorem q331 : (Jvm.Cond.laysFinal "BakedBefore" "BakedBefore" "tapes" "[LBakedBefore$Tape;") ∈ lw_all := lw_g (lw_at lw_m2 5 rfl) rfl
theorem q332 : (Jvm.Cond.soleField "BakedBefore" "tapes") ∈ lw_all := lw_g (lw_at lw_m2 6 rfl) rfl
theorem q333 : (Jvm.Cond.laysFinal "BakedBefore" "BakedBefore" "took" "[I") ∈ lw_all := lw_g (lw_at lw_m2 7 rfl) rfl
theorem q334 : (Jvm.Cond.soleField "BakedBefore" "took") ∈ lw_all := lw_g (lw_at lw_m2 8 rfl) rfl
theorem q335 : (Jvm.Cond.laysFinal "BakedBefore" "BakedBefore" "left" "[I") ∈ lw_all := lw_g (lw_at lw_m2 9 rfl) rfl
theorem q336 : (Jvm.Cond.soleField "BakedBefore" "left") ∈ lw_all := lw_g (lw_at lw_m2 10 rfl) rfl
theorem q337 : (Jvm.Cond.laysFinal "BakedBefore" "BakedBefore" "stages" "[LBakedBefore$Time;") ∈ lw_all := lw_g (lw_at lw_m2 11 rfl) rfl
theorem q338 : (Jvm.Cond.soleField "BakedBefore" "stages") ∈ lw_all := lw_g (lw_at lw_m2 12 rfl) rfl
theorem q339 : (Jvm.Cond.laysFinal "BakedBefore" "BakedBefore" "row" "[I") ∈ lw_all := lw_g (lw_at lw_m2 13 rfl) rfl
theorem q340 : (Jvm.Cond.soleField "BakedBefore" "row") ∈ lw_all := lw_g (lw_at lw_m2 14 rfl) rfl
theorem q341 : (Jvm.Cond.laysFinal "BakedBefore" "BakedBefore" "bestRow" "[I") ∈ lw_all := lw_g (lw_at lw_m2 15 rfl) rfl
theorem q342 : (Jvm.Cond.soleField "BakedBefore" "bestRow") ∈ lw_all := lw_g (lw_at lw_m2 16 rfl) rfl
theorem q343 : (Jvm.Cond.lays "BakedBefore" "BakedBefore" "fewest" "I") ∈ lw_all := lw_g (lw_at lw_m2 17 rfl) rfl
theorem q344 : (Jvm.Cond.soleField "BakedBefore" "fewest") ∈ lw_all := lw_g (lw_at lw_m2 18 rfl) rfl
theorem q345 : (Jvm.Cond.laysFinal "BakedBefore" "BakedBefore" "imageNow" "LBakedBefore$Time;") ∈ lw_all := lw_g (lw_at lw_m2 19 rfl) rfl
theorem q346 : (Jvm.Cond.soleField "BakedBefore" "imageNow") ∈ lw_all := lw_g (lw_at lw_m2 20 rfl) rfl
theorem q347 : (Jvm.Cond.laysFinal "BakedBefore" "BakedBefore" "imageLoaves" "[LBakedBefore$Loaf;") ∈ lw_all := lw_g (lw_at lw_m2 21 rfl) rfl
theorem q348 : (Jvm.Cond.soleField "BakedBefore" "imageLoaves") ∈ lw_all := lw_g (lw_at lw_m2 22 rfl) rfl
theorem q349 : (Jvm.Cond.laysFinal "BakedBefore" "BakedBefore" "imageGives" "[I") ∈ lw_all := lw_g (lw_at lw_m2 23 rfl) rfl
theorem q350 : (Jvm.Cond.soleField "BakedBefore" "imageGives") ∈ lw_all := lw_g (lw_at lw_m2 24 rfl) rfl
theorem q351 : (Jvm.Cond.laysFinal "BakedBefore" "BakedBefore" "imageBears" "[I") ∈ lw_all := lw_g (lw_at lw_m2 25 rfl) rfl
theorem q352 : (Jvm.Cond.soleField "BakedBefore" "imageBears") ∈ lw_all := lw_g (lw_at lw_m2 26 rfl) rfl
theorem q353 : (Jvm.Cond.laysFinal "BakedBefore" "BakedBefore" "imageBook" "[B") ∈ lw_all := lw_g (lw_at lw_m2 27 rfl) rfl
theorem q354 : (Jvm.Cond.soleField "BakedBefore" "imageBook") ∈ lw_all := lw_g (lw_at lw_m2 28 rfl) rfl
theorem q355 : (Jvm.Cond.laysFinal "BakedBefore" "BakedBefore" "imageSpoiled" "[Z") ∈ lw_all := lw_g (lw_at lw_m2 29 rfl) rfl
theorem q356 : (Jvm.Cond.soleField "BakedBefore" "imageSpoiled") ∈ lw_all := lw_g (lw_at lw_m2 30 rfl) rfl
theorem q357 : (Jvm.Cond.lays "BakedBefore" "BakedBefore" "imageMany" "I") ∈ lw_all := lw_g (lw_at lw_m2 31 rfl) rfl
theorem q358 : (Jvm.Cond.soleField "BakedBefore" "imageMany") ∈ lw_all := lw_g (lw_at lw_m2 32 rfl) rfl
theorem q359 : (Jvm.Cond.lays "BakedBefore" "BakedBefore" "imageBooked" "I") ∈ lw_all := lw_g (lw_at lw_m2 33 rfl) rfl
theorem q360 : (Jvm.Cond.soleField "BakedBefore" "imageBooked") ∈ lw_all := lw_g (lw_at lw_m2 34 rfl) rfl
theorem q361 : (Jvm.Cond.lays "BakedBefore" "BakedBefore" "imageKiln" "LBakedBefore$Kiln;") ∈ lw_all := lw_g (lw_at lw_m2 35 rfl) rfl
theorem q362 : (Jvm.Cond.soleField "BakedBefore" "imageKiln") ∈ lw_all := lw_g (lw_at lw_m2 36 rfl) rfl
theorem q363 : (Jvm.Cond.superclass "BakedBefore" "java/lang/Object") ∈ lw_all := lw_g (lw_at lw_m2 37 rfl) rfl
theorem q364 : (Jvm.Cond.methodLink "BakedBeforeLaw" (13 : Nat) ({ cls := "BakedBefore", name := "loaf", desc := "(II)I" } : Jvm.MethodName)) ∈ lw_all := lw_g (lw_at lw_m2 38 rfl) rfl
theorem q365 : (Jvm.Cond.instanceMethod ({ cls := "BakedBefore", name := "loaf", desc := "(II)I" } : Jvm.MethodName)) ∈ lw_all := lw_g (lw_at lw_m2 39 rfl) rfl
theorem q366 : (Jvm.Cond.selects "BakedBefore" ({ cls := "BakedBefore", name := "loaf", desc := "(II)I" } : Jvm.MethodName) ({ cls := "BakedBefore", name := "loaf", desc := "(II)I" } : Jvm.MethodName)) ∈ lw_all := lw_g (lw_at lw_m2 40 rfl) rfl
theorem q367 : (Jvm.Cond.code ({ cls := "BakedBefore", name := "loaf", desc := "(II)I" } : Jvm.MethodName) prog_1_method_6_code (4 : Nat) (Option.some Jvm.ClassFile.FieldType.int)) ∈ lw_all := lw_g (lw_at lw_m2 41 rfl) rfl
theorem q368 : (Jvm.Cond.methodLink "BakedBefore" (111 : Nat) ({ cls := "BakedBefore", name := "in", desc := "(III)Z" } : Jvm.MethodName)) ∈ lw_all := lw_g (lw_at lw_m2 42 rfl) rfl
theorem q369 : (Jvm.Cond.static ({ cls := "BakedBefore", name := "in", desc := "(III)Z" } : Jvm.MethodName)) ∈ lw_all := lw_g (lw_at lw_m2 43 rfl) rfl
theorem q370 : (Jvm.Cond.code ({ cls := "BakedBefore", name := "in", desc := "(III)Z" } : Jvm.MethodName) prog_1_method_1_code (3 : Nat) (Option.some Jvm.ClassFile.FieldType.boolean)) ∈ lw_all := lw_g (lw_at lw_m2 44 rfl) rfl
theorem q371 : (Jvm.Cond.methodLink "BakedBefore" (136 : Nat) ({ cls := "BakedBefore", name := "loafOf", desc := "(II)LBakedBefore$Loaf;" } : Jvm.MethodName)) ∈ lw_all := lw_g (lw_at lw_m2 45 rfl) rfl
theorem q372 : (Jvm.Cond.privateMethod ({ cls := "BakedBefore", name := "loafOf", desc := "(II)LBakedBefore$Loaf;" } : Jvm.MethodName)) ∈ lw_tbl := lw_at lw_m2 46 rfl
theorem q373 : (Jvm.Cond.instanceMethod ({ cls := "BakedBefore", name := "loafOf", desc := "(II)LBakedBefore$Loaf;" } : Jvm.MethodName)) ∈ lw_all := lw_g (lw_at lw_m2 47 rfl) rfl
theorem q374 : (Jvm.Cond.code ({ cls := "BakedBefore", name := "loafOf", desc := "(II)LBakedBefore$Loaf;" } : Jvm.MethodName) prog_1_method_5_code (3 : Nat) (Option.some (Jvm.ClassFile.FieldType.object "BakedBefore$Loaf"))) ∈ lw_all := lw_g (lw_at lw_m2 48 rfl) rfl
theorem q375 : (Jvm.Cond.classLink "BakedBefore" (115 : Nat) "BakedBefore$Clean") ∈ lw_all := lw_g (lw_at lw_m2 49 rfl) rfl
theorem q376 : (Jvm.Cond.instantiable "BakedBefore$Clean" (3 : Nat)) ∈ lw_all := lw_g (lw_at lw_m2 50 rfl) rfl
theorem q377 : (Jvm.Cond.methodLink "BakedBefore" (117 : Nat) ({ cls := "BakedBefore$Clean", name := "<init>", desc := "(LBakedBefore$Trace;II)V" } : Jvm.MethodName)) ∈ lw_all := lw_g (lw_at lw_m2 51 rfl) rfl
theorem q378 : (Jvm.Cond.instanceMethod ({ cls := "BakedBefore$Clean", name := "<init>", desc := "(LBakedBefore$Trace;II)V" } : Jvm.MethodName)) ∈ lw_all := lw_g (lw_at lw_m2 52 rfl) rfl
theorem q379 : (Jvm.Cond.code ({ cls := "BakedBefore$Clean", name := "<init>", desc := "(LBakedBefore$Trace;II)V" } : Jvm.MethodName) prog_4_method_1_code (4 : Nat) (Option.none : Option Jvm.ClassFile.FieldType)) ∈ lw_all := lw_g (lw_at lw_m2 53 rfl) rfl
theorem q380 : (Jvm.Cond.methodLink "BakedBefore$Clean" (3 : Nat) ({ cls := "BakedBefore$Loaf", name := "<init>", desc := "(LBakedBefore$Trace;II)V" } : Jvm.MethodName)) ∈ lw_all := lw_g (lw_at lw_m2 54 rfl) rfl
theorem q381 : (Jvm.Cond.instanceMethod ({ cls := "BakedBefore$Loaf", name := "<init>", desc := "(LBakedBefore$Trace;II)V" } : Jvm.MethodName)) ∈ lw_all := lw_g (lw_at lw_m2 55 rfl) rfl
theorem q382 : (Jvm.Cond.code ({ cls := "BakedBefore$Loaf", name := "<init>", desc := "(LBakedBefore$Trace;II)V" } : Jvm.MethodName) prog_8_method_1_code (4 : Nat) (Option.none : Option Jvm.ClassFile.FieldType)) ∈ lw_all := lw_g (lw_at lw_m2 56 rfl) rfl
theorem q383 : (Jvm.Cond.methodLink "BakedBefore$Loaf" (3 : Nat) ({ cls := "java/lang/Object", name := "<init>", desc := "()V" } : Jvm.MethodName)) ∈ lw_all := lw_g (lw_at lw_m2 57 rfl) rfl
theorem q384 : (Jvm.Cond.fieldLink "BakedBefore$Loaf" (9 : Nat) "BakedBefore$Loaf" "trace" "LBakedBefore$Trace;") ∈ lw_all := lw_g (lw_at lw_m2 58 rfl) rfl
theorem q385 : (Jvm.Cond.fieldLink "BakedBefore$Greedy" (13 : Nat) "BakedBefore$Greedy" "trace" "LBakedBefore$Trace;") ∈ lw_all := lw_g (lw_at lw_m2 59 rfl) rfl
theorem q386 : (Jvm.Cond.sameField "BakedBefore$Greedy" "BakedBefore$Loaf" "trace" "LBakedBefore$Trace;") ∈ lw_all := lw_g (lw_at lw_m2 60 rfl) rfl
theorem q387 : (Jvm.Cond.fieldLink "BakedBefore$Rye" (19 : Nat) "BakedBefore$Rye" "trace" "LBakedBefore$Trace;") ∈ lw_all := lw_g (lw_at lw_m2 61 rfl) rfl
theorem q388 : (Jvm.Cond.sameField "BakedBefore$Rye" "BakedBefore$Loaf" "trace" "LBakedBefore$Trace;") ∈ lw_all := lw_g (lw_at lw_m2 62 rfl) rfl
theorem q389 : (Jvm.Cond.fieldLink "BakedBefore$Holy" (19 : Nat) "BakedBefore$Holy" "trace" "LBakedBefore$Trace;") ∈ lw_all := lw_g (lw_at lw_m2 63 rfl) rfl
theorem q390 : (Jvm.Cond.sameField "BakedBefore$Holy" "BakedBefore$Loaf" "trace" "LBakedBefore$Trace;") ∈ lw_all := lw_g (lw_at lw_m2 64 rfl) rfl
theorem q391 : (Jvm.Cond.fieldLink "BakedBefore$Poisoned" (19 : Nat) "BakedBefore$Poisoned" "trace" "LBakedBefore$Trace;") ∈ lw_all := lw_g (lw_at lw_m2 65 rfl) rfl
theorem q392 : (Jvm.Cond.sameField "BakedBefore$Poisoned" "BakedBefore$Loaf" "trace" "LBakedBefore$Trace;") ∈ lw_all := lw_g (lw_at lw_m2 66 rfl) rfl
theorem q393 : (Jvm.Cond.fieldLink "BakedBefore$Clean" (9 : Nat) "BakedBefore$Clean" "trace" "LBakedBefore$Trace;") ∈ lw_all := lw_g (lw_at lw_m2 67 rfl) rfl
theorem q394 : (Jvm.Cond.sameField "BakedBefore$Clean" "BakedBefore$Loaf" "trace" "LBakedBefore$Trace;") ∈ lw_all := lw_g (lw_at lw_m2 68 rfl) rfl
theorem q395 : (Jvm.Cond.fieldLink "BakedBefore$Shy" (17 : Nat) "BakedBefore$Shy" "trace" "LBakedBefore$Trace;") ∈ lw_all := lw_g (lw_at lw_m2 69 rfl) rfl
theorem q396 : (Jvm.Cond.sameField "BakedBefore$Shy" "BakedBefore$Loaf" "trace" "LBakedBefore$Trace;") ∈ lw_all := lw_g (lw_at lw_m2 70 rfl) rfl
theorem q397 : (Jvm.Cond.fieldLink "BakedBefore$Loaf" (15 : Nat) "BakedBefore$Loaf" "number" "I") ∈ lw_all := lw_g (lw_at lw_m2 71 rfl) rfl
theorem q398 : (Jvm.Cond.fieldLink "BakedBefore$Poisoned" (29 : Nat) "BakedBefore$Poisoned" "number" "I") ∈ lw_all := lw_g (lw_at lw_m2 72 rfl) rfl
theorem q399 : (Jvm.Cond.sameField "BakedBefore$Poisoned" "BakedBefore$Loaf" "number" "I") ∈ lw_all := lw_g (lw_at lw_m2 73 rfl) rfl
theorem q400 : (Jvm.Cond.fieldLink "BakedBefore$Loaf" (19 : Nat) "BakedBefore$Loaf" "v" "I") ∈ lw_all := lw_g (lw_at lw_m2 74 rfl) rfl
theorem q401 : (Jvm.Cond.fieldLink "BakedBefore$Rye" (13 : Nat) "BakedBefore$Rye" "v" "I") ∈ lw_all := lw_g (lw_at lw_m2 75 rfl) rfl
theorem q402 : (Jvm.Cond.sameField "BakedBefore$Rye" "BakedBefore$Loaf" "v" "I") ∈ lw_all := lw_g (lw_at lw_m2 76 rfl) rfl
theorem q403 : (Jvm.Cond.fieldLink "BakedBefore$Poisoned" (13 : Nat) "BakedBefore$Poisoned" "v" "I") ∈ lw_all := lw_g (lw_at lw_m2 77 rfl) rfl
theorem q404 : (Jvm.Cond.sameField "BakedBefore$Poisoned" "BakedBefore$Loaf" "v" "I") ∈ lw_all := lw_g (lw_at lw_m2 78 rfl) rfl
theorem q405 : (Jvm.Cond.fieldLink "BakedBefore$Shy" (36 : Nat) "BakedBefore$Shy" "v" "I") ∈ lw_all := lw_g (lw_at lw_m2 79 rfl) rfl
theorem q406 : (Jvm.Cond.sameField "BakedBefore$Shy" "BakedBefore$Loaf" "v" "I") ∈ lw_all := lw_g (lw_at lw_m2 80 rfl) rfl
theorem q407 : (Jvm.Cond.fieldLink "BakedBefore" (159 : Nat) "BakedBefore$Loaf" "v" "I") ∈ lw_all := lw_g (lw_at lw_m2 81 rfl) rfl
theorem q408 : (Jvm.Cond.laysFinal "BakedBefore$Clean" "BakedBefore$Loaf" "trace" "LBakedBefore$Trace;") ∈ lw_all := lw_g (lw_at lw_m2 82 rfl) rfl
theorem q409 : (Jvm.Cond.soleField "BakedBefore$Loaf" "trace") ∈ lw_all := lw_g (lw_at lw_m2 83 rfl) rfl
theorem q410 : (Jvm.Cond.laysFinal "BakedBefore$Clean" "BakedBefore$Loaf" "number" "I") ∈ lw_all := lw_g (lw_at lw_m2 84 rfl) rfl
theorem q411 : (Jvm.Cond.soleField "BakedBefore$Loaf" "number") ∈ lw_all := lw_g (lw_at lw_m2 85 rfl) rfl
theorem q412 : (Jvm.Cond.laysFinal "BakedBefore$Clean" "BakedBefore$Loaf" "v" "I") ∈ lw_all := lw_g (lw_at lw_m2 86 rfl) rfl
theorem q413 : (Jvm.Cond.soleField "BakedBefore$Loaf" "v") ∈ lw_all := lw_g (lw_at lw_m2 87 rfl) rfl
theorem q414 : (Jvm.Cond.superclass "BakedBefore$Clean" "BakedBefore$Loaf") ∈ lw_all := lw_g (lw_at lw_m2 88 rfl) rfl
theorem q415 : (Jvm.Cond.classLink "BakedBefore" (120 : Nat) "BakedBefore$Greedy") ∈ lw_all := lw_g (lw_at lw_m2 89 rfl) rfl
theorem q416 : (Jvm.Cond.instantiable "BakedBefore$Greedy" (3 : Nat)) ∈ lw_all := lw_g (lw_at lw_m2 90 rfl) rfl
theorem q417 : (Jvm.Cond.methodLink "BakedBefore" (122 : Nat) ({ cls := "BakedBefore$Greedy", name := "<init>", desc := "(LBakedBefore$Trace;II)V" } : Jvm.MethodName)) ∈ lw_all := lw_g (lw_at lw_m2 91 rfl) rfl
theorem q418 : (Jvm.Cond.instanceMethod ({ cls := "BakedBefore$Greedy", name := "<init>", desc := "(LBakedBefore$Trace;II)V" } : Jvm.MethodName)) ∈ lw_all := lw_g (lw_at lw_m2 92 rfl) rfl
theorem q419 : (Jvm.Cond.code ({ cls := "BakedBefore$Greedy", name := "<init>", desc := "(LBakedBefore$Trace;II)V" } : Jvm.MethodName) prog_5_method_1_code (4 : Nat) (Option.none : Option Jvm.ClassFile.FieldType)) ∈ lw_all := lw_g (lw_at lw_m2 93 rfl) rfl
theorem q420 : (Jvm.Cond.methodLink "BakedBefore$Greedy" (3 : Nat) ({ cls := "BakedBefore$Loaf", name := "<init>", desc := "(LBakedBefore$Trace;II)V" } : Jvm.MethodName)) ∈ lw_all := lw_g (lw_at lw_m2 94 rfl) rfl
theorem q421 : (Jvm.Cond.laysFinal "BakedBefore$Greedy" "BakedBefore$Loaf" "trace" "LBakedBefore$Trace;") ∈ lw_all := lw_g (lw_at lw_m2 95 rfl) rfl
theorem q422 : (Jvm.Cond.laysFinal "BakedBefore$Greedy" "BakedBefore$Loaf" "number" "I") ∈ lw_all := lw_g (lw_at lw_m2 96 rfl) rfl
theorem q423 : (Jvm.Cond.laysFinal "BakedBefore$Greedy" "BakedBefore$Loaf" "v" "I") ∈ lw_all := lw_g (lw_at lw_m2 97 rfl) rfl
theorem q424 : (Jvm.Cond.superclass "BakedBefore$Greedy" "BakedBefore$Loaf") ∈ lw_all := lw_g (lw_at lw_m2 98 rfl) rfl
theorem q425 : (Jvm.Cond.classLink "BakedBefore" (123 : Nat) "BakedBefore$Holy") ∈ lw_all := lw_g (lw_at lw_m2 99 rfl) rfl
theorem q426 : (Jvm.Cond.instantiable "BakedBefore$Holy" (3 : Nat)) ∈ lw_all := lw_g (lw_at lw_m2 100 rfl) rfl
theorem q427 : (Jvm.Cond.methodLink "BakedBefore" (125 : Nat) ({ cls := "BakedBefore$Holy", name := "<init>", desc := "(LBakedBefore$Trace;II)V" } : Jvm.MethodName)) ∈ lw_all := lw_g (lw_at lw_m2 101 rfl) rfl
theorem q428 : (Jvm.Cond.instanceMethod ({ cls := "BakedBefore$Holy", name := "<init>", desc := "(LBakedBefore$Trace;II)V" } : Jvm.MethodName)) ∈ lw_all := lw_g (lw_at lw_m2 102 rfl) rfl
theorem q429 : (Jvm.Cond.code ({ cls := "BakedBefore$Holy", name := "<init>", desc := "(LBakedBefore$Trace;II)V" } : Jvm.MethodName) prog_6_method_1_code (4 : Nat) (Option.none : Option Jvm.ClassFile.FieldType)) ∈ lw_all := lw_g (lw_at lw_m2 103 rfl) rfl
theorem q430 : (Jvm.Cond.methodLink "BakedBefore$Holy" (3 : Nat) ({ cls := "BakedBefore$Loaf", name := "<init>", desc := "(LBakedBefore$Trace;II)V" } : Jvm.MethodName)) ∈ lw_all := lw_g (lw_at lw_m2 104 rfl) rfl
theorem q431 : (Jvm.Cond.laysFinal "BakedBefore$Holy" "BakedBefore$Loaf" "trace" "LBakedBefore$Trace;") ∈ lw_all := lw_g (lw_at lw_m2 105 rfl) rfl
theorem q432 : (Jvm.Cond.laysFinal "BakedBefore$Holy" "BakedBefore$Loaf" "number" "I") ∈ lw_all := lw_g (lw_at lw_m2 106 rfl) rfl
theorem q433 : (Jvm.Cond.laysFinal "BakedBefore$Holy" "BakedBefore$Loaf" "v" "I") ∈ lw_all := lw_g (lw_at lw_m2 107 rfl) rfl
theorem q434 : (Jvm.Cond.superclass "BakedBefore$Holy" "BakedBefore$Loaf") ∈ lw_all := lw_g (lw_at lw_m2 108 rfl) rfl
theorem q435 : (Jvm.Cond.classLink "BakedBefore" (126 : Nat) "BakedBefore$Rye") ∈ lw_all := lw_g (lw_at lw_m2 109 rfl) rfl
theorem q436 : (Jvm.Cond.instantiable "BakedBefore$Rye" (3 : Nat)) ∈ lw_all := lw_g (lw_at lw_m2 110 rfl) rfl
theorem q437 : (Jvm.Cond.methodLink "BakedBefore" (128 : Nat) ({ cls := "BakedBefore$Rye", name := "<init>", desc := "(LBakedBefore$Trace;II)V" } : Jvm.MethodName)) ∈ lw_all := lw_g (lw_at lw_m2 111 rfl) rfl
theorem q438 : (Jvm.Cond.instanceMethod ({ cls := "BakedBefore$Rye", name := "<init>", desc := "(LBakedBefore$Trace;II)V" } : Jvm.MethodName)) ∈ lw_all := lw_g (lw_at lw_m2 112 rfl) rfl
theorem q439 : (Jvm.Cond.code ({ cls := "BakedBefore$Rye", name := "<init>", desc := "(LBakedBefore$Trace;II)V" } : Jvm.MethodName) prog_14_method_1_code (4 : Nat) (Option.none : Option Jvm.ClassFile.FieldType)) ∈ lw_all := lw_g (lw_at lw_m2 113 rfl) rfl
theorem q440 : (Jvm.Cond.methodLink "BakedBefore$Rye" (3 : Nat) ({ cls := "BakedBefore$Clean", name := "<init>", desc := "(LBakedBefore$Trace;II)V" } : Jvm.MethodName)) ∈ lw_all := lw_g (lw_at lw_m2 114 rfl) rfl
theorem q441 : (Jvm.Cond.laysFinal "BakedBefore$Rye" "BakedBefore$Loaf" "trace" "LBakedBefore$Trace;") ∈ lw_all := lw_g (lw_at lw_m2 115 rfl) rfl
theorem q442 : (Jvm.Cond.laysFinal "BakedBefore$Rye" "BakedBefore$Loaf" "number" "I") ∈ lw_all := lw_g (lw_at lw_m2 116 rfl) rfl
theorem q443 : (Jvm.Cond.laysFinal "BakedBefore$Rye" "BakedBefore$Loaf" "v" "I") ∈ lw_all := lw_g (lw_at lw_m2 117 rfl) rfl
theorem q444 : (Jvm.Cond.superclass "BakedBefore$Rye" "BakedBefore$Clean") ∈ lw_all := lw_g (lw_at lw_m2 118 rfl) rfl
theorem q445 : (Jvm.Cond.classLink "BakedBefore" (129 : Nat) "BakedBefore$Poisoned") ∈ lw_all := lw_g (lw_at lw_m2 119 rfl) rfl
theorem q446 : (Jvm.Cond.instantiable "BakedBefore$Poisoned" (3 : Nat)) ∈ lw_all := lw_g (lw_at lw_m2 120 rfl) rfl
theorem q447 : (Jvm.Cond.methodLink "BakedBefore" (131 : Nat) ({ cls := "BakedBefore$Poisoned", name := "<init>", desc := "(LBakedBefore$Trace;II)V" } : Jvm.MethodName)) ∈ lw_all := lw_g (lw_at lw_m2 121 rfl) rfl
theorem q448 : (Jvm.Cond.instanceMethod ({ cls := "BakedBefore$Poisoned", name := "<init>", desc := "(LBakedBefore$Trace;II)V" } : Jvm.MethodName)) ∈ lw_all := lw_g (lw_at lw_m2 122 rfl) rfl
theorem q449 : (Jvm.Cond.code ({ cls := "BakedBefore$Poisoned", name := "<init>", desc := "(LBakedBefore$Trace;II)V" } : Jvm.MethodName) prog_12_method_1_code (4 : Nat) (Option.none : Option Jvm.ClassFile.FieldType)) ∈ lw_all := lw_g (lw_at lw_m2 123 rfl) rfl
theorem q450 : (Jvm.Cond.methodLink "BakedBefore$Poisoned" (3 : Nat) ({ cls := "BakedBefore$Greedy", name := "<init>", desc := "(LBakedBefore$Trace;II)V" } : Jvm.MethodName)) ∈ lw_all := lw_g (lw_at lw_m2 124 rfl) rfl
theorem q451 : (Jvm.Cond.laysFinal "BakedBefore$Poisoned" "BakedBefore$Loaf" "trace" "LBakedBefore$Trace;") ∈ lw_all := lw_g (lw_at lw_m2 125 rfl) rfl
theorem q452 : (Jvm.Cond.laysFinal "BakedBefore$Poisoned" "BakedBefore$Loaf" "number" "I") ∈ lw_all := lw_g (lw_at lw_m2 126 rfl) rfl
theorem q453 : (Jvm.Cond.laysFinal "BakedBefore$Poisoned" "BakedBefore$Loaf" "v" "I") ∈ lw_all := lw_g (lw_at lw_m2 127 rfl) rfl
theorem q454 : (Jvm.Cond.superclass "BakedBefore$Poisoned" "BakedBefore$Greedy") ∈ lw_all := lw_g (lw_at lw_m2 128 rfl) rfl
theorem q455 : (Jvm.Cond.classLink "BakedBefore" (132 : Nat) "BakedBefore$Shy") ∈ lw_all := lw_g (lw_at lw_m2 129 rfl) rfl
theorem q456 : (Jvm.Cond.instantiable "BakedBefore$Shy" (3 : Nat)) ∈ lw_all := lw_g (lw_at lw_m2 130 rfl) rfl
theorem q457 : (Jvm.Cond.methodLink "BakedBefore" (134 : Nat) ({ cls := "BakedBefore$Shy", name := "<init>", desc := "(LBakedBefore$Trace;II)V" } : Jvm.MethodName)) ∈ lw_all := lw_g (lw_at lw_m2 131 rfl) rfl
theorem q458 : (Jvm.Cond.instanceMethod ({ cls := "BakedBefore$Shy", name := "<init>", desc := "(LBakedBefore$Trace;II)V" } : Jvm.MethodName)) ∈ lw_all := lw_g (lw_at lw_m2 132 rfl) rfl
theorem q459 : (Jvm.Cond.code ({ cls := "BakedBefore$Shy", name := "<init>", desc := "(LBakedBefore$Trace;II)V" } : Jvm.MethodName) prog_15_method_1_code (4 : Nat) (Option.none : Option Jvm.ClassFile.FieldType)) ∈ lw_all := lw_g (lw_at lw_m2 133 rfl) rfl
theorem q460 : (Jvm.Cond.methodLink "BakedBefore$Shy" (3 : Nat) ({ cls := "BakedBefore$Holy", name := "<init>", desc := "(LBakedBefore$Trace;II)V" } : Jvm.MethodName)) ∈ lw_all := lw_g (lw_at lw_m2 134 rfl) rfl
theorem q461 : (Jvm.Cond.laysFinal "BakedBefore$Shy" "BakedBefore$Loaf" "trace" "LBakedBefore$Trace;") ∈ lw_all := lw_g (lw_at lw_m2 135 rfl) rfl
theorem q462 : (Jvm.Cond.laysFinal "BakedBefore$Shy" "BakedBefore$Loaf" "number" "I") ∈ lw_all := lw_g (lw_at lw_m2 136 rfl) rfl
theorem q463 : (Jvm.Cond.laysFinal "BakedBefore$Shy" "BakedBefore$Loaf" "v" "I") ∈ lw_all := lw_g (lw_at lw_m2 137 rfl) rfl
theorem q464 : (Jvm.Cond.superclass "BakedBefore$Shy" "BakedBefore$Holy") ∈ lw_all := lw_g (lw_at lw_m2 138 rfl) rfl
theorem q465 : (Jvm.Cond.instantiable "BakedBefore$Loaf" (3 : Nat)) ∈ lw_all := lw_g (lw_at lw_m2 139 rfl) rfl
theorem q466 : (Jvm.Cond.methodLink "BakedBefore" (135 : Nat) ({ cls := "BakedBefore$Loaf", name := "<init>", desc := "(LBakedBefore$Trace;II)V" } : Jvm.MethodName)) ∈ lw_all := lw_g (lw_at lw_m2 140 rfl) rfl
theorem q467 : (Jvm.Cond.laysFinal "BakedBefore$Loaf" "BakedBefore$Loaf" "trace" "LBakedBefore$Trace;") ∈ lw_all := lw_g (lw_at lw_m2 141 rfl) rfl
theorem q468 : (Jvm.Cond.laysFinal "BakedBefore$Loaf" "BakedBefore$Loaf" "number" "I") ∈ lw_all := lw_g (lw_at lw_m2 142 rfl) rfl
theorem q469 : (Jvm.Cond.laysFinal "BakedBefore$Loaf" "BakedBefore$Loaf" "v" "I") ∈ lw_all := lw_g (lw_at lw_m2 143 rfl) rfl
theorem q470 : (Jvm.Cond.superclass "BakedBefore$Loaf" "java/lang/Object") ∈ lw_all := lw_g (lw_at lw_m2 144 rfl) rfl
theorem q471 : (Jvm.Cond.methodLink "BakedBeforeLaw" (18 : Nat) ({ cls := "BakedBefore", name := "set", desc := "(IIII)I" } : Jvm.MethodName)) ∈ lw_all := lw_g (lw_at lw_m2 145 rfl) rfl
theorem q472 : (Jvm.Cond.instanceMethod ({ cls := "BakedBefore", name := "set", desc := "(IIII)I" } : Jvm.MethodName)) ∈ lw_all := lw_g (lw_at lw_m2 146 rfl) rfl
theorem q473 : (Jvm.Cond.selects "BakedBefore" ({ cls := "BakedBefore", name := "set", desc := "(IIII)I" } : Jvm.MethodName) ({ cls := "BakedBefore", name := "set", desc := "(IIII)I" } : Jvm.MethodName)) ∈ lw_all := lw_g (lw_at lw_m2 147 rfl) rfl
theorem q474 : (Jvm.Cond.code ({ cls := "BakedBefore", name := "set", desc := "(IIII)I" } : Jvm.MethodName) prog_1_method_7_code (7 : Nat) (Option.some Jvm.ClassFile.FieldType.int)) ∈ lw_all := lw_g (lw_at lw_m2 148 rfl) rfl
theorem q475 : (Jvm.Cond.methodLink "BakedBefore" (140 : Nat) ({ cls := "BakedBefore", name := "isLoaf", desc := "(I)Z" } : Jvm.MethodName)) ∈ lw_all := lw_g (lw_at lw_m2 149 rfl) rfl
theorem q476 : (Jvm.Cond.privateMethod ({ cls := "BakedBefore", name := "isLoaf", desc := "(I)Z" } : Jvm.MethodName)) ∈ lw_tbl := lw_at lw_m2 150 rfl
theorem q477 : (Jvm.Cond.instanceMethod ({ cls := "BakedBefore", name := "isLoaf", desc := "(I)Z" } : Jvm.MethodName)) ∈ lw_all := lw_g (lw_at lw_m2 151 rfl) rfl
theorem q478 : (Jvm.Cond.code ({ cls := "BakedBefore", name := "isLoaf", desc := "(I)Z" } : Jvm.MethodName) prog_1_method_3_code (2 : Nat) (Option.some Jvm.ClassFile.FieldType.boolean)) ∈ lw_all := lw_g (lw_at lw_m2 152 rfl) rfl
theorem q479 : (Jvm.Cond.methodLink "BakedBefore" (144 : Nat) ({ cls := "BakedBefore", name := "isTaste", desc := "(I)Z" } : Jvm.MethodName)) ∈ lw_all := lw_g (lw_at lw_m2 153 rfl) rfl
theorem q480 : (Jvm.Cond.static ({ cls := "BakedBefore", name := "isTaste", desc := "(I)Z" } : Jvm.MethodName)) ∈ lw_all := lw_g (lw_at lw_m2 154 rfl) rfl
theorem q481 : (Jvm.Cond.code ({ cls := "BakedBefore", name := "isTaste", desc := "(I)Z" } : Jvm.MethodName) prog_1_method_4_code (1 : Nat) (Option.some Jvm.ClassFile.FieldType.boolean)) ∈ lw_all := lw_g (lw_at lw_m2 155 rfl) rfl
theorem q482 : (Jvm.Cond.methodLink "BakedBeforeLaw" (23 : Nat) ({ cls := "BakedBefore", name := "of", desc := "(II)I" } : Jvm.MethodName)) ∈ lw_all := lw_g (lw_at lw_m2 156 rfl) rfl
theorem q483 : (Jvm.Cond.instanceMethod ({ cls := "BakedBefore", name := "of", desc := "(II)I" } : Jvm.MethodName)) ∈ lw_all := lw_g (lw_at lw_m2 157 rfl) rfl
theorem q484 : (Jvm.Cond.selects "BakedBefore" ({ cls := "BakedBefore", name := "of", desc := "(II)I" } : Jvm.MethodName) ({ cls := "BakedBefore", name := "of", desc := "(II)I" } : Jvm.MethodName)) ∈ lw_all := lw_g (lw_at lw_m2 158 rfl) rfl
theorem q485 : (Jvm.Cond.code ({ cls := "BakedBefore", name := "of", desc := "(II)I" } : Jvm.MethodName) prog_1_method_15_code (4 : Nat) (Option.some Jvm.ClassFile.FieldType.int)) ∈ lw_all := lw_g (lw_at lw_m2 159 rfl) rfl
theorem q486 : (Jvm.Cond.methodLink "BakedBefore" (150 : Nat) ({ cls := "BakedBefore$Loaf", name := "kind", desc := "()I" } : Jvm.MethodName)) ∈ lw_all := lw_g (lw_at lw_m2 160 rfl) rfl
theorem q487 : (Jvm.Cond.instanceMethod ({ cls := "BakedBefore$Loaf", name := "kind", desc := "()I" } : Jvm.MethodName)) ∈ lw_all := lw_g (lw_at lw_m2 161 rfl) rfl
theorem q488 : (Jvm.Cond.selects "BakedBefore$Loaf" ({ cls := "BakedBefore$Loaf", name := "kind", desc := "()I" } : Jvm.MethodName) ({ cls := "BakedBefore$Loaf", name := "kind", desc := "()I" } : Jvm.MethodName)) ∈ lw_all := lw_g (lw_at lw_m2 162 rfl) rfl
theorem q489 : (Jvm.Cond.sameMethod "BakedBefore$Loaf" "BakedBefore$Loaf" "kind" "()I") ∈ lw_all := lw_g (lw_at lw_m2 163 rfl) rfl
theorem q490 : (Jvm.Cond.selects "BakedBefore$Clean" ({ cls := "BakedBefore$Loaf", name := "kind", desc := "()I" } : Jvm.MethodName) ({ cls := "BakedBefore$Clean", name := "kind", desc := "()I" } : Jvm.MethodName)) ∈ lw_all := lw_g (lw_at lw_m2 164 rfl) rfl
theorem q491 : (Jvm.Cond.instanceMethod ({ cls := "BakedBefore$Clean", name := "kind", desc := "()I" } : Jvm.MethodName)) ∈ lw_all := lw_g (lw_at lw_m2 165 rfl) rfl
theorem q492 : (Jvm.Cond.code ({ cls := "BakedBefore$Clean", name := "kind", desc := "()I" } : Jvm.MethodName) prog_4_method_2_code (1 : Nat) (Option.some Jvm.ClassFile.FieldType.int)) ∈ lw_all := lw_g (lw_at lw_m2 166 rfl) rfl
theorem q493 : (Jvm.Cond.selects "BakedBefore$Greedy" ({ cls := "BakedBefore$Loaf", name := "kind", desc := "()I" } : Jvm.MethodName) ({ cls := "BakedBefore$Greedy", name := "kind", desc := "()I" } : Jvm.MethodName)) ∈ lw_all := lw_g (lw_at lw_m2 167 rfl) rfl
theorem q494 : (Jvm.Cond.instanceMethod ({ cls := "BakedBefore$Greedy", name := "kind", desc := "()I" } : Jvm.MethodName)) ∈ lw_all := lw_g (lw_at lw_m2 168 rfl) rfl
theorem q495 : (Jvm.Cond.code ({ cls := "BakedBefore$Greedy", name := "kind", desc := "()I" } : Jvm.MethodName) prog_5_method_2_code (1 : Nat) (Option.some Jvm.ClassFile.FieldType.int)) ∈ lw_all := lw_g (lw_at lw_m2 169 rfl) rfl
theorem q496 : (Jvm.Cond.selects "BakedBefore$Holy" ({ cls := "BakedBefore$Loaf", name := "kind", desc := "()I" } : Jvm.MethodName) ({ cls := "BakedBefore$Holy", name := "kind", desc := "()I" } : Jvm.MethodName)) ∈ lw_all := lw_g (lw_at lw_m2 170 rfl) rfl
theorem q497 : (Jvm.Cond.instanceMethod ({ cls := "BakedBefore$Holy", name := "kind", desc := "()I" } : Jvm.MethodName)) ∈ lw_all := lw_g (lw_at lw_m2 171 rfl) rfl
theorem q498 : (Jvm.Cond.code ({ cls := "BakedBefore$Holy", name := "kind", desc := "()I" } : Jvm.MethodName) prog_6_method_2_code (1 : Nat) (Option.some Jvm.ClassFile.FieldType.int)) ∈ lw_all := lw_g (lw_at lw_m2 172 rfl) rfl
theorem q499 : (Jvm.Cond.selects "BakedBefore$Poisoned" ({ cls := "BakedBefore$Loaf", name := "kind", desc := "()I" } : Jvm.MethodName) ({ cls := "BakedBefore$Poisoned", name := "kind", desc := "()I" } : Jvm.MethodName)) ∈ lw_all := lw_g (lw_at lw_m2 173 rfl) rfl
theorem q500 : (Jvm.Cond.instanceMethod ({ cls := "BakedBefore$Poisoned", name := "kind", desc := "()I" } : Jvm.MethodName)) ∈ lw_all := lw_g (lw_at lw_m2 174 rfl) rfl
theorem q501 : (Jvm.Cond.code ({ cls := "BakedBefore$Poisoned", name := "kind", desc := "()I" } : Jvm.MethodName) prog_12_method_2_code (1 : Nat) (Option.some Jvm.ClassFile.FieldType.int)) ∈ lw_all := lw_g (lw_at lw_m2 175 rfl) rfl
theorem q502 : (Jvm.Cond.selects "BakedBefore$Rye" ({ cls := "BakedBefore$Loaf", name := "kind", desc := "()I" } : Jvm.MethodName) ({ cls := "BakedBefore$Rye", name := "kind", desc := "()I" } : Jvm.MethodName)) ∈ lw_all := lw_g (lw_at lw_m2 176 rfl) rfl
theorem q503 : (Jvm.Cond.instanceMethod ({ cls := "BakedBefore$Rye", name := "kind", desc := "()I" } : Jvm.MethodName)) ∈ lw_all := lw_g (lw_at lw_m2 177 rfl) rfl
theorem q504 : (Jvm.Cond.code ({ cls := "BakedBefore$Rye", name := "kind", desc := "()I" } : Jvm.MethodName) prog_14_method_2_code (1 : Nat) (Option.some Jvm.ClassFile.FieldType.int)) ∈ lw_all := lw_g (lw_at lw_m2 178 rfl) rfl
theorem q505 : (Jvm.Cond.selects "BakedBefore$Shy" ({ cls := "BakedBefore$Loaf", name := "kind", desc := "()I" } : Jvm.MethodName) ({ cls := "BakedBefore$Shy", name := "kind", desc := "()I" } : Jvm.MethodName)) ∈ lw_all := lw_g (lw_at lw_m2 179 rfl) rfl
theorem q506 : (Jvm.Cond.instanceMethod ({ cls := "BakedBefore$Shy", name := "kind", desc := "()I" } : Jvm.MethodName)) ∈ lw_all := lw_g (lw_at lw_m2 180 rfl) rfl
theorem q507 : (Jvm.Cond.code ({ cls := "BakedBefore$Shy", name := "kind", desc := "()I" } : Jvm.MethodName) prog_15_method_2_code (1 : Nat) (Option.some Jvm.ClassFile.FieldType.int)) ∈ lw_all := lw_g (lw_at lw_m2 181 rfl) rfl
theorem q508 : (Jvm.Cond.code ({ cls := "BakedBefore$Loaf", name := "kind", desc := "()I" } : Jvm.MethodName) prog_8_method_2_code (1 : Nat) (Option.some Jvm.ClassFile.FieldType.int)) ∈ lw_all := lw_g (lw_at lw_m2 182 rfl) rfl
theorem q509 : (Jvm.Cond.methodLink "BakedBefore" (211 : Nat) ({ cls := "BakedBefore", name := "feeOf", desc := "(I)I" } : Jvm.MethodName)) ∈ lw_all := lw_g (lw_at lw_m2 183 rfl) rfl
theorem q510 : (Jvm.Cond.privateMethod ({ cls := "BakedBefore", name := "feeOf", desc := "(I)I" } : Jvm.MethodName)) ∈ lw_tbl := lw_at lw_m2 184 rfl
theorem q511 : (Jvm.Cond.instanceMethod ({ cls := "BakedBefore", name := "feeOf", desc := "(I)I" } : Jvm.MethodName)) ∈ lw_all := lw_g (lw_at lw_m2 185 rfl) rfl
theorem q512 : (Jvm.Cond.code ({ cls := "BakedBefore", name := "feeOf", desc := "(I)I" } : Jvm.MethodName) prog_1_method_12_code (2 : Nat) (Option.some Jvm.ClassFile.FieldType.int)) ∈ lw_all := lw_g (lw_at lw_m2 186 rfl) rfl
theorem q513 : (Jvm.Cond.methodLink "BakedBefore" (170 : Nat) ({ cls := "BakedBefore", name := "looksAt", desc := "(LBakedBefore$Time;III)V" } : Jvm.MethodName)) ∈ lw_all := lw_g (lw_at lw_m2 187 rfl) rfl
theorem q514 : (Jvm.Cond.privateMethod ({ cls := "BakedBefore", name := "looksAt", desc := "(LBakedBefore$Time;III)V" } : Jvm.MethodName)) ∈ lw_tbl := lw_at lw_m2 188 rfl
theorem q515 : (Jvm.Cond.instanceMethod ({ cls := "BakedBefore", name := "looksAt", desc := "(LBakedBefore$Time;III)V" } : Jvm.MethodName)) ∈ lw_all := lw_g (lw_at lw_m2 189 rfl) rfl
theorem q516 : (Jvm.Cond.code ({ cls := "BakedBefore", name := "looksAt", desc := "(LBakedBefore$Time;III)V" } : Jvm.MethodName) prog_1_method_8_code (5 : Nat) (Option.none : Option Jvm.ClassFile.FieldType)) ∈ lw_all := lw_g (lw_at lw_m2 190 rfl) rfl
theorem q517 : (Jvm.Cond.methodLink "BakedBefore" (204 : Nat) ({ cls := "BakedBefore$Kiln", name := "fee", desc := "(LBakedBefore$Look;)I" } : Jvm.MethodName)) ∈ lw_all := lw_g (lw_at lw_m2 191 rfl) rfl
theorem q518 : (Jvm.Cond.instanceMethod ({ cls := "BakedBefore$Kiln", name := "fee", desc := "(LBakedBefore$Look;)I" } : Jvm.MethodName)) ∈ lw_all := lw_g (lw_at lw_m2 192 rfl) rfl
theorem q519 : (Jvm.Cond.selects "BakedBefore$Kiln" ({ cls := "BakedBefore$Kiln", name := "fee", desc := "(LBakedBefore$Look;)I" } : Jvm.MethodName) ({ cls := "BakedBefore$Kiln", name := "fee", desc := "(LBakedBefore$Look;)I" } : Jvm.MethodName)) ∈ lw_all := lw_g (lw_at lw_m2 193 rfl) rfl
theorem q520 : (Jvm.Cond.code ({ cls := "BakedBefore$Kiln", name := "fee", desc := "(LBakedBefore$Look;)I" } : Jvm.MethodName) prog_7_method_5_code (2 : Nat) (Option.some Jvm.ClassFile.FieldType.int)) ∈ lw_all := lw_g (lw_at lw_m2 194 rfl) rfl
theorem q521 : (Jvm.Cond.methodLink "BakedBefore$Kiln" (55 : Nat) ({ cls := "BakedBefore$Kiln", name := "sum", desc := "(Ljava/util/ArrayList;LBakedBefore$Look;)I" } : Jvm.MethodName)) ∈ lw_all := lw_g (lw_at lw_m2 195 rfl) rfl
theorem q522 : (Jvm.Cond.static ({ cls := "BakedBefore$Kiln", name := "sum", desc := "(Ljava/util/ArrayList;LBakedBefore$Look;)I" } : Jvm.MethodName)) ∈ lw_all := lw_g (lw_at lw_m2 196 rfl) rfl
theorem q523 : (Jvm.Cond.code ({ cls := "BakedBefore$Kiln", name := "sum", desc := "(Ljava/util/ArrayList;LBakedBefore$Look;)I" } : Jvm.MethodName) prog_7_method_2_code (4 : Nat) (Option.some Jvm.ClassFile.FieldType.int)) ∈ lw_all := lw_g (lw_at lw_m2 197 rfl) rfl
theorem q524 : (Jvm.Cond.methodLink "BakedBefore$Kiln" (28 : Nat) ({ cls := "java/util/ArrayList", name := "size", desc := "()I" } : Jvm.MethodName)) ∈ lw_all := lw_g (lw_at lw_m2 198 rfl) rfl
theorem q525 : (Jvm.Cond.instanceMethod ({ cls := "java/util/ArrayList", name := "size", desc := "()I" } : Jvm.MethodName)) ∈ lw_all := lw_g (lw_at lw_m2 199 rfl) rfl
theorem q526 : (Jvm.Cond.selects "java/util/ArrayList" ({ cls := "java/util/ArrayList", name := "size", desc := "()I" } : Jvm.MethodName) ({ cls := "java/util/ArrayList", name := "size", desc := "()I" } : Jvm.MethodName)) ∈ lw_all := lw_g (lw_at lw_m2 200 rfl) rfl
theorem q527 : (Jvm.Cond.code ({ cls := "java/util/ArrayList", name := "size", desc := "()I" } : Jvm.MethodName) prog_48_method_8_code (1 : Nat) (Option.some Jvm.ClassFile.FieldType.int)) ∈ lw_all := lw_g (lw_at lw_m2 201 rfl) rfl
theorem q528 : (Jvm.Cond.methodLink "BakedBefore$Kiln" (32 : Nat) ({ cls := "java/util/ArrayList", name := "get", desc := "(I)Ljava/lang/Object;" } : Jvm.MethodName)) ∈ lw_all := lw_g (lw_at lw_m2 202 rfl) rfl
theorem q529 : (Jvm.Cond.instanceMethod ({ cls := "java/util/ArrayList", name := "get", desc := "(I)Ljava/lang/Object;" } : Jvm.MethodName)) ∈ lw_all := lw_g (lw_at lw_m2 203 rfl) rfl
theorem q530 : (Jvm.Cond.selects "java/util/ArrayList" ({ cls := "java/util/ArrayList", name := "get", desc := "(I)Ljava/lang/Object;" } : Jvm.MethodName) ({ cls := "java/util/ArrayList", name := "get", desc := "(I)Ljava/lang/Object;" } : Jvm.MethodName)) ∈ lw_all := lw_g (lw_at lw_m2 204 rfl) rfl
theorem q531 : (Jvm.Cond.code ({ cls := "java/util/ArrayList", name := "get", desc := "(I)Ljava/lang/Object;" } : Jvm.MethodName) prog_48_method_20_code (2 : Nat) (Option.some (Jvm.ClassFile.FieldType.object "java/lang/Object"))) ∈ lw_all := lw_g (lw_at lw_m2 205 rfl) rfl
theorem q532 : (Jvm.Cond.methodLink "java/util/ArrayList" (118 : Nat) ({ cls := "java/util/Objects", name := "checkIndex", desc := "(II)I" } : Jvm.MethodName)) ∈ lw_all := lw_g (lw_at lw_m2 206 rfl) rfl
theorem q533 : (Jvm.Cond.static ({ cls := "java/util/Objects", name := "checkIndex", desc := "(II)I" } : Jvm.MethodName)) ∈ lw_all := lw_g (lw_at lw_m2 207 rfl) rfl
theorem q534 : (Jvm.Cond.code ({ cls := "java/util/Objects", name := "checkIndex", desc := "(II)I" } : Jvm.MethodName) prog_52_method_17_code (2 : Nat) (Option.some Jvm.ClassFile.FieldType.int)) ∈ lw_all := lw_g (lw_at lw_m2 208 rfl) rfl
theorem q535 : (Jvm.Cond.methodLink "java/util/Objects" (105 : Nat) ({ cls := "jdk/internal/util/Preconditions", name := "checkIndex", desc := "(IILjava/util/function/BiFunction;)I" } : Jvm.MethodName)) ∈ lw_all := lw_g (lw_at lw_m2 209 rfl) rfl
theorem q536 : (Jvm.Cond.static ({ cls := "jdk/internal/util/Preconditions", name := "checkIndex", desc := "(IILjava/util/function/BiFunction;)I" } : Jvm.MethodName)) ∈ lw_all := lw_g (lw_at lw_m2 210 rfl) rfl
theorem q537 : (Jvm.Cond.code ({ cls := "jdk/internal/util/Preconditions", name := "checkIndex", desc := "(IILjava/util/function/BiFunction;)I" } : Jvm.MethodName) prog_56_method_11_code (3 : Nat) (Option.some Jvm.ClassFile.FieldType.int)) ∈ lw_all := lw_g (lw_at lw_m2 211 rfl) rfl
theorem q538 : (Jvm.Cond.methodLink "java/util/ArrayList" (123 : Nat) ({ cls := "java/util/ArrayList", name := "elementData", desc := "(I)Ljava/lang/Object;" } : Jvm.MethodName)) ∈ lw_all := lw_g (lw_at lw_m2 212 rfl) rfl
theorem q539 : (Jvm.Cond.instanceMethod ({ cls := "java/util/ArrayList", name := "elementData", desc := "(I)Ljava/lang/Object;" } : Jvm.MethodName)) ∈ lw_all := lw_g (lw_at lw_m2 213 rfl) rfl
theorem q540 : (Jvm.Cond.selects "java/util/ArrayList" ({ cls := "java/util/ArrayList", name := "elementData", desc := "(I)Ljava/lang/Object;" } : Jvm.MethodName) ({ cls := "java/util/ArrayList", name := "elementData", desc := "(I)Ljava/lang/Object;" } : Jvm.MethodName)) ∈ lw_all := lw_g (lw_at lw_m2 214 rfl) rfl
theorem q541 : (Jvm.Cond.code ({ cls := "java/util/ArrayList", name := "elementData", desc := "(I)Ljava/lang/Object;" } : Jvm.MethodName) prog_48_method_18_code (2 : Nat) (Option.some (Jvm.ClassFile.FieldType.object "java/lang/Object"))) ∈ lw_all := lw_g (lw_at lw_m2 215 rfl) rfl
theorem q542 : (Jvm.Cond.classLink "BakedBefore$Kiln" (36 : Nat) "BakedBefore$Clause") ∈ lw_all := lw_g (lw_at lw_m2 216 rfl) rfl
theorem q543 : (Jvm.Cond.methodLink "BakedBefore$Kiln" (42 : Nat) ({ cls := "BakedBefore$Test", name := "holds", desc := "(LBakedBefore$Look;)Z" } : Jvm.MethodName)) ∈ lw_all := lw_g (lw_at lw_m2 217 rfl) rfl
theorem q544 : (Jvm.Cond.declares ({ cls := "BakedBefore$Test", name := "holds", desc := "(LBakedBefore$Look;)Z" } : Jvm.MethodName)) ∈ lw_tbl := lw_at lw_m2 218 rfl
theorem q545 : (Jvm.Cond.sameMethod "BakedBefore$Test" "BakedBefore$Test" "holds" "(LBakedBefore$Look;)Z") ∈ lw_all := lw_g (lw_at lw_m2 219 rfl) rfl
theorem q546 : (Jvm.Cond.selects "BakedBefore$Against" ({ cls := "BakedBefore$Test", name := "holds", desc := "(LBakedBefore$Look;)Z" } : Jvm.MethodName) ({ cls := "BakedBefore$Against", name := "holds", desc := "(LBakedBefore$Look;)Z" } : Jvm.MethodName)) ∈ lw_all := lw_g (lw_at lw_m2 220 rfl) rfl
theorem q547 : (Jvm.Cond.instanceMethod ({ cls := "BakedBefore$Against", name := "holds", desc := "(LBakedBefore$Look;)Z" } : Jvm.MethodName)) ∈ lw_all := lw_g (lw_at lw_m2 221 rfl) rfl
theorem q548 : (Jvm.Cond.code ({ cls := "BakedBefore$Against", name := "holds", desc := "(LBakedBefore$Look;)Z" } : Jvm.MethodName) prog_2_method_2_code (2 : Nat) (Option.some Jvm.ClassFile.FieldType.boolean)) ∈ lw_all := lw_g (lw_at lw_m2 222 rfl) rfl
theorem q549 : (Jvm.Cond.methodLink "BakedBefore$Against" (19 : Nat) ({ cls := "BakedBefore$Look", name := "of", desc := "(I)I" } : Jvm.MethodName)) ∈ lw_all := lw_g (lw_at lw_m2 223 rfl) rfl
theorem q550 : (Jvm.Cond.instanceMethod ({ cls := "BakedBefore$Look", name := "of", desc := "(I)I" } : Jvm.MethodName)) ∈ lw_all := lw_g (lw_at lw_m2 224 rfl) rfl
theorem q551 : (Jvm.Cond.selects "BakedBefore$Look" ({ cls := "BakedBefore$Look", name := "of", desc := "(I)I" } : Jvm.MethodName) ({ cls := "BakedBefore$Look", name := "of", desc := "(I)I" } : Jvm.MethodName)) ∈ lw_all := lw_g (lw_at lw_m2 225 rfl) rfl
theorem q552 : (Jvm.Cond.code ({ cls := "BakedBefore$Look", name := "of", desc := "(I)I" } : Jvm.MethodName) prog_9_method_2_code (2 : Nat) (Option.some Jvm.ClassFile.FieldType.int)) ∈ lw_all := lw_g (lw_at lw_m2 226 rfl) rfl
theorem q553 : (Jvm.Cond.selects "BakedBefore$Not" ({ cls := "BakedBefore$Test", name := "holds", desc := "(LBakedBefore$Look;)Z" } : Jvm.MethodName) ({ cls := "BakedBefore$Not", name := "holds", desc := "(LBakedBefore$Look;)Z" } : Jvm.MethodName)) ∈ lw_all := lw_g (lw_at lw_m2 227 rfl) rfl
theorem q554 : (Jvm.Cond.instanceMethod ({ cls := "BakedBefore$Not", name := "holds", desc := "(LBakedBefore$Look;)Z" } : Jvm.MethodName)) ∈ lw_all := lw_g (lw_at lw_m2 228 rfl) rfl
theorem q555 : (Jvm.Cond.code ({ cls := "BakedBefore$Not", name := "holds", desc := "(LBakedBefore$Look;)Z" } : Jvm.MethodName) prog_10_method_2_code (2 : Nat) (Option.some Jvm.ClassFile.FieldType.boolean)) ∈ lw_all := lw_g (lw_at lw_m2 229 rfl) rfl
theorem q556 : (Jvm.Cond.methodLink "BakedBefore$Not" (13 : Nat) ({ cls := "BakedBefore$Test", name := "holds", desc := "(LBakedBefore$Look;)Z" } : Jvm.MethodName)) ∈ lw_all := lw_g (lw_at lw_m2 230 rfl) rfl
theorem q557 : (Jvm.Cond.instanceMethod ({ cls := "BakedBefore$Some", name := "holds", desc := "(LBakedBefore$Look;)Z" } : Jvm.MethodName)) ∈ lw_all := lw_g (lw_at lw_m2 231 rfl) rfl
theorem q558 : (Jvm.Cond.code ({ cls := "BakedBefore$Some", name := "holds", desc := "(LBakedBefore$Look;)Z" } : Jvm.MethodName) prog_16_method_2_code (3 : Nat) (Option.some Jvm.ClassFile.FieldType.boolean)) ∈ lw_all := lw_g (lw_at lw_m2 232 rfl) rfl
theorem q559 : (Jvm.Cond.methodLink "BakedBefore$Some" (20 : Nat) ({ cls := "java/util/ArrayList", name := "size", desc := "()I" } : Jvm.MethodName)) ∈ lw_all := lw_g (lw_at lw_m2 233 rfl) rfl
theorem q560 : (Jvm.Cond.methodLink "BakedBefore$Some" (24 : Nat) ({ cls := "java/util/ArrayList", name := "get", desc := "(I)Ljava/lang/Object;" } : Jvm.MethodName)) ∈ lw_all := lw_g (lw_at lw_m2 234 rfl) rfl
theorem q561 : (Jvm.Cond.classLink "BakedBefore$Some" (2 : Nat) "BakedBefore$Test") ∈ lw_all := lw_g (lw_at lw_m2 235 rfl) rfl
theorem q562 : (Jvm.Cond.methodLink "BakedBefore$Some" (28 : Nat) ({ cls := "BakedBefore$Test", name := "holds", desc := "(LBakedBefore$Look;)Z" } : Jvm.MethodName)) ∈ lw_all := lw_g (lw_at lw_m2 236 rfl) rfl
theorem q563 : (Jvm.Cond.selects "BakedBefore$Some" ({ cls := "BakedBefore$Test", name := "holds", desc := "(LBakedBefore$Look;)Z" } : Jvm.MethodName) ({ cls := "BakedBefore$Some", name := "holds", desc := "(LBakedBefore$Look;)Z" } : Jvm.MethodName)) ∈ lw_all := lw_g (lw_at lw_m2 237 rfl) rfl
theorem q564 : (Jvm.Cond.methodLink "BakedBefore" (215 : Nat) ({ cls := "BakedBefore", name := "isSpoiled", desc := "(LBakedBefore$Time;I)Z" } : Jvm.MethodName)) ∈ lw_all := lw_g (lw_at lw_m2 238 rfl) rfl
theorem q565 : (Jvm.Cond.privateMethod ({ cls := "BakedBefore", name := "isSpoiled", desc := "(LBakedBefore$Time;I)Z" } : Jvm.MethodName)) ∈ lw_tbl := lw_at lw_m2 239 rfl
theorem q566 : (Jvm.Cond.instanceMethod ({ cls := "BakedBefore", name := "isSpoiled", desc := "(LBakedBefore$Time;I)Z" } : Jvm.MethodName)) ∈ lw_all := lw_g (lw_at lw_m3 0 rfl) rfl
theorem q567 : (Jvm.Cond.code ({ cls := "BakedBefore", name := "isSpoiled", desc := "(LBakedBefore$Time;I)Z" } : Jvm.MethodName) prog_1_method_14_code (4 : Nat) (Option.some Jvm.ClassFile.FieldType.boolean)) ∈ lw_all := lw_g (lw_at lw_m3 1 rfl) rfl
theorem q568 : (Jvm.Cond.methodLink "BakedBefore" (207 : Nat) ({ cls := "BakedBefore", name := "takesOf", desc := "(LBakedBefore$Time;III)I" } : Jvm.MethodName)) ∈ lw_all := lw_g (lw_at lw_m3 2 rfl) rfl
theorem q569 : (Jvm.Cond.privateMethod ({ cls := "BakedBefore", name := "takesOf", desc := "(LBakedBefore$Time;III)I" } : Jvm.MethodName)) ∈ lw_tbl := lw_at lw_m3 3 rfl
theorem q570 : (Jvm.Cond.instanceMethod ({ cls := "BakedBefore", name := "takesOf", desc := "(LBakedBefore$Time;III)I" } : Jvm.MethodName)) ∈ lw_all := lw_g (lw_at lw_m3 4 rfl) rfl
theorem q571 : (Jvm.Cond.code ({ cls := "BakedBefore", name := "takesOf", desc := "(LBakedBefore$Time;III)I" } : Jvm.MethodName) prog_1_method_9_code (5 : Nat) (Option.some Jvm.ClassFile.FieldType.int)) ∈ lw_all := lw_g (lw_at lw_m3 5 rfl) rfl
theorem q572 : (Jvm.Cond.methodLink "BakedBefore" (174 : Nat) ({ cls := "BakedBefore$Kiln", name := "part", desc := "(LBakedBefore$Look;)I" } : Jvm.MethodName)) ∈ lw_all := lw_g (lw_at lw_m3 6 rfl) rfl
theorem q573 : (Jvm.Cond.instanceMethod ({ cls := "BakedBefore$Kiln", name := "part", desc := "(LBakedBefore$Look;)I" } : Jvm.MethodName)) ∈ lw_all := lw_g (lw_at lw_m3 7 rfl) rfl
theorem q574 : (Jvm.Cond.selects "BakedBefore$Kiln" ({ cls := "BakedBefore$Kiln", name := "part", desc := "(LBakedBefore$Look;)I" } : Jvm.MethodName) ({ cls := "BakedBefore$Kiln", name := "part", desc := "(LBakedBefore$Look;)I" } : Jvm.MethodName)) ∈ lw_all := lw_g (lw_at lw_m3 8 rfl) rfl
theorem q575 : (Jvm.Cond.code ({ cls := "BakedBefore$Kiln", name := "part", desc := "(LBakedBefore$Look;)I" } : Jvm.MethodName) prog_7_method_3_code (2 : Nat) (Option.some Jvm.ClassFile.FieldType.int)) ∈ lw_all := lw_g (lw_at lw_m3 9 rfl) rfl
theorem q576 : (Jvm.Cond.methodLink "BakedBefore$Kiln" (51 : Nat) ({ cls := "java/util/ArrayList", name := "isEmpty", desc := "()Z" } : Jvm.MethodName)) ∈ lw_all := lw_g (lw_at lw_m3 10 rfl) rfl
theorem q577 : (Jvm.Cond.instanceMethod ({ cls := "java/util/ArrayList", name := "isEmpty", desc := "()Z" } : Jvm.MethodName)) ∈ lw_all := lw_g (lw_at lw_m3 11 rfl) rfl
theorem q578 : (Jvm.Cond.selects "java/util/ArrayList" ({ cls := "java/util/ArrayList", name := "isEmpty", desc := "()Z" } : Jvm.MethodName) ({ cls := "java/util/ArrayList", name := "isEmpty", desc := "()Z" } : Jvm.MethodName)) ∈ lw_all := lw_g (lw_at lw_m3 12 rfl) rfl
theorem q579 : (Jvm.Cond.code ({ cls := "java/util/ArrayList", name := "isEmpty", desc := "()Z" } : Jvm.MethodName) prog_48_method_9_code (1 : Nat) (Option.some Jvm.ClassFile.FieldType.boolean)) ∈ lw_all := lw_g (lw_at lw_m3 13 rfl) rfl
theorem q580 : (Jvm.Cond.methodLink "BakedBefore" (178 : Nat) ({ cls := "BakedBefore", name := "takesBy", desc := "(IIII)I" } : Jvm.MethodName)) ∈ lw_all := lw_g (lw_at lw_m3 14 rfl) rfl
theorem q581 : (Jvm.Cond.privateMethod ({ cls := "BakedBefore", name := "takesBy", desc := "(IIII)I" } : Jvm.MethodName)) ∈ lw_tbl := lw_at lw_m3 15 rfl
theorem q582 : (Jvm.Cond.instanceMethod ({ cls := "BakedBefore", name := "takesBy", desc := "(IIII)I" } : Jvm.MethodName)) ∈ lw_all := lw_g (lw_at lw_m3 16 rfl) rfl
theorem q583 : (Jvm.Cond.code ({ cls := "BakedBefore", name := "takesBy", desc := "(IIII)I" } : Jvm.MethodName) prog_1_method_10_code (5 : Nat) (Option.some Jvm.ClassFile.FieldType.int)) ∈ lw_all := lw_g (lw_at lw_m3 17 rfl) rfl
theorem q584 : (Jvm.Cond.methodLink "BakedBefore" (182 : Nat) ({ cls := "BakedBefore$Loaf", name := "taking", desc := "(III)I" } : Jvm.MethodName)) ∈ lw_all := lw_g (lw_at lw_m3 18 rfl) rfl
theorem q585 : (Jvm.Cond.instanceMethod ({ cls := "BakedBefore$Loaf", name := "taking", desc := "(III)I" } : Jvm.MethodName)) ∈ lw_all := lw_g (lw_at lw_m3 19 rfl) rfl
theorem q586 : (Jvm.Cond.selects "BakedBefore$Loaf" ({ cls := "BakedBefore$Loaf", name := "taking", desc := "(III)I" } : Jvm.MethodName) ({ cls := "BakedBefore$Loaf", name := "taking", desc := "(III)I" } : Jvm.MethodName)) ∈ lw_all := lw_g (lw_at lw_m3 20 rfl) rfl
theorem q587 : (Jvm.Cond.sameMethod "BakedBefore$Loaf" "BakedBefore$Loaf" "taking" "(III)I") ∈ lw_all := lw_g (lw_at lw_m3 21 rfl) rfl
theorem q588 : (Jvm.Cond.selects "BakedBefore$Clean" ({ cls := "BakedBefore$Loaf", name := "taking", desc := "(III)I" } : Jvm.MethodName) ({ cls := "BakedBefore$Clean", name := "taking", desc := "(III)I" } : Jvm.MethodName)) ∈ lw_all := lw_g (lw_at lw_m3 22 rfl) rfl
theorem q589 : (Jvm.Cond.instanceMethod ({ cls := "BakedBefore$Clean", name := "taking", desc := "(III)I" } : Jvm.MethodName)) ∈ lw_all := lw_g (lw_at lw_m3 23 rfl) rfl
theorem q590 : (Jvm.Cond.code ({ cls := "BakedBefore$Clean", name := "taking", desc := "(III)I" } : Jvm.MethodName) prog_4_method_3_code (4 : Nat) (Option.some Jvm.ClassFile.FieldType.int)) ∈ lw_all := lw_g (lw_at lw_m3 24 rfl) rfl
theorem q591 : (Jvm.Cond.selects "BakedBefore$Greedy" ({ cls := "BakedBefore$Loaf", name := "taking", desc := "(III)I" } : Jvm.MethodName) ({ cls := "BakedBefore$Greedy", name := "taking", desc := "(III)I" } : Jvm.MethodName)) ∈ lw_all := lw_g (lw_at lw_m3 25 rfl) rfl
theorem q592 : (Jvm.Cond.instanceMethod ({ cls := "BakedBefore$Greedy", name := "taking", desc := "(III)I" } : Jvm.MethodName)) ∈ lw_all := lw_g (lw_at lw_m3 26 rfl) rfl
theorem q593 : (Jvm.Cond.code ({ cls := "BakedBefore$Greedy", name := "taking", desc := "(III)I" } : Jvm.MethodName) prog_5_method_3_code (4 : Nat) (Option.some Jvm.ClassFile.FieldType.int)) ∈ lw_all := lw_g (lw_at lw_m3 27 rfl) rfl
theorem q594 : (Jvm.Cond.methodLink "BakedBefore$Greedy" (9 : Nat) ({ cls := "BakedBefore$Loaf", name := "taking", desc := "(III)I" } : Jvm.MethodName)) ∈ lw_all := lw_g (lw_at lw_m3 28 rfl) rfl
theorem q595 : (Jvm.Cond.code ({ cls := "BakedBefore$Loaf", name := "taking", desc := "(III)I" } : Jvm.MethodName) prog_8_method_3_code (4 : Nat) (Option.some Jvm.ClassFile.FieldType.int)) ∈ lw_all := lw_g (lw_at lw_m3 29 rfl) rfl
theorem q596 : (Jvm.Cond.selects "BakedBefore$Holy" ({ cls := "BakedBefore$Loaf", name := "taking", desc := "(III)I" } : Jvm.MethodName) ({ cls := "BakedBefore$Holy", name := "taking", desc := "(III)I" } : Jvm.MethodName)) ∈ lw_all := lw_g (lw_at lw_m3 30 rfl) rfl
theorem q597 : (Jvm.Cond.instanceMethod ({ cls := "BakedBefore$Holy", name := "taking", desc := "(III)I" } : Jvm.MethodName)) ∈ lw_all := lw_g (lw_at lw_m3 31 rfl) rfl
theorem q598 : (Jvm.Cond.code ({ cls := "BakedBefore$Holy", name := "taking", desc := "(III)I" } : Jvm.MethodName) prog_6_method_3_code (4 : Nat) (Option.some Jvm.ClassFile.FieldType.int)) ∈ lw_all := lw_g (lw_at lw_m3 32 rfl) rfl
theorem q599 : (Jvm.Cond.methodLink "BakedBefore$Holy" (9 : Nat) ({ cls := "BakedBefore$Loaf", name := "taking", desc := "(III)I" } : Jvm.MethodName)) ∈ lw_all := lw_g (lw_at lw_m3 33 rfl) rfl
theorem q600 : (Jvm.Cond.methodLink "BakedBefore$Holy" (13 : Nat) ({ cls := "java/lang/Math", name := "min", desc := "(II)I" } : Jvm.MethodName)) ∈ lw_all := lw_g (lw_at lw_m3 34 rfl) rfl
theorem q601 : (Jvm.Cond.static ({ cls := "java/lang/Math", name := "min", desc := "(II)I" } : Jvm.MethodName)) ∈ lw_all := lw_g (lw_at lw_m3 35 rfl) rfl
theorem q602 : (Jvm.Cond.code ({ cls := "java/lang/Math", name := "min", desc := "(II)I" } : Jvm.MethodName) prog_35_method_69_code (2 : Nat) (Option.some Jvm.ClassFile.FieldType.int)) ∈ lw_all := lw_g (lw_at lw_m3 36 rfl) rfl
theorem q603 : (Jvm.Cond.selects "BakedBefore$Poisoned" ({ cls := "BakedBefore$Loaf", name := "taking", desc := "(III)I" } : Jvm.MethodName) ({ cls := "BakedBefore$Greedy", name := "taking", desc := "(III)I" } : Jvm.MethodName)) ∈ lw_all := lw_g (lw_at lw_m3 37 rfl) rfl
theorem q604 : (Jvm.Cond.selects "BakedBefore$Rye" ({ cls := "BakedBefore$Loaf", name := "taking", desc := "(III)I" } : Jvm.MethodName) ({ cls := "BakedBefore$Rye", name := "taking", desc := "(III)I" } : Jvm.MethodName)) ∈ lw_all := lw_g (lw_at lw_m3 38 rfl) rfl
theorem q605 : (Jvm.Cond.instanceMethod ({ cls := "BakedBefore$Rye", name := "taking", desc := "(III)I" } : Jvm.MethodName)) ∈ lw_all := lw_g (lw_at lw_m3 39 rfl) rfl
theorem q606 : (Jvm.Cond.code ({ cls := "BakedBefore$Rye", name := "taking", desc := "(III)I" } : Jvm.MethodName) prog_14_method_3_code (4 : Nat) (Option.some Jvm.ClassFile.FieldType.int)) ∈ lw_all := lw_g (lw_at lw_m3 40 rfl) rfl
theorem q607 : (Jvm.Cond.methodLink "BakedBefore$Rye" (9 : Nat) ({ cls := "BakedBefore$Clean", name := "taking", desc := "(III)I" } : Jvm.MethodName)) ∈ lw_all := lw_g (lw_at lw_m3 41 rfl) rfl
theorem q608 : (Jvm.Cond.selects "BakedBefore$Shy" ({ cls := "BakedBefore$Loaf", name := "taking", desc := "(III)I" } : Jvm.MethodName) ({ cls := "BakedBefore$Shy", name := "taking", desc := "(III)I" } : Jvm.MethodName)) ∈ lw_all := lw_g (lw_at lw_m3 42 rfl) rfl
theorem q609 : (Jvm.Cond.instanceMethod ({ cls := "BakedBefore$Shy", name := "taking", desc := "(III)I" } : Jvm.MethodName)) ∈ lw_all := lw_g (lw_at lw_m3 43 rfl) rfl
theorem q610 : (Jvm.Cond.code ({ cls := "BakedBefore$Shy", name := "taking", desc := "(III)I" } : Jvm.MethodName) prog_15_method_3_code (4 : Nat) (Option.some Jvm.ClassFile.FieldType.int)) ∈ lw_all := lw_g (lw_at lw_m3 44 rfl) rfl
theorem q611 : (Jvm.Cond.methodLink "BakedBefore$Shy" (9 : Nat) ({ cls := "BakedBefore$Holy", name := "taking", desc := "(III)I" } : Jvm.MethodName)) ∈ lw_all := lw_g (lw_at lw_m3 45 rfl) rfl
theorem q612 : (Jvm.Cond.methodLink "BakedBefore" (186 : Nat) ({ cls := "java/lang/Math", name := "min", desc := "(II)I" } : Jvm.MethodName)) ∈ lw_all := lw_g (lw_at lw_m3 46 rfl) rfl
theorem q613 : (Jvm.Cond.methodLink "BakedBefore" (192 : Nat) ({ cls := "java/lang/Math", name := "max", desc := "(II)I" } : Jvm.MethodName)) ∈ lw_all := lw_g (lw_at lw_m3 47 rfl) rfl
theorem q614 : (Jvm.Cond.static ({ cls := "java/lang/Math", name := "max", desc := "(II)I" } : Jvm.MethodName)) ∈ lw_all := lw_g (lw_at lw_m3 48 rfl) rfl
theorem q615 : (Jvm.Cond.code ({ cls := "java/lang/Math", name := "max", desc := "(II)I" } : Jvm.MethodName) prog_35_method_65_code (2 : Nat) (Option.some Jvm.ClassFile.FieldType.int)) ∈ lw_all := lw_g (lw_at lw_m3 49 rfl) rfl
theorem q616 : (Jvm.Cond.methodLink "BakedBefore" (219 : Nat) ({ cls := "BakedBefore", name := "leavesOf", desc := "(LBakedBefore$Time;II)I" } : Jvm.MethodName)) ∈ lw_all := lw_g (lw_at lw_m3 50 rfl) rfl
theorem q617 : (Jvm.Cond.privateMethod ({ cls := "BakedBefore", name := "leavesOf", desc := "(LBakedBefore$Time;II)I" } : Jvm.MethodName)) ∈ lw_tbl := lw_at lw_m3 51 rfl
theorem q618 : (Jvm.Cond.instanceMethod ({ cls := "BakedBefore", name := "leavesOf", desc := "(LBakedBefore$Time;II)I" } : Jvm.MethodName)) ∈ lw_all := lw_g (lw_at lw_m3 52 rfl) rfl
theorem q619 : (Jvm.Cond.code ({ cls := "BakedBefore", name := "leavesOf", desc := "(LBakedBefore$Time;II)I" } : Jvm.MethodName) prog_1_method_11_code (4 : Nat) (Option.some Jvm.ClassFile.FieldType.int)) ∈ lw_all := lw_g (lw_at lw_m3 53 rfl) rfl
theorem q620 : (Jvm.Cond.methodLink "BakedBefore" (198 : Nat) ({ cls := "BakedBefore$Kiln", name := "more", desc := "(LBakedBefore$Look;)I" } : Jvm.MethodName)) ∈ lw_all := lw_g (lw_at lw_m3 54 rfl) rfl
theorem q621 : (Jvm.Cond.instanceMethod ({ cls := "BakedBefore$Kiln", name := "more", desc := "(LBakedBefore$Look;)I" } : Jvm.MethodName)) ∈ lw_all := lw_g (lw_at lw_m3 55 rfl) rfl
theorem q622 : (Jvm.Cond.selects "BakedBefore$Kiln" ({ cls := "BakedBefore$Kiln", name := "more", desc := "(LBakedBefore$Look;)I" } : Jvm.MethodName) ({ cls := "BakedBefore$Kiln", name := "more", desc := "(LBakedBefore$Look;)I" } : Jvm.MethodName)) ∈ lw_all := lw_g (lw_at lw_m3 56 rfl) rfl
theorem q623 : (Jvm.Cond.code ({ cls := "BakedBefore$Kiln", name := "more", desc := "(LBakedBefore$Look;)I" } : Jvm.MethodName) prog_7_method_4_code (2 : Nat) (Option.some Jvm.ClassFile.FieldType.int)) ∈ lw_all := lw_g (lw_at lw_m3 57 rfl) rfl
theorem q624 : (Jvm.Cond.methodLink "BakedBefore" (201 : Nat) ({ cls := "BakedBefore$Loaf", name := "leaving", desc := "(II)I" } : Jvm.MethodName)) ∈ lw_all := lw_g (lw_at lw_m3 58 rfl) rfl
theorem q625 : (Jvm.Cond.instanceMethod ({ cls := "BakedBefore$Loaf", name := "leaving", desc := "(II)I" } : Jvm.MethodName)) ∈ lw_all := lw_g (lw_at lw_m3 59 rfl) rfl
theorem q626 : (Jvm.Cond.selects "BakedBefore$Loaf" ({ cls := "BakedBefore$Loaf", name := "leaving", desc := "(II)I" } : Jvm.MethodName) ({ cls := "BakedBefore$Loaf", name := "leaving", desc := "(II)I" } : Jvm.MethodName)) ∈ lw_all := lw_g (lw_at lw_m3 60 rfl) rfl
theorem q627 : (Jvm.Cond.sameMethod "BakedBefore$Loaf" "BakedBefore$Loaf" "leaving" "(II)I") ∈ lw_all := lw_g (lw_at lw_m3 61 rfl) rfl
theorem q628 : (Jvm.Cond.selects "BakedBefore$Clean" ({ cls := "BakedBefore$Loaf", name := "leaving", desc := "(II)I" } : Jvm.MethodName) ({ cls := "BakedBefore$Clean", name := "leaving", desc := "(II)I" } : Jvm.MethodName)) ∈ lw_all := lw_g (lw_at lw_m3 62 rfl) rfl
theorem q629 : (Jvm.Cond.instanceMethod ({ cls := "BakedBefore$Clean", name := "leaving", desc := "(II)I" } : Jvm.MethodName)) ∈ lw_all := lw_g (lw_at lw_m3 63 rfl) rfl
theorem q630 : (Jvm.Cond.code ({ cls := "BakedBefore$Clean", name := "leaving", desc := "(II)I" } : Jvm.MethodName) prog_4_method_4_code (3 : Nat) (Option.some Jvm.ClassFile.FieldType.int)) ∈ lw_all := lw_g (lw_at lw_m3 64 rfl) rfl
theorem q631 : (Jvm.Cond.selects "BakedBefore$Greedy" ({ cls := "BakedBefore$Loaf", name := "leaving", desc := "(II)I" } : Jvm.MethodName) ({ cls := "BakedBefore$Loaf", name := "leaving", desc := "(II)I" } : Jvm.MethodName)) ∈ lw_all := lw_g (lw_at lw_m3 65 rfl) rfl
theorem q632 : (Jvm.Cond.selects "BakedBefore$Holy" ({ cls := "BakedBefore$Loaf", name := "leaving", desc := "(II)I" } : Jvm.MethodName) ({ cls := "BakedBefore$Loaf", name := "leaving", desc := "(II)I" } : Jvm.MethodName)) ∈ lw_all := lw_g (lw_at lw_m3 66 rfl) rfl
theorem q633 : (Jvm.Cond.selects "BakedBefore$Poisoned" ({ cls := "BakedBefore$Loaf", name := "leaving", desc := "(II)I" } : Jvm.MethodName) ({ cls := "BakedBefore$Poisoned", name := "leaving", desc := "(II)I" } : Jvm.MethodName)) ∈ lw_all := lw_g (lw_at lw_m3 67 rfl) rfl
theorem q634 : (Jvm.Cond.instanceMethod ({ cls := "BakedBefore$Poisoned", name := "leaving", desc := "(II)I" } : Jvm.MethodName)) ∈ lw_all := lw_g (lw_at lw_m3 68 rfl) rfl
theorem q635 : (Jvm.Cond.code ({ cls := "BakedBefore$Poisoned", name := "leaving", desc := "(II)I" } : Jvm.MethodName) prog_12_method_3_code (3 : Nat) (Option.some Jvm.ClassFile.FieldType.int)) ∈ lw_all := lw_g (lw_at lw_m3 69 rfl) rfl
theorem q636 : (Jvm.Cond.methodLink "BakedBefore$Poisoned" (9 : Nat) ({ cls := "BakedBefore$Greedy", name := "leaving", desc := "(II)I" } : Jvm.MethodName)) ∈ lw_all := lw_g (lw_at lw_m3 70 rfl) rfl
theorem q637 : (Jvm.Cond.sameMethod "BakedBefore$Greedy" "BakedBefore$Loaf" "leaving" "(II)I") ∈ lw_all := lw_g (lw_at lw_m3 71 rfl) rfl
theorem q638 : (Jvm.Cond.declares ({ cls := "BakedBefore$Loaf", name := "leaving", desc := "(II)I" } : Jvm.MethodName)) ∈ lw_tbl := lw_at lw_m3 72 rfl
theorem q639 : (Jvm.Cond.code ({ cls := "BakedBefore$Loaf", name := "leaving", desc := "(II)I" } : Jvm.MethodName) prog_8_method_4_code (3 : Nat) (Option.some Jvm.ClassFile.FieldType.int)) ∈ lw_all := lw_g (lw_at lw_m3 73 rfl) rfl
theorem q640 : (Jvm.Cond.selects "BakedBefore$Rye" ({ cls := "BakedBefore$Loaf", name := "leaving", desc := "(II)I" } : Jvm.MethodName) ({ cls := "BakedBefore$Clean", name := "leaving", desc := "(II)I" } : Jvm.MethodName)) ∈ lw_all := lw_g (lw_at lw_m3 74 rfl) rfl
theorem q641 : (Jvm.Cond.selects "BakedBefore$Shy" ({ cls := "BakedBefore$Loaf", name := "leaving", desc := "(II)I" } : Jvm.MethodName) ({ cls := "BakedBefore$Shy", name := "leaving", desc := "(II)I" } : Jvm.MethodName)) ∈ lw_all := lw_g (lw_at lw_m3 75 rfl) rfl
theorem q642 : (Jvm.Cond.instanceMethod ({ cls := "BakedBefore$Shy", name := "leaving", desc := "(II)I" } : Jvm.MethodName)) ∈ lw_all := lw_g (lw_at lw_m3 76 rfl) rfl
theorem q643 : (Jvm.Cond.code ({ cls := "BakedBefore$Shy", name := "leaving", desc := "(II)I" } : Jvm.MethodName) prog_15_method_4_code (3 : Nat) (Option.some Jvm.ClassFile.FieldType.int)) ∈ lw_all := lw_g (lw_at lw_m3 77 rfl) rfl
theorem q644 : (Jvm.Cond.methodLink "BakedBefore$Shy" (13 : Nat) ({ cls := "BakedBefore$Holy", name := "leaving", desc := "(II)I" } : Jvm.MethodName)) ∈ lw_all := lw_g (lw_at lw_m3 78 rfl) rfl
theorem q645 : (Jvm.Cond.sameMethod "BakedBefore$Holy" "BakedBefore$Loaf" "leaving" "(II)I") ∈ lw_all := lw_g (lw_at lw_m3 79 rfl) rfl
theorem q646 : (Jvm.Cond.methodLink "BakedBeforeLaw" (27 : Nat) ({ cls := "BakedBefore", name := "oven", desc := "(II)I" } : Jvm.MethodName)) ∈ lw_all := lw_g (lw_at lw_m3 80 rfl) rfl
theorem q647 : (Jvm.Cond.instanceMethod ({ cls := "BakedBefore", name := "oven", desc := "(II)I" } : Jvm.MethodName)) ∈ lw_all := lw_g (lw_at lw_m3 81 rfl) rfl
theorem q648 : (Jvm.Cond.selects "BakedBefore" ({ cls := "BakedBefore", name := "oven", desc := "(II)I" } : Jvm.MethodName) ({ cls := "BakedBefore", name := "oven", desc := "(II)I" } : Jvm.MethodName)) ∈ lw_all := lw_g (lw_at lw_m3 82 rfl) rfl
theorem q649 : (Jvm.Cond.code ({ cls := "BakedBefore", name := "oven", desc := "(II)I" } : Jvm.MethodName) prog_1_method_16_code (4 : Nat) (Option.some Jvm.ClassFile.FieldType.int)) ∈ lw_all := lw_g (lw_at lw_m3 83 rfl) rfl
theorem q650 : (Jvm.Cond.methodLink "BakedBeforeLaw" (31 : Nat) ({ cls := "BakedBefore", name := "feed", desc := "(I)I" } : Jvm.MethodName)) ∈ lw_all := lw_g (lw_at lw_m3 84 rfl) rfl
theorem q651 : (Jvm.Cond.instanceMethod ({ cls := "BakedBefore", name := "feed", desc := "(I)I" } : Jvm.MethodName)) ∈ lw_all := lw_g (lw_at lw_m3 85 rfl) rfl
theorem q652 : (Jvm.Cond.selects "BakedBefore" ({ cls := "BakedBefore", name := "feed", desc := "(I)I" } : Jvm.MethodName) ({ cls := "BakedBefore", name := "feed", desc := "(I)I" } : Jvm.MethodName)) ∈ lw_all := lw_g (lw_at lw_m3 86 rfl) rfl
theorem q653 : (Jvm.Cond.code ({ cls := "BakedBefore", name := "feed", desc := "(I)I" } : Jvm.MethodName) prog_1_method_17_code (2 : Nat) (Option.some Jvm.ClassFile.FieldType.int)) ∈ lw_all := lw_g (lw_at lw_m3 87 rfl) rfl
theorem q654 : (Jvm.Cond.methodLink "BakedBeforeLaw" (36 : Nat) ({ cls := "BakedBefore", name := "kiln", desc := "()I" } : Jvm.MethodName)) ∈ lw_all := lw_g (lw_at lw_m3 88 rfl) rfl
theorem q655 : (Jvm.Cond.instanceMethod ({ cls := "BakedBefore", name := "kiln", desc := "()I" } : Jvm.MethodName)) ∈ lw_all := lw_g (lw_at lw_m3 89 rfl) rfl
theorem q656 : (Jvm.Cond.selects "BakedBefore" ({ cls := "BakedBefore", name := "kiln", desc := "()I" } : Jvm.MethodName) ({ cls := "BakedBefore", name := "kiln", desc := "()I" } : Jvm.MethodName)) ∈ lw_all := lw_g (lw_at lw_m3 90 rfl) rfl
theorem q657 : (Jvm.Cond.codeWith ({ cls := "BakedBefore", name := "kiln", desc := "()I" } : Jvm.MethodName) prog_1_method_18_code (3 : Nat) (Option.some Jvm.ClassFile.FieldType.int) [((22 : Nat), (52 : Nat), (53 : Nat), (237 : Nat))]) ∈ lw_all := lw_g (lw_at lw_m3 91 rfl) rfl
theorem q658 : (Jvm.Cond.classLink "BakedBefore" (237 : Nat) "BakedBefore$Off") ∈ lw_all := lw_g (lw_at lw_m3 92 rfl) rfl
theorem q659 : (Jvm.Cond.classLink "BakedBefore" (229 : Nat) "BakedBefore$Reader") ∈ lw_all := lw_g (lw_at lw_m3 93 rfl) rfl
theorem q660 : (Jvm.Cond.instantiable "BakedBefore$Reader" (5 : Nat)) ∈ lw_all := lw_g (lw_at lw_m3 94 rfl) rfl
theorem q661 : (Jvm.Cond.methodLink "BakedBefore" (231 : Nat) ({ cls := "BakedBefore$Reader", name := "<init>", desc := "([BI)V" } : Jvm.MethodName)) ∈ lw_all := lw_g (lw_at lw_m3 95 rfl) rfl
theorem q662 : (Jvm.Cond.instanceMethod ({ cls := "BakedBefore$Reader", name := "<init>", desc := "([BI)V" } : Jvm.MethodName)) ∈ lw_all := lw_g (lw_at lw_m3 96 rfl) rfl
theorem q663 : (Jvm.Cond.code ({ cls := "BakedBefore$Reader", name := "<init>", desc := "([BI)V" } : Jvm.MethodName) prog_13_method_1_code (3 : Nat) (Option.none : Option Jvm.ClassFile.FieldType)) ∈ lw_all := lw_g (lw_at lw_m3 97 rfl) rfl
theorem q664 : (Jvm.Cond.methodLink "BakedBefore$Reader" (3 : Nat) ({ cls := "java/lang/Object", name := "<init>", desc := "()V" } : Jvm.MethodName)) ∈ lw_all := lw_g (lw_at lw_m3 98 rfl) rfl
theorem q665 : (Jvm.Cond.classLink "BakedBefore$Reader" (9 : Nat) "BakedBefore$Kiln") ∈ lw_all := lw_g (lw_at lw_m3 99 rfl) rfl
theorem q666 : (Jvm.Cond.methodLinkNest "BakedBefore$Reader" (11 : Nat) ({ cls := "BakedBefore$Kiln", name := "<init>", desc := "()V" } : Jvm.MethodName) "BakedBefore") ∈ lw_tbl := lw_at lw_m3 100 rfl
theorem q667 : (Jvm.Cond.fieldLink "BakedBefore$Reader" (18 : Nat) "BakedBefore$Reader" "text" "[B") ∈ lw_all := lw_g (lw_at lw_m3 101 rfl) rfl
theorem q668 : (Jvm.Cond.fieldLink "BakedBefore$Reader" (22 : Nat) "BakedBefore$Reader" "size" "I") ∈ lw_all := lw_g (lw_at lw_m3 102 rfl) rfl
theorem q669 : (Jvm.Cond.fieldLink "BakedBefore$Reader" (26 : Nat) "BakedBefore$Reader" "at" "I") ∈ lw_all := lw_g (lw_at lw_m3 103 rfl) rfl
theorem q670 : (Jvm.Cond.fieldLink "BakedBefore$Reader" (58 : Nat) "BakedBefore$Reader" "deep" "I") ∈ lw_all := lw_g (lw_at lw_m3 104 rfl) rfl
theorem q671 : (Jvm.Cond.fieldLink "BakedBefore$Reader" (12 : Nat) "BakedBefore$Reader" "kiln" "LBakedBefore$Kiln;") ∈ lw_all := lw_g (lw_at lw_m3 105 rfl) rfl
theorem q672 : (Jvm.Cond.laysFinal "BakedBefore$Reader" "BakedBefore$Reader" "text" "[B") ∈ lw_all := lw_g (lw_at lw_m3 106 rfl) rfl
theorem q673 : (Jvm.Cond.soleField "BakedBefore$Reader" "text") ∈ lw_all := lw_g (lw_at lw_m3 107 rfl) rfl
theorem q674 : (Jvm.Cond.laysFinal "BakedBefore$Reader" "BakedBefore$Reader" "size" "I") ∈ lw_all := lw_g (lw_at lw_m3 108 rfl) rfl
theorem q675 : (Jvm.Cond.soleField "BakedBefore$Reader" "size") ∈ lw_all := lw_g (lw_at lw_m3 109 rfl) rfl
theorem q676 : (Jvm.Cond.lays "BakedBefore$Reader" "BakedBefore$Reader" "at" "I") ∈ lw_all := lw_g (lw_at lw_m3 110 rfl) rfl
theorem q677 : (Jvm.Cond.soleField "BakedBefore$Reader" "at") ∈ lw_all := lw_g (lw_at lw_m3 111 rfl) rfl
theorem q678 : (Jvm.Cond.lays "BakedBefore$Reader" "BakedBefore$Reader" "deep" "I") ∈ lw_all := lw_g (lw_at lw_m3 112 rfl) rfl
theorem q679 : (Jvm.Cond.soleField "BakedBefore$Reader" "deep") ∈ lw_all := lw_g (lw_at lw_m3 113 rfl) rfl
theorem q680 : (Jvm.Cond.laysFinal "BakedBefore$Reader" "BakedBefore$Reader" "kiln" "LBakedBefore$Kiln;") ∈ lw_all := lw_g (lw_at lw_m3 114 rfl) rfl
theorem q681 : (Jvm.Cond.soleField "BakedBefore$Reader" "kiln") ∈ lw_all := lw_g (lw_at lw_m3 115 rfl) rfl
theorem q682 : (Jvm.Cond.superclass "BakedBefore$Reader" "java/lang/Object") ∈ lw_all := lw_g (lw_at lw_m3 116 rfl) rfl
theorem q683 : (Jvm.Cond.methodLink "BakedBefore" (234 : Nat) ({ cls := "BakedBefore$Reader", name := "kiln", desc := "()LBakedBefore$Kiln;" } : Jvm.MethodName)) ∈ lw_all := lw_g (lw_at lw_m3 117 rfl) rfl
theorem q684 : (Jvm.Cond.instanceMethod ({ cls := "BakedBefore$Reader", name := "kiln", desc := "()LBakedBefore$Kiln;" } : Jvm.MethodName)) ∈ lw_all := lw_g (lw_at lw_m3 118 rfl) rfl
theorem q685 : (Jvm.Cond.selects "BakedBefore$Reader" ({ cls := "BakedBefore$Reader", name := "kiln", desc := "()LBakedBefore$Kiln;" } : Jvm.MethodName) ({ cls := "BakedBefore$Reader", name := "kiln", desc := "()LBakedBefore$Kiln;" } : Jvm.MethodName)) ∈ lw_all := lw_g (lw_at lw_m3 119 rfl) rfl
theorem q686 : (Jvm.Cond.code ({ cls := "BakedBefore$Reader", name := "kiln", desc := "()LBakedBefore$Kiln;" } : Jvm.MethodName) prog_13_method_13_code (1 : Nat) (Option.some (Jvm.ClassFile.FieldType.object "BakedBefore$Kiln"))) ∈ lw_all := lw_g (lw_at lw_m3 120 rfl) rfl
theorem q687 : (Jvm.Cond.methodLink "BakedBefore$Reader" (138 : Nat) ({ cls := "BakedBefore$Reader", name := "clause", desc := "()V" } : Jvm.MethodName)) ∈ lw_all := lw_g (lw_at lw_m3 121 rfl) rfl
theorem q688 : (Jvm.Cond.privateMethod ({ cls := "BakedBefore$Reader", name := "clause", desc := "()V" } : Jvm.MethodName)) ∈ lw_tbl := lw_at lw_m3 122 rfl
theorem q689 : (Jvm.Cond.instanceMethod ({ cls := "BakedBefore$Reader", name := "clause", desc := "()V" } : Jvm.MethodName)) ∈ lw_all := lw_g (lw_at lw_m3 123 rfl) rfl
theorem q690 : (Jvm.Cond.code ({ cls := "BakedBefore$Reader", name := "clause", desc := "()V" } : Jvm.MethodName) prog_13_method_12_code (1 : Nat) (Option.none : Option Jvm.ClassFile.FieldType)) ∈ lw_all := lw_g (lw_at lw_m3 124 rfl) rfl
theorem q691 : (Jvm.Cond.methodLink "BakedBefore$Reader" (34 : Nat) ({ cls := "BakedBefore$Reader", name := "here", desc := "()I" } : Jvm.MethodName)) ∈ lw_all := lw_g (lw_at lw_m3 125 rfl) rfl
theorem q692 : (Jvm.Cond.privateMethod ({ cls := "BakedBefore$Reader", name := "here", desc := "()I" } : Jvm.MethodName)) ∈ lw_tbl := lw_at lw_m3 126 rfl
theorem q693 : (Jvm.Cond.instanceMethod ({ cls := "BakedBefore$Reader", name := "here", desc := "()I" } : Jvm.MethodName)) ∈ lw_all := lw_g (lw_at lw_m3 127 rfl) rfl
theorem q694 : (Jvm.Cond.code ({ cls := "BakedBefore$Reader", name := "here", desc := "()I" } : Jvm.MethodName) prog_13_method_2_code (1 : Nat) (Option.some Jvm.ClassFile.FieldType.int)) ∈ lw_all := lw_g (lw_at lw_m3 128 rfl) rfl
theorem q695 : (Jvm.Cond.stringRef "BakedBefore$Reader" (114 : Nat) "take ") ∈ lw_tbl := lw_at lw_m3 129 rfl
theorem q696 : (Jvm.Cond.methodLink "BakedBefore$Reader" (116 : Nat) ({ cls := "BakedBefore$Reader", name := "tested", desc := "(Ljava/lang/String;)LBakedBefore$Clause;" } : Jvm.MethodName)) ∈ lw_all := lw_g (lw_at lw_m3 130 rfl) rfl
theorem q697 : (Jvm.Cond.privateMethod ({ cls := "BakedBefore$Reader", name := "tested", desc := "(Ljava/lang/String;)LBakedBefore$Clause;" } : Jvm.MethodName)) ∈ lw_tbl := lw_at lw_m3 131 rfl
theorem q698 : (Jvm.Cond.instanceMethod ({ cls := "BakedBefore$Reader", name := "tested", desc := "(Ljava/lang/String;)LBakedBefore$Clause;" } : Jvm.MethodName)) ∈ lw_all := lw_g (lw_at lw_m3 132 rfl) rfl
theorem q699 : (Jvm.Cond.code ({ cls := "BakedBefore$Reader", name := "tested", desc := "(Ljava/lang/String;)LBakedBefore$Clause;" } : Jvm.MethodName) prog_13_method_11_code (3 : Nat) (Option.some (Jvm.ClassFile.FieldType.object "BakedBefore$Clause"))) ∈ lw_all := lw_g (lw_at lw_m3 133 rfl) rfl
theorem q700 : (Jvm.Cond.methodLink "BakedBefore$Reader" (102 : Nat) ({ cls := "BakedBefore$Reader", name := "word", desc := "(Ljava/lang/String;)V" } : Jvm.MethodName)) ∈ lw_all := lw_g (lw_at lw_m3 134 rfl) rfl
theorem q701 : (Jvm.Cond.privateMethod ({ cls := "BakedBefore$Reader", name := "word", desc := "(Ljava/lang/String;)V" } : Jvm.MethodName)) ∈ lw_tbl := lw_at lw_m3 135 rfl
theorem q702 : (Jvm.Cond.instanceMethod ({ cls := "BakedBefore$Reader", name := "word", desc := "(Ljava/lang/String;)V" } : Jvm.MethodName)) ∈ lw_all := lw_g (lw_at lw_m3 136 rfl) rfl
theorem q703 : (Jvm.Cond.code ({ cls := "BakedBefore$Reader", name := "word", desc := "(Ljava/lang/String;)V" } : Jvm.MethodName) prog_13_method_5_code (3 : Nat) (Option.none : Option Jvm.ClassFile.FieldType)) ∈ lw_all := lw_g (lw_at lw_m3 137 rfl) rfl
theorem q704 : (Jvm.Cond.methodLink "BakedBefore$Reader" (42 : Nat) ({ cls := "java/lang/String", name := "length", desc := "()I" } : Jvm.MethodName)) ∈ lw_all := lw_g (lw_at lw_m3 138 rfl) rfl
theorem q705 : (Jvm.Cond.instanceMethod ({ cls := "java/lang/String", name := "length", desc := "()I" } : Jvm.MethodName)) ∈ lw_all := lw_g (lw_at lw_m3 139 rfl) rfl
theorem q706 : (Jvm.Cond.selects "java/lang/String" ({ cls := "java/lang/String", name := "length", desc := "()I" } : Jvm.MethodName) ({ cls := "java/lang/String", name := "length", desc := "()I" } : Jvm.MethodName)) ∈ lw_all := lw_g (lw_at lw_m3 140 rfl) rfl
theorem q707 : (Jvm.Cond.code ({ cls := "java/lang/String", name := "length", desc := "()I" } : Jvm.MethodName) prog_39_method_54_code (1 : Nat) (Option.some Jvm.ClassFile.FieldType.int)) ∈ lw_all := lw_g (lw_at lw_m3 141 rfl) rfl
theorem q708 : (Jvm.Cond.methodLink "java/lang/String" (335 : Nat) ({ cls := "java/lang/String", name := "coder", desc := "()B" } : Jvm.MethodName)) ∈ lw_all := lw_g (lw_at lw_m3 142 rfl) rfl
theorem q709 : (Jvm.Cond.instanceMethod ({ cls := "java/lang/String", name := "coder", desc := "()B" } : Jvm.MethodName)) ∈ lw_all := lw_g (lw_at lw_m3 143 rfl) rfl
theorem q710 : (Jvm.Cond.selects "java/lang/String" ({ cls := "java/lang/String", name := "coder", desc := "()B" } : Jvm.MethodName) ({ cls := "java/lang/String", name := "coder", desc := "()B" } : Jvm.MethodName)) ∈ lw_all := lw_g (lw_at lw_m3 144 rfl) rfl
theorem q711 : (Jvm.Cond.code ({ cls := "java/lang/String", name := "coder", desc := "()B" } : Jvm.MethodName) prog_39_method_152_code (1 : Nat) (Option.some Jvm.ClassFile.FieldType.byte)) ∈ lw_all := lw_g (lw_at lw_m3 145 rfl) rfl
theorem q712 : (Jvm.Cond.fieldLink "java/lang/String" (38 : Nat) "java/lang/String" "COMPACT_STRINGS" "Z") ∈ lw_all := lw_g (lw_at lw_m3 146 rfl) rfl
theorem q713 : (Jvm.Cond.laysStatic "java/lang/String" "COMPACT_STRINGS" "Z") ∈ lw_tbl := lw_at lw_m3 147 rfl
theorem q714 : (Jvm.Cond.methodLink "BakedBefore$Reader" (47 : Nat) ({ cls := "java/lang/String", name := "charAt", desc := "(I)C" } : Jvm.MethodName)) ∈ lw_all := lw_g (lw_at lw_m3 148 rfl) rfl
theorem q715 : (Jvm.Cond.instanceMethod ({ cls := "java/lang/String", name := "charAt", desc := "(I)C" } : Jvm.MethodName)) ∈ lw_all := lw_g (lw_at lw_m3 149 rfl) rfl
theorem q716 : (Jvm.Cond.selects "java/lang/String" ({ cls := "java/lang/String", name := "charAt", desc := "(I)C" } : Jvm.MethodName) ({ cls := "java/lang/String", name := "charAt", desc := "(I)C" } : Jvm.MethodName)) ∈ lw_all := lw_g (lw_at lw_m3 150 rfl) rfl
theorem q717 : (Jvm.Cond.code ({ cls := "java/lang/String", name := "charAt", desc := "(I)C" } : Jvm.MethodName) prog_39_method_56_code (2 : Nat) (Option.some Jvm.ClassFile.FieldType.char)) ∈ lw_all := lw_g (lw_at lw_m3 151 rfl) rfl
theorem q718 : (Jvm.Cond.methodLink "java/lang/String" (492 : Nat) ({ cls := "java/lang/String", name := "isLatin1", desc := "()Z" } : Jvm.MethodName)) ∈ lw_all := lw_g (lw_at lw_m3 152 rfl) rfl
theorem q719 : (Jvm.Cond.instanceMethod ({ cls := "java/lang/String", name := "isLatin1", desc := "()Z" } : Jvm.MethodName)) ∈ lw_all := lw_g (lw_at lw_m3 153 rfl) rfl
theorem q720 : (Jvm.Cond.selects "java/lang/String" ({ cls := "java/lang/String", name := "isLatin1", desc := "()Z" } : Jvm.MethodName) ({ cls := "java/lang/String", name := "isLatin1", desc := "()Z" } : Jvm.MethodName)) ∈ lw_all := lw_g (lw_at lw_m3 154 rfl) rfl
theorem q721 : (Jvm.Cond.code ({ cls := "java/lang/String", name := "isLatin1", desc := "()Z" } : Jvm.MethodName) prog_39_method_154_code (1 : Nat) (Option.some Jvm.ClassFile.FieldType.boolean)) ∈ lw_all := lw_g (lw_at lw_m3 155 rfl) rfl
theorem q722 : (Jvm.Cond.methodLink "java/lang/String" (495 : Nat) ({ cls := "java/lang/StringLatin1", name := "charAt", desc := "([BI)C" } : Jvm.MethodName)) ∈ lw_all := lw_g (lw_at lw_m3 156 rfl) rfl
theorem q723 : (Jvm.Cond.static ({ cls := "java/lang/StringLatin1", name := "charAt", desc := "([BI)C" } : Jvm.MethodName)) ∈ lw_all := lw_g (lw_at lw_m3 157 rfl) rfl
theorem q724 : (Jvm.Cond.code ({ cls := "java/lang/StringLatin1", name := "charAt", desc := "([BI)C" } : Jvm.MethodName) prog_40_method_2_code (2 : Nat) (Option.some Jvm.ClassFile.FieldType.char)) ∈ lw_all := lw_g (lw_at lw_m3 158 rfl) rfl
theorem q725 : (Jvm.Cond.methodLink "java/lang/StringLatin1" (9 : Nat) ({ cls := "java/lang/String", name := "checkIndex", desc := "(II)V" } : Jvm.MethodName)) ∈ lw_all := lw_g (lw_at lw_m3 159 rfl) rfl
theorem q726 : (Jvm.Cond.static ({ cls := "java/lang/String", name := "checkIndex", desc := "(II)V" } : Jvm.MethodName)) ∈ lw_all := lw_g (lw_at lw_m3 160 rfl) rfl
theorem q727 : (Jvm.Cond.code ({ cls := "java/lang/String", name := "checkIndex", desc := "(II)V" } : Jvm.MethodName) prog_39_method_155_code (2 : Nat) (Option.none : Option Jvm.ClassFile.FieldType)) ∈ lw_all := lw_g (lw_at lw_m3 161 rfl) rfl
theorem q728 : (Jvm.Cond.fieldLink "java/lang/String" (1053 : Nat) "jdk/internal/util/Preconditions" "SIOOBE_FORMATTER" "Ljava/util/function/BiFunction;") ∈ lw_all := lw_g (lw_at lw_m3 162 rfl) rfl
theorem q729 : (Jvm.Cond.laysStatic "jdk/internal/util/Preconditions" "SIOOBE_FORMATTER" "Ljava/util/function/BiFunction;") ∈ lw_tbl := lw_at lw_m3 163 rfl
theorem q730 : (Jvm.Cond.methodLink "java/lang/String" (1059 : Nat) ({ cls := "jdk/internal/util/Preconditions", name := "checkIndex", desc := "(IILjava/util/function/BiFunction;)I" } : Jvm.MethodName)) ∈ lw_all := lw_g (lw_at lw_m3 164 rfl) rfl
theorem q731 : (Jvm.Cond.methodLink "java/lang/String" (498 : Nat) ({ cls := "java/lang/StringUTF16", name := "charAt", desc := "([BI)C" } : Jvm.MethodName)) ∈ lw_all := lw_g (lw_at lw_m3 165 rfl) rfl
theorem q732 : (Jvm.Cond.static ({ cls := "java/lang/StringUTF16", name := "charAt", desc := "([BI)C" } : Jvm.MethodName)) ∈ lw_all := lw_g (lw_at lw_m3 166 rfl) rfl
theorem q733 : (Jvm.Cond.code ({ cls := "java/lang/StringUTF16", name := "charAt", desc := "([BI)C" } : Jvm.MethodName) prog_41_method_83_code (2 : Nat) (Option.some Jvm.ClassFile.FieldType.char)) ∈ lw_all := lw_g (lw_at lw_m3 167 rfl) rfl
theorem q734 : (Jvm.Cond.methodLink "java/lang/StringUTF16" (67 : Nat) ({ cls := "java/lang/StringUTF16", name := "checkIndex", desc := "(I[B)V" } : Jvm.MethodName)) ∈ lw_all := lw_g (lw_at lw_m3 168 rfl) rfl
theorem q735 : (Jvm.Cond.static ({ cls := "java/lang/StringUTF16", name := "checkIndex", desc := "(I[B)V" } : Jvm.MethodName)) ∈ lw_all := lw_g (lw_at lw_m3 169 rfl) rfl
theorem q736 : (Jvm.Cond.code ({ cls := "java/lang/StringUTF16", name := "checkIndex", desc := "(I[B)V" } : Jvm.MethodName) prog_41_method_91_code (2 : Nat) (Option.none : Option Jvm.ClassFile.FieldType)) ∈ lw_all := lw_g (lw_at lw_m3 170 rfl) rfl
theorem q737 : (Jvm.Cond.methodLink "java/lang/StringUTF16" (48 : Nat) ({ cls := "java/lang/StringUTF16", name := "length", desc := "([B)I" } : Jvm.MethodName)) ∈ lw_all := lw_g (lw_at lw_m3 171 rfl) rfl
theorem q738 : (Jvm.Cond.static ({ cls := "java/lang/StringUTF16", name := "length", desc := "([B)I" } : Jvm.MethodName)) ∈ lw_all := lw_g (lw_at lw_m3 172 rfl) rfl
theorem q739 : (Jvm.Cond.code ({ cls := "java/lang/StringUTF16", name := "length", desc := "([B)I" } : Jvm.MethodName) prog_41_method_6_code (1 : Nat) (Option.some Jvm.ClassFile.FieldType.int)) ∈ lw_all := lw_g (lw_at lw_m3 173 rfl) rfl
theorem q740 : (Jvm.Cond.methodLink "java/lang/StringUTF16" (414 : Nat) ({ cls := "java/lang/String", name := "checkIndex", desc := "(II)V" } : Jvm.MethodName)) ∈ lw_all := lw_g (lw_at lw_m3 174 rfl) rfl
theorem q741 : (Jvm.Cond.methodLink "java/lang/StringUTF16" (71 : Nat) ({ cls := "java/lang/StringUTF16", name := "getChar", desc := "([BI)C" } : Jvm.MethodName)) ∈ lw_all := lw_g (lw_at lw_m3 175 rfl) rfl
theorem q742 : (Jvm.Cond.static ({ cls := "java/lang/StringUTF16", name := "getChar", desc := "([BI)C" } : Jvm.MethodName)) ∈ lw_all := lw_g (lw_at lw_m3 176 rfl) rfl
theorem q743 : (Jvm.Cond.code ({ cls := "java/lang/StringUTF16", name := "getChar", desc := "([BI)C" } : Jvm.MethodName) prog_41_method_5_code (2 : Nat) (Option.some Jvm.ClassFile.FieldType.char)) ∈ lw_all := lw_g (lw_at lw_m3 177 rfl) rfl
theorem q744 : (Jvm.Cond.fieldLink "java/lang/StringUTF16" (44 : Nat) "java/lang/StringUTF16" "$assertionsDisabled" "Z") ∈ lw_all := lw_g (lw_at lw_m3 178 rfl) rfl
theorem q745 : (Jvm.Cond.laysStatic "java/lang/StringUTF16" "$assertionsDisabled" "Z") ∈ lw_tbl := lw_at lw_m3 179 rfl
theorem q746 : (Jvm.Cond.fieldLink "java/lang/StringUTF16" (59 : Nat) "java/lang/StringUTF16" "HI_BYTE_SHIFT" "I") ∈ lw_all := lw_g (lw_at lw_m3 180 rfl) rfl
theorem q747 : (Jvm.Cond.laysStatic "java/lang/StringUTF16" "HI_BYTE_SHIFT" "I") ∈ lw_tbl := lw_at lw_m3 181 rfl
theorem q748 : (Jvm.Cond.fieldLink "java/lang/StringUTF16" (63 : Nat) "java/lang/StringUTF16" "LO_BYTE_SHIFT" "I") ∈ lw_all := lw_g (lw_at lw_m3 182 rfl) rfl
theorem q749 : (Jvm.Cond.laysStatic "java/lang/StringUTF16" "LO_BYTE_SHIFT" "I") ∈ lw_tbl := lw_at lw_m3 183 rfl
theorem q750 : (Jvm.Cond.methodLink "BakedBefore$Reader" (51 : Nat) ({ cls := "BakedBefore$Reader", name := "must", desc := "(I)V" } : Jvm.MethodName)) ∈ lw_all := lw_g (lw_at lw_m3 184 rfl) rfl
theorem q751 : (Jvm.Cond.privateMethod ({ cls := "BakedBefore$Reader", name := "must", desc := "(I)V" } : Jvm.MethodName)) ∈ lw_tbl := lw_at lw_m3 185 rfl
theorem q752 : (Jvm.Cond.instanceMethod ({ cls := "BakedBefore$Reader", name := "must", desc := "(I)V" } : Jvm.MethodName)) ∈ lw_all := lw_g (lw_at lw_m3 186 rfl) rfl
theorem q753 : (Jvm.Cond.code ({ cls := "BakedBefore$Reader", name := "must", desc := "(I)V" } : Jvm.MethodName) prog_13_method_4_code (2 : Nat) (Option.none : Option Jvm.ClassFile.FieldType)) ∈ lw_all := lw_g (lw_at lw_m3 187 rfl) rfl
theorem q754 : (Jvm.Cond.methodLink "BakedBefore$Reader" (38 : Nat) ({ cls := "BakedBefore$Reader", name := "off", desc := "()LBakedBefore$Off;" } : Jvm.MethodName)) ∈ lw_all := lw_g (lw_at lw_m3 188 rfl) rfl
theorem q755 : (Jvm.Cond.privateMethod ({ cls := "BakedBefore$Reader", name := "off", desc := "()LBakedBefore$Off;" } : Jvm.MethodName)) ∈ lw_tbl := lw_at lw_m3 189 rfl
theorem q756 : (Jvm.Cond.instanceMethod ({ cls := "BakedBefore$Reader", name := "off", desc := "()LBakedBefore$Off;" } : Jvm.MethodName)) ∈ lw_all := lw_g (lw_at lw_m3 190 rfl) rfl
theorem q757 : (Jvm.Cond.code ({ cls := "BakedBefore$Reader", name := "off", desc := "()LBakedBefore$Off;" } : Jvm.MethodName) prog_13_method_3_code (1 : Nat) (Option.some (Jvm.ClassFile.FieldType.object "BakedBefore$Off"))) ∈ lw_all := lw_g (lw_at lw_m3 191 rfl) rfl
theorem q758 : (Jvm.Cond.classLink "BakedBefore$Reader" (29 : Nat) "BakedBefore$Off") ∈ lw_all := lw_g (lw_at lw_m3 192 rfl) rfl
theorem q759 : (Jvm.Cond.instantiable "BakedBefore$Off" (7 : Nat)) ∈ lw_all := lw_g (lw_at lw_m3 193 rfl) rfl
theorem q760 : (Jvm.Cond.castable "BakedBefore$Off" "BakedBefore$Off") ∈ lw_tbl := lw_at lw_m3 194 rfl
theorem q761 : (Jvm.Cond.declares ({ cls := "java/lang/RuntimeException", name := "<init>", desc := "()V" } : Jvm.MethodName)) ∈ lw_tbl := lw_at lw_m3 195 rfl
theorem q762 : (Jvm.Cond.declares ({ cls := "java/lang/RuntimeException", name := "<init>", desc := "(Ljava/lang/String;)V" } : Jvm.MethodName)) ∈ lw_tbl := lw_at lw_m3 196 rfl
theorem q763 : (Jvm.Cond.declares ({ cls := "java/lang/Exception", name := "<init>", desc := "()V" } : Jvm.MethodName)) ∈ lw_tbl := lw_at lw_m3 197 rfl
theorem q764 : (Jvm.Cond.declares ({ cls := "java/lang/Exception", name := "<init>", desc := "(Ljava/lang/String;)V" } : Jvm.MethodName)) ∈ lw_tbl := lw_at lw_m3 198 rfl
theorem q765 : (Jvm.Cond.declares ({ cls := "java/lang/Throwable", name := "<init>", desc := "()V" } : Jvm.MethodName)) ∈ lw_tbl := lw_at lw_m3 199 rfl
theorem q766 : (Jvm.Cond.declares ({ cls := "java/lang/Throwable", name := "<init>", desc := "(Ljava/lang/String;)V" } : Jvm.MethodName)) ∈ lw_tbl := lw_at lw_m3 200 rfl
theorem q767 : (Jvm.Cond.selects "BakedBefore$Off" ({ cls := "java/lang/Throwable", name := "fillInStackTrace", desc := "(I)Ljava/lang/Throwable;" } : Jvm.MethodName) ({ cls := "java/lang/Throwable", name := "fillInStackTrace", desc := "(I)Ljava/lang/Throwable;" } : Jvm.MethodName)) ∈ lw_all := lw_g (lw_at lw_m3 201 rfl) rfl
theorem q768 : (Jvm.Cond.selects "BakedBefore$Off" ({ cls := "java/lang/Throwable", name := "fillInStackTrace", desc := "()Ljava/lang/Throwable;" } : Jvm.MethodName) ({ cls := "java/lang/Throwable", name := "fillInStackTrace", desc := "()Ljava/lang/Throwable;" } : Jvm.MethodName)) ∈ lw_all := lw_g (lw_at lw_m3 202 rfl) rfl
theorem q769 : (Jvm.Cond.lays "BakedBefore$Off" "java/lang/Throwable" "cause" "Ljava/lang/Throwable;") ∈ lw_all := lw_g (lw_at lw_m3 203 rfl) rfl
theorem q770 : (Jvm.Cond.lays "java/lang/Throwable" "java/lang/Throwable" "cause" "Ljava/lang/Throwable;") ∈ lw_all := lw_g (lw_at lw_m3 204 rfl) rfl
theorem q771 : (Jvm.Cond.lays "BakedBefore$Off" "java/lang/Throwable" "stackTrace" "[Ljava/lang/StackTraceElement;") ∈ lw_all := lw_g (lw_at lw_m3 205 rfl) rfl
theorem q772 : (Jvm.Cond.lays "java/lang/Throwable" "java/lang/Throwable" "stackTrace" "[Ljava/lang/StackTraceElement;") ∈ lw_all := lw_g (lw_at lw_m3 206 rfl) rfl
theorem q773 : (Jvm.Cond.lays "BakedBefore$Off" "java/lang/Throwable" "suppressedExceptions" "Ljava/util/List;") ∈ lw_all := lw_g (lw_at lw_m3 207 rfl) rfl
theorem q774 : (Jvm.Cond.lays "java/lang/Throwable" "java/lang/Throwable" "suppressedExceptions" "Ljava/util/List;") ∈ lw_all := lw_g (lw_at lw_m3 208 rfl) rfl
theorem q775 : (Jvm.Cond.lays "BakedBefore$Off" "java/lang/Throwable" "detailMessage" "Ljava/lang/String;") ∈ lw_all := lw_g (lw_at lw_m3 209 rfl) rfl
theorem q776 : (Jvm.Cond.lays "java/lang/Throwable" "java/lang/Throwable" "detailMessage" "Ljava/lang/String;") ∈ lw_all := lw_g (lw_at lw_m3 210 rfl) rfl
theorem q777 : (Jvm.Cond.lays "BakedBefore$Off" "java/lang/Throwable" "backtrace" "Ljava/lang/Object;") ∈ lw_all := lw_g (lw_at lw_m3 211 rfl) rfl
theorem q778 : (Jvm.Cond.lays "java/lang/Throwable" "java/lang/Throwable" "backtrace" "Ljava/lang/Object;") ∈ lw_all := lw_g (lw_at lw_m3 212 rfl) rfl
theorem q779 : (Jvm.Cond.fieldLink "java/lang/Throwable" (198 : Nat) "java/lang/Throwable" "backtrace" "Ljava/lang/Object;") ∈ lw_all := lw_g (lw_at lw_m3 213 rfl) rfl
theorem q780 : (Jvm.Cond.superclass "java/lang/Throwable" "java/lang/Object") ∈ lw_all := lw_g (lw_at lw_m3 214 rfl) rfl
theorem q781 : (Jvm.Cond.instanceMethod ({ cls := "java/lang/Throwable", name := "<init>", desc := "()V" } : Jvm.MethodName)) ∈ lw_all := lw_g (lw_at lw_m3 215 rfl) rfl
theorem q782 : (Jvm.Cond.code ({ cls := "java/lang/Throwable", name := "<init>", desc := "()V" } : Jvm.MethodName) prog_43_method_1_code (1 : Nat) (Option.none : Option Jvm.ClassFile.FieldType)) ∈ lw_all := lw_g (lw_at lw_m3 216 rfl) rfl
theorem q783 : (Jvm.Cond.methodLink "java/lang/Throwable" (1 : Nat) ({ cls := "java/lang/Object", name := "<init>", desc := "()V" } : Jvm.MethodName)) ∈ lw_all := lw_g (lw_at lw_m3 217 rfl) rfl
theorem q784 : (Jvm.Cond.fieldLink "java/lang/Throwable" (13 : Nat) "java/lang/Throwable" "UNASSIGNED_STACK" "[Ljava/lang/StackTraceElement;") ∈ lw_all := lw_g (lw_at lw_m3 218 rfl) rfl
theorem q785 : (Jvm.Cond.laysStatic "java/lang/Throwable" "UNASSIGNED_STACK" "[Ljava/lang/StackTraceElement;") ∈ lw_tbl := lw_at lw_m3 219 rfl
theorem q786 : (Jvm.Cond.fieldLink "java/lang/Throwable" (20 : Nat) "java/lang/Throwable" "SUPPRESSED_SENTINEL" "Ljava/util/List;") ∈ lw_all := lw_g (lw_at lw_m3 220 rfl) rfl
theorem q787 : (Jvm.Cond.laysStatic "java/lang/Throwable" "SUPPRESSED_SENTINEL" "Ljava/util/List;") ∈ lw_tbl := lw_at lw_m3 221 rfl
theorem q788 : (Jvm.Cond.methodLink "java/lang/Throwable" (27 : Nat) ({ cls := "java/lang/Throwable", name := "fillInStackTrace", desc := "()Ljava/lang/Throwable;" } : Jvm.MethodName)) ∈ lw_all := lw_g (lw_at lw_m3 222 rfl) rfl
theorem q789 : (Jvm.Cond.instanceMethod ({ cls := "java/lang/Throwable", name := "fillInStackTrace", desc := "()Ljava/lang/Throwable;" } : Jvm.MethodName)) ∈ lw_all := lw_g (lw_at lw_m3 223 rfl) rfl
theorem q790 : (Jvm.Cond.sameMethod "java/lang/Throwable" "java/lang/Throwable" "fillInStackTrace" "()Ljava/lang/Throwable;") ∈ lw_all := lw_g (lw_at lw_m3 224 rfl) rfl
theorem q791 : (Jvm.Cond.selects "java/lang/ArrayIndexOutOfBoundsException" ({ cls := "java/lang/Throwable", name := "fillInStackTrace", desc := "()Ljava/lang/Throwable;" } : Jvm.MethodName) ({ cls := "java/lang/Throwable", name := "fillInStackTrace", desc := "()Ljava/lang/Throwable;" } : Jvm.MethodName)) ∈ lw_all := lw_g (lw_at lw_m3 225 rfl) rfl
theorem q792 : (Jvm.Cond.selects "java/lang/ArrayStoreException" ({ cls := "java/lang/Throwable", name := "fillInStackTrace", desc := "()Ljava/lang/Throwable;" } : Jvm.MethodName) ({ cls := "java/lang/Throwable", name := "fillInStackTrace", desc := "()Ljava/lang/Throwable;" } : Jvm.MethodName)) ∈ lw_all := lw_g (lw_at lw_m3 226 rfl) rfl
theorem q793 : (Jvm.Cond.selects "java/lang/ClassCastException" ({ cls := "java/lang/Throwable", name := "fillInStackTrace", desc := "()Ljava/lang/Throwable;" } : Jvm.MethodName) ({ cls := "java/lang/Throwable", name := "fillInStackTrace", desc := "()Ljava/lang/Throwable;" } : Jvm.MethodName)) ∈ lw_all := lw_g (lw_at lw_m3 227 rfl) rfl
theorem q794 : (Jvm.Cond.selects "java/lang/NegativeArraySizeException" ({ cls := "java/lang/Throwable", name := "fillInStackTrace", desc := "()Ljava/lang/Throwable;" } : Jvm.MethodName) ({ cls := "java/lang/Throwable", name := "fillInStackTrace", desc := "()Ljava/lang/Throwable;" } : Jvm.MethodName)) ∈ lw_all := lw_g (lw_at lw_m3 228 rfl) rfl
theorem q795 : (Jvm.Cond.selects "java/lang/NullPointerException" ({ cls := "java/lang/Throwable", name := "fillInStackTrace", desc := "()Ljava/lang/Throwable;" } : Jvm.MethodName) ({ cls := "java/lang/NullPointerException", name := "fillInStackTrace", desc := "()Ljava/lang/Throwable;" } : Jvm.MethodName)) ∈ lw_all := lw_g (lw_at lw_m3 229 rfl) rfl
theorem q796 : (Jvm.Cond.instanceMethod ({ cls := "java/lang/NullPointerException", name := "fillInStackTrace", desc := "()Ljava/lang/Throwable;" } : Jvm.MethodName)) ∈ lw_all := lw_g (lw_at lw_m3 230 rfl) rfl
theorem q797 : (Jvm.Cond.codeSync ({ cls := "java/lang/NullPointerException", name := "fillInStackTrace", desc := "()Ljava/lang/Throwable;" } : Jvm.MethodName) prog_37_method_3_code (1 : Nat) (Option.some (Jvm.ClassFile.FieldType.object "java/lang/Throwable"))) ∈ lw_all := lw_g (lw_at lw_m3 231 rfl) rfl
theorem q798 : (Jvm.Cond.methodLink "java/lang/NullPointerException" (16 : Nat) ({ cls := "java/lang/NullPointerException", name := "getExtendedNPEMessage", desc := "()Ljava/lang/String;" } : Jvm.MethodName)) ∈ lw_all := lw_g (lw_at lw_m3 232 rfl) rfl
theorem q799 : (Jvm.Cond.privateMethod ({ cls := "java/lang/NullPointerException", name := "getExtendedNPEMessage", desc := "()Ljava/lang/String;" } : Jvm.MethodName)) ∈ lw_tbl := lw_at lw_m3 233 rfl
theorem q800 : (Jvm.Cond.instanceMethod ({ cls := "java/lang/NullPointerException", name := "getExtendedNPEMessage", desc := "()Ljava/lang/String;" } : Jvm.MethodName)) ∈ lw_all := lw_g (lw_at lw_m3 234 rfl) rfl
theorem q801 : (Jvm.Cond.instantiable "java/lang/NullPointerException" (8 : Nat)) ∈ lw_all := lw_g (lw_at lw_m3 235 rfl) rfl
theorem q802 : (Jvm.Cond.native ({ cls := "java/lang/NullPointerException", name := "getExtendedNPEMessage", desc := "()Ljava/lang/String;" } : Jvm.MethodName)) ∈ lw_all := lw_g (lw_at lw_m3 236 rfl) rfl
theorem q803 : (Jvm.Cond.methodLink "java/lang/NullPointerException" (24 : Nat) ({ cls := "java/lang/RuntimeException", name := "fillInStackTrace", desc := "()Ljava/lang/Throwable;" } : Jvm.MethodName)) ∈ lw_all := lw_g (lw_at lw_m3 237 rfl) rfl
theorem q804 : (Jvm.Cond.sameMethod "java/lang/RuntimeException" "java/lang/Throwable" "fillInStackTrace" "()Ljava/lang/Throwable;") ∈ lw_all := lw_g (lw_at lw_m3 238 rfl) rfl
theorem q805 : (Jvm.Cond.declares ({ cls := "java/lang/Throwable", name := "fillInStackTrace", desc := "()Ljava/lang/Throwable;" } : Jvm.MethodName)) ∈ lw_tbl := lw_at lw_m3 239 rfl
theorem q806 : (Jvm.Cond.superclass "java/lang/NullPointerException" "java/lang/RuntimeException") ∈ lw_all := lw_g (lw_at lw_m4 0 rfl) rfl
theorem q807 : (Jvm.Cond.superclass "java/lang/RuntimeException" "java/lang/Exception") ∈ lw_all := lw_g (lw_at lw_m4 1 rfl) rfl
theorem q808 : (Jvm.Cond.superclass "java/lang/Exception" "java/lang/Throwable") ∈ lw_all := lw_g (lw_at lw_m4 2 rfl) rfl
theorem q809 : (Jvm.Cond.codeSync ({ cls := "java/lang/Throwable", name := "fillInStackTrace", desc := "()Ljava/lang/Throwable;" } : Jvm.MethodName) prog_43_method_18_code (1 : Nat) (Option.some (Jvm.ClassFile.FieldType.object "java/lang/Throwable"))) ∈ lw_all := lw_g (lw_at lw_m4 3 rfl) rfl
theorem q810 : (Jvm.Cond.methodLink "java/lang/Throwable" (202 : Nat) ({ cls := "java/lang/Throwable", name := "fillInStackTrace", desc := "(I)Ljava/lang/Throwable;" } : Jvm.MethodName)) ∈ lw_all := lw_g (lw_at lw_m4 4 rfl) rfl
theorem q811 : (Jvm.Cond.privateMethod ({ cls := "java/lang/Throwable", name := "fillInStackTrace", desc := "(I)Ljava/lang/Throwable;" } : Jvm.MethodName)) ∈ lw_tbl := lw_at lw_m4 5 rfl
theorem q812 : (Jvm.Cond.instanceMethod ({ cls := "java/lang/Throwable", name := "fillInStackTrace", desc := "(I)Ljava/lang/Throwable;" } : Jvm.MethodName)) ∈ lw_all := lw_g (lw_at lw_m4 6 rfl) rfl
theorem q813 : (Jvm.Cond.instantiable "java/lang/Throwable" (6 : Nat)) ∈ lw_all := lw_g (lw_at lw_m4 7 rfl) rfl
theorem q814 : (Jvm.Cond.native ({ cls := "java/lang/Throwable", name := "fillInStackTrace", desc := "(I)Ljava/lang/Throwable;" } : Jvm.MethodName)) ∈ lw_all := lw_g (lw_at lw_m4 8 rfl) rfl
theorem q815 : (Jvm.Cond.methodLink "BakedBefore$Reader" (31 : Nat) ({ cls := "BakedBefore$Off", name := "<init>", desc := "(I)V" } : Jvm.MethodName)) ∈ lw_all := lw_g (lw_at lw_m4 9 rfl) rfl
theorem q816 : (Jvm.Cond.instanceMethod ({ cls := "BakedBefore$Off", name := "<init>", desc := "(I)V" } : Jvm.MethodName)) ∈ lw_all := lw_g (lw_at lw_m4 10 rfl) rfl
theorem q817 : (Jvm.Cond.code ({ cls := "BakedBefore$Off", name := "<init>", desc := "(I)V" } : Jvm.MethodName) prog_11_method_1_code (2 : Nat) (Option.none : Option Jvm.ClassFile.FieldType)) ∈ lw_all := lw_g (lw_at lw_m4 11 rfl) rfl
theorem q818 : (Jvm.Cond.methodLink "BakedBefore$Off" (1 : Nat) ({ cls := "java/lang/RuntimeException", name := "<init>", desc := "()V" } : Jvm.MethodName)) ∈ lw_all := lw_g (lw_at lw_m4 12 rfl) rfl
theorem q819 : (Jvm.Cond.instanceMethod ({ cls := "java/lang/RuntimeException", name := "<init>", desc := "()V" } : Jvm.MethodName)) ∈ lw_all := lw_g (lw_at lw_m4 13 rfl) rfl
theorem q820 : (Jvm.Cond.code ({ cls := "java/lang/RuntimeException", name := "<init>", desc := "()V" } : Jvm.MethodName) prog_38_method_1_code (1 : Nat) (Option.none : Option Jvm.ClassFile.FieldType)) ∈ lw_all := lw_g (lw_at lw_m4 14 rfl) rfl
theorem q821 : (Jvm.Cond.methodLink "java/lang/RuntimeException" (1 : Nat) ({ cls := "java/lang/Exception", name := "<init>", desc := "()V" } : Jvm.MethodName)) ∈ lw_all := lw_g (lw_at lw_m4 15 rfl) rfl
theorem q822 : (Jvm.Cond.instanceMethod ({ cls := "java/lang/Exception", name := "<init>", desc := "()V" } : Jvm.MethodName)) ∈ lw_all := lw_g (lw_at lw_m4 16 rfl) rfl
theorem q823 : (Jvm.Cond.code ({ cls := "java/lang/Exception", name := "<init>", desc := "()V" } : Jvm.MethodName) prog_31_method_1_code (1 : Nat) (Option.none : Option Jvm.ClassFile.FieldType)) ∈ lw_all := lw_g (lw_at lw_m4 17 rfl) rfl
theorem q824 : (Jvm.Cond.methodLink "java/lang/Exception" (1 : Nat) ({ cls := "java/lang/Throwable", name := "<init>", desc := "()V" } : Jvm.MethodName)) ∈ lw_all := lw_g (lw_at lw_m4 18 rfl) rfl
theorem q825 : (Jvm.Cond.fieldLink "BakedBefore$Off" (7 : Nat) "BakedBefore$Off" "place" "I") ∈ lw_all := lw_g (lw_at lw_m4 19 rfl) rfl
theorem q826 : (Jvm.Cond.fieldLinkNest "BakedBefore" (239 : Nat) "BakedBefore$Off" "place" "I" "BakedBefore") ∈ lw_tbl := lw_at lw_m4 20 rfl
theorem q827 : (Jvm.Cond.fieldLink "java/lang/Throwable" (198 : Nat) "java/lang/Throwable" "backtrace" "Ljava/lang/Object;") ∈ lw_all := lw_g (lw_at lw_m4 21 rfl) rfl
theorem q828 : (Jvm.Cond.fieldLink "java/lang/Throwable" (31 : Nat) "java/lang/Throwable" "detailMessage" "Ljava/lang/String;") ∈ lw_all := lw_g (lw_at lw_m4 22 rfl) rfl
theorem q829 : (Jvm.Cond.fieldLink "java/lang/Throwable" (7 : Nat) "java/lang/Throwable" "cause" "Ljava/lang/Throwable;") ∈ lw_all := lw_g (lw_at lw_m4 23 rfl) rfl
theorem q830 : (Jvm.Cond.fieldLink "java/lang/Throwable" (17 : Nat) "java/lang/Throwable" "stackTrace" "[Ljava/lang/StackTraceElement;") ∈ lw_all := lw_g (lw_at lw_m4 24 rfl) rfl
theorem q831 : (Jvm.Cond.fieldLink "java/lang/Throwable" (24 : Nat) "java/lang/Throwable" "suppressedExceptions" "Ljava/util/List;") ∈ lw_all := lw_g (lw_at lw_m4 25 rfl) rfl
theorem q832 : (Jvm.Cond.laysFinal "BakedBefore$Off" "BakedBefore$Off" "place" "I") ∈ lw_all := lw_g (lw_at lw_m4 26 rfl) rfl
theorem q833 : (Jvm.Cond.soleField "BakedBefore$Off" "place") ∈ lw_all := lw_g (lw_at lw_m4 27 rfl) rfl
theorem q834 : (Jvm.Cond.soleField "java/lang/Throwable" "backtrace") ∈ lw_all := lw_g (lw_at lw_m4 28 rfl) rfl
theorem q835 : (Jvm.Cond.soleField "java/lang/Throwable" "detailMessage") ∈ lw_all := lw_g (lw_at lw_m4 29 rfl) rfl
theorem q836 : (Jvm.Cond.soleField "java/lang/Throwable" "cause") ∈ lw_all := lw_g (lw_at lw_m4 30 rfl) rfl
theorem q837 : (Jvm.Cond.soleField "java/lang/Throwable" "stackTrace") ∈ lw_all := lw_g (lw_at lw_m4 31 rfl) rfl
theorem q838 : (Jvm.Cond.lays "BakedBefore$Off" "java/lang/Throwable" "depth" "I") ∈ lw_all := lw_g (lw_at lw_m4 32 rfl) rfl
theorem q839 : (Jvm.Cond.soleField "java/lang/Throwable" "depth") ∈ lw_all := lw_g (lw_at lw_m4 33 rfl) rfl
theorem q840 : (Jvm.Cond.soleField "java/lang/Throwable" "suppressedExceptions") ∈ lw_all := lw_g (lw_at lw_m4 34 rfl) rfl
theorem q841 : (Jvm.Cond.superclass "BakedBefore$Off" "java/lang/RuntimeException") ∈ lw_all := lw_g (lw_at lw_m4 35 rfl) rfl
theorem q842 : (Jvm.Cond.methodLink "BakedBefore$Reader" (78 : Nat) ({ cls := "BakedBefore$Reader", name := "number", desc := "()I" } : Jvm.MethodName)) ∈ lw_all := lw_g (lw_at lw_m4 36 rfl) rfl
theorem q843 : (Jvm.Cond.privateMethod ({ cls := "BakedBefore$Reader", name := "number", desc := "()I" } : Jvm.MethodName)) ∈ lw_tbl := lw_at lw_m4 37 rfl
theorem q844 : (Jvm.Cond.instanceMethod ({ cls := "BakedBefore$Reader", name := "number", desc := "()I" } : Jvm.MethodName)) ∈ lw_all := lw_g (lw_at lw_m4 38 rfl) rfl
theorem q845 : (Jvm.Cond.code ({ cls := "BakedBefore$Reader", name := "number", desc := "()I" } : Jvm.MethodName) prog_13_method_6_code (3 : Nat) (Option.some Jvm.ClassFile.FieldType.int)) ∈ lw_all := lw_g (lw_at lw_m4 39 rfl) rfl
theorem q846 : (Jvm.Cond.methodLinkNest "BakedBefore$Reader" (54 : Nat) ({ cls := "BakedBefore", name := "in", desc := "(III)Z" } : Jvm.MethodName) "BakedBefore") ∈ lw_tbl := lw_at lw_m4 40 rfl
theorem q847 : (Jvm.Cond.classLink "BakedBefore$Reader" (106 : Nat) "BakedBefore$Clause") ∈ lw_all := lw_g (lw_at lw_m4 41 rfl) rfl
theorem q848 : (Jvm.Cond.instantiable "BakedBefore$Clause" (2 : Nat)) ∈ lw_all := lw_g (lw_at lw_m4 42 rfl) rfl
theorem q849 : (Jvm.Cond.methodLink "BakedBefore$Reader" (73 : Nat) ({ cls := "BakedBefore$Reader", name := "some", desc := "()LBakedBefore$Test;" } : Jvm.MethodName)) ∈ lw_all := lw_g (lw_at lw_m4 43 rfl) rfl
theorem q850 : (Jvm.Cond.privateMethod ({ cls := "BakedBefore$Reader", name := "some", desc := "()LBakedBefore$Test;" } : Jvm.MethodName)) ∈ lw_tbl := lw_at lw_m4 44 rfl
theorem q851 : (Jvm.Cond.instanceMethod ({ cls := "BakedBefore$Reader", name := "some", desc := "()LBakedBefore$Test;" } : Jvm.MethodName)) ∈ lw_all := lw_g (lw_at lw_m4 45 rfl) rfl
theorem q852 : (Jvm.Cond.code ({ cls := "BakedBefore$Reader", name := "some", desc := "()LBakedBefore$Test;" } : Jvm.MethodName) prog_13_method_10_code (2 : Nat) (Option.some (Jvm.ClassFile.FieldType.object "BakedBefore$Test"))) ∈ lw_all := lw_g (lw_at lw_m4 46 rfl) rfl
theorem q853 : (Jvm.Cond.classLink "BakedBefore$Reader" (84 : Nat) "BakedBefore$Some") ∈ lw_all := lw_g (lw_at lw_m4 47 rfl) rfl
theorem q854 : (Jvm.Cond.instantiable "BakedBefore$Some" (2 : Nat)) ∈ lw_all := lw_g (lw_at lw_m4 48 rfl) rfl
theorem q855 : (Jvm.Cond.methodLink "BakedBefore$Reader" (86 : Nat) ({ cls := "BakedBefore$Some", name := "<init>", desc := "(Z)V" } : Jvm.MethodName)) ∈ lw_all := lw_g (lw_at lw_m4 49 rfl) rfl
theorem q856 : (Jvm.Cond.instanceMethod ({ cls := "BakedBefore$Some", name := "<init>", desc := "(Z)V" } : Jvm.MethodName)) ∈ lw_all := lw_g (lw_at lw_m4 50 rfl) rfl
theorem q857 : (Jvm.Cond.code ({ cls := "BakedBefore$Some", name := "<init>", desc := "(Z)V" } : Jvm.MethodName) prog_16_method_1_code (2 : Nat) (Option.none : Option Jvm.ClassFile.FieldType)) ∈ lw_all := lw_g (lw_at lw_m4 51 rfl) rfl
theorem q858 : (Jvm.Cond.methodLinkNest "BakedBefore$Some" (1 : Nat) ({ cls := "BakedBefore$Test", name := "<init>", desc := "()V" } : Jvm.MethodName) "BakedBefore") ∈ lw_tbl := lw_at lw_m4 52 rfl
theorem q859 : (Jvm.Cond.instanceMethod ({ cls := "BakedBefore$Test", name := "<init>", desc := "()V" } : Jvm.MethodName)) ∈ lw_all := lw_g (lw_at lw_m4 53 rfl) rfl
theorem q860 : (Jvm.Cond.code ({ cls := "BakedBefore$Test", name := "<init>", desc := "()V" } : Jvm.MethodName) prog_19_method_1_code (1 : Nat) (Option.none : Option Jvm.ClassFile.FieldType)) ∈ lw_all := lw_g (lw_at lw_m4 54 rfl) rfl
theorem q861 : (Jvm.Cond.methodLink "BakedBefore$Test" (1 : Nat) ({ cls := "java/lang/Object", name := "<init>", desc := "()V" } : Jvm.MethodName)) ∈ lw_all := lw_g (lw_at lw_m4 55 rfl) rfl
theorem q862 : (Jvm.Cond.classLink "BakedBefore$Some" (7 : Nat) "java/util/ArrayList") ∈ lw_all := lw_g (lw_at lw_m4 56 rfl) rfl
theorem q863 : (Jvm.Cond.methodLink "BakedBefore$Some" (9 : Nat) ({ cls := "java/util/ArrayList", name := "<init>", desc := "()V" } : Jvm.MethodName)) ∈ lw_all := lw_g (lw_at lw_m4 57 rfl) rfl
theorem q864 : (Jvm.Cond.fieldLink "BakedBefore$Some" (16 : Nat) "BakedBefore$Some" "isAll" "Z") ∈ lw_all := lw_g (lw_at lw_m4 58 rfl) rfl
theorem q865 : (Jvm.Cond.fieldLink "BakedBefore$Some" (10 : Nat) "BakedBefore$Some" "of" "Ljava/util/ArrayList;") ∈ lw_all := lw_g (lw_at lw_m4 59 rfl) rfl
theorem q866 : (Jvm.Cond.fieldLinkNest "BakedBefore$Reader" (89 : Nat) "BakedBefore$Some" "of" "Ljava/util/ArrayList;" "BakedBefore") ∈ lw_tbl := lw_at lw_m4 60 rfl
theorem q867 : (Jvm.Cond.laysFinal "BakedBefore$Some" "BakedBefore$Some" "isAll" "Z") ∈ lw_all := lw_g (lw_at lw_m4 61 rfl) rfl
theorem q868 : (Jvm.Cond.soleField "BakedBefore$Some" "isAll") ∈ lw_all := lw_g (lw_at lw_m4 62 rfl) rfl
theorem q869 : (Jvm.Cond.laysFinal "BakedBefore$Some" "BakedBefore$Some" "of" "Ljava/util/ArrayList;") ∈ lw_all := lw_g (lw_at lw_m4 63 rfl) rfl
theorem q870 : (Jvm.Cond.soleField "BakedBefore$Some" "of") ∈ lw_all := lw_g (lw_at lw_m4 64 rfl) rfl
theorem q871 : (Jvm.Cond.superclass "BakedBefore$Some" "BakedBefore$Test") ∈ lw_all := lw_g (lw_at lw_m4 65 rfl) rfl
theorem q872 : (Jvm.Cond.methodLink "BakedBefore$Reader" (99 : Nat) ({ cls := "BakedBefore$Reader", name := "all", desc := "()LBakedBefore$Test;" } : Jvm.MethodName)) ∈ lw_all := lw_g (lw_at lw_m4 66 rfl) rfl
theorem q873 : (Jvm.Cond.privateMethod ({ cls := "BakedBefore$Reader", name := "all", desc := "()LBakedBefore$Test;" } : Jvm.MethodName)) ∈ lw_tbl := lw_at lw_m4 67 rfl
theorem q874 : (Jvm.Cond.instanceMethod ({ cls := "BakedBefore$Reader", name := "all", desc := "()LBakedBefore$Test;" } : Jvm.MethodName)) ∈ lw_all := lw_g (lw_at lw_m4 68 rfl) rfl
theorem q875 : (Jvm.Cond.code ({ cls := "BakedBefore$Reader", name := "all", desc := "()LBakedBefore$Test;" } : Jvm.MethodName) prog_13_method_9_code (2 : Nat) (Option.some (Jvm.ClassFile.FieldType.object "BakedBefore$Test"))) ∈ lw_all := lw_g (lw_at lw_m4 69 rfl) rfl
theorem q876 : (Jvm.Cond.methodLink "BakedBefore$Reader" (66 : Nat) ({ cls := "BakedBefore$Reader", name := "factor", desc := "()LBakedBefore$Test;" } : Jvm.MethodName)) ∈ lw_all := lw_g (lw_at lw_m4 70 rfl) rfl
theorem q877 : (Jvm.Cond.privateMethod ({ cls := "BakedBefore$Reader", name := "factor", desc := "()LBakedBefore$Test;" } : Jvm.MethodName)) ∈ lw_tbl := lw_at lw_m4 71 rfl
theorem q878 : (Jvm.Cond.instanceMethod ({ cls := "BakedBefore$Reader", name := "factor", desc := "()LBakedBefore$Test;" } : Jvm.MethodName)) ∈ lw_all := lw_g (lw_at lw_m4 72 rfl) rfl
theorem q879 : (Jvm.Cond.code ({ cls := "BakedBefore$Reader", name := "factor", desc := "()LBakedBefore$Test;" } : Jvm.MethodName) prog_13_method_8_code (3 : Nat) (Option.some (Jvm.ClassFile.FieldType.object "BakedBefore$Test"))) ∈ lw_all := lw_g (lw_at lw_m4 73 rfl) rfl
theorem q880 : (Jvm.Cond.methodLink "BakedBefore$Reader" (61 : Nat) ({ cls := "BakedBefore$Reader", name := "deeper", desc := "()V" } : Jvm.MethodName)) ∈ lw_all := lw_g (lw_at lw_m4 74 rfl) rfl
theorem q881 : (Jvm.Cond.privateMethod ({ cls := "BakedBefore$Reader", name := "deeper", desc := "()V" } : Jvm.MethodName)) ∈ lw_tbl := lw_at lw_m4 75 rfl
theorem q882 : (Jvm.Cond.instanceMethod ({ cls := "BakedBefore$Reader", name := "deeper", desc := "()V" } : Jvm.MethodName)) ∈ lw_all := lw_g (lw_at lw_m4 76 rfl) rfl
theorem q883 : (Jvm.Cond.code ({ cls := "BakedBefore$Reader", name := "deeper", desc := "()V" } : Jvm.MethodName) prog_13_method_7_code (1 : Nat) (Option.none : Option Jvm.ClassFile.FieldType)) ∈ lw_all := lw_g (lw_at lw_m4 77 rfl) rfl
theorem q884 : (Jvm.Cond.classLink "BakedBefore$Reader" (64 : Nat) "BakedBefore$Not") ∈ lw_all := lw_g (lw_at lw_m4 78 rfl) rfl
theorem q885 : (Jvm.Cond.instantiable "BakedBefore$Not" (1 : Nat)) ∈ lw_all := lw_g (lw_at lw_m4 79 rfl) rfl
theorem q886 : (Jvm.Cond.methodLink "BakedBefore$Reader" (70 : Nat) ({ cls := "BakedBefore$Not", name := "<init>", desc := "(LBakedBefore$Test;)V" } : Jvm.MethodName)) ∈ lw_all := lw_g (lw_at lw_m4 80 rfl) rfl
theorem q887 : (Jvm.Cond.instanceMethod ({ cls := "BakedBefore$Not", name := "<init>", desc := "(LBakedBefore$Test;)V" } : Jvm.MethodName)) ∈ lw_all := lw_g (lw_at lw_m4 81 rfl) rfl
theorem q888 : (Jvm.Cond.code ({ cls := "BakedBefore$Not", name := "<init>", desc := "(LBakedBefore$Test;)V" } : Jvm.MethodName) prog_10_method_1_code (2 : Nat) (Option.none : Option Jvm.ClassFile.FieldType)) ∈ lw_all := lw_g (lw_at lw_m4 82 rfl) rfl
theorem q889 : (Jvm.Cond.methodLinkNest "BakedBefore$Not" (1 : Nat) ({ cls := "BakedBefore$Test", name := "<init>", desc := "()V" } : Jvm.MethodName) "BakedBefore") ∈ lw_tbl := lw_at lw_m4 83 rfl
theorem q890 : (Jvm.Cond.fieldLink "BakedBefore$Not" (7 : Nat) "BakedBefore$Not" "of" "LBakedBefore$Test;") ∈ lw_all := lw_g (lw_at lw_m4 84 rfl) rfl
theorem q891 : (Jvm.Cond.laysFinal "BakedBefore$Not" "BakedBefore$Not" "of" "LBakedBefore$Test;") ∈ lw_all := lw_g (lw_at lw_m4 85 rfl) rfl
theorem q892 : (Jvm.Cond.soleField "BakedBefore$Not" "of") ∈ lw_all := lw_g (lw_at lw_m4 86 rfl) rfl
theorem q893 : (Jvm.Cond.superclass "BakedBefore$Not" "BakedBefore$Test") ∈ lw_all := lw_g (lw_at lw_m4 87 rfl) rfl
theorem q894 : (Jvm.Cond.classLink "BakedBefore$Reader" (76 : Nat) "BakedBefore$Against") ∈ lw_all := lw_g (lw_at lw_m4 88 rfl) rfl
theorem q895 : (Jvm.Cond.instantiable "BakedBefore$Against" (3 : Nat)) ∈ lw_all := lw_g (lw_at lw_m4 89 rfl) rfl
theorem q896 : (Jvm.Cond.methodLink "BakedBefore$Reader" (81 : Nat) ({ cls := "BakedBefore$Against", name := "<init>", desc := "(III)V" } : Jvm.MethodName)) ∈ lw_all := lw_g (lw_at lw_m4 90 rfl) rfl
theorem q897 : (Jvm.Cond.instanceMethod ({ cls := "BakedBefore$Against", name := "<init>", desc := "(III)V" } : Jvm.MethodName)) ∈ lw_all := lw_g (lw_at lw_m4 91 rfl) rfl
theorem q898 : (Jvm.Cond.code ({ cls := "BakedBefore$Against", name := "<init>", desc := "(III)V" } : Jvm.MethodName) prog_2_method_1_code (4 : Nat) (Option.none : Option Jvm.ClassFile.FieldType)) ∈ lw_all := lw_g (lw_at lw_m4 92 rfl) rfl
theorem q899 : (Jvm.Cond.methodLinkNest "BakedBefore$Against" (1 : Nat) ({ cls := "BakedBefore$Test", name := "<init>", desc := "()V" } : Jvm.MethodName) "BakedBefore") ∈ lw_tbl := lw_at lw_m4 93 rfl
theorem q900 : (Jvm.Cond.fieldLink "BakedBefore$Against" (7 : Nat) "BakedBefore$Against" "letter" "I") ∈ lw_all := lw_g (lw_at lw_m4 94 rfl) rfl
theorem q901 : (Jvm.Cond.fieldLink "BakedBefore$Against" (13 : Nat) "BakedBefore$Against" "sign" "I") ∈ lw_all := lw_g (lw_at lw_m4 95 rfl) rfl
theorem q902 : (Jvm.Cond.fieldLink "BakedBefore$Against" (16 : Nat) "BakedBefore$Against" "n" "I") ∈ lw_all := lw_g (lw_at lw_m4 96 rfl) rfl
theorem q903 : (Jvm.Cond.laysFinal "BakedBefore$Against" "BakedBefore$Against" "letter" "I") ∈ lw_all := lw_g (lw_at lw_m4 97 rfl) rfl
theorem q904 : (Jvm.Cond.soleField "BakedBefore$Against" "letter") ∈ lw_all := lw_g (lw_at lw_m4 98 rfl) rfl
theorem q905 : (Jvm.Cond.laysFinal "BakedBefore$Against" "BakedBefore$Against" "sign" "I") ∈ lw_all := lw_g (lw_at lw_m4 99 rfl) rfl
theorem q906 : (Jvm.Cond.soleField "BakedBefore$Against" "sign") ∈ lw_all := lw_g (lw_at lw_m4 100 rfl) rfl
theorem q907 : (Jvm.Cond.laysFinal "BakedBefore$Against" "BakedBefore$Against" "n" "I") ∈ lw_all := lw_g (lw_at lw_m4 101 rfl) rfl
theorem q908 : (Jvm.Cond.soleField "BakedBefore$Against" "n") ∈ lw_all := lw_g (lw_at lw_m4 102 rfl) rfl
theorem q909 : (Jvm.Cond.superclass "BakedBefore$Against" "BakedBefore$Test") ∈ lw_all := lw_g (lw_at lw_m4 103 rfl) rfl
theorem q910 : (Jvm.Cond.methodLink "BakedBefore$Reader" (93 : Nat) ({ cls := "java/util/ArrayList", name := "add", desc := "(Ljava/lang/Object;)Z" } : Jvm.MethodName)) ∈ lw_all := lw_g (lw_at lw_m4 104 rfl) rfl
theorem q911 : (Jvm.Cond.instanceMethod ({ cls := "java/util/ArrayList", name := "add", desc := "(Ljava/lang/Object;)Z" } : Jvm.MethodName)) ∈ lw_all := lw_g (lw_at lw_m4 105 rfl) rfl
theorem q912 : (Jvm.Cond.selects "java/util/ArrayList" ({ cls := "java/util/ArrayList", name := "add", desc := "(Ljava/lang/Object;)Z" } : Jvm.MethodName) ({ cls := "java/util/ArrayList", name := "add", desc := "(Ljava/lang/Object;)Z" } : Jvm.MethodName)) ∈ lw_all := lw_g (lw_at lw_m4 106 rfl) rfl
theorem q913 : (Jvm.Cond.code ({ cls := "java/util/ArrayList", name := "add", desc := "(Ljava/lang/Object;)Z" } : Jvm.MethodName) prog_48_method_25_code (2 : Nat) (Option.some Jvm.ClassFile.FieldType.boolean)) ∈ lw_all := lw_g (lw_at lw_m4 107 rfl) rfl
theorem q914 : (Jvm.Cond.methodLink "java/util/ArrayList" (131 : Nat) ({ cls := "java/util/ArrayList", name := "add", desc := "(Ljava/lang/Object;[Ljava/lang/Object;I)V" } : Jvm.MethodName)) ∈ lw_all := lw_g (lw_at lw_m4 108 rfl) rfl
theorem q915 : (Jvm.Cond.privateMethod ({ cls := "java/util/ArrayList", name := "add", desc := "(Ljava/lang/Object;[Ljava/lang/Object;I)V" } : Jvm.MethodName)) ∈ lw_tbl := lw_at lw_m4 109 rfl
theorem q916 : (Jvm.Cond.instanceMethod ({ cls := "java/util/ArrayList", name := "add", desc := "(Ljava/lang/Object;[Ljava/lang/Object;I)V" } : Jvm.MethodName)) ∈ lw_all := lw_g (lw_at lw_m4 110 rfl) rfl
theorem q917 : (Jvm.Cond.code ({ cls := "java/util/ArrayList", name := "add", desc := "(Ljava/lang/Object;[Ljava/lang/Object;I)V" } : Jvm.MethodName) prog_48_method_24_code (4 : Nat) (Option.none : Option Jvm.ClassFile.FieldType)) ∈ lw_all := lw_g (lw_at lw_m4 111 rfl) rfl
theorem q918 : (Jvm.Cond.methodLink "java/util/ArrayList" (129 : Nat) ({ cls := "java/util/ArrayList", name := "grow", desc := "()[Ljava/lang/Object;" } : Jvm.MethodName)) ∈ lw_all := lw_g (lw_at lw_m4 112 rfl) rfl
theorem q919 : (Jvm.Cond.privateMethod ({ cls := "java/util/ArrayList", name := "grow", desc := "()[Ljava/lang/Object;" } : Jvm.MethodName)) ∈ lw_tbl := lw_at lw_m4 113 rfl
theorem q920 : (Jvm.Cond.instanceMethod ({ cls := "java/util/ArrayList", name := "grow", desc := "()[Ljava/lang/Object;" } : Jvm.MethodName)) ∈ lw_all := lw_g (lw_at lw_m4 114 rfl) rfl
theorem q921 : (Jvm.Cond.code ({ cls := "java/util/ArrayList", name := "grow", desc := "()[Ljava/lang/Object;" } : Jvm.MethodName) prog_48_method_7_code (1 : Nat) (Option.some (Jvm.ClassFile.FieldType.array (Jvm.ClassFile.FieldType.object "java/lang/Object")))) ∈ lw_all := lw_g (lw_at lw_m4 115 rfl) rfl
theorem q922 : (Jvm.Cond.methodLink "java/util/ArrayList" (69 : Nat) ({ cls := "java/util/ArrayList", name := "grow", desc := "(I)[Ljava/lang/Object;" } : Jvm.MethodName)) ∈ lw_all := lw_g (lw_at lw_m4 116 rfl) rfl
theorem q923 : (Jvm.Cond.privateMethod ({ cls := "java/util/ArrayList", name := "grow", desc := "(I)[Ljava/lang/Object;" } : Jvm.MethodName)) ∈ lw_tbl := lw_at lw_m4 117 rfl
theorem q924 : (Jvm.Cond.instanceMethod ({ cls := "java/util/ArrayList", name := "grow", desc := "(I)[Ljava/lang/Object;" } : Jvm.MethodName)) ∈ lw_all := lw_g (lw_at lw_m4 118 rfl) rfl
theorem q925 : (Jvm.Cond.code ({ cls := "java/util/ArrayList", name := "grow", desc := "(I)[Ljava/lang/Object;" } : Jvm.MethodName) prog_48_method_6_code (4 : Nat) (Option.some (Jvm.ClassFile.FieldType.array (Jvm.ClassFile.FieldType.object "java/lang/Object")))) ∈ lw_all := lw_g (lw_at lw_m4 119 rfl) rfl
theorem q926 : (Jvm.Cond.methodLink "java/util/ArrayList" (73 : Nat) ({ cls := "jdk/internal/util/ArraysSupport", name := "newLength", desc := "(III)I" } : Jvm.MethodName)) ∈ lw_all := lw_g (lw_at lw_m4 120 rfl) rfl
theorem q927 : (Jvm.Cond.static ({ cls := "jdk/internal/util/ArraysSupport", name := "newLength", desc := "(III)I" } : Jvm.MethodName)) ∈ lw_all := lw_g (lw_at lw_m4 121 rfl) rfl
theorem q928 : (Jvm.Cond.code ({ cls := "jdk/internal/util/ArraysSupport", name := "newLength", desc := "(III)I" } : Jvm.MethodName) prog_55_method_27_code (4 : Nat) (Option.some Jvm.ClassFile.FieldType.int)) ∈ lw_all := lw_g (lw_at lw_m4 122 rfl) rfl
theorem q929 : (Jvm.Cond.methodLink "jdk/internal/util/ArraysSupport" (194 : Nat) ({ cls := "java/lang/Math", name := "max", desc := "(II)I" } : Jvm.MethodName)) ∈ lw_all := lw_g (lw_at lw_m4 123 rfl) rfl
theorem q930 : (Jvm.Cond.constant "jdk/internal/util/ArraysSupport" (200 : Nat) (2147483639 : Int32)) ∈ lw_all := lw_g (lw_at lw_m4 124 rfl) rfl
theorem q931 : (Jvm.Cond.methodLink "jdk/internal/util/ArraysSupport" (201 : Nat) ({ cls := "jdk/internal/util/ArraysSupport", name := "hugeLength", desc := "(II)I" } : Jvm.MethodName)) ∈ lw_all := lw_g (lw_at lw_m4 125 rfl) rfl
theorem q932 : (Jvm.Cond.static ({ cls := "jdk/internal/util/ArraysSupport", name := "hugeLength", desc := "(II)I" } : Jvm.MethodName)) ∈ lw_all := lw_g (lw_at lw_m4 126 rfl) rfl
theorem q933 : (Jvm.Cond.code ({ cls := "jdk/internal/util/ArraysSupport", name := "hugeLength", desc := "(II)I" } : Jvm.MethodName) prog_55_method_28_code (3 : Nat) (Option.some Jvm.ClassFile.FieldType.int)) ∈ lw_all := lw_g (lw_at lw_m4 127 rfl) rfl
theorem q934 : (Jvm.Cond.methodLink "java/util/ArrayList" (66 : Nat) ({ cls := "java/util/Arrays", name := "copyOf", desc := "([Ljava/lang/Object;I)[Ljava/lang/Object;" } : Jvm.MethodName)) ∈ lw_all := lw_g (lw_at lw_m4 128 rfl) rfl
theorem q935 : (Jvm.Cond.static ({ cls := "java/util/Arrays", name := "copyOf", desc := "([Ljava/lang/Object;I)[Ljava/lang/Object;" } : Jvm.MethodName)) ∈ lw_all := lw_g (lw_at lw_m4 129 rfl) rfl
theorem q936 : (Jvm.Cond.code ({ cls := "java/util/Arrays", name := "copyOf", desc := "([Ljava/lang/Object;I)[Ljava/lang/Object;" } : Jvm.MethodName) prog_49_method_119_code (2 : Nat) (Option.some (Jvm.ClassFile.FieldType.array (Jvm.ClassFile.FieldType.object "java/lang/Object")))) ∈ lw_all := lw_g (lw_at lw_m4 130 rfl) rfl
theorem q937 : (Jvm.Cond.methodLink "java/util/Arrays" (86 : Nat) ({ cls := "java/lang/Object", name := "getClass", desc := "()Ljava/lang/Class;" } : Jvm.MethodName)) ∈ lw_all := lw_g (lw_at lw_m4 131 rfl) rfl
theorem q938 : (Jvm.Cond.instanceMethod ({ cls := "java/lang/Object", name := "getClass", desc := "()Ljava/lang/Class;" } : Jvm.MethodName)) ∈ lw_all := lw_g (lw_at lw_m4 132 rfl) rfl
theorem q939 : (Jvm.Cond.sameMethod "java/lang/Object" "java/lang/Object" "getClass" "()Ljava/lang/Class;") ∈ lw_all := lw_g (lw_at lw_m4 133 rfl) rfl
theorem q940 : (Jvm.Cond.selects "BakedBefore" ({ cls := "java/lang/Object", name := "getClass", desc := "()Ljava/lang/Class;" } : Jvm.MethodName) ({ cls := "java/lang/Object", name := "getClass", desc := "()Ljava/lang/Class;" } : Jvm.MethodName)) ∈ lw_all := lw_g (lw_at lw_m4 134 rfl) rfl
theorem q941 : (Jvm.Cond.selects "BakedBefore$Against" ({ cls := "java/lang/Object", name := "getClass", desc := "()Ljava/lang/Class;" } : Jvm.MethodName) ({ cls := "java/lang/Object", name := "getClass", desc := "()Ljava/lang/Class;" } : Jvm.MethodName)) ∈ lw_all := lw_g (lw_at lw_m4 135 rfl) rfl
theorem q942 : (Jvm.Cond.selects "BakedBefore$Clause" ({ cls := "java/lang/Object", name := "getClass", desc := "()Ljava/lang/Class;" } : Jvm.MethodName) ({ cls := "java/lang/Object", name := "getClass", desc := "()Ljava/lang/Class;" } : Jvm.MethodName)) ∈ lw_all := lw_g (lw_at lw_m4 136 rfl) rfl
theorem q943 : (Jvm.Cond.selects "BakedBefore$Clean" ({ cls := "java/lang/Object", name := "getClass", desc := "()Ljava/lang/Class;" } : Jvm.MethodName) ({ cls := "java/lang/Object", name := "getClass", desc := "()Ljava/lang/Class;" } : Jvm.MethodName)) ∈ lw_all := lw_g (lw_at lw_m4 137 rfl) rfl
theorem q944 : (Jvm.Cond.selects "BakedBefore$Greedy" ({ cls := "java/lang/Object", name := "getClass", desc := "()Ljava/lang/Class;" } : Jvm.MethodName) ({ cls := "java/lang/Object", name := "getClass", desc := "()Ljava/lang/Class;" } : Jvm.MethodName)) ∈ lw_all := lw_g (lw_at lw_m4 138 rfl) rfl
theorem q945 : (Jvm.Cond.selects "BakedBefore$Holy" ({ cls := "java/lang/Object", name := "getClass", desc := "()Ljava/lang/Class;" } : Jvm.MethodName) ({ cls := "java/lang/Object", name := "getClass", desc := "()Ljava/lang/Class;" } : Jvm.MethodName)) ∈ lw_all := lw_g (lw_at lw_m4 139 rfl) rfl
theorem q946 : (Jvm.Cond.selects "BakedBefore$Kiln" ({ cls := "java/lang/Object", name := "getClass", desc := "()Ljava/lang/Class;" } : Jvm.MethodName) ({ cls := "java/lang/Object", name := "getClass", desc := "()Ljava/lang/Class;" } : Jvm.MethodName)) ∈ lw_all := lw_g (lw_at lw_m4 140 rfl) rfl
theorem q947 : (Jvm.Cond.selects "BakedBefore$Loaf" ({ cls := "java/lang/Object", name := "getClass", desc := "()Ljava/lang/Class;" } : Jvm.MethodName) ({ cls := "java/lang/Object", name := "getClass", desc := "()Ljava/lang/Class;" } : Jvm.MethodName)) ∈ lw_all := lw_g (lw_at lw_m4 141 rfl) rfl
theorem q948 : (Jvm.Cond.selects "BakedBefore$Look" ({ cls := "java/lang/Object", name := "getClass", desc := "()Ljava/lang/Class;" } : Jvm.MethodName) ({ cls := "java/lang/Object", name := "getClass", desc := "()Ljava/lang/Class;" } : Jvm.MethodName)) ∈ lw_all := lw_g (lw_at lw_m4 142 rfl) rfl
theorem q949 : (Jvm.Cond.selects "BakedBefore$Not" ({ cls := "java/lang/Object", name := "getClass", desc := "()Ljava/lang/Class;" } : Jvm.MethodName) ({ cls := "java/lang/Object", name := "getClass", desc := "()Ljava/lang/Class;" } : Jvm.MethodName)) ∈ lw_all := lw_g (lw_at lw_m4 143 rfl) rfl
theorem q950 : (Jvm.Cond.selects "BakedBefore$Off" ({ cls := "java/lang/Object", name := "getClass", desc := "()Ljava/lang/Class;" } : Jvm.MethodName) ({ cls := "java/lang/Object", name := "getClass", desc := "()Ljava/lang/Class;" } : Jvm.MethodName)) ∈ lw_all := lw_g (lw_at lw_m4 144 rfl) rfl
theorem q951 : (Jvm.Cond.selects "BakedBefore$Poisoned" ({ cls := "java/lang/Object", name := "getClass", desc := "()Ljava/lang/Class;" } : Jvm.MethodName) ({ cls := "java/lang/Object", name := "getClass", desc := "()Ljava/lang/Class;" } : Jvm.MethodName)) ∈ lw_all := lw_g (lw_at lw_m4 145 rfl) rfl
theorem q952 : (Jvm.Cond.selects "BakedBefore$Reader" ({ cls := "java/lang/Object", name := "getClass", desc := "()Ljava/lang/Class;" } : Jvm.MethodName) ({ cls := "java/lang/Object", name := "getClass", desc := "()Ljava/lang/Class;" } : Jvm.MethodName)) ∈ lw_all := lw_g (lw_at lw_m4 146 rfl) rfl
theorem q953 : (Jvm.Cond.selects "BakedBefore$Rye" ({ cls := "java/lang/Object", name := "getClass", desc := "()Ljava/lang/Class;" } : Jvm.MethodName) ({ cls := "java/lang/Object", name := "getClass", desc := "()Ljava/lang/Class;" } : Jvm.MethodName)) ∈ lw_all := lw_g (lw_at lw_m4 147 rfl) rfl
theorem q954 : (Jvm.Cond.selects "BakedBefore$Shy" ({ cls := "java/lang/Object", name := "getClass", desc := "()Ljava/lang/Class;" } : Jvm.MethodName) ({ cls := "java/lang/Object", name := "getClass", desc := "()Ljava/lang/Class;" } : Jvm.MethodName)) ∈ lw_all := lw_g (lw_at lw_m4 148 rfl) rfl
theorem q955 : (Jvm.Cond.selects "BakedBefore$Some" ({ cls := "java/lang/Object", name := "getClass", desc := "()Ljava/lang/Class;" } : Jvm.MethodName) ({ cls := "java/lang/Object", name := "getClass", desc := "()Ljava/lang/Class;" } : Jvm.MethodName)) ∈ lw_all := lw_g (lw_at lw_m4 149 rfl) rfl
theorem q956 : (Jvm.Cond.selects "BakedBefore$Tape" ({ cls := "java/lang/Object", name := "getClass", desc := "()Ljava/lang/Class;" } : Jvm.MethodName) ({ cls := "java/lang/Object", name := "getClass", desc := "()Ljava/lang/Class;" } : Jvm.MethodName)) ∈ lw_all := lw_g (lw_at lw_m4 150 rfl) rfl
theorem q957 : (Jvm.Cond.selects "BakedBefore$Time" ({ cls := "java/lang/Object", name := "getClass", desc := "()Ljava/lang/Class;" } : Jvm.MethodName) ({ cls := "java/lang/Object", name := "getClass", desc := "()Ljava/lang/Class;" } : Jvm.MethodName)) ∈ lw_all := lw_g (lw_at lw_m4 151 rfl) rfl
theorem q958 : (Jvm.Cond.selects "BakedBefore$Trace" ({ cls := "java/lang/Object", name := "getClass", desc := "()Ljava/lang/Class;" } : Jvm.MethodName) ({ cls := "java/lang/Object", name := "getClass", desc := "()Ljava/lang/Class;" } : Jvm.MethodName)) ∈ lw_all := lw_g (lw_at lw_m4 152 rfl) rfl
theorem q959 : (Jvm.Cond.selects "BakedBeforeModel" ({ cls := "java/lang/Object", name := "getClass", desc := "()Ljava/lang/Class;" } : Jvm.MethodName) ({ cls := "java/lang/Object", name := "getClass", desc := "()Ljava/lang/Class;" } : Jvm.MethodName)) ∈ lw_all := lw_g (lw_at lw_m4 153 rfl) rfl
theorem q960 : (Jvm.Cond.selects "java/lang/ArrayIndexOutOfBoundsException" ({ cls := "java/lang/Object", name := "getClass", desc := "()Ljava/lang/Class;" } : Jvm.MethodName) ({ cls := "java/lang/Object", name := "getClass", desc := "()Ljava/lang/Class;" } : Jvm.MethodName)) ∈ lw_all := lw_g (lw_at lw_m4 154 rfl) rfl
theorem q961 : (Jvm.Cond.selects "java/lang/ArrayStoreException" ({ cls := "java/lang/Object", name := "getClass", desc := "()Ljava/lang/Class;" } : Jvm.MethodName) ({ cls := "java/lang/Object", name := "getClass", desc := "()Ljava/lang/Class;" } : Jvm.MethodName)) ∈ lw_all := lw_g (lw_at lw_m4 155 rfl) rfl
theorem q962 : (Jvm.Cond.selects "java/lang/ClassCastException" ({ cls := "java/lang/Object", name := "getClass", desc := "()Ljava/lang/Class;" } : Jvm.MethodName) ({ cls := "java/lang/Object", name := "getClass", desc := "()Ljava/lang/Class;" } : Jvm.MethodName)) ∈ lw_all := lw_g (lw_at lw_m4 156 rfl) rfl
theorem q963 : (Jvm.Cond.selects "java/lang/NegativeArraySizeException" ({ cls := "java/lang/Object", name := "getClass", desc := "()Ljava/lang/Class;" } : Jvm.MethodName) ({ cls := "java/lang/Object", name := "getClass", desc := "()Ljava/lang/Class;" } : Jvm.MethodName)) ∈ lw_all := lw_g (lw_at lw_m4 157 rfl) rfl
theorem q964 : (Jvm.Cond.selects "java/lang/NullPointerException" ({ cls := "java/lang/Object", name := "getClass", desc := "()Ljava/lang/Class;" } : Jvm.MethodName) ({ cls := "java/lang/Object", name := "getClass", desc := "()Ljava/lang/Class;" } : Jvm.MethodName)) ∈ lw_all := lw_g (lw_at lw_m4 158 rfl) rfl
theorem q965 : (Jvm.Cond.selects "java/util/ArrayList" ({ cls := "java/lang/Object", name := "getClass", desc := "()Ljava/lang/Class;" } : Jvm.MethodName) ({ cls := "java/lang/Object", name := "getClass", desc := "()Ljava/lang/Class;" } : Jvm.MethodName)) ∈ lw_all := lw_g (lw_at lw_m4 159 rfl) rfl
theorem q966 : (Jvm.Cond.native ({ cls := "java/lang/Object", name := "getClass", desc := "()Ljava/lang/Class;" } : Jvm.MethodName)) ∈ lw_all := lw_g (lw_at lw_m4 160 rfl) rfl
theorem q967 : (Jvm.Cond.methodLink "java/util/Arrays" (300 : Nat) ({ cls := "java/util/Arrays", name := "copyOf", desc := "([Ljava/lang/Object;ILjava/lang/Class;)[Ljava/lang/Object;" } : Jvm.MethodName)) ∈ lw_all := lw_g (lw_at lw_m4 161 rfl) rfl
theorem q968 : (Jvm.Cond.static ({ cls := "java/util/Arrays", name := "copyOf", desc := "([Ljava/lang/Object;ILjava/lang/Class;)[Ljava/lang/Object;" } : Jvm.MethodName)) ∈ lw_all := lw_g (lw_at lw_m4 162 rfl) rfl
theorem q969 : (Jvm.Cond.code ({ cls := "java/util/Arrays", name := "copyOf", desc := "([Ljava/lang/Object;ILjava/lang/Class;)[Ljava/lang/Object;" } : Jvm.MethodName) prog_49_method_120_code (4 : Nat) (Option.some (Jvm.ClassFile.FieldType.array (Jvm.ClassFile.FieldType.object "java/lang/Object")))) ∈ lw_all := lw_g (lw_at lw_m4 163 rfl) rfl
theorem q970 : (Jvm.Cond.classLink "java/util/Arrays" (110 : Nat) "[Ljava/lang/Object;") ∈ lw_all := lw_g (lw_at lw_m4 164 rfl) rfl
theorem q971 : (Jvm.Cond.arrayOver (Jvm.ClassFile.FieldType.object "java/lang/Object")) ∈ lw_tbl := lw_at lw_m4 165 rfl
theorem q972 : (Jvm.Cond.classLink "java/util/Arrays" (2 : Nat) "java/lang/Object") ∈ lw_all := lw_g (lw_at lw_m4 166 rfl) rfl
theorem q973 : (Jvm.Cond.methodLink "java/util/Arrays" (304 : Nat) ({ cls := "java/lang/Math", name := "min", desc := "(II)I" } : Jvm.MethodName)) ∈ lw_all := lw_g (lw_at lw_m4 167 rfl) rfl
theorem q974 : (Jvm.Cond.methodLink "java/util/Arrays" (150 : Nat) ({ cls := "java/lang/System", name := "arraycopy", desc := "(Ljava/lang/Object;ILjava/lang/Object;II)V" } : Jvm.MethodName)) ∈ lw_all := lw_g (lw_at lw_m4 168 rfl) rfl
theorem q975 : (Jvm.Cond.static ({ cls := "java/lang/System", name := "arraycopy", desc := "(Ljava/lang/Object;ILjava/lang/Object;II)V" } : Jvm.MethodName)) ∈ lw_all := lw_g (lw_at lw_m4 169 rfl) rfl
theorem q976 : (Jvm.Cond.native ({ cls := "java/lang/System", name := "arraycopy", desc := "(Ljava/lang/Object;ILjava/lang/Object;II)V" } : Jvm.MethodName)) ∈ lw_all := lw_g (lw_at lw_m4 170 rfl) rfl
theorem q977 : (Jvm.Cond.methodLink "java/util/ArrayList" (79 : Nat) ({ cls := "java/lang/Math", name := "max", desc := "(II)I" } : Jvm.MethodName)) ∈ lw_all := lw_g (lw_at lw_m4 171 rfl) rfl
theorem q978 : (Jvm.Cond.classLink "java/util/ArrayList" (7 : Nat) "java/lang/Object") ∈ lw_all := lw_g (lw_at lw_m4 172 rfl) rfl
theorem q979 : (Jvm.Cond.methodLink "BakedBefore$Reader" (108 : Nat) ({ cls := "BakedBefore$Clause", name := "<init>", desc := "(ILBakedBefore$Test;)V" } : Jvm.MethodName)) ∈ lw_all := lw_g (lw_at lw_m4 173 rfl) rfl
theorem q980 : (Jvm.Cond.instanceMethod ({ cls := "BakedBefore$Clause", name := "<init>", desc := "(ILBakedBefore$Test;)V" } : Jvm.MethodName)) ∈ lw_all := lw_g (lw_at lw_m4 174 rfl) rfl
theorem q981 : (Jvm.Cond.code ({ cls := "BakedBefore$Clause", name := "<init>", desc := "(ILBakedBefore$Test;)V" } : Jvm.MethodName) prog_3_method_1_code (3 : Nat) (Option.none : Option Jvm.ClassFile.FieldType)) ∈ lw_all := lw_g (lw_at lw_m4 175 rfl) rfl
theorem q982 : (Jvm.Cond.methodLink "BakedBefore$Clause" (1 : Nat) ({ cls := "java/lang/Object", name := "<init>", desc := "()V" } : Jvm.MethodName)) ∈ lw_all := lw_g (lw_at lw_m4 176 rfl) rfl
theorem q983 : (Jvm.Cond.fieldLink "BakedBefore$Clause" (7 : Nat) "BakedBefore$Clause" "n" "I") ∈ lw_all := lw_g (lw_at lw_m4 177 rfl) rfl
theorem q984 : (Jvm.Cond.fieldLinkNest "BakedBefore$Kiln" (48 : Nat) "BakedBefore$Clause" "n" "I" "BakedBefore") ∈ lw_tbl := lw_at lw_m4 178 rfl
theorem q985 : (Jvm.Cond.fieldLink "BakedBefore$Clause" (13 : Nat) "BakedBefore$Clause" "test" "LBakedBefore$Test;") ∈ lw_all := lw_g (lw_at lw_m4 179 rfl) rfl
theorem q986 : (Jvm.Cond.fieldLinkNest "BakedBefore$Kiln" (38 : Nat) "BakedBefore$Clause" "test" "LBakedBefore$Test;" "BakedBefore") ∈ lw_tbl := lw_at lw_m4 180 rfl
theorem q987 : (Jvm.Cond.laysFinal "BakedBefore$Clause" "BakedBefore$Clause" "n" "I") ∈ lw_all := lw_g (lw_at lw_m4 181 rfl) rfl
theorem q988 : (Jvm.Cond.soleField "BakedBefore$Clause" "n") ∈ lw_all := lw_g (lw_at lw_m4 182 rfl) rfl
theorem q989 : (Jvm.Cond.laysFinal "BakedBefore$Clause" "BakedBefore$Clause" "test" "LBakedBefore$Test;") ∈ lw_all := lw_g (lw_at lw_m4 183 rfl) rfl
theorem q990 : (Jvm.Cond.soleField "BakedBefore$Clause" "test") ∈ lw_all := lw_g (lw_at lw_m4 184 rfl) rfl
theorem q991 : (Jvm.Cond.superclass "BakedBefore$Clause" "java/lang/Object") ∈ lw_all := lw_g (lw_at lw_m4 185 rfl) rfl
theorem q992 : (Jvm.Cond.stringRef "BakedBefore$Reader" (123 : Nat) "more ") ∈ lw_tbl := lw_at lw_m4 186 rfl
theorem q993 : (Jvm.Cond.stringRef "BakedBefore$Reader" (128 : Nat) "fee ") ∈ lw_tbl := lw_at lw_m4 187 rfl
theorem q994 : (Jvm.Cond.stringRef "BakedBefore$Reader" (130 : Nat) "cold ") ∈ lw_tbl := lw_at lw_m4 188 rfl
theorem q995 : (Jvm.Cond.methodLink "BakedBeforeLaw" (41 : Nat) ({ cls := "BakedBefore", name := "told", desc := "(I)I" } : Jvm.MethodName)) ∈ lw_all := lw_g (lw_at lw_m4 189 rfl) rfl
theorem q996 : (Jvm.Cond.instanceMethod ({ cls := "BakedBefore", name := "told", desc := "(I)I" } : Jvm.MethodName)) ∈ lw_all := lw_g (lw_at lw_m4 190 rfl) rfl
theorem q997 : (Jvm.Cond.selects "BakedBefore" ({ cls := "BakedBefore", name := "told", desc := "(I)I" } : Jvm.MethodName) ({ cls := "BakedBefore", name := "told", desc := "(I)I" } : Jvm.MethodName)) ∈ lw_all := lw_g (lw_at lw_m4 191 rfl) rfl
theorem q998 : (Jvm.Cond.code ({ cls := "BakedBefore", name := "told", desc := "(I)I" } : Jvm.MethodName) prog_1_method_19_code (2 : Nat) (Option.some Jvm.ClassFile.FieldType.int)) ∈ lw_all := lw_g (lw_at lw_m4 192 rfl) rfl
theorem q999 : (Jvm.Cond.methodLink "BakedBeforeLaw" (45 : Nat) ({ cls := "BakedBefore", name := "bake", desc := "(I)I" } : Jvm.MethodName)) ∈ lw_all := lw_g (lw_at lw_m4 193 rfl) rfl
theorem q1000 : (Jvm.Cond.instanceMethod ({ cls := "BakedBefore", name := "bake", desc := "(I)I" } : Jvm.MethodName)) ∈ lw_all := lw_g (lw_at lw_m4 194 rfl) rfl
theorem q1001 : (Jvm.Cond.selects "BakedBefore" ({ cls := "BakedBefore", name := "bake", desc := "(I)I" } : Jvm.MethodName) ({ cls := "BakedBefore", name := "bake", desc := "(I)I" } : Jvm.MethodName)) ∈ lw_all := lw_g (lw_at lw_m4 195 rfl) rfl
theorem q1002 : (Jvm.Cond.code ({ cls := "BakedBefore", name := "bake", desc := "(I)I" } : Jvm.MethodName) prog_1_method_23_code (2 : Nat) (Option.some Jvm.ClassFile.FieldType.int)) ∈ lw_all := lw_g (lw_at lw_m4 196 rfl) rfl
theorem q1003 : (Jvm.Cond.methodLink "BakedBefore" (245 : Nat) ({ cls := "BakedBefore", name := "goes", desc := "(LBakedBefore$Time;I)Z" } : Jvm.MethodName)) ∈ lw_all := lw_g (lw_at lw_m4 197 rfl) rfl
theorem q1004 : (Jvm.Cond.privateMethod ({ cls := "BakedBefore", name := "goes", desc := "(LBakedBefore$Time;I)Z" } : Jvm.MethodName)) ∈ lw_tbl := lw_at lw_m4 198 rfl
theorem q1005 : (Jvm.Cond.instanceMethod ({ cls := "BakedBefore", name := "goes", desc := "(LBakedBefore$Time;I)Z" } : Jvm.MethodName)) ∈ lw_all := lw_g (lw_at lw_m4 199 rfl) rfl
theorem q1006 : (Jvm.Cond.code ({ cls := "BakedBefore", name := "goes", desc := "(LBakedBefore$Time;I)Z" } : Jvm.MethodName) prog_1_method_20_code (5 : Nat) (Option.some Jvm.ClassFile.FieldType.boolean)) ∈ lw_all := lw_g (lw_at lw_m4 200 rfl) rfl
theorem q1007 : (Jvm.Cond.methodLink "BakedBeforeLaw" (49 : Nat) ({ cls := "BakedBefore", name := "cold", desc := "()I" } : Jvm.MethodName)) ∈ lw_all := lw_g (lw_at lw_m4 201 rfl) rfl
theorem q1008 : (Jvm.Cond.instanceMethod ({ cls := "BakedBefore", name := "cold", desc := "()I" } : Jvm.MethodName)) ∈ lw_all := lw_g (lw_at lw_m4 202 rfl) rfl
theorem q1009 : (Jvm.Cond.selects "BakedBefore" ({ cls := "BakedBefore", name := "cold", desc := "()I" } : Jvm.MethodName) ({ cls := "BakedBefore", name := "cold", desc := "()I" } : Jvm.MethodName)) ∈ lw_all := lw_g (lw_at lw_m4 203 rfl) rfl
theorem q1010 : (Jvm.Cond.code ({ cls := "BakedBefore", name := "cold", desc := "()I" } : Jvm.MethodName) prog_1_method_24_code (1 : Nat) (Option.some Jvm.ClassFile.FieldType.int)) ∈ lw_all := lw_g (lw_at lw_m4 204 rfl) rfl
theorem q1011 : (Jvm.Cond.methodLink "BakedBefore" (248 : Nat) ({ cls := "BakedBefore", name := "cools", desc := "(LBakedBefore$Time;)V" } : Jvm.MethodName)) ∈ lw_all := lw_g (lw_at lw_m4 205 rfl) rfl
theorem q1012 : (Jvm.Cond.privateMethod ({ cls := "BakedBefore", name := "cools", desc := "(LBakedBefore$Time;)V" } : Jvm.MethodName)) ∈ lw_tbl := lw_at lw_m4 206 rfl
theorem q1013 : (Jvm.Cond.instanceMethod ({ cls := "BakedBefore", name := "cools", desc := "(LBakedBefore$Time;)V" } : Jvm.MethodName)) ∈ lw_all := lw_g (lw_at lw_m4 207 rfl) rfl
theorem q1014 : (Jvm.Cond.code ({ cls := "BakedBefore", name := "cools", desc := "(LBakedBefore$Time;)V" } : Jvm.MethodName) prog_1_method_22_code (3 : Nat) (Option.none : Option Jvm.ClassFile.FieldType)) ∈ lw_all := lw_g (lw_at lw_m4 208 rfl) rfl
theorem q1015 : (Jvm.Cond.methodLink "BakedBeforeLaw" (53 : Nat) ({ cls := "BakedBefore", name := "would", desc := "(III)I" } : Jvm.MethodName)) ∈ lw_all := lw_g (lw_at lw_m4 209 rfl) rfl
theorem q1016 : (Jvm.Cond.instanceMethod ({ cls := "BakedBefore", name := "would", desc := "(III)I" } : Jvm.MethodName)) ∈ lw_all := lw_g (lw_at lw_m4 210 rfl) rfl
theorem q1017 : (Jvm.Cond.selects "BakedBefore" ({ cls := "BakedBefore", name := "would", desc := "(III)I" } : Jvm.MethodName) ({ cls := "BakedBefore", name := "would", desc := "(III)I" } : Jvm.MethodName)) ∈ lw_all := lw_g (lw_at lw_m4 211 rfl) rfl
theorem q1018 : (Jvm.Cond.code ({ cls := "BakedBefore", name := "would", desc := "(III)I" } : Jvm.MethodName) prog_1_method_25_code (4 : Nat) (Option.some Jvm.ClassFile.FieldType.int)) ∈ lw_all := lw_g (lw_at lw_m4 212 rfl) rfl
theorem q1019 : (Jvm.Cond.methodLink "BakedBefore" (252 : Nat) ({ cls := "BakedBefore$Time", name := "takes", desc := "(LBakedBefore$Time;)V" } : Jvm.MethodName)) ∈ lw_all := lw_g (lw_at lw_m4 213 rfl) rfl
theorem q1020 : (Jvm.Cond.instanceMethod ({ cls := "BakedBefore$Time", name := "takes", desc := "(LBakedBefore$Time;)V" } : Jvm.MethodName)) ∈ lw_all := lw_g (lw_at lw_m4 214 rfl) rfl
theorem q1021 : (Jvm.Cond.selects "BakedBefore$Time" ({ cls := "BakedBefore$Time", name := "takes", desc := "(LBakedBefore$Time;)V" } : Jvm.MethodName) ({ cls := "BakedBefore$Time", name := "takes", desc := "(LBakedBefore$Time;)V" } : Jvm.MethodName)) ∈ lw_all := lw_g (lw_at lw_m4 215 rfl) rfl
theorem q1022 : (Jvm.Cond.code ({ cls := "BakedBefore$Time", name := "takes", desc := "(LBakedBefore$Time;)V" } : Jvm.MethodName) prog_20_method_2_code (2 : Nat) (Option.none : Option Jvm.ClassFile.FieldType)) ∈ lw_all := lw_g (lw_at lw_m4 216 rfl) rfl
theorem q1023 : (Jvm.Cond.methodLink "BakedBefore$Time" (15 : Nat) ({ cls := "java/lang/System", name := "arraycopy", desc := "(Ljava/lang/Object;ILjava/lang/Object;II)V" } : Jvm.MethodName)) ∈ lw_all := lw_g (lw_at lw_m4 217 rfl) rfl
theorem q1024 : (Jvm.Cond.methodLink "BakedBeforeLaw" (58 : Nat) ({ cls := "BakedBefore", name := "order", desc := "(II)I" } : Jvm.MethodName)) ∈ lw_all := lw_g (lw_at lw_m4 218 rfl) rfl
theorem q1025 : (Jvm.Cond.instanceMethod ({ cls := "BakedBefore", name := "order", desc := "(II)I" } : Jvm.MethodName)) ∈ lw_all := lw_g (lw_at lw_m4 219 rfl) rfl
theorem q1026 : (Jvm.Cond.selects "BakedBefore" ({ cls := "BakedBefore", name := "order", desc := "(II)I" } : Jvm.MethodName) ({ cls := "BakedBefore", name := "order", desc := "(II)I" } : Jvm.MethodName)) ∈ lw_all := lw_g (lw_at lw_m4 220 rfl) rfl
theorem q1027 : (Jvm.Cond.code ({ cls := "BakedBefore", name := "order", desc := "(II)I" } : Jvm.MethodName) prog_1_method_31_code (3 : Nat) (Option.some Jvm.ClassFile.FieldType.int)) ∈ lw_all := lw_g (lw_at lw_m4 221 rfl) rfl
theorem q1028 : (Jvm.Cond.methodLink "BakedBefore" (269 : Nat) ({ cls := "BakedBefore", name := "isSet", desc := "(I)Z" } : Jvm.MethodName)) ∈ lw_all := lw_g (lw_at lw_m4 222 rfl) rfl
theorem q1029 : (Jvm.Cond.privateMethod ({ cls := "BakedBefore", name := "isSet", desc := "(I)Z" } : Jvm.MethodName)) ∈ lw_tbl := lw_at lw_m4 223 rfl
theorem q1030 : (Jvm.Cond.instanceMethod ({ cls := "BakedBefore", name := "isSet", desc := "(I)Z" } : Jvm.MethodName)) ∈ lw_all := lw_g (lw_at lw_m4 224 rfl) rfl
theorem q1031 : (Jvm.Cond.code ({ cls := "BakedBefore", name := "isSet", desc := "(I)Z" } : Jvm.MethodName) prog_1_method_29_code (2 : Nat) (Option.some Jvm.ClassFile.FieldType.boolean)) ∈ lw_all := lw_g (lw_at lw_m4 225 rfl) rfl
theorem q1032 : (Jvm.Cond.methodLink "BakedBefore" (272 : Nat) ({ cls := "java/lang/Integer", name := "bitCount", desc := "(I)I" } : Jvm.MethodName)) ∈ lw_all := lw_g (lw_at lw_m4 226 rfl) rfl
theorem q1033 : (Jvm.Cond.static ({ cls := "java/lang/Integer", name := "bitCount", desc := "(I)I" } : Jvm.MethodName)) ∈ lw_all := lw_g (lw_at lw_m4 227 rfl) rfl
theorem q1034 : (Jvm.Cond.code ({ cls := "java/lang/Integer", name := "bitCount", desc := "(I)I" } : Jvm.MethodName) prog_33_method_49_code (1 : Nat) (Option.some Jvm.ClassFile.FieldType.int)) ∈ lw_all := lw_g (lw_at lw_m4 228 rfl) rfl
theorem q1035 : (Jvm.Cond.constant "java/lang/Integer" (265 : Nat) (1431655765 : Int32)) ∈ lw_all := lw_g (lw_at lw_m4 229 rfl) rfl
theorem q1036 : (Jvm.Cond.constant "java/lang/Integer" (266 : Nat) (858993459 : Int32)) ∈ lw_all := lw_g (lw_at lw_m4 230 rfl) rfl
theorem q1037 : (Jvm.Cond.constant "java/lang/Integer" (267 : Nat) (252645135 : Int32)) ∈ lw_all := lw_g (lw_at lw_m4 231 rfl) rfl
theorem q1038 : (Jvm.Cond.methodLink "BakedBefore" (277 : Nat) ({ cls := "BakedBefore", name := "begins", desc := "()V" } : Jvm.MethodName)) ∈ lw_all := lw_g (lw_at lw_m4 232 rfl) rfl
theorem q1039 : (Jvm.Cond.privateMethod ({ cls := "BakedBefore", name := "begins", desc := "()V" } : Jvm.MethodName)) ∈ lw_tbl := lw_at lw_m4 233 rfl
theorem q1040 : (Jvm.Cond.instanceMethod ({ cls := "BakedBefore", name := "begins", desc := "()V" } : Jvm.MethodName)) ∈ lw_all := lw_g (lw_at lw_m4 234 rfl) rfl
theorem q1041 : (Jvm.Cond.code ({ cls := "BakedBefore", name := "begins", desc := "()V" } : Jvm.MethodName) prog_1_method_30_code (2 : Nat) (Option.none : Option Jvm.ClassFile.FieldType)) ∈ lw_all := lw_g (lw_at lw_m4 235 rfl) rfl
theorem q1042 : (Jvm.Cond.methodLink "BakedBefore" (265 : Nat) ({ cls := "BakedBefore", name := "ordersFrom", desc := "(III)V" } : Jvm.MethodName)) ∈ lw_all := lw_g (lw_at lw_m4 236 rfl) rfl
theorem q1043 : (Jvm.Cond.privateMethod ({ cls := "BakedBefore", name := "ordersFrom", desc := "(III)V" } : Jvm.MethodName)) ∈ lw_tbl := lw_at lw_m4 237 rfl
theorem q1044 : (Jvm.Cond.instanceMethod ({ cls := "BakedBefore", name := "ordersFrom", desc := "(III)V" } : Jvm.MethodName)) ∈ lw_all := lw_g (lw_at lw_m4 238 rfl) rfl
theorem q1045 : (Jvm.Cond.code ({ cls := "BakedBefore", name := "ordersFrom", desc := "(III)V" } : Jvm.MethodName) prog_1_method_28_code (6 : Nat) (Option.none : Option Jvm.ClassFile.FieldType)) ∈ lw_all := lw_g (lw_at lw_m4 239 rfl) rfl
theorem q1046 : (Jvm.Cond.methodLink "BakedBefore" (258 : Nat) ({ cls := "BakedBefore", name := "isFewer", desc := "(I)Z" } : Jvm.MethodName)) ∈ lw_all := lw_g (lw_at lw_m5 0 rfl) rfl
theorem q1047 : (Jvm.Cond.privateMethod ({ cls := "BakedBefore", name := "isFewer", desc := "(I)Z" } : Jvm.MethodName)) ∈ lw_tbl := lw_at lw_m5 1 rfl
theorem q1048 : (Jvm.Cond.instanceMethod ({ cls := "BakedBefore", name := "isFewer", desc := "(I)Z" } : Jvm.MethodName)) ∈ lw_all := lw_g (lw_at lw_m5 2 rfl) rfl
theorem q1049 : (Jvm.Cond.code ({ cls := "BakedBefore", name := "isFewer", desc := "(I)Z" } : Jvm.MethodName) prog_1_method_27_code (2 : Nat) (Option.some Jvm.ClassFile.FieldType.boolean)) ∈ lw_all := lw_g (lw_at lw_m5 3 rfl) rfl
theorem q1050 : (Jvm.Cond.methodLink "BakedBefore" (261 : Nat) ({ cls := "BakedBefore", name := "keepsRow", desc := "(II)V" } : Jvm.MethodName)) ∈ lw_all := lw_g (lw_at lw_m5 4 rfl) rfl
theorem q1051 : (Jvm.Cond.privateMethod ({ cls := "BakedBefore", name := "keepsRow", desc := "(II)V" } : Jvm.MethodName)) ∈ lw_tbl := lw_at lw_m5 5 rfl
theorem q1052 : (Jvm.Cond.instanceMethod ({ cls := "BakedBefore", name := "keepsRow", desc := "(II)V" } : Jvm.MethodName)) ∈ lw_all := lw_g (lw_at lw_m5 6 rfl) rfl
theorem q1053 : (Jvm.Cond.code ({ cls := "BakedBefore", name := "keepsRow", desc := "(II)V" } : Jvm.MethodName) prog_1_method_26_code (4 : Nat) (Option.none : Option Jvm.ClassFile.FieldType)) ∈ lw_all := lw_g (lw_at lw_m5 7 rfl) rfl
theorem q1054 : (Jvm.Cond.methodLink "BakedBeforeLaw" (62 : Nat) ({ cls := "BakedBefore", name := "colds", desc := "(II)I" } : Jvm.MethodName)) ∈ lw_all := lw_g (lw_at lw_m5 8 rfl) rfl
theorem q1055 : (Jvm.Cond.instanceMethod ({ cls := "BakedBefore", name := "colds", desc := "(II)I" } : Jvm.MethodName)) ∈ lw_all := lw_g (lw_at lw_m5 9 rfl) rfl
theorem q1056 : (Jvm.Cond.selects "BakedBefore" ({ cls := "BakedBefore", name := "colds", desc := "(II)I" } : Jvm.MethodName) ({ cls := "BakedBefore", name := "colds", desc := "(II)I" } : Jvm.MethodName)) ∈ lw_all := lw_g (lw_at lw_m5 10 rfl) rfl
theorem q1057 : (Jvm.Cond.code ({ cls := "BakedBefore", name := "colds", desc := "(II)I" } : Jvm.MethodName) prog_1_method_33_code (3 : Nat) (Option.some Jvm.ClassFile.FieldType.int)) ∈ lw_all := lw_g (lw_at lw_m5 11 rfl) rfl
theorem q1058 : (Jvm.Cond.methodLink "BakedBefore" (283 : Nat) ({ cls := "BakedBefore", name := "coldsFrom", desc := "(III)V" } : Jvm.MethodName)) ∈ lw_all := lw_g (lw_at lw_m5 12 rfl) rfl
theorem q1059 : (Jvm.Cond.privateMethod ({ cls := "BakedBefore", name := "coldsFrom", desc := "(III)V" } : Jvm.MethodName)) ∈ lw_tbl := lw_at lw_m5 13 rfl
theorem q1060 : (Jvm.Cond.instanceMethod ({ cls := "BakedBefore", name := "coldsFrom", desc := "(III)V" } : Jvm.MethodName)) ∈ lw_all := lw_g (lw_at lw_m5 14 rfl) rfl
theorem q1061 : (Jvm.Cond.code ({ cls := "BakedBefore", name := "coldsFrom", desc := "(III)V" } : Jvm.MethodName) prog_1_method_32_code (7 : Nat) (Option.none : Option Jvm.ClassFile.FieldType)) ∈ lw_all := lw_g (lw_at lw_m5 15 rfl) rfl
theorem q1062 : (Jvm.Cond.methodLink "BakedBefore" (280 : Nat) ({ cls := "java/lang/Integer", name := "numberOfTrailingZeros", desc := "(I)I" } : Jvm.MethodName)) ∈ lw_all := lw_g (lw_at lw_m5 16 rfl) rfl
theorem q1063 : (Jvm.Cond.static ({ cls := "java/lang/Integer", name := "numberOfTrailingZeros", desc := "(I)I" } : Jvm.MethodName)) ∈ lw_all := lw_g (lw_at lw_m5 17 rfl) rfl
theorem q1064 : (Jvm.Cond.code ({ cls := "java/lang/Integer", name := "numberOfTrailingZeros", desc := "(I)I" } : Jvm.MethodName) prog_33_method_48_code (2 : Nat) (Option.some Jvm.ClassFile.FieldType.int)) ∈ lw_all := lw_g (lw_at lw_m5 18 rfl) rfl
theorem q1065 : (Jvm.Cond.constant "java/lang/Integer" (264 : Nat) (65536 : Int32)) ∈ lw_all := lw_g (lw_at lw_m5 19 rfl) rfl
theorem q1066 : (Jvm.Cond.methodLink "BakedBeforeLaw" (66 : Nat) ({ cls := "BakedBefore", name := "place", desc := "(II)I" } : Jvm.MethodName)) ∈ lw_all := lw_g (lw_at lw_m5 20 rfl) rfl
theorem q1067 : (Jvm.Cond.instanceMethod ({ cls := "BakedBefore", name := "place", desc := "(II)I" } : Jvm.MethodName)) ∈ lw_all := lw_g (lw_at lw_m5 21 rfl) rfl
theorem q1068 : (Jvm.Cond.selects "BakedBefore" ({ cls := "BakedBefore", name := "place", desc := "(II)I" } : Jvm.MethodName) ({ cls := "BakedBefore", name := "place", desc := "(II)I" } : Jvm.MethodName)) ∈ lw_all := lw_g (lw_at lw_m5 22 rfl) rfl
theorem q1069 : (Jvm.Cond.code ({ cls := "BakedBefore", name := "place", desc := "(II)I" } : Jvm.MethodName) prog_1_method_35_code (7 : Nat) (Option.some Jvm.ClassFile.FieldType.int)) ∈ lw_all := lw_g (lw_at lw_m5 23 rfl) rfl
theorem q1070 : (Jvm.Cond.methodLink "BakedBefore" (290 : Nat) ({ cls := "BakedBefore", name := "takesAt", desc := "(II)I" } : Jvm.MethodName)) ∈ lw_all := lw_g (lw_at lw_m5 24 rfl) rfl
theorem q1071 : (Jvm.Cond.privateMethod ({ cls := "BakedBefore", name := "takesAt", desc := "(II)I" } : Jvm.MethodName)) ∈ lw_tbl := lw_at lw_m5 25 rfl
theorem q1072 : (Jvm.Cond.instanceMethod ({ cls := "BakedBefore", name := "takesAt", desc := "(II)I" } : Jvm.MethodName)) ∈ lw_all := lw_g (lw_at lw_m5 26 rfl) rfl
theorem q1073 : (Jvm.Cond.code ({ cls := "BakedBefore", name := "takesAt", desc := "(II)I" } : Jvm.MethodName) prog_1_method_34_code (5 : Nat) (Option.some Jvm.ClassFile.FieldType.int)) ∈ lw_all := lw_g (lw_at lw_m5 27 rfl) rfl
theorem q1074 : (Jvm.Cond.methodLink "BakedBefore" (286 : Nat) ({ cls := "BakedBefore", name := "takesAll", desc := "(LBakedBefore$Time;I)I" } : Jvm.MethodName)) ∈ lw_all := lw_g (lw_at lw_m5 28 rfl) rfl
theorem q1075 : (Jvm.Cond.privateMethod ({ cls := "BakedBefore", name := "takesAll", desc := "(LBakedBefore$Time;I)I" } : Jvm.MethodName)) ∈ lw_tbl := lw_at lw_m5 29 rfl
theorem q1076 : (Jvm.Cond.instanceMethod ({ cls := "BakedBefore", name := "takesAll", desc := "(LBakedBefore$Time;I)I" } : Jvm.MethodName)) ∈ lw_all := lw_g (lw_at lw_m5 30 rfl) rfl
theorem q1077 : (Jvm.Cond.code ({ cls := "BakedBefore", name := "takesAll", desc := "(LBakedBefore$Time;I)I" } : Jvm.MethodName) prog_1_method_13_code (5 : Nat) (Option.some Jvm.ClassFile.FieldType.int)) ∈ lw_all := lw_g (lw_at lw_m5 31 rfl) rfl
theorem q1078 : (Jvm.Cond.methodLink "BakedBeforeLaw" (70 : Nat) ({ cls := "BakedBefore", name := "guilty", desc := "(I)I" } : Jvm.MethodName)) ∈ lw_all := lw_g (lw_at lw_m5 32 rfl) rfl
theorem q1079 : (Jvm.Cond.instanceMethod ({ cls := "BakedBefore", name := "guilty", desc := "(I)I" } : Jvm.MethodName)) ∈ lw_all := lw_g (lw_at lw_m5 33 rfl) rfl
theorem q1080 : (Jvm.Cond.selects "BakedBefore" ({ cls := "BakedBefore", name := "guilty", desc := "(I)I" } : Jvm.MethodName) ({ cls := "BakedBefore", name := "guilty", desc := "(I)I" } : Jvm.MethodName)) ∈ lw_all := lw_g (lw_at lw_m5 34 rfl) rfl
theorem q1081 : (Jvm.Cond.code ({ cls := "BakedBefore", name := "guilty", desc := "(I)I" } : Jvm.MethodName) prog_1_method_37_code (4 : Nat) (Option.some Jvm.ClassFile.FieldType.int)) ∈ lw_all := lw_g (lw_at lw_m5 35 rfl) rfl
theorem q1082 : (Jvm.Cond.methodLink "BakedBefore" (293 : Nat) ({ cls := "BakedBefore", name := "isSpoiledBut", desc := "(II)Z" } : Jvm.MethodName)) ∈ lw_all := lw_g (lw_at lw_m5 36 rfl) rfl
theorem q1083 : (Jvm.Cond.privateMethod ({ cls := "BakedBefore", name := "isSpoiledBut", desc := "(II)Z" } : Jvm.MethodName)) ∈ lw_tbl := lw_at lw_m5 37 rfl
theorem q1084 : (Jvm.Cond.instanceMethod ({ cls := "BakedBefore", name := "isSpoiledBut", desc := "(II)Z" } : Jvm.MethodName)) ∈ lw_all := lw_g (lw_at lw_m5 38 rfl) rfl
theorem q1085 : (Jvm.Cond.code ({ cls := "BakedBefore", name := "isSpoiledBut", desc := "(II)Z" } : Jvm.MethodName) prog_1_method_36_code (4 : Nat) (Option.some Jvm.ClassFile.FieldType.boolean)) ∈ lw_all := lw_g (lw_at lw_m5 39 rfl) rfl
theorem q1086 : (Jvm.Cond.methodLink "BakedBeforeLaw" (74 : Nat) ({ cls := "BakedBefore", name := "two", desc := "(I)I" } : Jvm.MethodName)) ∈ lw_all := lw_g (lw_at lw_m5 40 rfl) rfl
theorem q1087 : (Jvm.Cond.instanceMethod ({ cls := "BakedBefore", name := "two", desc := "(I)I" } : Jvm.MethodName)) ∈ lw_all := lw_g (lw_at lw_m5 41 rfl) rfl
theorem q1088 : (Jvm.Cond.selects "BakedBefore" ({ cls := "BakedBefore", name := "two", desc := "(I)I" } : Jvm.MethodName) ({ cls := "BakedBefore", name := "two", desc := "(I)I" } : Jvm.MethodName)) ∈ lw_all := lw_g (lw_at lw_m5 42 rfl) rfl
theorem q1089 : (Jvm.Cond.code ({ cls := "BakedBefore", name := "two", desc := "(I)I" } : Jvm.MethodName) prog_1_method_39_code (7 : Nat) (Option.some Jvm.ClassFile.FieldType.int)) ∈ lw_all := lw_g (lw_at lw_m5 43 rfl) rfl
theorem q1090 : (Jvm.Cond.methodLink "BakedBefore" (297 : Nat) ({ cls := "BakedBefore", name := "spoiledBy", desc := "(I)I" } : Jvm.MethodName)) ∈ lw_all := lw_g (lw_at lw_m5 44 rfl) rfl
theorem q1091 : (Jvm.Cond.privateMethod ({ cls := "BakedBefore", name := "spoiledBy", desc := "(I)I" } : Jvm.MethodName)) ∈ lw_tbl := lw_at lw_m5 45 rfl
theorem q1092 : (Jvm.Cond.instanceMethod ({ cls := "BakedBefore", name := "spoiledBy", desc := "(I)I" } : Jvm.MethodName)) ∈ lw_all := lw_g (lw_at lw_m5 46 rfl) rfl
theorem q1093 : (Jvm.Cond.code ({ cls := "BakedBefore", name := "spoiledBy", desc := "(I)I" } : Jvm.MethodName) prog_1_method_38_code (4 : Nat) (Option.some Jvm.ClassFile.FieldType.int)) ∈ lw_all := lw_g (lw_at lw_m5 47 rfl) rfl
theorem q1094 : (Jvm.Cond.methodLink "BakedBeforeLaw" (78 : Nat) ({ cls := "BakedBefore", name := "has", desc := "(I)I" } : Jvm.MethodName)) ∈ lw_all := lw_g (lw_at lw_m5 48 rfl) rfl
theorem q1095 : (Jvm.Cond.instanceMethod ({ cls := "BakedBefore", name := "has", desc := "(I)I" } : Jvm.MethodName)) ∈ lw_all := lw_g (lw_at lw_m5 49 rfl) rfl
theorem q1096 : (Jvm.Cond.selects "BakedBefore" ({ cls := "BakedBefore", name := "has", desc := "(I)I" } : Jvm.MethodName) ({ cls := "BakedBefore", name := "has", desc := "(I)I" } : Jvm.MethodName)) ∈ lw_all := lw_g (lw_at lw_m5 50 rfl) rfl
theorem q1097 : (Jvm.Cond.code ({ cls := "BakedBefore", name := "has", desc := "(I)I" } : Jvm.MethodName) prog_1_method_41_code (2 : Nat) (Option.some Jvm.ClassFile.FieldType.int)) ∈ lw_all := lw_g (lw_at lw_m5 51 rfl) rfl
theorem q1098 : (Jvm.Cond.constant "BakedBefore" (300 : Nat) (-100001 : Int32)) ∈ lw_all := lw_g (lw_at lw_m5 52 rfl) rfl
theorem q1099 : (Jvm.Cond.methodLink "BakedBefore" (301 : Nat) ({ cls := "BakedBefore", name := "pays", desc := "(I)I" } : Jvm.MethodName)) ∈ lw_all := lw_g (lw_at lw_m5 53 rfl) rfl
theorem q1100 : (Jvm.Cond.privateMethod ({ cls := "BakedBefore", name := "pays", desc := "(I)I" } : Jvm.MethodName)) ∈ lw_tbl := lw_at lw_m5 54 rfl
theorem q1101 : (Jvm.Cond.instanceMethod ({ cls := "BakedBefore", name := "pays", desc := "(I)I" } : Jvm.MethodName)) ∈ lw_all := lw_g (lw_at lw_m5 55 rfl) rfl
theorem q1102 : (Jvm.Cond.code ({ cls := "BakedBefore", name := "pays", desc := "(I)I" } : Jvm.MethodName) prog_1_method_40_code (4 : Nat) (Option.some Jvm.ClassFile.FieldType.int)) ∈ lw_all := lw_g (lw_at lw_m5 56 rfl) rfl
theorem q1103 : (Jvm.Cond.methodLink "BakedBeforeLaw" (82 : Nat) ({ cls := "BakedBefore", name := "swaps", desc := "(I)I" } : Jvm.MethodName)) ∈ lw_all := lw_g (lw_at lw_m5 57 rfl) rfl
theorem q1104 : (Jvm.Cond.instanceMethod ({ cls := "BakedBefore", name := "swaps", desc := "(I)I" } : Jvm.MethodName)) ∈ lw_all := lw_g (lw_at lw_m5 58 rfl) rfl
theorem q1105 : (Jvm.Cond.selects "BakedBefore" ({ cls := "BakedBefore", name := "swaps", desc := "(I)I" } : Jvm.MethodName) ({ cls := "BakedBefore", name := "swaps", desc := "(I)I" } : Jvm.MethodName)) ∈ lw_all := lw_g (lw_at lw_m5 59 rfl) rfl
theorem q1106 : (Jvm.Cond.code ({ cls := "BakedBefore", name := "swaps", desc := "(I)I" } : Jvm.MethodName) prog_1_method_43_code (4 : Nat) (Option.some Jvm.ClassFile.FieldType.int)) ∈ lw_all := lw_g (lw_at lw_m5 60 rfl) rfl
theorem q1107 : (Jvm.Cond.methodLink "BakedBefore" (307 : Nat) ({ cls := "BakedBefore", name := "takesChanged", desc := "(II)I" } : Jvm.MethodName)) ∈ lw_all := lw_g (lw_at lw_m5 61 rfl) rfl
theorem q1108 : (Jvm.Cond.privateMethod ({ cls := "BakedBefore", name := "takesChanged", desc := "(II)I" } : Jvm.MethodName)) ∈ lw_tbl := lw_at lw_m5 62 rfl
theorem q1109 : (Jvm.Cond.instanceMethod ({ cls := "BakedBefore", name := "takesChanged", desc := "(II)I" } : Jvm.MethodName)) ∈ lw_all := lw_g (lw_at lw_m5 63 rfl) rfl
theorem q1110 : (Jvm.Cond.code ({ cls := "BakedBefore", name := "takesChanged", desc := "(II)I" } : Jvm.MethodName) prog_1_method_42_code (5 : Nat) (Option.some Jvm.ClassFile.FieldType.int)) ∈ lw_all := lw_g (lw_at lw_m5 64 rfl) rfl
theorem q1111 : (Jvm.Cond.methodLink "BakedBefore" (304 : Nat) ({ cls := "BakedBefore", name := "takenAll", desc := "()I" } : Jvm.MethodName)) ∈ lw_all := lw_g (lw_at lw_m5 65 rfl) rfl
theorem q1112 : (Jvm.Cond.privateMethod ({ cls := "BakedBefore", name := "takenAll", desc := "()I" } : Jvm.MethodName)) ∈ lw_tbl := lw_at lw_m5 66 rfl
theorem q1113 : (Jvm.Cond.instanceMethod ({ cls := "BakedBefore", name := "takenAll", desc := "()I" } : Jvm.MethodName)) ∈ lw_all := lw_g (lw_at lw_m5 67 rfl) rfl
theorem q1114 : (Jvm.Cond.code ({ cls := "BakedBefore", name := "takenAll", desc := "()I" } : Jvm.MethodName) prog_1_method_21_code (3 : Nat) (Option.some Jvm.ClassFile.FieldType.int)) ∈ lw_all := lw_g (lw_at lw_m5 68 rfl) rfl
theorem q1115 : (Jvm.Cond.methodLink "BakedBeforeLaw" (86 : Nat) ({ cls := "BakedBefore", name := "span", desc := "(IIII)I" } : Jvm.MethodName)) ∈ lw_all := lw_g (lw_at lw_m5 69 rfl) rfl
theorem q1116 : (Jvm.Cond.instanceMethod ({ cls := "BakedBefore", name := "span", desc := "(IIII)I" } : Jvm.MethodName)) ∈ lw_all := lw_g (lw_at lw_m5 70 rfl) rfl
theorem q1117 : (Jvm.Cond.selects "BakedBefore" ({ cls := "BakedBefore", name := "span", desc := "(IIII)I" } : Jvm.MethodName) ({ cls := "BakedBefore", name := "span", desc := "(IIII)I" } : Jvm.MethodName)) ∈ lw_all := lw_g (lw_at lw_m5 71 rfl) rfl
theorem q1118 : (Jvm.Cond.code ({ cls := "BakedBefore", name := "span", desc := "(IIII)I" } : Jvm.MethodName) prog_1_method_44_code (8 : Nat) (Option.some Jvm.ClassFile.FieldType.int)) ∈ lw_all := lw_g (lw_at lw_m5 72 rfl) rfl
theorem q1119 : (Jvm.Cond.methodLink "BakedBeforeLaw" (90 : Nat) ({ cls := "BakedBefore", name := "year", desc := "(III)I" } : Jvm.MethodName)) ∈ lw_all := lw_g (lw_at lw_m5 73 rfl) rfl
theorem q1120 : (Jvm.Cond.instanceMethod ({ cls := "BakedBefore", name := "year", desc := "(III)I" } : Jvm.MethodName)) ∈ lw_all := lw_g (lw_at lw_m5 74 rfl) rfl
theorem q1121 : (Jvm.Cond.selects "BakedBefore" ({ cls := "BakedBefore", name := "year", desc := "(III)I" } : Jvm.MethodName) ({ cls := "BakedBefore", name := "year", desc := "(III)I" } : Jvm.MethodName)) ∈ lw_all := lw_g (lw_at lw_m5 75 rfl) rfl
theorem q1122 : (Jvm.Cond.code ({ cls := "BakedBefore", name := "year", desc := "(III)I" } : Jvm.MethodName) prog_1_method_45_code (7 : Nat) (Option.some Jvm.ClassFile.FieldType.int)) ∈ lw_all := lw_g (lw_at lw_m5 76 rfl) rfl
theorem q1123 : (Jvm.Cond.constant "BakedBefore" (310 : Nat) (-100002 : Int32)) ∈ lw_all := lw_g (lw_at lw_m5 77 rfl) rfl
theorem q1124 : (Jvm.Cond.constant "BakedBefore" (311 : Nat) (-100003 : Int32)) ∈ lw_all := lw_g (lw_at lw_m5 78 rfl) rfl
theorem q1125 : (Jvm.Cond.methodLink "BakedBeforeLaw" (94 : Nat) ({ cls := "BakedBefore", name := "odds", desc := "(II)J" } : Jvm.MethodName)) ∈ lw_all := lw_g (lw_at lw_m5 79 rfl) rfl
theorem q1126 : (Jvm.Cond.instanceMethod ({ cls := "BakedBefore", name := "odds", desc := "(II)J" } : Jvm.MethodName)) ∈ lw_all := lw_g (lw_at lw_m5 80 rfl) rfl
theorem q1127 : (Jvm.Cond.selects "BakedBefore" ({ cls := "BakedBefore", name := "odds", desc := "(II)J" } : Jvm.MethodName) ({ cls := "BakedBefore", name := "odds", desc := "(II)J" } : Jvm.MethodName)) ∈ lw_all := lw_g (lw_at lw_m5 81 rfl) rfl
theorem q1128 : (Jvm.Cond.code ({ cls := "BakedBefore", name := "odds", desc := "(II)J" } : Jvm.MethodName) prog_1_method_48_code (6 : Nat) (Option.some Jvm.ClassFile.FieldType.long)) ∈ lw_all := lw_g (lw_at lw_m5 82 rfl) rfl
theorem q1129 : (Jvm.Cond.constantLong "BakedBefore" (316 : Nat) (-9223372036854775808 : Int64)) ∈ lw_all := lw_g (lw_at lw_m5 83 rfl) rfl
theorem q1130 : (Jvm.Cond.methodLink "BakedBefore" (318 : Nat) ({ cls := "BakedBefore", name := "lowest", desc := "(JJI)J" } : Jvm.MethodName)) ∈ lw_all := lw_g (lw_at lw_m5 84 rfl) rfl
theorem q1131 : (Jvm.Cond.static ({ cls := "BakedBefore", name := "lowest", desc := "(JJI)J" } : Jvm.MethodName)) ∈ lw_all := lw_g (lw_at lw_m5 85 rfl) rfl
theorem q1132 : (Jvm.Cond.code ({ cls := "BakedBefore", name := "lowest", desc := "(JJI)J" } : Jvm.MethodName) prog_1_method_47_code (5 : Nat) (Option.some Jvm.ClassFile.FieldType.long)) ∈ lw_all := lw_g (lw_at lw_m5 86 rfl) rfl
theorem q1133 : (Jvm.Cond.methodLink "BakedBefore" (312 : Nat) ({ cls := "BakedBefore", name := "divisor", desc := "(JJ)J" } : Jvm.MethodName)) ∈ lw_all := lw_g (lw_at lw_m5 87 rfl) rfl
theorem q1134 : (Jvm.Cond.static ({ cls := "BakedBefore", name := "divisor", desc := "(JJ)J" } : Jvm.MethodName)) ∈ lw_all := lw_g (lw_at lw_m5 88 rfl) rfl
theorem q1135 : (Jvm.Cond.code ({ cls := "BakedBefore", name := "divisor", desc := "(JJ)J" } : Jvm.MethodName) prog_1_method_46_code (8 : Nat) (Option.some Jvm.ClassFile.FieldType.long)) ∈ lw_all := lw_g (lw_at lw_m5 89 rfl) rfl
theorem q1136 : (Jvm.Cond.methodLink "BakedBeforeLaw" (99 : Nat) ({ cls := "BakedBefore", name := "mean", desc := "(II)J" } : Jvm.MethodName)) ∈ lw_all := lw_g (lw_at lw_m5 90 rfl) rfl
theorem q1137 : (Jvm.Cond.instanceMethod ({ cls := "BakedBefore", name := "mean", desc := "(II)J" } : Jvm.MethodName)) ∈ lw_all := lw_g (lw_at lw_m5 91 rfl) rfl
theorem q1138 : (Jvm.Cond.selects "BakedBefore" ({ cls := "BakedBefore", name := "mean", desc := "(II)J" } : Jvm.MethodName) ({ cls := "BakedBefore", name := "mean", desc := "(II)J" } : Jvm.MethodName)) ∈ lw_all := lw_g (lw_at lw_m5 92 rfl) rfl
theorem q1139 : (Jvm.Cond.code ({ cls := "BakedBefore", name := "mean", desc := "(II)J" } : Jvm.MethodName) prog_1_method_49_code (6 : Nat) (Option.some Jvm.ClassFile.FieldType.long)) ∈ lw_all := lw_g (lw_at lw_m5 93 rfl) rfl
theorem q1140 : (Jvm.Cond.methodLink "BakedBeforeLaw" (103 : Nat) ({ cls := "BakedBefore", name := "book", desc := "(IZ)I" } : Jvm.MethodName)) ∈ lw_all := lw_g (lw_at lw_m5 94 rfl) rfl
theorem q1141 : (Jvm.Cond.instanceMethod ({ cls := "BakedBefore", name := "book", desc := "(IZ)I" } : Jvm.MethodName)) ∈ lw_all := lw_g (lw_at lw_m5 95 rfl) rfl
theorem q1142 : (Jvm.Cond.selects "BakedBefore" ({ cls := "BakedBefore", name := "book", desc := "(IZ)I" } : Jvm.MethodName) ({ cls := "BakedBefore", name := "book", desc := "(IZ)I" } : Jvm.MethodName)) ∈ lw_all := lw_g (lw_at lw_m5 96 rfl) rfl
theorem q1143 : (Jvm.Cond.code ({ cls := "BakedBefore", name := "book", desc := "(IZ)I" } : Jvm.MethodName) prog_1_method_50_code (3 : Nat) (Option.some Jvm.ClassFile.FieldType.int)) ∈ lw_all := lw_g (lw_at lw_m5 97 rfl) rfl
theorem q1144 : (Jvm.Cond.methodLink "BakedBeforeLaw" (108 : Nat) ({ cls := "BakedBefore", name := "looked", desc := "()I" } : Jvm.MethodName)) ∈ lw_all := lw_g (lw_at lw_m5 98 rfl) rfl
theorem q1145 : (Jvm.Cond.instanceMethod ({ cls := "BakedBefore", name := "looked", desc := "()I" } : Jvm.MethodName)) ∈ lw_all := lw_g (lw_at lw_m5 99 rfl) rfl
theorem q1146 : (Jvm.Cond.selects "BakedBefore" ({ cls := "BakedBefore", name := "looked", desc := "()I" } : Jvm.MethodName) ({ cls := "BakedBefore", name := "looked", desc := "()I" } : Jvm.MethodName)) ∈ lw_all := lw_g (lw_at lw_m5 100 rfl) rfl
theorem q1147 : (Jvm.Cond.code ({ cls := "BakedBefore", name := "looked", desc := "()I" } : Jvm.MethodName) prog_1_method_52_code (2 : Nat) (Option.some Jvm.ClassFile.FieldType.int)) ∈ lw_all := lw_g (lw_at lw_m5 101 rfl) rfl
theorem q1148 : (Jvm.Cond.methodLink "BakedBefore" (325 : Nat) ({ cls := "BakedBefore", name := "isSpoiledNext", desc := "(I)Z" } : Jvm.MethodName)) ∈ lw_all := lw_g (lw_at lw_m5 102 rfl) rfl
theorem q1149 : (Jvm.Cond.privateMethod ({ cls := "BakedBefore", name := "isSpoiledNext", desc := "(I)Z" } : Jvm.MethodName)) ∈ lw_tbl := lw_at lw_m5 103 rfl
theorem q1150 : (Jvm.Cond.instanceMethod ({ cls := "BakedBefore", name := "isSpoiledNext", desc := "(I)Z" } : Jvm.MethodName)) ∈ lw_all := lw_g (lw_at lw_m5 104 rfl) rfl
theorem q1151 : (Jvm.Cond.code ({ cls := "BakedBefore", name := "isSpoiledNext", desc := "(I)Z" } : Jvm.MethodName) prog_1_method_51_code (2 : Nat) (Option.some Jvm.ClassFile.FieldType.boolean)) ∈ lw_all := lw_g (lw_at lw_m5 105 rfl) rfl
theorem q1152 : (Jvm.Cond.methodLink "BakedBeforeLaw" (112 : Nat) ({ cls := "BakedBefore", name := "judge", desc := "(II)I" } : Jvm.MethodName)) ∈ lw_all := lw_g (lw_at lw_m5 106 rfl) rfl
theorem q1153 : (Jvm.Cond.instanceMethod ({ cls := "BakedBefore", name := "judge", desc := "(II)I" } : Jvm.MethodName)) ∈ lw_all := lw_g (lw_at lw_m5 107 rfl) rfl
theorem q1154 : (Jvm.Cond.selects "BakedBefore" ({ cls := "BakedBefore", name := "judge", desc := "(II)I" } : Jvm.MethodName) ({ cls := "BakedBefore", name := "judge", desc := "(II)I" } : Jvm.MethodName)) ∈ lw_all := lw_g (lw_at lw_m5 108 rfl) rfl
theorem q1155 : (Jvm.Cond.codeWith ({ cls := "BakedBefore", name := "judge", desc := "(II)I" } : Jvm.MethodName) prog_1_method_54_code (4 : Nat) (Option.some Jvm.ClassFile.FieldType.int) [((9 : Nat), (26 : Nat), (27 : Nat), (345 : Nat))]) ∈ lw_all := lw_g (lw_at lw_m5 109 rfl) rfl
theorem q1156 : (Jvm.Cond.classLink "BakedBefore" (345 : Nat) "java/lang/ClassCastException") ∈ lw_all := lw_g (lw_at lw_m5 110 rfl) rfl
theorem q1157 : (Jvm.Cond.instantiable "java/lang/ClassCastException" (6 : Nat)) ∈ lw_all := lw_g (lw_at lw_m5 111 rfl) rfl
theorem q1158 : (Jvm.Cond.instanceMethod ({ cls := "java/lang/ClassCastException", name := "<init>", desc := "(Ljava/lang/String;)V" } : Jvm.MethodName)) ∈ lw_all := lw_g (lw_at lw_m5 112 rfl) rfl
theorem q1159 : (Jvm.Cond.code ({ cls := "java/lang/ClassCastException", name := "<init>", desc := "(Ljava/lang/String;)V" } : Jvm.MethodName) prog_28_method_2_code (2 : Nat) (Option.none : Option Jvm.ClassFile.FieldType)) ∈ lw_all := lw_g (lw_at lw_m5 113 rfl) rfl
theorem q1160 : (Jvm.Cond.methodLink "java/lang/ClassCastException" (7 : Nat) ({ cls := "java/lang/RuntimeException", name := "<init>", desc := "(Ljava/lang/String;)V" } : Jvm.MethodName)) ∈ lw_all := lw_g (lw_at lw_m5 114 rfl) rfl
theorem q1161 : (Jvm.Cond.instanceMethod ({ cls := "java/lang/RuntimeException", name := "<init>", desc := "(Ljava/lang/String;)V" } : Jvm.MethodName)) ∈ lw_all := lw_g (lw_at lw_m5 115 rfl) rfl
theorem q1162 : (Jvm.Cond.code ({ cls := "java/lang/RuntimeException", name := "<init>", desc := "(Ljava/lang/String;)V" } : Jvm.MethodName) prog_38_method_2_code (2 : Nat) (Option.none : Option Jvm.ClassFile.FieldType)) ∈ lw_all := lw_g (lw_at lw_m5 116 rfl) rfl
theorem q1163 : (Jvm.Cond.methodLink "java/lang/RuntimeException" (7 : Nat) ({ cls := "java/lang/Exception", name := "<init>", desc := "(Ljava/lang/String;)V" } : Jvm.MethodName)) ∈ lw_all := lw_g (lw_at lw_m5 117 rfl) rfl
theorem q1164 : (Jvm.Cond.instanceMethod ({ cls := "java/lang/Exception", name := "<init>", desc := "(Ljava/lang/String;)V" } : Jvm.MethodName)) ∈ lw_all := lw_g (lw_at lw_m5 118 rfl) rfl
theorem q1165 : (Jvm.Cond.code ({ cls := "java/lang/Exception", name := "<init>", desc := "(Ljava/lang/String;)V" } : Jvm.MethodName) prog_31_method_2_code (2 : Nat) (Option.none : Option Jvm.ClassFile.FieldType)) ∈ lw_all := lw_g (lw_at lw_m5 119 rfl) rfl
theorem q1166 : (Jvm.Cond.methodLink "java/lang/Exception" (7 : Nat) ({ cls := "java/lang/Throwable", name := "<init>", desc := "(Ljava/lang/String;)V" } : Jvm.MethodName)) ∈ lw_all := lw_g (lw_at lw_m5 120 rfl) rfl
theorem q1167 : (Jvm.Cond.instanceMethod ({ cls := "java/lang/Throwable", name := "<init>", desc := "(Ljava/lang/String;)V" } : Jvm.MethodName)) ∈ lw_all := lw_g (lw_at lw_m5 121 rfl) rfl
theorem q1168 : (Jvm.Cond.code ({ cls := "java/lang/Throwable", name := "<init>", desc := "(Ljava/lang/String;)V" } : Jvm.MethodName) prog_43_method_2_code (2 : Nat) (Option.none : Option Jvm.ClassFile.FieldType)) ∈ lw_all := lw_g (lw_at lw_m5 122 rfl) rfl
theorem q1169 : (Jvm.Cond.lays "java/lang/ClassCastException" "java/lang/Throwable" "backtrace" "Ljava/lang/Object;") ∈ lw_all := lw_g (lw_at lw_m5 123 rfl) rfl
theorem q1170 : (Jvm.Cond.lays "java/lang/ClassCastException" "java/lang/Throwable" "detailMessage" "Ljava/lang/String;") ∈ lw_all := lw_g (lw_at lw_m5 124 rfl) rfl
theorem q1171 : (Jvm.Cond.lays "java/lang/ClassCastException" "java/lang/Throwable" "cause" "Ljava/lang/Throwable;") ∈ lw_all := lw_g (lw_at lw_m5 125 rfl) rfl
theorem q1172 : (Jvm.Cond.lays "java/lang/ClassCastException" "java/lang/Throwable" "stackTrace" "[Ljava/lang/StackTraceElement;") ∈ lw_all := lw_g (lw_at lw_m5 126 rfl) rfl
theorem q1173 : (Jvm.Cond.lays "java/lang/ClassCastException" "java/lang/Throwable" "depth" "I") ∈ lw_all := lw_g (lw_at lw_m5 127 rfl) rfl
theorem q1174 : (Jvm.Cond.lays "java/lang/ClassCastException" "java/lang/Throwable" "suppressedExceptions" "Ljava/util/List;") ∈ lw_all := lw_g (lw_at lw_m5 128 rfl) rfl
theorem q1175 : (Jvm.Cond.superclass "java/lang/ClassCastException" "java/lang/RuntimeException") ∈ lw_all := lw_g (lw_at lw_m5 129 rfl) rfl
theorem q1176 : (Jvm.Cond.castable "java/lang/ClassCastException" "java/lang/ClassCastException") ∈ lw_tbl := lw_at lw_m5 130 rfl
theorem q1177 : (Jvm.Cond.selects "java/lang/ClassCastException" ({ cls := "java/lang/Throwable", name := "fillInStackTrace", desc := "(I)Ljava/lang/Throwable;" } : Jvm.MethodName) ({ cls := "java/lang/Throwable", name := "fillInStackTrace", desc := "(I)Ljava/lang/Throwable;" } : Jvm.MethodName)) ∈ lw_all := lw_g (lw_at lw_m5 131 rfl) rfl
theorem q1178 : (Jvm.Cond.instantiable "java/lang/String" (4 : Nat)) ∈ lw_all := lw_g (lw_at lw_m5 132 rfl) rfl
theorem q1179 : (Jvm.Cond.laysFinal "java/lang/String" "java/lang/String" "value" "[B") ∈ lw_all := lw_g (lw_at lw_m5 133 rfl) rfl
theorem q1180 : (Jvm.Cond.soleField "java/lang/String" "value") ∈ lw_all := lw_g (lw_at lw_m5 134 rfl) rfl
theorem q1181 : (Jvm.Cond.laysFinal "java/lang/String" "java/lang/String" "coder" "B") ∈ lw_all := lw_g (lw_at lw_m5 135 rfl) rfl
theorem q1182 : (Jvm.Cond.soleField "java/lang/String" "coder") ∈ lw_all := lw_g (lw_at lw_m5 136 rfl) rfl
theorem q1183 : (Jvm.Cond.methodLink "BakedBefore" (333 : Nat) ({ cls := "BakedBefore", name := "isTape", desc := "(I)Z" } : Jvm.MethodName)) ∈ lw_all := lw_g (lw_at lw_m5 137 rfl) rfl
theorem q1184 : (Jvm.Cond.static ({ cls := "BakedBefore", name := "isTape", desc := "(I)Z" } : Jvm.MethodName)) ∈ lw_all := lw_g (lw_at lw_m5 138 rfl) rfl
theorem q1185 : (Jvm.Cond.code ({ cls := "BakedBefore", name := "isTape", desc := "(I)Z" } : Jvm.MethodName) prog_1_method_63_code (1 : Nat) (Option.some Jvm.ClassFile.FieldType.boolean)) ∈ lw_all := lw_g (lw_at lw_m5 139 rfl) rfl
theorem q1186 : (Jvm.Cond.classLink "BakedBefore" (339 : Nat) "[S") ∈ lw_all := lw_g (lw_at lw_m5 140 rfl) rfl
theorem q1187 : (Jvm.Cond.methodLink "BakedBefore" (341 : Nat) ({ cls := "BakedBefore", name := "firstOther", desc := "([SI)I" } : Jvm.MethodName)) ∈ lw_all := lw_g (lw_at lw_m5 141 rfl) rfl
theorem q1188 : (Jvm.Cond.privateMethod ({ cls := "BakedBefore", name := "firstOther", desc := "([SI)I" } : Jvm.MethodName)) ∈ lw_tbl := lw_at lw_m5 142 rfl
theorem q1189 : (Jvm.Cond.instanceMethod ({ cls := "BakedBefore", name := "firstOther", desc := "([SI)I" } : Jvm.MethodName)) ∈ lw_all := lw_g (lw_at lw_m5 143 rfl) rfl
theorem q1190 : (Jvm.Cond.codeWith ({ cls := "BakedBefore", name := "firstOther", desc := "([SI)I" } : Jvm.MethodName) prog_1_method_53_code (6 : Nat) (Option.some Jvm.ClassFile.FieldType.int) [((2 : Nat), (58 : Nat), (68 : Nat), (331 : Nat)), ((59 : Nat), (67 : Nat), (68 : Nat), (331 : Nat)), ((2 : Nat), (58 : Nat), (75 : Nat), (237 : Nat)), ((59 : Nat), (67 : Nat), (75 : Nat), (237 : Nat))]) ∈ lw_all := lw_g (lw_at lw_m5 144 rfl) rfl
theorem q1191 : (Jvm.Cond.classLink "BakedBefore" (331 : Nat) "java/lang/NullPointerException") ∈ lw_all := lw_g (lw_at lw_m5 145 rfl) rfl
theorem q1192 : (Jvm.Cond.instanceMethod ({ cls := "java/lang/NullPointerException", name := "<init>", desc := "()V" } : Jvm.MethodName)) ∈ lw_all := lw_g (lw_at lw_m5 146 rfl) rfl
theorem q1193 : (Jvm.Cond.code ({ cls := "java/lang/NullPointerException", name := "<init>", desc := "()V" } : Jvm.MethodName) prog_37_method_1_code (1 : Nat) (Option.none : Option Jvm.ClassFile.FieldType)) ∈ lw_all := lw_g (lw_at lw_m5 147 rfl) rfl
theorem q1194 : (Jvm.Cond.methodLink "java/lang/NullPointerException" (1 : Nat) ({ cls := "java/lang/RuntimeException", name := "<init>", desc := "()V" } : Jvm.MethodName)) ∈ lw_all := lw_g (lw_at lw_m5 148 rfl) rfl
theorem q1195 : (Jvm.Cond.fieldLink "java/lang/NullPointerException" (10 : Nat) "java/lang/NullPointerException" "extendedMessageState" "I") ∈ lw_all := lw_g (lw_at lw_m5 149 rfl) rfl
theorem q1196 : (Jvm.Cond.fieldLink "java/lang/NullPointerException" (20 : Nat) "java/lang/NullPointerException" "extendedMessage" "Ljava/lang/String;") ∈ lw_all := lw_g (lw_at lw_m5 150 rfl) rfl
theorem q1197 : (Jvm.Cond.lays "java/lang/NullPointerException" "java/lang/NullPointerException" "extendedMessageState" "I") ∈ lw_all := lw_g (lw_at lw_m5 151 rfl) rfl
theorem q1198 : (Jvm.Cond.soleField "java/lang/NullPointerException" "extendedMessageState") ∈ lw_all := lw_g (lw_at lw_m5 152 rfl) rfl
theorem q1199 : (Jvm.Cond.lays "java/lang/NullPointerException" "java/lang/NullPointerException" "extendedMessage" "Ljava/lang/String;") ∈ lw_all := lw_g (lw_at lw_m5 153 rfl) rfl
theorem q1200 : (Jvm.Cond.soleField "java/lang/NullPointerException" "extendedMessage") ∈ lw_all := lw_g (lw_at lw_m5 154 rfl) rfl
theorem q1201 : (Jvm.Cond.lays "java/lang/NullPointerException" "java/lang/Throwable" "backtrace" "Ljava/lang/Object;") ∈ lw_all := lw_g (lw_at lw_m5 155 rfl) rfl
theorem q1202 : (Jvm.Cond.lays "java/lang/NullPointerException" "java/lang/Throwable" "detailMessage" "Ljava/lang/String;") ∈ lw_all := lw_g (lw_at lw_m5 156 rfl) rfl
theorem q1203 : (Jvm.Cond.lays "java/lang/NullPointerException" "java/lang/Throwable" "cause" "Ljava/lang/Throwable;") ∈ lw_all := lw_g (lw_at lw_m5 157 rfl) rfl
theorem q1204 : (Jvm.Cond.lays "java/lang/NullPointerException" "java/lang/Throwable" "stackTrace" "[Ljava/lang/StackTraceElement;") ∈ lw_all := lw_g (lw_at lw_m5 158 rfl) rfl
theorem q1205 : (Jvm.Cond.lays "java/lang/NullPointerException" "java/lang/Throwable" "depth" "I") ∈ lw_all := lw_g (lw_at lw_m5 159 rfl) rfl
theorem q1206 : (Jvm.Cond.lays "java/lang/NullPointerException" "java/lang/Throwable" "suppressedExceptions" "Ljava/util/List;") ∈ lw_all := lw_g (lw_at lw_m5 160 rfl) rfl
theorem q1207 : (Jvm.Cond.castable "java/lang/NullPointerException" "java/lang/NullPointerException") ∈ lw_tbl := lw_at lw_m5 161 rfl
theorem q1208 : (Jvm.Cond.selects "java/lang/NullPointerException" ({ cls := "java/lang/Throwable", name := "fillInStackTrace", desc := "(I)Ljava/lang/Throwable;" } : Jvm.MethodName) ({ cls := "java/lang/Throwable", name := "fillInStackTrace", desc := "(I)Ljava/lang/Throwable;" } : Jvm.MethodName)) ∈ lw_all := lw_g (lw_at lw_m5 162 rfl) rfl
theorem q1209 : (Jvm.Cond.castable "java/lang/RuntimeException" "java/lang/Throwable") ∈ lw_tbl := lw_at lw_m5 163 rfl
theorem q1210 : (Jvm.Cond.methodLink "BakedBefore" (328 : Nat) ({ cls := "BakedBefore$Off", name := "<init>", desc := "(I)V" } : Jvm.MethodName)) ∈ lw_all := lw_g (lw_at lw_m5 164 rfl) rfl
theorem q1211 : (Jvm.Cond.methodLink "BakedBeforeLaw" (116 : Nat) ({ cls := "BakedBefore", name := "image", desc := "()I" } : Jvm.MethodName)) ∈ lw_all := lw_g (lw_at lw_m5 165 rfl) rfl
theorem q1212 : (Jvm.Cond.instanceMethod ({ cls := "BakedBefore", name := "image", desc := "()I" } : Jvm.MethodName)) ∈ lw_all := lw_g (lw_at lw_m5 166 rfl) rfl
theorem q1213 : (Jvm.Cond.selects "BakedBefore" ({ cls := "BakedBefore", name := "image", desc := "()I" } : Jvm.MethodName) ({ cls := "BakedBefore", name := "image", desc := "()I" } : Jvm.MethodName)) ∈ lw_all := lw_g (lw_at lw_m5 167 rfl) rfl
theorem q1214 : (Jvm.Cond.code ({ cls := "BakedBefore", name := "image", desc := "()I" } : Jvm.MethodName) prog_1_method_55_code (1 : Nat) (Option.some Jvm.ClassFile.FieldType.int)) ∈ lw_all := lw_g (lw_at lw_m5 168 rfl) rfl
theorem q1215 : (Jvm.Cond.methodLink "BakedBefore" (347 : Nat) ({ cls := "java/lang/System", name := "arraycopy", desc := "(Ljava/lang/Object;ILjava/lang/Object;II)V" } : Jvm.MethodName)) ∈ lw_all := lw_g (lw_at lw_m5 169 rfl) rfl
theorem q1216 : (Jvm.Cond.methodLink "BakedBeforeLaw" (120 : Nat) ({ cls := "BakedBefore", name := "undo", desc := "()I" } : Jvm.MethodName)) ∈ lw_all := lw_g (lw_at lw_m5 170 rfl) rfl
theorem q1217 : (Jvm.Cond.instanceMethod ({ cls := "BakedBefore", name := "undo", desc := "()I" } : Jvm.MethodName)) ∈ lw_all := lw_g (lw_at lw_m5 171 rfl) rfl
theorem q1218 : (Jvm.Cond.selects "BakedBefore" ({ cls := "BakedBefore", name := "undo", desc := "()I" } : Jvm.MethodName) ({ cls := "BakedBefore", name := "undo", desc := "()I" } : Jvm.MethodName)) ∈ lw_all := lw_g (lw_at lw_m5 172 rfl) rfl
theorem q1219 : (Jvm.Cond.code ({ cls := "BakedBefore", name := "undo", desc := "()I" } : Jvm.MethodName) prog_1_method_56_code (1 : Nat) (Option.some Jvm.ClassFile.FieldType.int)) ∈ lw_all := lw_g (lw_at lw_m5 173 rfl) rfl
theorem q1220 : (Jvm.Cond.methodLink "BakedBeforeLaw" (124 : Nat) ({ cls := "BakedBefore", name := "act", desc := "(III)I" } : Jvm.MethodName)) ∈ lw_all := lw_g (lw_at lw_m5 174 rfl) rfl
theorem q1221 : (Jvm.Cond.instanceMethod ({ cls := "BakedBefore", name := "act", desc := "(III)I" } : Jvm.MethodName)) ∈ lw_all := lw_g (lw_at lw_m5 175 rfl) rfl
theorem q1222 : (Jvm.Cond.selects "BakedBefore" ({ cls := "BakedBefore", name := "act", desc := "(III)I" } : Jvm.MethodName) ({ cls := "BakedBefore", name := "act", desc := "(III)I" } : Jvm.MethodName)) ∈ lw_all := lw_g (lw_at lw_m5 176 rfl) rfl
theorem q1223 : (Jvm.Cond.code ({ cls := "BakedBefore", name := "act", desc := "(III)I" } : Jvm.MethodName) prog_1_method_57_code (5 : Nat) (Option.some Jvm.ClassFile.FieldType.int)) ∈ lw_all := lw_g (lw_at lw_m5 177 rfl) rfl
theorem q1224 : (Jvm.Cond.methodLink "BakedBefore" (365 : Nat) ({ cls := "BakedBefore$Loaf", name := "rises", desc := "(I)I" } : Jvm.MethodName)) ∈ lw_all := lw_g (lw_at lw_m5 178 rfl) rfl
theorem q1225 : (Jvm.Cond.instanceMethod ({ cls := "BakedBefore$Loaf", name := "rises", desc := "(I)I" } : Jvm.MethodName)) ∈ lw_all := lw_g (lw_at lw_m5 179 rfl) rfl
theorem q1226 : (Jvm.Cond.selects "BakedBefore$Loaf" ({ cls := "BakedBefore$Loaf", name := "rises", desc := "(I)I" } : Jvm.MethodName) ({ cls := "BakedBefore$Loaf", name := "rises", desc := "(I)I" } : Jvm.MethodName)) ∈ lw_all := lw_g (lw_at lw_m5 180 rfl) rfl
theorem q1227 : (Jvm.Cond.sameMethod "BakedBefore$Loaf" "BakedBefore$Loaf" "rises" "(I)I") ∈ lw_all := lw_g (lw_at lw_m5 181 rfl) rfl
theorem q1228 : (Jvm.Cond.selects "BakedBefore$Clean" ({ cls := "BakedBefore$Loaf", name := "rises", desc := "(I)I" } : Jvm.MethodName) ({ cls := "BakedBefore$Loaf", name := "rises", desc := "(I)I" } : Jvm.MethodName)) ∈ lw_all := lw_g (lw_at lw_m5 182 rfl) rfl
theorem q1229 : (Jvm.Cond.selects "BakedBefore$Greedy" ({ cls := "BakedBefore$Loaf", name := "rises", desc := "(I)I" } : Jvm.MethodName) ({ cls := "BakedBefore$Greedy", name := "rises", desc := "(I)I" } : Jvm.MethodName)) ∈ lw_all := lw_g (lw_at lw_m5 183 rfl) rfl
theorem q1230 : (Jvm.Cond.instanceMethod ({ cls := "BakedBefore$Greedy", name := "rises", desc := "(I)I" } : Jvm.MethodName)) ∈ lw_all := lw_g (lw_at lw_m5 184 rfl) rfl
theorem q1231 : (Jvm.Cond.code ({ cls := "BakedBefore$Greedy", name := "rises", desc := "(I)I" } : Jvm.MethodName) prog_5_method_4_code (2 : Nat) (Option.some Jvm.ClassFile.FieldType.int)) ∈ lw_all := lw_g (lw_at lw_m5 185 rfl) rfl
theorem q1232 : (Jvm.Cond.methodLink "BakedBefore$Greedy" (19 : Nat) ({ cls := "BakedBefore$Trace", name := "ran", desc := "(I)V" } : Jvm.MethodName)) ∈ lw_all := lw_g (lw_at lw_m5 186 rfl) rfl
theorem q1233 : (Jvm.Cond.instanceMethod ({ cls := "BakedBefore$Trace", name := "ran", desc := "(I)V" } : Jvm.MethodName)) ∈ lw_all := lw_g (lw_at lw_m5 187 rfl) rfl
theorem q1234 : (Jvm.Cond.selects "BakedBefore$Trace" ({ cls := "BakedBefore$Trace", name := "ran", desc := "(I)V" } : Jvm.MethodName) ({ cls := "BakedBefore$Trace", name := "ran", desc := "(I)V" } : Jvm.MethodName)) ∈ lw_all := lw_g (lw_at lw_m5 188 rfl) rfl
theorem q1235 : (Jvm.Cond.code ({ cls := "BakedBefore$Trace", name := "ran", desc := "(I)V" } : Jvm.MethodName) prog_21_method_2_code (2 : Nat) (Option.none : Option Jvm.ClassFile.FieldType)) ∈ lw_all := lw_g (lw_at lw_m5 189 rfl) rfl
theorem q1236 : (Jvm.Cond.methodLink "BakedBefore$Greedy" (25 : Nat) ({ cls := "BakedBefore$Loaf", name := "rises", desc := "(I)I" } : Jvm.MethodName)) ∈ lw_all := lw_g (lw_at lw_m5 190 rfl) rfl
theorem q1237 : (Jvm.Cond.code ({ cls := "BakedBefore$Loaf", name := "rises", desc := "(I)I" } : Jvm.MethodName) prog_8_method_5_code (2 : Nat) (Option.some Jvm.ClassFile.FieldType.int)) ∈ lw_all := lw_g (lw_at lw_m5 191 rfl) rfl
theorem q1238 : (Jvm.Cond.methodLink "BakedBefore$Loaf" (22 : Nat) ({ cls := "BakedBefore$Trace", name := "ran", desc := "(I)V" } : Jvm.MethodName)) ∈ lw_all := lw_g (lw_at lw_m5 192 rfl) rfl
theorem q1239 : (Jvm.Cond.selects "BakedBefore$Holy" ({ cls := "BakedBefore$Loaf", name := "rises", desc := "(I)I" } : Jvm.MethodName) ({ cls := "BakedBefore$Loaf", name := "rises", desc := "(I)I" } : Jvm.MethodName)) ∈ lw_all := lw_g (lw_at lw_m5 193 rfl) rfl
theorem q1240 : (Jvm.Cond.selects "BakedBefore$Poisoned" ({ cls := "BakedBefore$Loaf", name := "rises", desc := "(I)I" } : Jvm.MethodName) ({ cls := "BakedBefore$Greedy", name := "rises", desc := "(I)I" } : Jvm.MethodName)) ∈ lw_all := lw_g (lw_at lw_m5 194 rfl) rfl
theorem q1241 : (Jvm.Cond.selects "BakedBefore$Rye" ({ cls := "BakedBefore$Loaf", name := "rises", desc := "(I)I" } : Jvm.MethodName) ({ cls := "BakedBefore$Rye", name := "rises", desc := "(I)I" } : Jvm.MethodName)) ∈ lw_all := lw_g (lw_at lw_m5 195 rfl) rfl
theorem q1242 : (Jvm.Cond.instanceMethod ({ cls := "BakedBefore$Rye", name := "rises", desc := "(I)I" } : Jvm.MethodName)) ∈ lw_all := lw_g (lw_at lw_m5 196 rfl) rfl
theorem q1243 : (Jvm.Cond.code ({ cls := "BakedBefore$Rye", name := "rises", desc := "(I)I" } : Jvm.MethodName) prog_14_method_4_code (2 : Nat) (Option.some Jvm.ClassFile.FieldType.int)) ∈ lw_all := lw_g (lw_at lw_m5 197 rfl) rfl
theorem q1244 : (Jvm.Cond.methodLink "BakedBefore$Rye" (23 : Nat) ({ cls := "BakedBefore$Trace", name := "ran", desc := "(I)V" } : Jvm.MethodName)) ∈ lw_all := lw_g (lw_at lw_m5 198 rfl) rfl
theorem q1245 : (Jvm.Cond.methodLink "BakedBefore$Rye" (29 : Nat) ({ cls := "BakedBefore$Clean", name := "rises", desc := "(I)I" } : Jvm.MethodName)) ∈ lw_all := lw_g (lw_at lw_m5 199 rfl) rfl
theorem q1246 : (Jvm.Cond.sameMethod "BakedBefore$Clean" "BakedBefore$Loaf" "rises" "(I)I") ∈ lw_all := lw_g (lw_at lw_m5 200 rfl) rfl
theorem q1247 : (Jvm.Cond.declares ({ cls := "BakedBefore$Loaf", name := "rises", desc := "(I)I" } : Jvm.MethodName)) ∈ lw_tbl := lw_at lw_m5 201 rfl
theorem q1248 : (Jvm.Cond.selects "BakedBefore$Shy" ({ cls := "BakedBefore$Loaf", name := "rises", desc := "(I)I" } : Jvm.MethodName) ({ cls := "BakedBefore$Shy", name := "rises", desc := "(I)I" } : Jvm.MethodName)) ∈ lw_all := lw_g (lw_at lw_m5 202 rfl) rfl
theorem q1249 : (Jvm.Cond.instanceMethod ({ cls := "BakedBefore$Shy", name := "rises", desc := "(I)I" } : Jvm.MethodName)) ∈ lw_all := lw_g (lw_at lw_m5 203 rfl) rfl
theorem q1250 : (Jvm.Cond.code ({ cls := "BakedBefore$Shy", name := "rises", desc := "(I)I" } : Jvm.MethodName) prog_15_method_6_code (2 : Nat) (Option.some Jvm.ClassFile.FieldType.int)) ∈ lw_all := lw_g (lw_at lw_m5 204 rfl) rfl
theorem q1251 : (Jvm.Cond.methodLink "BakedBefore$Shy" (23 : Nat) ({ cls := "BakedBefore$Trace", name := "ran", desc := "(I)V" } : Jvm.MethodName)) ∈ lw_all := lw_g (lw_at lw_m5 205 rfl) rfl
theorem q1252 : (Jvm.Cond.methodLink "BakedBefore$Shy" (33 : Nat) ({ cls := "BakedBefore$Holy", name := "rises", desc := "(I)I" } : Jvm.MethodName)) ∈ lw_all := lw_g (lw_at lw_m5 206 rfl) rfl
theorem q1253 : (Jvm.Cond.sameMethod "BakedBefore$Holy" "BakedBefore$Loaf" "rises" "(I)I") ∈ lw_all := lw_g (lw_at lw_m5 207 rfl) rfl
theorem q1254 : (Jvm.Cond.methodLink "BakedBefore" (368 : Nat) ({ cls := "BakedBefore$Loaf", name := "bakes", desc := "(I)I" } : Jvm.MethodName)) ∈ lw_all := lw_g (lw_at lw_m5 208 rfl) rfl
theorem q1255 : (Jvm.Cond.instanceMethod ({ cls := "BakedBefore$Loaf", name := "bakes", desc := "(I)I" } : Jvm.MethodName)) ∈ lw_all := lw_g (lw_at lw_m5 209 rfl) rfl
theorem q1256 : (Jvm.Cond.selects "BakedBefore$Loaf" ({ cls := "BakedBefore$Loaf", name := "bakes", desc := "(I)I" } : Jvm.MethodName) ({ cls := "BakedBefore$Loaf", name := "bakes", desc := "(I)I" } : Jvm.MethodName)) ∈ lw_all := lw_g (lw_at lw_m5 210 rfl) rfl
theorem q1257 : (Jvm.Cond.sameMethod "BakedBefore$Loaf" "BakedBefore$Loaf" "bakes" "(I)I") ∈ lw_all := lw_g (lw_at lw_m5 211 rfl) rfl
theorem q1258 : (Jvm.Cond.selects "BakedBefore$Clean" ({ cls := "BakedBefore$Loaf", name := "bakes", desc := "(I)I" } : Jvm.MethodName) ({ cls := "BakedBefore$Clean", name := "bakes", desc := "(I)I" } : Jvm.MethodName)) ∈ lw_all := lw_g (lw_at lw_m5 212 rfl) rfl
theorem q1259 : (Jvm.Cond.instanceMethod ({ cls := "BakedBefore$Clean", name := "bakes", desc := "(I)I" } : Jvm.MethodName)) ∈ lw_all := lw_g (lw_at lw_m5 213 rfl) rfl
theorem q1260 : (Jvm.Cond.code ({ cls := "BakedBefore$Clean", name := "bakes", desc := "(I)I" } : Jvm.MethodName) prog_4_method_5_code (2 : Nat) (Option.some Jvm.ClassFile.FieldType.int)) ∈ lw_all := lw_g (lw_at lw_m5 214 rfl) rfl
theorem q1261 : (Jvm.Cond.methodLink "BakedBefore$Clean" (15 : Nat) ({ cls := "BakedBefore$Trace", name := "ran", desc := "(I)V" } : Jvm.MethodName)) ∈ lw_all := lw_g (lw_at lw_m5 215 rfl) rfl
theorem q1262 : (Jvm.Cond.methodLink "BakedBefore$Clean" (21 : Nat) ({ cls := "BakedBefore$Loaf", name := "bakes", desc := "(I)I" } : Jvm.MethodName)) ∈ lw_all := lw_g (lw_at lw_m5 216 rfl) rfl
theorem q1263 : (Jvm.Cond.code ({ cls := "BakedBefore$Loaf", name := "bakes", desc := "(I)I" } : Jvm.MethodName) prog_8_method_6_code (2 : Nat) (Option.some Jvm.ClassFile.FieldType.int)) ∈ lw_all := lw_g (lw_at lw_m5 217 rfl) rfl
theorem q1264 : (Jvm.Cond.methodLink "BakedBefore$Loaf" (28 : Nat) ({ cls := "BakedBefore$Loaf", name := "rises", desc := "(I)I" } : Jvm.MethodName)) ∈ lw_all := lw_g (lw_at lw_m5 218 rfl) rfl
theorem q1265 : (Jvm.Cond.selects "BakedBefore$Greedy" ({ cls := "BakedBefore$Loaf", name := "bakes", desc := "(I)I" } : Jvm.MethodName) ({ cls := "BakedBefore$Loaf", name := "bakes", desc := "(I)I" } : Jvm.MethodName)) ∈ lw_all := lw_g (lw_at lw_m5 219 rfl) rfl
theorem q1266 : (Jvm.Cond.selects "BakedBefore$Holy" ({ cls := "BakedBefore$Loaf", name := "bakes", desc := "(I)I" } : Jvm.MethodName) ({ cls := "BakedBefore$Loaf", name := "bakes", desc := "(I)I" } : Jvm.MethodName)) ∈ lw_all := lw_g (lw_at lw_m5 220 rfl) rfl
theorem q1267 : (Jvm.Cond.selects "BakedBefore$Poisoned" ({ cls := "BakedBefore$Loaf", name := "bakes", desc := "(I)I" } : Jvm.MethodName) ({ cls := "BakedBefore$Loaf", name := "bakes", desc := "(I)I" } : Jvm.MethodName)) ∈ lw_all := lw_g (lw_at lw_m5 221 rfl) rfl
theorem q1268 : (Jvm.Cond.selects "BakedBefore$Rye" ({ cls := "BakedBefore$Loaf", name := "bakes", desc := "(I)I" } : Jvm.MethodName) ({ cls := "BakedBefore$Rye", name := "bakes", desc := "(I)I" } : Jvm.MethodName)) ∈ lw_all := lw_g (lw_at lw_m5 222 rfl) rfl
theorem q1269 : (Jvm.Cond.instanceMethod ({ cls := "BakedBefore$Rye", name := "bakes", desc := "(I)I" } : Jvm.MethodName)) ∈ lw_all := lw_g (lw_at lw_m5 223 rfl) rfl
theorem q1270 : (Jvm.Cond.code ({ cls := "BakedBefore$Rye", name := "bakes", desc := "(I)I" } : Jvm.MethodName) prog_14_method_5_code (2 : Nat) (Option.some Jvm.ClassFile.FieldType.int)) ∈ lw_all := lw_g (lw_at lw_m5 224 rfl) rfl
theorem q1271 : (Jvm.Cond.methodLink "BakedBefore$Rye" (33 : Nat) ({ cls := "BakedBefore$Clean", name := "bakes", desc := "(I)I" } : Jvm.MethodName)) ∈ lw_all := lw_g (lw_at lw_m5 225 rfl) rfl
theorem q1272 : (Jvm.Cond.selects "BakedBefore$Shy" ({ cls := "BakedBefore$Loaf", name := "bakes", desc := "(I)I" } : Jvm.MethodName) ({ cls := "BakedBefore$Shy", name := "bakes", desc := "(I)I" } : Jvm.MethodName)) ∈ lw_all := lw_g (lw_at lw_m5 226 rfl) rfl
theorem q1273 : (Jvm.Cond.instanceMethod ({ cls := "BakedBefore$Shy", name := "bakes", desc := "(I)I" } : Jvm.MethodName)) ∈ lw_all := lw_g (lw_at lw_m5 227 rfl) rfl
theorem q1274 : (Jvm.Cond.code ({ cls := "BakedBefore$Shy", name := "bakes", desc := "(I)I" } : Jvm.MethodName) prog_15_method_5_code (3 : Nat) (Option.some Jvm.ClassFile.FieldType.int)) ∈ lw_all := lw_g (lw_at lw_m5 228 rfl) rfl
theorem q1275 : (Jvm.Cond.methodLink "BakedBefore$Shy" (29 : Nat) ({ cls := "BakedBefore$Holy", name := "bakes", desc := "(I)I" } : Jvm.MethodName)) ∈ lw_all := lw_g (lw_at lw_m5 229 rfl) rfl
theorem q1276 : (Jvm.Cond.sameMethod "BakedBefore$Holy" "BakedBefore$Loaf" "bakes" "(I)I") ∈ lw_all := lw_g (lw_at lw_m5 230 rfl) rfl
theorem q1277 : (Jvm.Cond.declares ({ cls := "BakedBefore$Loaf", name := "bakes", desc := "(I)I" } : Jvm.MethodName)) ∈ lw_tbl := lw_at lw_m5 231 rfl
theorem q1278 : (Jvm.Cond.methodLink "BakedBefore" (371 : Nat) ({ cls := "BakedBefore$Loaf", name := "tells", desc := "(I)I" } : Jvm.MethodName)) ∈ lw_all := lw_g (lw_at lw_m5 232 rfl) rfl
theorem q1279 : (Jvm.Cond.instanceMethod ({ cls := "BakedBefore$Loaf", name := "tells", desc := "(I)I" } : Jvm.MethodName)) ∈ lw_all := lw_g (lw_at lw_m5 233 rfl) rfl
theorem q1280 : (Jvm.Cond.selects "BakedBefore$Loaf" ({ cls := "BakedBefore$Loaf", name := "tells", desc := "(I)I" } : Jvm.MethodName) ({ cls := "BakedBefore$Loaf", name := "tells", desc := "(I)I" } : Jvm.MethodName)) ∈ lw_all := lw_g (lw_at lw_m5 234 rfl) rfl
theorem q1281 : (Jvm.Cond.sameMethod "BakedBefore$Loaf" "BakedBefore$Loaf" "tells" "(I)I") ∈ lw_all := lw_g (lw_at lw_m5 235 rfl) rfl
theorem q1282 : (Jvm.Cond.selects "BakedBefore$Clean" ({ cls := "BakedBefore$Loaf", name := "tells", desc := "(I)I" } : Jvm.MethodName) ({ cls := "BakedBefore$Loaf", name := "tells", desc := "(I)I" } : Jvm.MethodName)) ∈ lw_all := lw_g (lw_at lw_m5 236 rfl) rfl
theorem q1283 : (Jvm.Cond.selects "BakedBefore$Greedy" ({ cls := "BakedBefore$Loaf", name := "tells", desc := "(I)I" } : Jvm.MethodName) ({ cls := "BakedBefore$Loaf", name := "tells", desc := "(I)I" } : Jvm.MethodName)) ∈ lw_all := lw_g (lw_at lw_m5 237 rfl) rfl
theorem q1284 : (Jvm.Cond.selects "BakedBefore$Holy" ({ cls := "BakedBefore$Loaf", name := "tells", desc := "(I)I" } : Jvm.MethodName) ({ cls := "BakedBefore$Holy", name := "tells", desc := "(I)I" } : Jvm.MethodName)) ∈ lw_all := lw_g (lw_at lw_m5 238 rfl) rfl
theorem q1285 : (Jvm.Cond.instanceMethod ({ cls := "BakedBefore$Holy", name := "tells", desc := "(I)I" } : Jvm.MethodName)) ∈ lw_all := lw_g (lw_at lw_m5 239 rfl) rfl
theorem q1286 : (Jvm.Cond.code ({ cls := "BakedBefore$Holy", name := "tells", desc := "(I)I" } : Jvm.MethodName) prog_6_method_4_code (3 : Nat) (Option.some Jvm.ClassFile.FieldType.int)) ∈ lw_all := lw_g (lw_at lw_m6 0 rfl) rfl
theorem q1287 : (Jvm.Cond.methodLink "BakedBefore$Holy" (25 : Nat) ({ cls := "BakedBefore$Trace", name := "ran", desc := "(I)V" } : Jvm.MethodName)) ∈ lw_all := lw_g (lw_at lw_m6 1 rfl) rfl
theorem q1288 : (Jvm.Cond.methodLink "BakedBefore$Holy" (31 : Nat) ({ cls := "BakedBefore$Loaf", name := "tells", desc := "(I)I" } : Jvm.MethodName)) ∈ lw_all := lw_g (lw_at lw_m6 2 rfl) rfl
theorem q1289 : (Jvm.Cond.code ({ cls := "BakedBefore$Loaf", name := "tells", desc := "(I)I" } : Jvm.MethodName) prog_8_method_7_code (2 : Nat) (Option.some Jvm.ClassFile.FieldType.int)) ∈ lw_all := lw_g (lw_at lw_m6 3 rfl) rfl
theorem q1290 : (Jvm.Cond.methodLink "BakedBefore$Loaf" (32 : Nat) ({ cls := "BakedBefore$Loaf", name := "bakes", desc := "(I)I" } : Jvm.MethodName)) ∈ lw_all := lw_g (lw_at lw_m6 4 rfl) rfl
theorem q1291 : (Jvm.Cond.methodLink "BakedBefore$Holy" (35 : Nat) ({ cls := "BakedBefore$Holy", name := "bakes", desc := "(I)I" } : Jvm.MethodName)) ∈ lw_all := lw_g (lw_at lw_m6 5 rfl) rfl
theorem q1292 : (Jvm.Cond.selects "BakedBefore$Holy" ({ cls := "BakedBefore$Holy", name := "bakes", desc := "(I)I" } : Jvm.MethodName) ({ cls := "BakedBefore$Loaf", name := "bakes", desc := "(I)I" } : Jvm.MethodName)) ∈ lw_all := lw_g (lw_at lw_m6 6 rfl) rfl
theorem q1293 : (Jvm.Cond.selects "BakedBefore$Shy" ({ cls := "BakedBefore$Holy", name := "bakes", desc := "(I)I" } : Jvm.MethodName) ({ cls := "BakedBefore$Shy", name := "bakes", desc := "(I)I" } : Jvm.MethodName)) ∈ lw_all := lw_g (lw_at lw_m6 7 rfl) rfl
theorem q1294 : (Jvm.Cond.selects "BakedBefore$Poisoned" ({ cls := "BakedBefore$Loaf", name := "tells", desc := "(I)I" } : Jvm.MethodName) ({ cls := "BakedBefore$Poisoned", name := "tells", desc := "(I)I" } : Jvm.MethodName)) ∈ lw_all := lw_g (lw_at lw_m6 8 rfl) rfl
theorem q1295 : (Jvm.Cond.instanceMethod ({ cls := "BakedBefore$Poisoned", name := "tells", desc := "(I)I" } : Jvm.MethodName)) ∈ lw_all := lw_g (lw_at lw_m6 9 rfl) rfl
theorem q1296 : (Jvm.Cond.code ({ cls := "BakedBefore$Poisoned", name := "tells", desc := "(I)I" } : Jvm.MethodName) prog_12_method_4_code (2 : Nat) (Option.some Jvm.ClassFile.FieldType.int)) ∈ lw_all := lw_g (lw_at lw_m6 10 rfl) rfl
theorem q1297 : (Jvm.Cond.methodLink "BakedBefore$Poisoned" (23 : Nat) ({ cls := "BakedBefore$Trace", name := "ran", desc := "(I)V" } : Jvm.MethodName)) ∈ lw_all := lw_g (lw_at lw_m6 11 rfl) rfl
theorem q1298 : (Jvm.Cond.methodLink "BakedBefore$Poisoned" (32 : Nat) ({ cls := "BakedBefore$Greedy", name := "tells", desc := "(I)I" } : Jvm.MethodName)) ∈ lw_all := lw_g (lw_at lw_m6 12 rfl) rfl
theorem q1299 : (Jvm.Cond.sameMethod "BakedBefore$Greedy" "BakedBefore$Loaf" "tells" "(I)I") ∈ lw_all := lw_g (lw_at lw_m6 13 rfl) rfl
theorem q1300 : (Jvm.Cond.declares ({ cls := "BakedBefore$Loaf", name := "tells", desc := "(I)I" } : Jvm.MethodName)) ∈ lw_tbl := lw_at lw_m6 14 rfl
theorem q1301 : (Jvm.Cond.selects "BakedBefore$Rye" ({ cls := "BakedBefore$Loaf", name := "tells", desc := "(I)I" } : Jvm.MethodName) ({ cls := "BakedBefore$Loaf", name := "tells", desc := "(I)I" } : Jvm.MethodName)) ∈ lw_all := lw_g (lw_at lw_m6 15 rfl) rfl
theorem q1302 : (Jvm.Cond.selects "BakedBefore$Shy" ({ cls := "BakedBefore$Loaf", name := "tells", desc := "(I)I" } : Jvm.MethodName) ({ cls := "BakedBefore$Holy", name := "tells", desc := "(I)I" } : Jvm.MethodName)) ∈ lw_all := lw_g (lw_at lw_m6 16 rfl) rfl
theorem q1303 : (Jvm.Cond.methodLink "BakedBeforeLaw" (128 : Nat) ({ cls := "BakedBefore", name := "trace", desc := "(I)I" } : Jvm.MethodName)) ∈ lw_all := lw_g (lw_at lw_m6 17 rfl) rfl
theorem q1304 : (Jvm.Cond.instanceMethod ({ cls := "BakedBefore", name := "trace", desc := "(I)I" } : Jvm.MethodName)) ∈ lw_all := lw_g (lw_at lw_m6 18 rfl) rfl
theorem q1305 : (Jvm.Cond.selects "BakedBefore" ({ cls := "BakedBefore", name := "trace", desc := "(I)I" } : Jvm.MethodName) ({ cls := "BakedBefore", name := "trace", desc := "(I)I" } : Jvm.MethodName)) ∈ lw_all := lw_g (lw_at lw_m6 19 rfl) rfl
theorem q1306 : (Jvm.Cond.code ({ cls := "BakedBefore", name := "trace", desc := "(I)I" } : Jvm.MethodName) prog_1_method_58_code (2 : Nat) (Option.some Jvm.ClassFile.FieldType.int)) ∈ lw_all := lw_g (lw_at lw_m6 20 rfl) rfl
theorem q1307 : (Jvm.Cond.methodLink "BakedBeforeLaw" (132 : Nat) ({ cls := "BakedBefore", name := "taken", desc := "(II)I" } : Jvm.MethodName)) ∈ lw_all := lw_g (lw_at lw_m6 21 rfl) rfl
theorem q1308 : (Jvm.Cond.instanceMethod ({ cls := "BakedBefore", name := "taken", desc := "(II)I" } : Jvm.MethodName)) ∈ lw_all := lw_g (lw_at lw_m6 22 rfl) rfl
theorem q1309 : (Jvm.Cond.selects "BakedBefore" ({ cls := "BakedBefore", name := "taken", desc := "(II)I" } : Jvm.MethodName) ({ cls := "BakedBefore", name := "taken", desc := "(II)I" } : Jvm.MethodName)) ∈ lw_all := lw_g (lw_at lw_m6 23 rfl) rfl
theorem q1310 : (Jvm.Cond.codeWith ({ cls := "BakedBefore", name := "taken", desc := "(II)I" } : Jvm.MethodName) prog_1_method_60_code (4 : Nat) (Option.some Jvm.ClassFile.FieldType.int) [((13 : Nat), (38 : Nat), (39 : Nat), (331 : Nat)), ((13 : Nat), (38 : Nat), (43 : Nat), (345 : Nat))]) ∈ lw_all := lw_g (lw_at lw_m6 24 rfl) rfl
theorem q1311 : (Jvm.Cond.methodLink "BakedBefore" (377 : Nat) ({ cls := "BakedBefore", name := "takenFor", desc := "(LBakedBefore$Tells;I)LBakedBefore$Loaf;" } : Jvm.MethodName)) ∈ lw_all := lw_g (lw_at lw_m6 25 rfl) rfl
theorem q1312 : (Jvm.Cond.static ({ cls := "BakedBefore", name := "takenFor", desc := "(LBakedBefore$Tells;I)LBakedBefore$Loaf;" } : Jvm.MethodName)) ∈ lw_all := lw_g (lw_at lw_m6 26 rfl) rfl
theorem q1313 : (Jvm.Cond.code ({ cls := "BakedBefore", name := "takenFor", desc := "(LBakedBefore$Tells;I)LBakedBefore$Loaf;" } : Jvm.MethodName) prog_1_method_59_code (2 : Nat) (Option.some (Jvm.ClassFile.FieldType.object "BakedBefore$Loaf"))) ∈ lw_all := lw_g (lw_at lw_m6 27 rfl) rfl
theorem q1314 : (Jvm.Cond.methodLink "BakedBeforeLaw" (136 : Nat) ({ cls := "BakedBefore", name := "count", desc := "(I)I" } : Jvm.MethodName)) ∈ lw_all := lw_g (lw_at lw_m6 28 rfl) rfl
theorem q1315 : (Jvm.Cond.instanceMethod ({ cls := "BakedBefore", name := "count", desc := "(I)I" } : Jvm.MethodName)) ∈ lw_all := lw_g (lw_at lw_m6 29 rfl) rfl
theorem q1316 : (Jvm.Cond.selects "BakedBefore" ({ cls := "BakedBefore", name := "count", desc := "(I)I" } : Jvm.MethodName) ({ cls := "BakedBefore", name := "count", desc := "(I)I" } : Jvm.MethodName)) ∈ lw_all := lw_g (lw_at lw_m6 30 rfl) rfl
theorem q1317 : (Jvm.Cond.code ({ cls := "BakedBefore", name := "count", desc := "(I)I" } : Jvm.MethodName) prog_1_method_61_code (2 : Nat) (Option.some Jvm.ClassFile.FieldType.int)) ∈ lw_all := lw_g (lw_at lw_m6 31 rfl) rfl
theorem q1318 : (Jvm.Cond.methodLink "BakedBeforeLaw" (140 : Nat) ({ cls := "BakedBefore", name := "tape", desc := "(III)I" } : Jvm.MethodName)) ∈ lw_all := lw_g (lw_at lw_m6 32 rfl) rfl
theorem q1319 : (Jvm.Cond.instanceMethod ({ cls := "BakedBefore", name := "tape", desc := "(III)I" } : Jvm.MethodName)) ∈ lw_all := lw_g (lw_at lw_m6 33 rfl) rfl
theorem q1320 : (Jvm.Cond.selects "BakedBefore" ({ cls := "BakedBefore", name := "tape", desc := "(III)I" } : Jvm.MethodName) ({ cls := "BakedBefore", name := "tape", desc := "(III)I" } : Jvm.MethodName)) ∈ lw_all := lw_g (lw_at lw_m6 34 rfl) rfl
theorem q1321 : (Jvm.Cond.codeWith ({ cls := "BakedBefore", name := "tape", desc := "(III)I" } : Jvm.MethodName) prog_1_method_64_code (5 : Nat) (Option.some Jvm.ClassFile.FieldType.int) [((32 : Nat), (56 : Nat), (57 : Nat), (385 : Nat))]) ∈ lw_all := lw_g (lw_at lw_m6 35 rfl) rfl
theorem q1322 : (Jvm.Cond.classLink "BakedBefore" (385 : Nat) "java/lang/NegativeArraySizeException") ∈ lw_all := lw_g (lw_at lw_m6 36 rfl) rfl
theorem q1323 : (Jvm.Cond.instantiable "java/lang/NegativeArraySizeException" (6 : Nat)) ∈ lw_all := lw_g (lw_at lw_m6 37 rfl) rfl
theorem q1324 : (Jvm.Cond.instanceMethod ({ cls := "java/lang/NegativeArraySizeException", name := "<init>", desc := "(Ljava/lang/String;)V" } : Jvm.MethodName)) ∈ lw_all := lw_g (lw_at lw_m6 38 rfl) rfl
theorem q1325 : (Jvm.Cond.code ({ cls := "java/lang/NegativeArraySizeException", name := "<init>", desc := "(Ljava/lang/String;)V" } : Jvm.MethodName) prog_36_method_2_code (2 : Nat) (Option.none : Option Jvm.ClassFile.FieldType)) ∈ lw_all := lw_g (lw_at lw_m6 39 rfl) rfl
theorem q1326 : (Jvm.Cond.methodLink "java/lang/NegativeArraySizeException" (7 : Nat) ({ cls := "java/lang/RuntimeException", name := "<init>", desc := "(Ljava/lang/String;)V" } : Jvm.MethodName)) ∈ lw_all := lw_g (lw_at lw_m6 40 rfl) rfl
theorem q1327 : (Jvm.Cond.lays "java/lang/NegativeArraySizeException" "java/lang/Throwable" "backtrace" "Ljava/lang/Object;") ∈ lw_all := lw_g (lw_at lw_m6 41 rfl) rfl
theorem q1328 : (Jvm.Cond.lays "java/lang/NegativeArraySizeException" "java/lang/Throwable" "detailMessage" "Ljava/lang/String;") ∈ lw_all := lw_g (lw_at lw_m6 42 rfl) rfl
theorem q1329 : (Jvm.Cond.lays "java/lang/NegativeArraySizeException" "java/lang/Throwable" "cause" "Ljava/lang/Throwable;") ∈ lw_all := lw_g (lw_at lw_m6 43 rfl) rfl
theorem q1330 : (Jvm.Cond.lays "java/lang/NegativeArraySizeException" "java/lang/Throwable" "stackTrace" "[Ljava/lang/StackTraceElement;") ∈ lw_all := lw_g (lw_at lw_m6 44 rfl) rfl
theorem q1331 : (Jvm.Cond.lays "java/lang/NegativeArraySizeException" "java/lang/Throwable" "depth" "I") ∈ lw_all := lw_g (lw_at lw_m6 45 rfl) rfl
theorem q1332 : (Jvm.Cond.lays "java/lang/NegativeArraySizeException" "java/lang/Throwable" "suppressedExceptions" "Ljava/util/List;") ∈ lw_all := lw_g (lw_at lw_m6 46 rfl) rfl
theorem q1333 : (Jvm.Cond.superclass "java/lang/NegativeArraySizeException" "java/lang/RuntimeException") ∈ lw_all := lw_g (lw_at lw_m6 47 rfl) rfl
theorem q1334 : (Jvm.Cond.castable "java/lang/NegativeArraySizeException" "java/lang/NegativeArraySizeException") ∈ lw_tbl := lw_at lw_m6 48 rfl
theorem q1335 : (Jvm.Cond.selects "java/lang/NegativeArraySizeException" ({ cls := "java/lang/Throwable", name := "fillInStackTrace", desc := "(I)Ljava/lang/Throwable;" } : Jvm.MethodName) ({ cls := "java/lang/Throwable", name := "fillInStackTrace", desc := "(I)Ljava/lang/Throwable;" } : Jvm.MethodName)) ∈ lw_all := lw_g (lw_at lw_m6 49 rfl) rfl
theorem q1336 : (Jvm.Cond.methodLink "BakedBefore" (381 : Nat) ({ cls := "BakedBefore", name := "rowOf", desc := "(II)Ljava/lang/Object;" } : Jvm.MethodName)) ∈ lw_all := lw_g (lw_at lw_m6 50 rfl) rfl
theorem q1337 : (Jvm.Cond.static ({ cls := "BakedBefore", name := "rowOf", desc := "(II)Ljava/lang/Object;" } : Jvm.MethodName)) ∈ lw_all := lw_g (lw_at lw_m6 51 rfl) rfl
theorem q1338 : (Jvm.Cond.code ({ cls := "BakedBefore", name := "rowOf", desc := "(II)Ljava/lang/Object;" } : Jvm.MethodName) prog_1_method_62_code (2 : Nat) (Option.some (Jvm.ClassFile.FieldType.object "java/lang/Object"))) ∈ lw_all := lw_g (lw_at lw_m6 52 rfl) rfl
theorem q1339 : (Jvm.Cond.arrayClass Jvm.ClassFile.FieldType.short) ∈ lw_all := lw_g (lw_at lw_m6 53 rfl) rfl
theorem q1340 : (Jvm.Cond.arrayClass Jvm.ClassFile.FieldType.long) ∈ lw_all := lw_g (lw_at lw_m6 54 rfl) rfl
theorem q1341 : (Jvm.Cond.methodLink "BakedBeforeLaw" (146 : Nat) ({ cls := "BakedBefore", name := "item", desc := "(IIJ)I" } : Jvm.MethodName)) ∈ lw_all := lw_g (lw_at lw_m6 55 rfl) rfl
theorem q1342 : (Jvm.Cond.instanceMethod ({ cls := "BakedBefore", name := "item", desc := "(IIJ)I" } : Jvm.MethodName)) ∈ lw_all := lw_g (lw_at lw_m6 56 rfl) rfl
theorem q1343 : (Jvm.Cond.selects "BakedBefore" ({ cls := "BakedBefore", name := "item", desc := "(IIJ)I" } : Jvm.MethodName) ({ cls := "BakedBefore", name := "item", desc := "(IIJ)I" } : Jvm.MethodName)) ∈ lw_all := lw_g (lw_at lw_m6 57 rfl) rfl
theorem q1344 : (Jvm.Cond.codeWith ({ cls := "BakedBefore", name := "item", desc := "(IIJ)I" } : Jvm.MethodName) prog_1_method_65_code (11 : Nat) (Option.some Jvm.ClassFile.FieldType.int) [((17 : Nat), (23 : Nat), (26 : Nat), (237 : Nat))]) ∈ lw_all := lw_g (lw_at lw_m6 58 rfl) rfl
theorem q1345 : (Jvm.Cond.methodLinkNest "BakedBefore" (387 : Nat) ({ cls := "BakedBefore$Tape", name := "has", desc := "(I)V" } : Jvm.MethodName) "BakedBefore") ∈ lw_tbl := lw_at lw_m6 59 rfl
theorem q1346 : (Jvm.Cond.privateMethod ({ cls := "BakedBefore$Tape", name := "has", desc := "(I)V" } : Jvm.MethodName)) ∈ lw_tbl := lw_at lw_m6 60 rfl
theorem q1347 : (Jvm.Cond.instanceMethod ({ cls := "BakedBefore$Tape", name := "has", desc := "(I)V" } : Jvm.MethodName)) ∈ lw_all := lw_g (lw_at lw_m6 61 rfl) rfl
theorem q1348 : (Jvm.Cond.code ({ cls := "BakedBefore$Tape", name := "has", desc := "(I)V" } : Jvm.MethodName) prog_17_method_3_code (2 : Nat) (Option.none : Option Jvm.ClassFile.FieldType)) ∈ lw_all := lw_g (lw_at lw_m6 62 rfl) rfl
theorem q1349 : (Jvm.Cond.classLink "BakedBefore$Tape" (25 : Nat) "BakedBefore$Off") ∈ lw_all := lw_g (lw_at lw_m6 63 rfl) rfl
theorem q1350 : (Jvm.Cond.methodLink "BakedBefore$Tape" (27 : Nat) ({ cls := "BakedBefore$Off", name := "<init>", desc := "(I)V" } : Jvm.MethodName)) ∈ lw_all := lw_g (lw_at lw_m6 64 rfl) rfl
theorem q1351 : (Jvm.Cond.methodLink "BakedBefore$Tape" (30 : Nat) ({ cls := "BakedBefore$Tape", name := "size", desc := "()I" } : Jvm.MethodName)) ∈ lw_all := lw_g (lw_at lw_m6 65 rfl) rfl
theorem q1352 : (Jvm.Cond.privateMethod ({ cls := "BakedBefore$Tape", name := "size", desc := "()I" } : Jvm.MethodName)) ∈ lw_tbl := lw_at lw_m6 66 rfl
theorem q1353 : (Jvm.Cond.instanceMethod ({ cls := "BakedBefore$Tape", name := "size", desc := "()I" } : Jvm.MethodName)) ∈ lw_all := lw_g (lw_at lw_m6 67 rfl) rfl
theorem q1354 : (Jvm.Cond.code ({ cls := "BakedBefore$Tape", name := "size", desc := "()I" } : Jvm.MethodName) prog_17_method_2_code (3 : Nat) (Option.some Jvm.ClassFile.FieldType.int)) ∈ lw_all := lw_g (lw_at lw_m6 68 rfl) rfl
theorem q1355 : (Jvm.Cond.classLink "BakedBefore$Tape" (15 : Nat) "[B") ∈ lw_all := lw_g (lw_at lw_m6 69 rfl) rfl
theorem q1356 : (Jvm.Cond.classLink "BakedBefore$Tape" (17 : Nat) "[S") ∈ lw_all := lw_g (lw_at lw_m6 70 rfl) rfl
theorem q1357 : (Jvm.Cond.classLink "BakedBefore$Tape" (19 : Nat) "[I") ∈ lw_all := lw_g (lw_at lw_m6 71 rfl) rfl
theorem q1358 : (Jvm.Cond.classLink "BakedBefore$Tape" (21 : Nat) "[J") ∈ lw_all := lw_g (lw_at lw_m6 72 rfl) rfl
theorem q1359 : (Jvm.Cond.classLink "BakedBefore$Tape" (23 : Nat) "[Z") ∈ lw_all := lw_g (lw_at lw_m6 73 rfl) rfl
theorem q1360 : (Jvm.Cond.methodLinkNest "BakedBefore$Tape" (34 : Nat) ({ cls := "BakedBefore", name := "in", desc := "(III)Z" } : Jvm.MethodName) "BakedBefore") ∈ lw_tbl := lw_at lw_m6 74 rfl
theorem q1361 : (Jvm.Cond.classLink "BakedBefore" (390 : Nat) "[B") ∈ lw_all := lw_g (lw_at lw_m6 75 rfl) rfl
theorem q1362 : (Jvm.Cond.classLink "BakedBefore" (391 : Nat) "[I") ∈ lw_all := lw_g (lw_at lw_m6 76 rfl) rfl
theorem q1363 : (Jvm.Cond.classLink "BakedBefore" (392 : Nat) "[J") ∈ lw_all := lw_g (lw_at lw_m6 77 rfl) rfl
theorem q1364 : (Jvm.Cond.classLink "BakedBefore" (394 : Nat) "[Z") ∈ lw_all := lw_g (lw_at lw_m6 78 rfl) rfl
theorem q1365 : (Jvm.Cond.methodLink "BakedBeforeLaw" (151 : Nat) ({ cls := "BakedBefore", name := "read", desc := "(II)J" } : Jvm.MethodName)) ∈ lw_all := lw_g (lw_at lw_m6 79 rfl) rfl
theorem q1366 : (Jvm.Cond.instanceMethod ({ cls := "BakedBefore", name := "read", desc := "(II)J" } : Jvm.MethodName)) ∈ lw_all := lw_g (lw_at lw_m6 80 rfl) rfl
theorem q1367 : (Jvm.Cond.selects "BakedBefore" ({ cls := "BakedBefore", name := "read", desc := "(II)J" } : Jvm.MethodName) ({ cls := "BakedBefore", name := "read", desc := "(II)J" } : Jvm.MethodName)) ∈ lw_all := lw_g (lw_at lw_m6 81 rfl) rfl
theorem q1368 : (Jvm.Cond.code ({ cls := "BakedBefore", name := "read", desc := "(II)J" } : Jvm.MethodName) prog_1_method_66_code (6 : Nat) (Option.some Jvm.ClassFile.FieldType.long)) ∈ lw_all := lw_g (lw_at lw_m6 82 rfl) rfl
theorem q1369 : (Jvm.Cond.methodLinkNest "BakedBefore" (395 : Nat) ({ cls := "BakedBefore$Tape", name := "size", desc := "()I" } : Jvm.MethodName) "BakedBefore") ∈ lw_tbl := lw_at lw_m6 83 rfl
theorem q1370 : (Jvm.Cond.methodLink "BakedBeforeLaw" (155 : Nat) ({ cls := "BakedBefore", name := "shift", desc := "(IIIII)I" } : Jvm.MethodName)) ∈ lw_all := lw_g (lw_at lw_m6 84 rfl) rfl
theorem q1371 : (Jvm.Cond.instanceMethod ({ cls := "BakedBefore", name := "shift", desc := "(IIIII)I" } : Jvm.MethodName)) ∈ lw_all := lw_g (lw_at lw_m6 85 rfl) rfl
theorem q1372 : (Jvm.Cond.selects "BakedBefore" ({ cls := "BakedBefore", name := "shift", desc := "(IIIII)I" } : Jvm.MethodName) ({ cls := "BakedBefore", name := "shift", desc := "(IIIII)I" } : Jvm.MethodName)) ∈ lw_all := lw_g (lw_at lw_m6 86 rfl) rfl
theorem q1373 : (Jvm.Cond.codeWith ({ cls := "BakedBefore", name := "shift", desc := "(IIIII)I" } : Jvm.MethodName) prog_1_method_67_code (7 : Nat) (Option.some Jvm.ClassFile.FieldType.int) [((16 : Nat), (44 : Nat), (45 : Nat), (331 : Nat)), ((16 : Nat), (44 : Nat), (50 : Nat), (398 : Nat)), ((16 : Nat), (44 : Nat), (55 : Nat), (400 : Nat))]) ∈ lw_all := lw_g (lw_at lw_m6 87 rfl) rfl
theorem q1374 : (Jvm.Cond.classLink "BakedBefore" (398 : Nat) "java/lang/ArrayStoreException") ∈ lw_all := lw_g (lw_at lw_m6 88 rfl) rfl
theorem q1375 : (Jvm.Cond.instantiable "java/lang/ArrayStoreException" (6 : Nat)) ∈ lw_all := lw_g (lw_at lw_m6 89 rfl) rfl
theorem q1376 : (Jvm.Cond.instanceMethod ({ cls := "java/lang/ArrayStoreException", name := "<init>", desc := "(Ljava/lang/String;)V" } : Jvm.MethodName)) ∈ lw_all := lw_g (lw_at lw_m6 90 rfl) rfl
theorem q1377 : (Jvm.Cond.code ({ cls := "java/lang/ArrayStoreException", name := "<init>", desc := "(Ljava/lang/String;)V" } : Jvm.MethodName) prog_26_method_2_code (2 : Nat) (Option.none : Option Jvm.ClassFile.FieldType)) ∈ lw_all := lw_g (lw_at lw_m6 91 rfl) rfl
theorem q1378 : (Jvm.Cond.methodLink "java/lang/ArrayStoreException" (7 : Nat) ({ cls := "java/lang/RuntimeException", name := "<init>", desc := "(Ljava/lang/String;)V" } : Jvm.MethodName)) ∈ lw_all := lw_g (lw_at lw_m6 92 rfl) rfl
theorem q1379 : (Jvm.Cond.lays "java/lang/ArrayStoreException" "java/lang/Throwable" "backtrace" "Ljava/lang/Object;") ∈ lw_all := lw_g (lw_at lw_m6 93 rfl) rfl
theorem q1380 : (Jvm.Cond.lays "java/lang/ArrayStoreException" "java/lang/Throwable" "detailMessage" "Ljava/lang/String;") ∈ lw_all := lw_g (lw_at lw_m6 94 rfl) rfl
theorem q1381 : (Jvm.Cond.lays "java/lang/ArrayStoreException" "java/lang/Throwable" "cause" "Ljava/lang/Throwable;") ∈ lw_all := lw_g (lw_at lw_m6 95 rfl) rfl
theorem q1382 : (Jvm.Cond.lays "java/lang/ArrayStoreException" "java/lang/Throwable" "stackTrace" "[Ljava/lang/StackTraceElement;") ∈ lw_all := lw_g (lw_at lw_m6 96 rfl) rfl
theorem q1383 : (Jvm.Cond.lays "java/lang/ArrayStoreException" "java/lang/Throwable" "depth" "I") ∈ lw_all := lw_g (lw_at lw_m6 97 rfl) rfl
theorem q1384 : (Jvm.Cond.lays "java/lang/ArrayStoreException" "java/lang/Throwable" "suppressedExceptions" "Ljava/util/List;") ∈ lw_all := lw_g (lw_at lw_m6 98 rfl) rfl
theorem q1385 : (Jvm.Cond.superclass "java/lang/ArrayStoreException" "java/lang/RuntimeException") ∈ lw_all := lw_g (lw_at lw_m6 99 rfl) rfl
theorem q1386 : (Jvm.Cond.castable "java/lang/ArrayStoreException" "java/lang/ArrayStoreException") ∈ lw_tbl := lw_at lw_m6 100 rfl
theorem q1387 : (Jvm.Cond.selects "java/lang/ArrayStoreException" ({ cls := "java/lang/Throwable", name := "fillInStackTrace", desc := "(I)Ljava/lang/Throwable;" } : Jvm.MethodName) ({ cls := "java/lang/Throwable", name := "fillInStackTrace", desc := "(I)Ljava/lang/Throwable;" } : Jvm.MethodName)) ∈ lw_all := lw_g (lw_at lw_m6 101 rfl) rfl
theorem q1388 : (Jvm.Cond.classLink "BakedBefore" (400 : Nat) "java/lang/IndexOutOfBoundsException") ∈ lw_all := lw_g (lw_at lw_m6 102 rfl) rfl
theorem q1389 : (Jvm.Cond.instantiable "java/lang/ArrayIndexOutOfBoundsException" (6 : Nat)) ∈ lw_all := lw_g (lw_at lw_m6 103 rfl) rfl
theorem q1390 : (Jvm.Cond.instanceMethod ({ cls := "java/lang/ArrayIndexOutOfBoundsException", name := "<init>", desc := "(Ljava/lang/String;)V" } : Jvm.MethodName)) ∈ lw_all := lw_g (lw_at lw_m6 104 rfl) rfl
theorem q1391 : (Jvm.Cond.code ({ cls := "java/lang/ArrayIndexOutOfBoundsException", name := "<init>", desc := "(Ljava/lang/String;)V" } : Jvm.MethodName) prog_25_method_2_code (2 : Nat) (Option.none : Option Jvm.ClassFile.FieldType)) ∈ lw_all := lw_g (lw_at lw_m6 105 rfl) rfl
theorem q1392 : (Jvm.Cond.methodLink "java/lang/ArrayIndexOutOfBoundsException" (7 : Nat) ({ cls := "java/lang/IndexOutOfBoundsException", name := "<init>", desc := "(Ljava/lang/String;)V" } : Jvm.MethodName)) ∈ lw_all := lw_g (lw_at lw_m6 106 rfl) rfl
theorem q1393 : (Jvm.Cond.instanceMethod ({ cls := "java/lang/IndexOutOfBoundsException", name := "<init>", desc := "(Ljava/lang/String;)V" } : Jvm.MethodName)) ∈ lw_all := lw_g (lw_at lw_m6 107 rfl) rfl
theorem q1394 : (Jvm.Cond.code ({ cls := "java/lang/IndexOutOfBoundsException", name := "<init>", desc := "(Ljava/lang/String;)V" } : Jvm.MethodName) prog_32_method_2_code (2 : Nat) (Option.none : Option Jvm.ClassFile.FieldType)) ∈ lw_all := lw_g (lw_at lw_m6 108 rfl) rfl
theorem q1395 : (Jvm.Cond.methodLink "java/lang/IndexOutOfBoundsException" (7 : Nat) ({ cls := "java/lang/RuntimeException", name := "<init>", desc := "(Ljava/lang/String;)V" } : Jvm.MethodName)) ∈ lw_all := lw_g (lw_at lw_m6 109 rfl) rfl
theorem q1396 : (Jvm.Cond.lays "java/lang/ArrayIndexOutOfBoundsException" "java/lang/Throwable" "backtrace" "Ljava/lang/Object;") ∈ lw_all := lw_g (lw_at lw_m6 110 rfl) rfl
theorem q1397 : (Jvm.Cond.lays "java/lang/ArrayIndexOutOfBoundsException" "java/lang/Throwable" "detailMessage" "Ljava/lang/String;") ∈ lw_all := lw_g (lw_at lw_m6 111 rfl) rfl
theorem q1398 : (Jvm.Cond.lays "java/lang/ArrayIndexOutOfBoundsException" "java/lang/Throwable" "cause" "Ljava/lang/Throwable;") ∈ lw_all := lw_g (lw_at lw_m6 112 rfl) rfl
theorem q1399 : (Jvm.Cond.lays "java/lang/ArrayIndexOutOfBoundsException" "java/lang/Throwable" "stackTrace" "[Ljava/lang/StackTraceElement;") ∈ lw_all := lw_g (lw_at lw_m6 113 rfl) rfl
theorem q1400 : (Jvm.Cond.lays "java/lang/ArrayIndexOutOfBoundsException" "java/lang/Throwable" "depth" "I") ∈ lw_all := lw_g (lw_at lw_m6 114 rfl) rfl
theorem q1401 : (Jvm.Cond.lays "java/lang/ArrayIndexOutOfBoundsException" "java/lang/Throwable" "suppressedExceptions" "Ljava/util/List;") ∈ lw_all := lw_g (lw_at lw_m6 115 rfl) rfl
theorem q1402 : (Jvm.Cond.superclass "java/lang/ArrayIndexOutOfBoundsException" "java/lang/IndexOutOfBoundsException") ∈ lw_all := lw_g (lw_at lw_m6 116 rfl) rfl
theorem q1403 : (Jvm.Cond.castable "java/lang/ArrayIndexOutOfBoundsException" "java/lang/ArrayIndexOutOfBoundsException") ∈ lw_tbl := lw_at lw_m6 117 rfl
theorem q1404 : (Jvm.Cond.declares ({ cls := "java/lang/IndexOutOfBoundsException", name := "<init>", desc := "()V" } : Jvm.MethodName)) ∈ lw_tbl := lw_at lw_m6 118 rfl
theorem q1405 : (Jvm.Cond.declares ({ cls := "java/lang/IndexOutOfBoundsException", name := "<init>", desc := "(Ljava/lang/String;)V" } : Jvm.MethodName)) ∈ lw_tbl := lw_at lw_m6 119 rfl
theorem q1406 : (Jvm.Cond.selects "java/lang/ArrayIndexOutOfBoundsException" ({ cls := "java/lang/Throwable", name := "fillInStackTrace", desc := "(I)Ljava/lang/Throwable;" } : Jvm.MethodName) ({ cls := "java/lang/Throwable", name := "fillInStackTrace", desc := "(I)Ljava/lang/Throwable;" } : Jvm.MethodName)) ∈ lw_all := lw_g (lw_at lw_m6 120 rfl) rfl
theorem q1407 : (Jvm.Cond.classLink "BakedBeforeLaw" (10 : Nat) "BakedBeforeModel") ∈ lw_all := lw_g (lw_at lw_m6 121 rfl) rfl
theorem q1408 : (Jvm.Cond.instantiable "BakedBeforeModel" (31 : Nat)) ∈ lw_all := lw_g (lw_at lw_m6 122 rfl) rfl
theorem q1409 : (Jvm.Cond.methodLink "BakedBeforeLaw" (12 : Nat) ({ cls := "BakedBeforeModel", name := "<init>", desc := "()V" } : Jvm.MethodName)) ∈ lw_all := lw_g (lw_at lw_m6 123 rfl) rfl
theorem q1410 : (Jvm.Cond.instanceMethod ({ cls := "BakedBeforeModel", name := "<init>", desc := "()V" } : Jvm.MethodName)) ∈ lw_all := lw_g (lw_at lw_m6 124 rfl) rfl
theorem q1411 : (Jvm.Cond.code ({ cls := "BakedBeforeModel", name := "<init>", desc := "()V" } : Jvm.MethodName) prog_23_method_1_code (1 : Nat) (Option.none : Option Jvm.ClassFile.FieldType)) ∈ lw_all := lw_g (lw_at lw_m6 125 rfl) rfl
theorem q1412 : (Jvm.Cond.methodLink "BakedBeforeModel" (3 : Nat) ({ cls := "java/lang/Object", name := "<init>", desc := "()V" } : Jvm.MethodName)) ∈ lw_all := lw_g (lw_at lw_m6 126 rfl) rfl
theorem q1413 : (Jvm.Cond.fieldLink "BakedBeforeModel" (11 : Nat) "BakedBeforeModel" "s" "[I") ∈ lw_all := lw_g (lw_at lw_m6 127 rfl) rfl
theorem q1414 : (Jvm.Cond.fieldLink "BakedBeforeModel" (15 : Nat) "BakedBeforeModel" "image" "[I") ∈ lw_all := lw_g (lw_at lw_m6 128 rfl) rfl
theorem q1415 : (Jvm.Cond.fieldLink "BakedBeforeModel" (18 : Nat) "BakedBeforeModel" "mind" "[I") ∈ lw_all := lw_g (lw_at lw_m6 129 rfl) rfl
theorem q1416 : (Jvm.Cond.fieldLink "BakedBeforeModel" (278 : Nat) "BakedBeforeModel" "hasImage" "Z") ∈ lw_all := lw_g (lw_at lw_m6 130 rfl) rfl
theorem q1417 : (Jvm.Cond.fieldLink "BakedBeforeModel" (21 : Nat) "BakedBeforeModel" "text" "[I") ∈ lw_all := lw_g (lw_at lw_m6 131 rfl) rfl
theorem q1418 : (Jvm.Cond.fieldLink "BakedBeforeModel" (24 : Nat) "BakedBeforeModel" "kilnText" "[I") ∈ lw_all := lw_g (lw_at lw_m6 132 rfl) rfl
theorem q1419 : (Jvm.Cond.fieldLink "BakedBeforeModel" (27 : Nat) "BakedBeforeModel" "kilnLong" "[I") ∈ lw_all := lw_g (lw_at lw_m6 133 rfl) rfl
theorem q1420 : (Jvm.Cond.fieldLink "BakedBeforeModel" (64 : Nat) "BakedBeforeModel" "texted" "I") ∈ lw_all := lw_g (lw_at lw_m6 134 rfl) rfl
theorem q1421 : (Jvm.Cond.fieldLink "BakedBeforeModel" (173 : Nat) "BakedBeforeModel" "kilns" "I") ∈ lw_all := lw_g (lw_at lw_m6 135 rfl) rfl
theorem q1422 : (Jvm.Cond.fieldLink "BakedBeforeModel" (74 : Nat) "BakedBeforeModel" "base" "I") ∈ lw_all := lw_g (lw_at lw_m6 136 rfl) rfl
theorem q1423 : (Jvm.Cond.fieldLink "BakedBeforeModel" (71 : Nat) "BakedBeforeModel" "end" "I") ∈ lw_all := lw_g (lw_at lw_m6 137 rfl) rfl
theorem q1424 : (Jvm.Cond.fieldLink "BakedBeforeModel" (68 : Nat) "BakedBeforeModel" "at" "I") ∈ lw_all := lw_g (lw_at lw_m6 138 rfl) rfl
theorem q1425 : (Jvm.Cond.fieldLink "BakedBeforeModel" (89 : Nat) "BakedBeforeModel" "loaf" "I") ∈ lw_all := lw_g (lw_at lw_m6 139 rfl) rfl
theorem q1426 : (Jvm.Cond.fieldLink "BakedBeforeModel" (99 : Nat) "BakedBeforeModel" "taste" "I") ∈ lw_all := lw_g (lw_at lw_m6 140 rfl) rfl
theorem q1427 : (Jvm.Cond.fieldLink "BakedBeforeModel" (77 : Nat) "BakedBeforeModel" "wrong" "Z") ∈ lw_all := lw_g (lw_at lw_m6 141 rfl) rfl
theorem q1428 : (Jvm.Cond.fieldLink "BakedBeforeModel" (96 : Nat) "BakedBeforeModel" "isFee" "Z") ∈ lw_all := lw_g (lw_at lw_m6 142 rfl) rfl
theorem q1429 : (Jvm.Cond.fieldLink "BakedBeforeModel" (157 : Nat) "BakedBeforeModel" "part" "I") ∈ lw_all := lw_g (lw_at lw_m6 143 rfl) rfl
theorem q1430 : (Jvm.Cond.fieldLink "BakedBeforeModel" (154 : Nat) "BakedBeforeModel" "parts" "I") ∈ lw_all := lw_g (lw_at lw_m6 144 rfl) rfl
theorem q1431 : (Jvm.Cond.fieldLink "BakedBeforeModel" (160 : Nat) "BakedBeforeModel" "more" "I") ∈ lw_all := lw_g (lw_at lw_m6 145 rfl) rfl
theorem q1432 : (Jvm.Cond.fieldLink "BakedBeforeModel" (151 : Nat) "BakedBeforeModel" "cold" "I") ∈ lw_all := lw_g (lw_at lw_m6 146 rfl) rfl
theorem q1433 : (Jvm.Cond.fieldLink "BakedBeforeModel" (163 : Nat) "BakedBeforeModel" "fee" "I") ∈ lw_all := lw_g (lw_at lw_m6 147 rfl) rfl
theorem q1434 : (Jvm.Cond.fieldLink "BakedBeforeModel" (30 : Nat) "BakedBeforeModel" "held" "[I") ∈ lw_all := lw_g (lw_at lw_m6 148 rfl) rfl
theorem q1435 : (Jvm.Cond.fieldLink "BakedBeforeModel" (33 : Nat) "BakedBeforeModel" "line" "[I") ∈ lw_all := lw_g (lw_at lw_m6 149 rfl) rfl
theorem q1436 : (Jvm.Cond.fieldLink "BakedBeforeModel" (36 : Nat) "BakedBeforeModel" "best" "[I") ∈ lw_all := lw_g (lw_at lw_m6 150 rfl) rfl
theorem q1437 : (Jvm.Cond.fieldLink "BakedBeforeModel" (223 : Nat) "BakedBeforeModel" "fewest" "I") ∈ lw_all := lw_g (lw_at lw_m6 151 rfl) rfl
theorem q1438 : (Jvm.Cond.fieldLink "BakedBeforeModel" (39 : Nat) "BakedBeforeModel" "tapeSort" "[I") ∈ lw_all := lw_g (lw_at lw_m6 152 rfl) rfl
theorem q1439 : (Jvm.Cond.fieldLink "BakedBeforeModel" (42 : Nat) "BakedBeforeModel" "tapeLong" "[I") ∈ lw_all := lw_g (lw_at lw_m6 153 rfl) rfl
theorem q1440 : (Jvm.Cond.fieldLink "BakedBeforeModel" (45 : Nat) "BakedBeforeModel" "item" "[J") ∈ lw_all := lw_g (lw_at lw_m6 154 rfl) rfl
theorem q1441 : (Jvm.Cond.fieldLink "BakedBeforeModel" (49 : Nat) "BakedBeforeModel" "trace" "[I") ∈ lw_all := lw_g (lw_at lw_m6 155 rfl) rfl
theorem q1442 : (Jvm.Cond.fieldLink "BakedBeforeModel" (281 : Nat) "BakedBeforeModel" "ran" "I") ∈ lw_all := lw_g (lw_at lw_m6 156 rfl) rfl
theorem q1443 : (Jvm.Cond.fieldLink "BakedBeforeModel" (291 : Nat) "BakedBeforeModel" "own" "I") ∈ lw_all := lw_g (lw_at lw_m6 157 rfl) rfl
theorem q1444 : (Jvm.Cond.laysFinal "BakedBeforeModel" "BakedBeforeModel" "s" "[I") ∈ lw_all := lw_g (lw_at lw_m6 158 rfl) rfl
theorem q1445 : (Jvm.Cond.soleField "BakedBeforeModel" "s") ∈ lw_all := lw_g (lw_at lw_m6 159 rfl) rfl
theorem q1446 : (Jvm.Cond.laysFinal "BakedBeforeModel" "BakedBeforeModel" "image" "[I") ∈ lw_all := lw_g (lw_at lw_m6 160 rfl) rfl
theorem q1447 : (Jvm.Cond.soleField "BakedBeforeModel" "image") ∈ lw_all := lw_g (lw_at lw_m6 161 rfl) rfl
theorem q1448 : (Jvm.Cond.laysFinal "BakedBeforeModel" "BakedBeforeModel" "mind" "[I") ∈ lw_all := lw_g (lw_at lw_m6 162 rfl) rfl
theorem q1449 : (Jvm.Cond.soleField "BakedBeforeModel" "mind") ∈ lw_all := lw_g (lw_at lw_m6 163 rfl) rfl
theorem q1450 : (Jvm.Cond.lays "BakedBeforeModel" "BakedBeforeModel" "hasImage" "Z") ∈ lw_all := lw_g (lw_at lw_m6 164 rfl) rfl
theorem q1451 : (Jvm.Cond.soleField "BakedBeforeModel" "hasImage") ∈ lw_all := lw_g (lw_at lw_m6 165 rfl) rfl
theorem q1452 : (Jvm.Cond.laysFinal "BakedBeforeModel" "BakedBeforeModel" "text" "[I") ∈ lw_all := lw_g (lw_at lw_m6 166 rfl) rfl
theorem q1453 : (Jvm.Cond.soleField "BakedBeforeModel" "text") ∈ lw_all := lw_g (lw_at lw_m6 167 rfl) rfl
theorem q1454 : (Jvm.Cond.laysFinal "BakedBeforeModel" "BakedBeforeModel" "kilnText" "[I") ∈ lw_all := lw_g (lw_at lw_m6 168 rfl) rfl
theorem q1455 : (Jvm.Cond.soleField "BakedBeforeModel" "kilnText") ∈ lw_all := lw_g (lw_at lw_m6 169 rfl) rfl
theorem q1456 : (Jvm.Cond.laysFinal "BakedBeforeModel" "BakedBeforeModel" "kilnLong" "[I") ∈ lw_all := lw_g (lw_at lw_m6 170 rfl) rfl
theorem q1457 : (Jvm.Cond.soleField "BakedBeforeModel" "kilnLong") ∈ lw_all := lw_g (lw_at lw_m6 171 rfl) rfl
theorem q1458 : (Jvm.Cond.lays "BakedBeforeModel" "BakedBeforeModel" "texted" "I") ∈ lw_all := lw_g (lw_at lw_m6 172 rfl) rfl
theorem q1459 : (Jvm.Cond.soleField "BakedBeforeModel" "texted") ∈ lw_all := lw_g (lw_at lw_m6 173 rfl) rfl
theorem q1460 : (Jvm.Cond.lays "BakedBeforeModel" "BakedBeforeModel" "kilns" "I") ∈ lw_all := lw_g (lw_at lw_m6 174 rfl) rfl
theorem q1461 : (Jvm.Cond.soleField "BakedBeforeModel" "kilns") ∈ lw_all := lw_g (lw_at lw_m6 175 rfl) rfl
theorem q1462 : (Jvm.Cond.lays "BakedBeforeModel" "BakedBeforeModel" "base" "I") ∈ lw_all := lw_g (lw_at lw_m6 176 rfl) rfl
theorem q1463 : (Jvm.Cond.soleField "BakedBeforeModel" "base") ∈ lw_all := lw_g (lw_at lw_m6 177 rfl) rfl
theorem q1464 : (Jvm.Cond.lays "BakedBeforeModel" "BakedBeforeModel" "end" "I") ∈ lw_all := lw_g (lw_at lw_m6 178 rfl) rfl
theorem q1465 : (Jvm.Cond.soleField "BakedBeforeModel" "end") ∈ lw_all := lw_g (lw_at lw_m6 179 rfl) rfl
theorem q1466 : (Jvm.Cond.lays "BakedBeforeModel" "BakedBeforeModel" "at" "I") ∈ lw_all := lw_g (lw_at lw_m6 180 rfl) rfl
theorem q1467 : (Jvm.Cond.soleField "BakedBeforeModel" "at") ∈ lw_all := lw_g (lw_at lw_m6 181 rfl) rfl
theorem q1468 : (Jvm.Cond.lays "BakedBeforeModel" "BakedBeforeModel" "loaf" "I") ∈ lw_all := lw_g (lw_at lw_m6 182 rfl) rfl
theorem q1469 : (Jvm.Cond.soleField "BakedBeforeModel" "loaf") ∈ lw_all := lw_g (lw_at lw_m6 183 rfl) rfl
theorem q1470 : (Jvm.Cond.lays "BakedBeforeModel" "BakedBeforeModel" "taste" "I") ∈ lw_all := lw_g (lw_at lw_m6 184 rfl) rfl
theorem q1471 : (Jvm.Cond.soleField "BakedBeforeModel" "taste") ∈ lw_all := lw_g (lw_at lw_m6 185 rfl) rfl
theorem q1472 : (Jvm.Cond.lays "BakedBeforeModel" "BakedBeforeModel" "wrong" "Z") ∈ lw_all := lw_g (lw_at lw_m6 186 rfl) rfl
theorem q1473 : (Jvm.Cond.soleField "BakedBeforeModel" "wrong") ∈ lw_all := lw_g (lw_at lw_m6 187 rfl) rfl
theorem q1474 : (Jvm.Cond.lays "BakedBeforeModel" "BakedBeforeModel" "isFee" "Z") ∈ lw_all := lw_g (lw_at lw_m6 188 rfl) rfl
theorem q1475 : (Jvm.Cond.soleField "BakedBeforeModel" "isFee") ∈ lw_all := lw_g (lw_at lw_m6 189 rfl) rfl
theorem q1476 : (Jvm.Cond.lays "BakedBeforeModel" "BakedBeforeModel" "part" "I") ∈ lw_all := lw_g (lw_at lw_m6 190 rfl) rfl
theorem q1477 : (Jvm.Cond.soleField "BakedBeforeModel" "part") ∈ lw_all := lw_g (lw_at lw_m6 191 rfl) rfl
theorem q1478 : (Jvm.Cond.lays "BakedBeforeModel" "BakedBeforeModel" "parts" "I") ∈ lw_all := lw_g (lw_at lw_m6 192 rfl) rfl
theorem q1479 : (Jvm.Cond.soleField "BakedBeforeModel" "parts") ∈ lw_all := lw_g (lw_at lw_m6 193 rfl) rfl
theorem q1480 : (Jvm.Cond.lays "BakedBeforeModel" "BakedBeforeModel" "more" "I") ∈ lw_all := lw_g (lw_at lw_m6 194 rfl) rfl
theorem q1481 : (Jvm.Cond.soleField "BakedBeforeModel" "more") ∈ lw_all := lw_g (lw_at lw_m6 195 rfl) rfl
theorem q1482 : (Jvm.Cond.lays "BakedBeforeModel" "BakedBeforeModel" "cold" "I") ∈ lw_all := lw_g (lw_at lw_m6 196 rfl) rfl
theorem q1483 : (Jvm.Cond.soleField "BakedBeforeModel" "cold") ∈ lw_all := lw_g (lw_at lw_m6 197 rfl) rfl
theorem q1484 : (Jvm.Cond.lays "BakedBeforeModel" "BakedBeforeModel" "fee" "I") ∈ lw_all := lw_g (lw_at lw_m6 198 rfl) rfl
theorem q1485 : (Jvm.Cond.soleField "BakedBeforeModel" "fee") ∈ lw_all := lw_g (lw_at lw_m6 199 rfl) rfl
theorem q1486 : (Jvm.Cond.laysFinal "BakedBeforeModel" "BakedBeforeModel" "held" "[I") ∈ lw_all := lw_g (lw_at lw_m6 200 rfl) rfl
theorem q1487 : (Jvm.Cond.soleField "BakedBeforeModel" "held") ∈ lw_all := lw_g (lw_at lw_m6 201 rfl) rfl
theorem q1488 : (Jvm.Cond.laysFinal "BakedBeforeModel" "BakedBeforeModel" "line" "[I") ∈ lw_all := lw_g (lw_at lw_m6 202 rfl) rfl
theorem q1489 : (Jvm.Cond.soleField "BakedBeforeModel" "line") ∈ lw_all := lw_g (lw_at lw_m6 203 rfl) rfl
theorem q1490 : (Jvm.Cond.laysFinal "BakedBeforeModel" "BakedBeforeModel" "best" "[I") ∈ lw_all := lw_g (lw_at lw_m6 204 rfl) rfl
theorem q1491 : (Jvm.Cond.soleField "BakedBeforeModel" "best") ∈ lw_all := lw_g (lw_at lw_m6 205 rfl) rfl
theorem q1492 : (Jvm.Cond.lays "BakedBeforeModel" "BakedBeforeModel" "fewest" "I") ∈ lw_all := lw_g (lw_at lw_m6 206 rfl) rfl
theorem q1493 : (Jvm.Cond.soleField "BakedBeforeModel" "fewest") ∈ lw_all := lw_g (lw_at lw_m6 207 rfl) rfl
theorem q1494 : (Jvm.Cond.laysFinal "BakedBeforeModel" "BakedBeforeModel" "tapeSort" "[I") ∈ lw_all := lw_g (lw_at lw_m6 208 rfl) rfl
theorem q1495 : (Jvm.Cond.soleField "BakedBeforeModel" "tapeSort") ∈ lw_all := lw_g (lw_at lw_m6 209 rfl) rfl
theorem q1496 : (Jvm.Cond.laysFinal "BakedBeforeModel" "BakedBeforeModel" "tapeLong" "[I") ∈ lw_all := lw_g (lw_at lw_m6 210 rfl) rfl
theorem q1497 : (Jvm.Cond.soleField "BakedBeforeModel" "tapeLong") ∈ lw_all := lw_g (lw_at lw_m6 211 rfl) rfl
theorem q1498 : (Jvm.Cond.laysFinal "BakedBeforeModel" "BakedBeforeModel" "item" "[J") ∈ lw_all := lw_g (lw_at lw_m6 212 rfl) rfl
theorem q1499 : (Jvm.Cond.soleField "BakedBeforeModel" "item") ∈ lw_all := lw_g (lw_at lw_m6 213 rfl) rfl
theorem q1500 : (Jvm.Cond.laysFinal "BakedBeforeModel" "BakedBeforeModel" "trace" "[I") ∈ lw_all := lw_g (lw_at lw_m6 214 rfl) rfl
theorem q1501 : (Jvm.Cond.soleField "BakedBeforeModel" "trace") ∈ lw_all := lw_g (lw_at lw_m6 215 rfl) rfl
theorem q1502 : (Jvm.Cond.lays "BakedBeforeModel" "BakedBeforeModel" "ran" "I") ∈ lw_all := lw_g (lw_at lw_m6 216 rfl) rfl
theorem q1503 : (Jvm.Cond.soleField "BakedBeforeModel" "ran") ∈ lw_all := lw_g (lw_at lw_m6 217 rfl) rfl
theorem q1504 : (Jvm.Cond.lays "BakedBeforeModel" "BakedBeforeModel" "own" "I") ∈ lw_all := lw_g (lw_at lw_m6 218 rfl) rfl
theorem q1505 : (Jvm.Cond.soleField "BakedBeforeModel" "own") ∈ lw_all := lw_g (lw_at lw_m6 219 rfl) rfl
theorem q1506 : (Jvm.Cond.superclass "BakedBeforeModel" "java/lang/Object") ∈ lw_all := lw_g (lw_at lw_m6 220 rfl) rfl
theorem q1507 : (Jvm.Cond.methodLink "BakedBeforeLaw" (35 : Nat) ({ cls := "BakedBeforeModel", name := "feed", desc := "(I)I" } : Jvm.MethodName)) ∈ lw_all := lw_g (lw_at lw_m6 221 rfl) rfl
theorem q1508 : (Jvm.Cond.instanceMethod ({ cls := "BakedBeforeModel", name := "feed", desc := "(I)I" } : Jvm.MethodName)) ∈ lw_all := lw_g (lw_at lw_m6 222 rfl) rfl
theorem q1509 : (Jvm.Cond.selects "BakedBeforeModel" ({ cls := "BakedBeforeModel", name := "feed", desc := "(I)I" } : Jvm.MethodName) ({ cls := "BakedBeforeModel", name := "feed", desc := "(I)I" } : Jvm.MethodName)) ∈ lw_all := lw_g (lw_at lw_m6 223 rfl) rfl
theorem q1510 : (Jvm.Cond.code ({ cls := "BakedBeforeModel", name := "feed", desc := "(I)I" } : Jvm.MethodName) prog_23_method_13_code (2 : Nat) (Option.some Jvm.ClassFile.FieldType.int)) ∈ lw_all := lw_g (lw_at lw_m6 224 rfl) rfl
theorem q1511 : (Jvm.Cond.methodLink "BakedBeforeModel" (52 : Nat) ({ cls := "BakedBeforeModel", name := "isIn", desc := "(III)Z" } : Jvm.MethodName)) ∈ lw_all := lw_g (lw_at lw_m6 225 rfl) rfl
theorem q1512 : (Jvm.Cond.static ({ cls := "BakedBeforeModel", name := "isIn", desc := "(III)Z" } : Jvm.MethodName)) ∈ lw_all := lw_g (lw_at lw_m6 226 rfl) rfl
theorem q1513 : (Jvm.Cond.code ({ cls := "BakedBeforeModel", name := "isIn", desc := "(III)Z" } : Jvm.MethodName) prog_23_method_2_code (3 : Nat) (Option.some Jvm.ClassFile.FieldType.boolean)) ∈ lw_all := lw_g (lw_at lw_m6 227 rfl) rfl
theorem q1514 : (Jvm.Cond.methodLink "BakedBeforeLaw" (40 : Nat) ({ cls := "BakedBeforeModel", name := "kiln", desc := "()I" } : Jvm.MethodName)) ∈ lw_all := lw_g (lw_at lw_m6 228 rfl) rfl
theorem q1515 : (Jvm.Cond.instanceMethod ({ cls := "BakedBeforeModel", name := "kiln", desc := "()I" } : Jvm.MethodName)) ∈ lw_all := lw_g (lw_at lw_m6 229 rfl) rfl
theorem q1516 : (Jvm.Cond.selects "BakedBeforeModel" ({ cls := "BakedBeforeModel", name := "kiln", desc := "()I" } : Jvm.MethodName) ({ cls := "BakedBeforeModel", name := "kiln", desc := "()I" } : Jvm.MethodName)) ∈ lw_all := lw_g (lw_at lw_m6 230 rfl) rfl
theorem q1517 : (Jvm.Cond.code ({ cls := "BakedBeforeModel", name := "kiln", desc := "()I" } : Jvm.MethodName) prog_23_method_28_code (2 : Nat) (Option.some Jvm.ClassFile.FieldType.int)) ∈ lw_all := lw_g (lw_at lw_m6 231 rfl) rfl
theorem q1518 : (Jvm.Cond.methodLink "BakedBeforeModel" (169 : Nat) ({ cls := "BakedBeforeModel", name := "reads", desc := "(III)V" } : Jvm.MethodName)) ∈ lw_all := lw_g (lw_at lw_m6 232 rfl) rfl
theorem q1519 : (Jvm.Cond.privateMethod ({ cls := "BakedBeforeModel", name := "reads", desc := "(III)V" } : Jvm.MethodName)) ∈ lw_tbl := lw_at lw_m6 233 rfl
theorem q1520 : (Jvm.Cond.instanceMethod ({ cls := "BakedBeforeModel", name := "reads", desc := "(III)V" } : Jvm.MethodName)) ∈ lw_all := lw_g (lw_at lw_m6 234 rfl) rfl
theorem q1521 : (Jvm.Cond.code ({ cls := "BakedBeforeModel", name := "reads", desc := "(III)V" } : Jvm.MethodName) prog_23_method_26_code (5 : Nat) (Option.none : Option Jvm.ClassFile.FieldType)) ∈ lw_all := lw_g (lw_at lw_m6 235 rfl) rfl
theorem q1522 : (Jvm.Cond.methodLink "BakedBeforeModel" (166 : Nat) ({ cls := "BakedBeforeModel", name := "readsClause", desc := "()V" } : Jvm.MethodName)) ∈ lw_all := lw_g (lw_at lw_m6 236 rfl) rfl
theorem q1523 : (Jvm.Cond.privateMethod ({ cls := "BakedBeforeModel", name := "readsClause", desc := "()V" } : Jvm.MethodName)) ∈ lw_tbl := lw_at lw_m6 237 rfl
theorem q1524 : (Jvm.Cond.instanceMethod ({ cls := "BakedBeforeModel", name := "readsClause", desc := "()V" } : Jvm.MethodName)) ∈ lw_all := lw_g (lw_at lw_m6 238 rfl) rfl
theorem q1525 : (Jvm.Cond.code ({ cls := "BakedBeforeModel", name := "readsClause", desc := "()V" } : Jvm.MethodName) prog_23_method_25_code (4 : Nat) (Option.none : Option Jvm.ClassFile.FieldType)) ∈ lw_all := lw_g (lw_at lw_m6 239 rfl) rfl
theorem q1526 : (Jvm.Cond.methodLink "BakedBeforeModel" (81 : Nat) ({ cls := "BakedBeforeModel", name := "here", desc := "()I" } : Jvm.MethodName)) ∈ lw_all := lw_g (lw_at lw_m7 0 rfl) rfl
theorem q1527 : (Jvm.Cond.privateMethod ({ cls := "BakedBeforeModel", name := "here", desc := "()I" } : Jvm.MethodName)) ∈ lw_tbl := lw_at lw_m7 1 rfl
theorem q1528 : (Jvm.Cond.instanceMethod ({ cls := "BakedBeforeModel", name := "here", desc := "()I" } : Jvm.MethodName)) ∈ lw_all := lw_g (lw_at lw_m7 2 rfl) rfl
theorem q1529 : (Jvm.Cond.code ({ cls := "BakedBeforeModel", name := "here", desc := "()I" } : Jvm.MethodName) prog_23_method_14_code (1 : Nat) (Option.some Jvm.ClassFile.FieldType.int)) ∈ lw_all := lw_g (lw_at lw_m7 3 rfl) rfl
theorem q1530 : (Jvm.Cond.stringRef "BakedBeforeModel" (139 : Nat) "take ") ∈ lw_tbl := lw_at lw_m7 4 rfl
theorem q1531 : (Jvm.Cond.stringRef "BakedBeforeModel" (141 : Nat) "more ") ∈ lw_tbl := lw_at lw_m7 5 rfl
theorem q1532 : (Jvm.Cond.stringRef "BakedBeforeModel" (143 : Nat) "cold ") ∈ lw_tbl := lw_at lw_m7 6 rfl
theorem q1533 : (Jvm.Cond.stringRef "BakedBeforeModel" (145 : Nat) "fee ") ∈ lw_tbl := lw_at lw_m7 7 rfl
theorem q1534 : (Jvm.Cond.methodLink "BakedBeforeModel" (147 : Nat) ({ cls := "BakedBeforeModel", name := "readsWord", desc := "(Ljava/lang/String;)V" } : Jvm.MethodName)) ∈ lw_all := lw_g (lw_at lw_m7 8 rfl) rfl
theorem q1535 : (Jvm.Cond.privateMethod ({ cls := "BakedBeforeModel", name := "readsWord", desc := "(Ljava/lang/String;)V" } : Jvm.MethodName)) ∈ lw_tbl := lw_at lw_m7 9 rfl
theorem q1536 : (Jvm.Cond.instanceMethod ({ cls := "BakedBeforeModel", name := "readsWord", desc := "(Ljava/lang/String;)V" } : Jvm.MethodName)) ∈ lw_all := lw_g (lw_at lw_m7 10 rfl) rfl
theorem q1537 : (Jvm.Cond.code ({ cls := "BakedBeforeModel", name := "readsWord", desc := "(Ljava/lang/String;)V" } : Jvm.MethodName) prog_23_method_24_code (3 : Nat) (Option.none : Option Jvm.ClassFile.FieldType)) ∈ lw_all := lw_g (lw_at lw_m7 11 rfl) rfl
theorem q1538 : (Jvm.Cond.methodLink "BakedBeforeModel" (130 : Nat) ({ cls := "java/lang/String", name := "length", desc := "()I" } : Jvm.MethodName)) ∈ lw_all := lw_g (lw_at lw_m7 12 rfl) rfl
theorem q1539 : (Jvm.Cond.methodLink "BakedBeforeModel" (135 : Nat) ({ cls := "java/lang/String", name := "charAt", desc := "(I)C" } : Jvm.MethodName)) ∈ lw_all := lw_g (lw_at lw_m7 13 rfl) rfl
theorem q1540 : (Jvm.Cond.methodLink "BakedBeforeModel" (124 : Nat) ({ cls := "BakedBeforeModel", name := "takes", desc := "(I)Z" } : Jvm.MethodName)) ∈ lw_all := lw_g (lw_at lw_m7 14 rfl) rfl
theorem q1541 : (Jvm.Cond.privateMethod ({ cls := "BakedBeforeModel", name := "takes", desc := "(I)Z" } : Jvm.MethodName)) ∈ lw_tbl := lw_at lw_m7 15 rfl
theorem q1542 : (Jvm.Cond.instanceMethod ({ cls := "BakedBeforeModel", name := "takes", desc := "(I)Z" } : Jvm.MethodName)) ∈ lw_all := lw_g (lw_at lw_m7 16 rfl) rfl
theorem q1543 : (Jvm.Cond.code ({ cls := "BakedBeforeModel", name := "takes", desc := "(I)Z" } : Jvm.MethodName) prog_23_method_15_code (2 : Nat) (Option.some Jvm.ClassFile.FieldType.boolean)) ∈ lw_all := lw_g (lw_at lw_m7 17 rfl) rfl
theorem q1544 : (Jvm.Cond.methodLink "BakedBeforeModel" (109 : Nat) ({ cls := "BakedBeforeModel", name := "readsNumber", desc := "()I" } : Jvm.MethodName)) ∈ lw_all := lw_g (lw_at lw_m7 18 rfl) rfl
theorem q1545 : (Jvm.Cond.privateMethod ({ cls := "BakedBeforeModel", name := "readsNumber", desc := "()I" } : Jvm.MethodName)) ∈ lw_tbl := lw_at lw_m7 19 rfl
theorem q1546 : (Jvm.Cond.instanceMethod ({ cls := "BakedBeforeModel", name := "readsNumber", desc := "()I" } : Jvm.MethodName)) ∈ lw_all := lw_g (lw_at lw_m7 20 rfl) rfl
theorem q1547 : (Jvm.Cond.code ({ cls := "BakedBeforeModel", name := "readsNumber", desc := "()I" } : Jvm.MethodName) prog_23_method_17_code (2 : Nat) (Option.some Jvm.ClassFile.FieldType.int)) ∈ lw_all := lw_g (lw_at lw_m7 21 rfl) rfl
theorem q1548 : (Jvm.Cond.methodLink "BakedBeforeModel" (85 : Nat) ({ cls := "BakedBeforeModel", name := "isDigit", desc := "()Z" } : Jvm.MethodName)) ∈ lw_all := lw_g (lw_at lw_m7 22 rfl) rfl
theorem q1549 : (Jvm.Cond.privateMethod ({ cls := "BakedBeforeModel", name := "isDigit", desc := "()Z" } : Jvm.MethodName)) ∈ lw_tbl := lw_at lw_m7 23 rfl
theorem q1550 : (Jvm.Cond.instanceMethod ({ cls := "BakedBeforeModel", name := "isDigit", desc := "()Z" } : Jvm.MethodName)) ∈ lw_all := lw_g (lw_at lw_m7 24 rfl) rfl
theorem q1551 : (Jvm.Cond.code ({ cls := "BakedBeforeModel", name := "isDigit", desc := "()Z" } : Jvm.MethodName) prog_23_method_16_code (1 : Nat) (Option.some Jvm.ClassFile.FieldType.boolean)) ∈ lw_all := lw_g (lw_at lw_m7 25 rfl) rfl
theorem q1552 : (Jvm.Cond.methodLink "BakedBeforeModel" (121 : Nat) ({ cls := "BakedBeforeModel", name := "readsE", desc := "(I)Z" } : Jvm.MethodName)) ∈ lw_all := lw_g (lw_at lw_m7 26 rfl) rfl
theorem q1553 : (Jvm.Cond.privateMethod ({ cls := "BakedBeforeModel", name := "readsE", desc := "(I)Z" } : Jvm.MethodName)) ∈ lw_tbl := lw_at lw_m7 27 rfl
theorem q1554 : (Jvm.Cond.instanceMethod ({ cls := "BakedBeforeModel", name := "readsE", desc := "(I)Z" } : Jvm.MethodName)) ∈ lw_all := lw_g (lw_at lw_m7 28 rfl) rfl
theorem q1555 : (Jvm.Cond.code ({ cls := "BakedBeforeModel", name := "readsE", desc := "(I)Z" } : Jvm.MethodName) prog_23_method_23_code (4 : Nat) (Option.some Jvm.ClassFile.FieldType.boolean)) ∈ lw_all := lw_g (lw_at lw_m7 29 rfl) rfl
theorem q1556 : (Jvm.Cond.methodLink "BakedBeforeModel" (127 : Nat) ({ cls := "BakedBeforeModel", name := "readsT", desc := "(I)Z" } : Jvm.MethodName)) ∈ lw_all := lw_g (lw_at lw_m7 30 rfl) rfl
theorem q1557 : (Jvm.Cond.privateMethod ({ cls := "BakedBeforeModel", name := "readsT", desc := "(I)Z" } : Jvm.MethodName)) ∈ lw_tbl := lw_at lw_m7 31 rfl
theorem q1558 : (Jvm.Cond.instanceMethod ({ cls := "BakedBeforeModel", name := "readsT", desc := "(I)Z" } : Jvm.MethodName)) ∈ lw_all := lw_g (lw_at lw_m7 32 rfl) rfl
theorem q1559 : (Jvm.Cond.code ({ cls := "BakedBeforeModel", name := "readsT", desc := "(I)Z" } : Jvm.MethodName) prog_23_method_22_code (4 : Nat) (Option.some Jvm.ClassFile.FieldType.boolean)) ∈ lw_all := lw_g (lw_at lw_m7 33 rfl) rfl
theorem q1560 : (Jvm.Cond.methodLink "BakedBeforeModel" (118 : Nat) ({ cls := "BakedBeforeModel", name := "readsF", desc := "(I)Z" } : Jvm.MethodName)) ∈ lw_all := lw_g (lw_at lw_m7 34 rfl) rfl
theorem q1561 : (Jvm.Cond.privateMethod ({ cls := "BakedBeforeModel", name := "readsF", desc := "(I)Z" } : Jvm.MethodName)) ∈ lw_tbl := lw_at lw_m7 35 rfl
theorem q1562 : (Jvm.Cond.instanceMethod ({ cls := "BakedBeforeModel", name := "readsF", desc := "(I)Z" } : Jvm.MethodName)) ∈ lw_all := lw_g (lw_at lw_m7 36 rfl) rfl
theorem q1563 : (Jvm.Cond.code ({ cls := "BakedBeforeModel", name := "readsF", desc := "(I)Z" } : Jvm.MethodName) prog_23_method_21_code (4 : Nat) (Option.some Jvm.ClassFile.FieldType.boolean)) ∈ lw_all := lw_g (lw_at lw_m7 37 rfl) rfl
theorem q1564 : (Jvm.Cond.methodLink "BakedBeforeModel" (115 : Nat) ({ cls := "BakedBeforeModel", name := "readsTest", desc := "()Z" } : Jvm.MethodName)) ∈ lw_all := lw_g (lw_at lw_m7 38 rfl) rfl
theorem q1565 : (Jvm.Cond.privateMethod ({ cls := "BakedBeforeModel", name := "readsTest", desc := "()Z" } : Jvm.MethodName)) ∈ lw_tbl := lw_at lw_m7 39 rfl
theorem q1566 : (Jvm.Cond.instanceMethod ({ cls := "BakedBeforeModel", name := "readsTest", desc := "()Z" } : Jvm.MethodName)) ∈ lw_all := lw_g (lw_at lw_m7 40 rfl) rfl
theorem q1567 : (Jvm.Cond.code ({ cls := "BakedBeforeModel", name := "readsTest", desc := "()Z" } : Jvm.MethodName) prog_23_method_20_code (5 : Nat) (Option.some Jvm.ClassFile.FieldType.boolean)) ∈ lw_all := lw_g (lw_at lw_m7 41 rfl) rfl
theorem q1568 : (Jvm.Cond.methodLink "BakedBeforeModel" (105 : Nat) ({ cls := "BakedBeforeModel", name := "isLetter", desc := "(I)Z" } : Jvm.MethodName)) ∈ lw_all := lw_g (lw_at lw_m7 42 rfl) rfl
theorem q1569 : (Jvm.Cond.static ({ cls := "BakedBeforeModel", name := "isLetter", desc := "(I)Z" } : Jvm.MethodName)) ∈ lw_all := lw_g (lw_at lw_m7 43 rfl) rfl
theorem q1570 : (Jvm.Cond.code ({ cls := "BakedBeforeModel", name := "isLetter", desc := "(I)Z" } : Jvm.MethodName) prog_23_method_19_code (1 : Nat) (Option.some Jvm.ClassFile.FieldType.boolean)) ∈ lw_all := lw_g (lw_at lw_m7 44 rfl) rfl
theorem q1571 : (Jvm.Cond.methodLink "BakedBeforeModel" (112 : Nat) ({ cls := "BakedBeforeModel", name := "valueOf", desc := "(I)I" } : Jvm.MethodName)) ∈ lw_all := lw_g (lw_at lw_m7 45 rfl) rfl
theorem q1572 : (Jvm.Cond.privateMethod ({ cls := "BakedBeforeModel", name := "valueOf", desc := "(I)I" } : Jvm.MethodName)) ∈ lw_tbl := lw_at lw_m7 46 rfl
theorem q1573 : (Jvm.Cond.instanceMethod ({ cls := "BakedBeforeModel", name := "valueOf", desc := "(I)I" } : Jvm.MethodName)) ∈ lw_all := lw_g (lw_at lw_m7 47 rfl) rfl
theorem q1574 : (Jvm.Cond.code ({ cls := "BakedBeforeModel", name := "valueOf", desc := "(I)I" } : Jvm.MethodName) prog_23_method_18_code (2 : Nat) (Option.some Jvm.ClassFile.FieldType.int)) ∈ lw_all := lw_g (lw_at lw_m7 48 rfl) rfl
theorem q1575 : (Jvm.Cond.methodLink "BakedBeforeModel" (92 : Nat) ({ cls := "BakedBeforeModel", name := "kind", desc := "(I)I" } : Jvm.MethodName)) ∈ lw_all := lw_g (lw_at lw_m7 49 rfl) rfl
theorem q1576 : (Jvm.Cond.privateMethod ({ cls := "BakedBeforeModel", name := "kind", desc := "(I)I" } : Jvm.MethodName)) ∈ lw_tbl := lw_at lw_m7 50 rfl
theorem q1577 : (Jvm.Cond.instanceMethod ({ cls := "BakedBeforeModel", name := "kind", desc := "(I)I" } : Jvm.MethodName)) ∈ lw_all := lw_g (lw_at lw_m7 51 rfl) rfl
theorem q1578 : (Jvm.Cond.code ({ cls := "BakedBeforeModel", name := "kind", desc := "(I)I" } : Jvm.MethodName) prog_23_method_11_code (2 : Nat) (Option.some Jvm.ClassFile.FieldType.int)) ∈ lw_all := lw_g (lw_at lw_m7 52 rfl) rfl
theorem q1579 : (Jvm.Cond.methodLink "BakedBeforeModel" (60 : Nat) ({ cls := "BakedBeforeModel", name := "get", desc := "(II)I" } : Jvm.MethodName)) ∈ lw_all := lw_g (lw_at lw_m7 53 rfl) rfl
theorem q1580 : (Jvm.Cond.privateMethod ({ cls := "BakedBeforeModel", name := "get", desc := "(II)I" } : Jvm.MethodName)) ∈ lw_tbl := lw_at lw_m7 54 rfl
theorem q1581 : (Jvm.Cond.instanceMethod ({ cls := "BakedBeforeModel", name := "get", desc := "(II)I" } : Jvm.MethodName)) ∈ lw_all := lw_g (lw_at lw_m7 55 rfl) rfl
theorem q1582 : (Jvm.Cond.code ({ cls := "BakedBeforeModel", name := "get", desc := "(II)I" } : Jvm.MethodName) prog_23_method_10_code (3 : Nat) (Option.some Jvm.ClassFile.FieldType.int)) ∈ lw_all := lw_g (lw_at lw_m7 56 rfl) rfl
theorem q1583 : (Jvm.Cond.methodLink "BakedBeforeModel" (102 : Nat) ({ cls := "BakedBeforeModel", name := "number", desc := "(I)I" } : Jvm.MethodName)) ∈ lw_all := lw_g (lw_at lw_m7 57 rfl) rfl
theorem q1584 : (Jvm.Cond.privateMethod ({ cls := "BakedBeforeModel", name := "number", desc := "(I)I" } : Jvm.MethodName)) ∈ lw_tbl := lw_at lw_m7 58 rfl
theorem q1585 : (Jvm.Cond.instanceMethod ({ cls := "BakedBeforeModel", name := "number", desc := "(I)I" } : Jvm.MethodName)) ∈ lw_all := lw_g (lw_at lw_m7 59 rfl) rfl
theorem q1586 : (Jvm.Cond.code ({ cls := "BakedBeforeModel", name := "number", desc := "(I)I" } : Jvm.MethodName) prog_23_method_12_code (2 : Nat) (Option.some Jvm.ClassFile.FieldType.int)) ∈ lw_all := lw_g (lw_at lw_m7 60 rfl) rfl
theorem q1587 : (Jvm.Cond.methodLink "BakedBeforeLaw" (17 : Nat) ({ cls := "BakedBeforeModel", name := "loaf", desc := "(II)I" } : Jvm.MethodName)) ∈ lw_all := lw_g (lw_at lw_m7 61 rfl) rfl
theorem q1588 : (Jvm.Cond.instanceMethod ({ cls := "BakedBeforeModel", name := "loaf", desc := "(II)I" } : Jvm.MethodName)) ∈ lw_all := lw_g (lw_at lw_m7 62 rfl) rfl
theorem q1589 : (Jvm.Cond.selects "BakedBeforeModel" ({ cls := "BakedBeforeModel", name := "loaf", desc := "(II)I" } : Jvm.MethodName) ({ cls := "BakedBeforeModel", name := "loaf", desc := "(II)I" } : Jvm.MethodName)) ∈ lw_all := lw_g (lw_at lw_m7 63 rfl) rfl
theorem q1590 : (Jvm.Cond.code ({ cls := "BakedBeforeModel", name := "loaf", desc := "(II)I" } : Jvm.MethodName) prog_23_method_39_code (5 : Nat) (Option.some Jvm.ClassFile.FieldType.int)) ∈ lw_all := lw_g (lw_at lw_m7 64 rfl) rfl
theorem q1591 : (Jvm.Cond.methodLink "BakedBeforeLaw" (22 : Nat) ({ cls := "BakedBeforeModel", name := "set", desc := "(IIII)I" } : Jvm.MethodName)) ∈ lw_all := lw_g (lw_at lw_m7 65 rfl) rfl
theorem q1592 : (Jvm.Cond.instanceMethod ({ cls := "BakedBeforeModel", name := "set", desc := "(IIII)I" } : Jvm.MethodName)) ∈ lw_all := lw_g (lw_at lw_m7 66 rfl) rfl
theorem q1593 : (Jvm.Cond.selects "BakedBeforeModel" ({ cls := "BakedBeforeModel", name := "set", desc := "(IIII)I" } : Jvm.MethodName) ({ cls := "BakedBeforeModel", name := "set", desc := "(IIII)I" } : Jvm.MethodName)) ∈ lw_all := lw_g (lw_at lw_m7 67 rfl) rfl
theorem q1594 : (Jvm.Cond.code ({ cls := "BakedBeforeModel", name := "set", desc := "(IIII)I" } : Jvm.MethodName) prog_23_method_40_code (7 : Nat) (Option.some Jvm.ClassFile.FieldType.int)) ∈ lw_all := lw_g (lw_at lw_m7 68 rfl) rfl
theorem q1595 : (Jvm.Cond.methodLink "BakedBeforeModel" (199 : Nat) ({ cls := "BakedBeforeModel", name := "isLoaf", desc := "(I)Z" } : Jvm.MethodName)) ∈ lw_all := lw_g (lw_at lw_m7 69 rfl) rfl
theorem q1596 : (Jvm.Cond.privateMethod ({ cls := "BakedBeforeModel", name := "isLoaf", desc := "(I)Z" } : Jvm.MethodName)) ∈ lw_tbl := lw_at lw_m7 70 rfl
theorem q1597 : (Jvm.Cond.instanceMethod ({ cls := "BakedBeforeModel", name := "isLoaf", desc := "(I)Z" } : Jvm.MethodName)) ∈ lw_all := lw_g (lw_at lw_m7 71 rfl) rfl
theorem q1598 : (Jvm.Cond.code ({ cls := "BakedBeforeModel", name := "isLoaf", desc := "(I)Z" } : Jvm.MethodName) prog_23_method_4_code (2 : Nat) (Option.some Jvm.ClassFile.FieldType.boolean)) ∈ lw_all := lw_g (lw_at lw_m7 72 rfl) rfl
theorem q1599 : (Jvm.Cond.methodLink "BakedBeforeModel" (202 : Nat) ({ cls := "BakedBeforeModel", name := "isTaste", desc := "(I)Z" } : Jvm.MethodName)) ∈ lw_all := lw_g (lw_at lw_m7 73 rfl) rfl
theorem q1600 : (Jvm.Cond.static ({ cls := "BakedBeforeModel", name := "isTaste", desc := "(I)Z" } : Jvm.MethodName)) ∈ lw_all := lw_g (lw_at lw_m7 74 rfl) rfl
theorem q1601 : (Jvm.Cond.code ({ cls := "BakedBeforeModel", name := "isTaste", desc := "(I)Z" } : Jvm.MethodName) prog_23_method_3_code (1 : Nat) (Option.some Jvm.ClassFile.FieldType.boolean)) ∈ lw_all := lw_g (lw_at lw_m7 75 rfl) rfl
theorem q1602 : (Jvm.Cond.methodLink "BakedBeforeLaw" (26 : Nat) ({ cls := "BakedBeforeModel", name := "of", desc := "(II)I" } : Jvm.MethodName)) ∈ lw_all := lw_g (lw_at lw_m7 76 rfl) rfl
theorem q1603 : (Jvm.Cond.instanceMethod ({ cls := "BakedBeforeModel", name := "of", desc := "(II)I" } : Jvm.MethodName)) ∈ lw_all := lw_g (lw_at lw_m7 77 rfl) rfl
theorem q1604 : (Jvm.Cond.selects "BakedBeforeModel" ({ cls := "BakedBeforeModel", name := "of", desc := "(II)I" } : Jvm.MethodName) ({ cls := "BakedBeforeModel", name := "of", desc := "(II)I" } : Jvm.MethodName)) ∈ lw_all := lw_g (lw_at lw_m7 78 rfl) rfl
theorem q1605 : (Jvm.Cond.code ({ cls := "BakedBeforeModel", name := "of", desc := "(II)I" } : Jvm.MethodName) prog_23_method_41_code (4 : Nat) (Option.some Jvm.ClassFile.FieldType.int)) ∈ lw_all := lw_g (lw_at lw_m7 79 rfl) rfl
theorem q1606 : (Jvm.Cond.methodLink "BakedBeforeModel" (205 : Nat) ({ cls := "BakedBeforeModel", name := "feeOf", desc := "(I)I" } : Jvm.MethodName)) ∈ lw_all := lw_g (lw_at lw_m7 80 rfl) rfl
theorem q1607 : (Jvm.Cond.privateMethod ({ cls := "BakedBeforeModel", name := "feeOf", desc := "(I)I" } : Jvm.MethodName)) ∈ lw_tbl := lw_at lw_m7 81 rfl
theorem q1608 : (Jvm.Cond.instanceMethod ({ cls := "BakedBeforeModel", name := "feeOf", desc := "(I)I" } : Jvm.MethodName)) ∈ lw_all := lw_g (lw_at lw_m7 82 rfl) rfl
theorem q1609 : (Jvm.Cond.code ({ cls := "BakedBeforeModel", name := "feeOf", desc := "(I)I" } : Jvm.MethodName) prog_23_method_35_code (2 : Nat) (Option.some Jvm.ClassFile.FieldType.int)) ∈ lw_all := lw_g (lw_at lw_m7 83 rfl) rfl
theorem q1610 : (Jvm.Cond.methodLink "BakedBeforeModel" (176 : Nat) ({ cls := "BakedBeforeModel", name := "readsNow", desc := "(II)V" } : Jvm.MethodName)) ∈ lw_all := lw_g (lw_at lw_m7 84 rfl) rfl
theorem q1611 : (Jvm.Cond.privateMethod ({ cls := "BakedBeforeModel", name := "readsNow", desc := "(II)V" } : Jvm.MethodName)) ∈ lw_tbl := lw_at lw_m7 85 rfl
theorem q1612 : (Jvm.Cond.instanceMethod ({ cls := "BakedBeforeModel", name := "readsNow", desc := "(II)V" } : Jvm.MethodName)) ∈ lw_all := lw_g (lw_at lw_m7 86 rfl) rfl
theorem q1613 : (Jvm.Cond.code ({ cls := "BakedBeforeModel", name := "readsNow", desc := "(II)V" } : Jvm.MethodName) prog_23_method_27_code (3 : Nat) (Option.none : Option Jvm.ClassFile.FieldType)) ∈ lw_all := lw_g (lw_at lw_m7 87 rfl) rfl
theorem q1614 : (Jvm.Cond.methodLink "BakedBeforeModel" (190 : Nat) ({ cls := "BakedBeforeModel", name := "isSpoiled", desc := "(I)Z" } : Jvm.MethodName)) ∈ lw_all := lw_g (lw_at lw_m7 88 rfl) rfl
theorem q1615 : (Jvm.Cond.privateMethod ({ cls := "BakedBeforeModel", name := "isSpoiled", desc := "(I)Z" } : Jvm.MethodName)) ∈ lw_tbl := lw_at lw_m7 89 rfl
theorem q1616 : (Jvm.Cond.instanceMethod ({ cls := "BakedBeforeModel", name := "isSpoiled", desc := "(I)Z" } : Jvm.MethodName)) ∈ lw_all := lw_g (lw_at lw_m7 90 rfl) rfl
theorem q1617 : (Jvm.Cond.code ({ cls := "BakedBeforeModel", name := "isSpoiled", desc := "(I)Z" } : Jvm.MethodName) prog_23_method_34_code (3 : Nat) (Option.some Jvm.ClassFile.FieldType.boolean)) ∈ lw_all := lw_g (lw_at lw_m7 91 rfl) rfl
theorem q1618 : (Jvm.Cond.methodLink "BakedBeforeModel" (187 : Nat) ({ cls := "BakedBeforeModel", name := "takesOf", desc := "(II)I" } : Jvm.MethodName)) ∈ lw_all := lw_g (lw_at lw_m7 92 rfl) rfl
theorem q1619 : (Jvm.Cond.privateMethod ({ cls := "BakedBeforeModel", name := "takesOf", desc := "(II)I" } : Jvm.MethodName)) ∈ lw_tbl := lw_at lw_m7 93 rfl
theorem q1620 : (Jvm.Cond.instanceMethod ({ cls := "BakedBeforeModel", name := "takesOf", desc := "(II)I" } : Jvm.MethodName)) ∈ lw_all := lw_g (lw_at lw_m7 94 rfl) rfl
theorem q1621 : (Jvm.Cond.code ({ cls := "BakedBeforeModel", name := "takesOf", desc := "(II)I" } : Jvm.MethodName) prog_23_method_31_code (3 : Nat) (Option.some Jvm.ClassFile.FieldType.int)) ∈ lw_all := lw_g (lw_at lw_m7 95 rfl) rfl
theorem q1622 : (Jvm.Cond.methodLink "BakedBeforeModel" (180 : Nat) ({ cls := "BakedBeforeModel", name := "partOf", desc := "(II)I" } : Jvm.MethodName)) ∈ lw_all := lw_g (lw_at lw_m7 96 rfl) rfl
theorem q1623 : (Jvm.Cond.privateMethod ({ cls := "BakedBeforeModel", name := "partOf", desc := "(II)I" } : Jvm.MethodName)) ∈ lw_tbl := lw_at lw_m7 97 rfl
theorem q1624 : (Jvm.Cond.instanceMethod ({ cls := "BakedBeforeModel", name := "partOf", desc := "(II)I" } : Jvm.MethodName)) ∈ lw_all := lw_g (lw_at lw_m7 98 rfl) rfl
theorem q1625 : (Jvm.Cond.code ({ cls := "BakedBeforeModel", name := "partOf", desc := "(II)I" } : Jvm.MethodName) prog_23_method_29_code (3 : Nat) (Option.some Jvm.ClassFile.FieldType.int)) ∈ lw_all := lw_g (lw_at lw_m7 99 rfl) rfl
theorem q1626 : (Jvm.Cond.methodLink "BakedBeforeModel" (183 : Nat) ({ cls := "BakedBeforeModel", name := "takesBy", desc := "(IIII)I" } : Jvm.MethodName)) ∈ lw_all := lw_g (lw_at lw_m7 100 rfl) rfl
theorem q1627 : (Jvm.Cond.privateMethod ({ cls := "BakedBeforeModel", name := "takesBy", desc := "(IIII)I" } : Jvm.MethodName)) ∈ lw_tbl := lw_at lw_m7 101 rfl
theorem q1628 : (Jvm.Cond.instanceMethod ({ cls := "BakedBeforeModel", name := "takesBy", desc := "(IIII)I" } : Jvm.MethodName)) ∈ lw_all := lw_g (lw_at lw_m7 102 rfl) rfl
theorem q1629 : (Jvm.Cond.code ({ cls := "BakedBeforeModel", name := "takesBy", desc := "(IIII)I" } : Jvm.MethodName) prog_23_method_30_code (8 : Nat) (Option.some Jvm.ClassFile.FieldType.int)) ∈ lw_all := lw_g (lw_at lw_m7 103 rfl) rfl
theorem q1630 : (Jvm.Cond.methodLink "BakedBeforeModel" (193 : Nat) ({ cls := "BakedBeforeModel", name := "leavesOf", desc := "(II)I" } : Jvm.MethodName)) ∈ lw_all := lw_g (lw_at lw_m7 104 rfl) rfl
theorem q1631 : (Jvm.Cond.privateMethod ({ cls := "BakedBeforeModel", name := "leavesOf", desc := "(II)I" } : Jvm.MethodName)) ∈ lw_tbl := lw_at lw_m7 105 rfl
theorem q1632 : (Jvm.Cond.instanceMethod ({ cls := "BakedBeforeModel", name := "leavesOf", desc := "(II)I" } : Jvm.MethodName)) ∈ lw_all := lw_g (lw_at lw_m7 106 rfl) rfl
theorem q1633 : (Jvm.Cond.code ({ cls := "BakedBeforeModel", name := "leavesOf", desc := "(II)I" } : Jvm.MethodName) prog_23_method_32_code (5 : Nat) (Option.some Jvm.ClassFile.FieldType.int)) ∈ lw_all := lw_g (lw_at lw_m7 107 rfl) rfl
theorem q1634 : (Jvm.Cond.methodLink "BakedBeforeLaw" (30 : Nat) ({ cls := "BakedBeforeModel", name := "oven", desc := "(II)I" } : Jvm.MethodName)) ∈ lw_all := lw_g (lw_at lw_m7 108 rfl) rfl
theorem q1635 : (Jvm.Cond.instanceMethod ({ cls := "BakedBeforeModel", name := "oven", desc := "(II)I" } : Jvm.MethodName)) ∈ lw_all := lw_g (lw_at lw_m7 109 rfl) rfl
theorem q1636 : (Jvm.Cond.selects "BakedBeforeModel" ({ cls := "BakedBeforeModel", name := "oven", desc := "(II)I" } : Jvm.MethodName) ({ cls := "BakedBeforeModel", name := "oven", desc := "(II)I" } : Jvm.MethodName)) ∈ lw_all := lw_g (lw_at lw_m7 110 rfl) rfl
theorem q1637 : (Jvm.Cond.code ({ cls := "BakedBeforeModel", name := "oven", desc := "(II)I" } : Jvm.MethodName) prog_23_method_42_code (4 : Nat) (Option.some Jvm.ClassFile.FieldType.int)) ∈ lw_all := lw_g (lw_at lw_m7 111 rfl) rfl
theorem q1638 : (Jvm.Cond.methodLink "BakedBeforeLaw" (44 : Nat) ({ cls := "BakedBeforeModel", name := "told", desc := "(I)I" } : Jvm.MethodName)) ∈ lw_all := lw_g (lw_at lw_m7 112 rfl) rfl
theorem q1639 : (Jvm.Cond.instanceMethod ({ cls := "BakedBeforeModel", name := "told", desc := "(I)I" } : Jvm.MethodName)) ∈ lw_all := lw_g (lw_at lw_m7 113 rfl) rfl
theorem q1640 : (Jvm.Cond.selects "BakedBeforeModel" ({ cls := "BakedBeforeModel", name := "told", desc := "(I)I" } : Jvm.MethodName) ({ cls := "BakedBeforeModel", name := "told", desc := "(I)I" } : Jvm.MethodName)) ∈ lw_all := lw_g (lw_at lw_m7 114 rfl) rfl
theorem q1641 : (Jvm.Cond.code ({ cls := "BakedBeforeModel", name := "told", desc := "(I)I" } : Jvm.MethodName) prog_23_method_43_code (2 : Nat) (Option.some Jvm.ClassFile.FieldType.int)) ∈ lw_all := lw_g (lw_at lw_m7 115 rfl) rfl
theorem q1642 : (Jvm.Cond.methodLink "BakedBeforeLaw" (48 : Nat) ({ cls := "BakedBeforeModel", name := "bake", desc := "(I)I" } : Jvm.MethodName)) ∈ lw_all := lw_g (lw_at lw_m7 116 rfl) rfl
theorem q1643 : (Jvm.Cond.instanceMethod ({ cls := "BakedBeforeModel", name := "bake", desc := "(I)I" } : Jvm.MethodName)) ∈ lw_all := lw_g (lw_at lw_m7 117 rfl) rfl
theorem q1644 : (Jvm.Cond.selects "BakedBeforeModel" ({ cls := "BakedBeforeModel", name := "bake", desc := "(I)I" } : Jvm.MethodName) ({ cls := "BakedBeforeModel", name := "bake", desc := "(I)I" } : Jvm.MethodName)) ∈ lw_all := lw_g (lw_at lw_m7 118 rfl) rfl
theorem q1645 : (Jvm.Cond.code ({ cls := "BakedBeforeModel", name := "bake", desc := "(I)I" } : Jvm.MethodName) prog_23_method_44_code (2 : Nat) (Option.some Jvm.ClassFile.FieldType.int)) ∈ lw_all := lw_g (lw_at lw_m7 119 rfl) rfl
theorem q1646 : (Jvm.Cond.methodLink "BakedBeforeModel" (208 : Nat) ({ cls := "BakedBeforeModel", name := "bakes", desc := "(I)Z" } : Jvm.MethodName)) ∈ lw_all := lw_g (lw_at lw_m7 120 rfl) rfl
theorem q1647 : (Jvm.Cond.privateMethod ({ cls := "BakedBeforeModel", name := "bakes", desc := "(I)Z" } : Jvm.MethodName)) ∈ lw_tbl := lw_at lw_m7 121 rfl
theorem q1648 : (Jvm.Cond.instanceMethod ({ cls := "BakedBeforeModel", name := "bakes", desc := "(I)Z" } : Jvm.MethodName)) ∈ lw_all := lw_g (lw_at lw_m7 122 rfl) rfl
theorem q1649 : (Jvm.Cond.code ({ cls := "BakedBeforeModel", name := "bakes", desc := "(I)Z" } : Jvm.MethodName) prog_23_method_37_code (5 : Nat) (Option.some Jvm.ClassFile.FieldType.boolean)) ∈ lw_all := lw_g (lw_at lw_m7 123 rfl) rfl
theorem q1650 : (Jvm.Cond.methodLink "BakedBeforeModel" (196 : Nat) ({ cls := "BakedBeforeModel", name := "ages", desc := "()V" } : Jvm.MethodName)) ∈ lw_all := lw_g (lw_at lw_m7 124 rfl) rfl
theorem q1651 : (Jvm.Cond.privateMethod ({ cls := "BakedBeforeModel", name := "ages", desc := "()V" } : Jvm.MethodName)) ∈ lw_tbl := lw_at lw_m7 125 rfl
theorem q1652 : (Jvm.Cond.instanceMethod ({ cls := "BakedBeforeModel", name := "ages", desc := "()V" } : Jvm.MethodName)) ∈ lw_all := lw_g (lw_at lw_m7 126 rfl) rfl
theorem q1653 : (Jvm.Cond.code ({ cls := "BakedBeforeModel", name := "ages", desc := "()V" } : Jvm.MethodName) prog_23_method_36_code (1 : Nat) (Option.none : Option Jvm.ClassFile.FieldType)) ∈ lw_all := lw_g (lw_at lw_m7 127 rfl) rfl
theorem q1654 : (Jvm.Cond.methodLink "BakedBeforeLaw" (52 : Nat) ({ cls := "BakedBeforeModel", name := "cold", desc := "()I" } : Jvm.MethodName)) ∈ lw_all := lw_g (lw_at lw_m7 128 rfl) rfl
theorem q1655 : (Jvm.Cond.instanceMethod ({ cls := "BakedBeforeModel", name := "cold", desc := "()I" } : Jvm.MethodName)) ∈ lw_all := lw_g (lw_at lw_m7 129 rfl) rfl
theorem q1656 : (Jvm.Cond.selects "BakedBeforeModel" ({ cls := "BakedBeforeModel", name := "cold", desc := "()I" } : Jvm.MethodName) ({ cls := "BakedBeforeModel", name := "cold", desc := "()I" } : Jvm.MethodName)) ∈ lw_all := lw_g (lw_at lw_m7 130 rfl) rfl
theorem q1657 : (Jvm.Cond.code ({ cls := "BakedBeforeModel", name := "cold", desc := "()I" } : Jvm.MethodName) prog_23_method_45_code (1 : Nat) (Option.some Jvm.ClassFile.FieldType.int)) ∈ lw_all := lw_g (lw_at lw_m7 131 rfl) rfl
theorem q1658 : (Jvm.Cond.methodLink "BakedBeforeModel" (211 : Nat) ({ cls := "BakedBeforeModel", name := "cools", desc := "()V" } : Jvm.MethodName)) ∈ lw_all := lw_g (lw_at lw_m7 132 rfl) rfl
theorem q1659 : (Jvm.Cond.privateMethod ({ cls := "BakedBeforeModel", name := "cools", desc := "()V" } : Jvm.MethodName)) ∈ lw_tbl := lw_at lw_m7 133 rfl
theorem q1660 : (Jvm.Cond.instanceMethod ({ cls := "BakedBeforeModel", name := "cools", desc := "()V" } : Jvm.MethodName)) ∈ lw_all := lw_g (lw_at lw_m7 134 rfl) rfl
theorem q1661 : (Jvm.Cond.code ({ cls := "BakedBeforeModel", name := "cools", desc := "()V" } : Jvm.MethodName) prog_23_method_38_code (4 : Nat) (Option.none : Option Jvm.ClassFile.FieldType)) ∈ lw_all := lw_g (lw_at lw_m7 135 rfl) rfl
theorem q1662 : (Jvm.Cond.methodLink "BakedBeforeLaw" (57 : Nat) ({ cls := "BakedBeforeModel", name := "would", desc := "(III)I" } : Jvm.MethodName)) ∈ lw_all := lw_g (lw_at lw_m7 136 rfl) rfl
theorem q1663 : (Jvm.Cond.instanceMethod ({ cls := "BakedBeforeModel", name := "would", desc := "(III)I" } : Jvm.MethodName)) ∈ lw_all := lw_g (lw_at lw_m7 137 rfl) rfl
theorem q1664 : (Jvm.Cond.selects "BakedBeforeModel" ({ cls := "BakedBeforeModel", name := "would", desc := "(III)I" } : Jvm.MethodName) ({ cls := "BakedBeforeModel", name := "would", desc := "(III)I" } : Jvm.MethodName)) ∈ lw_all := lw_g (lw_at lw_m7 138 rfl) rfl
theorem q1665 : (Jvm.Cond.code ({ cls := "BakedBeforeModel", name := "would", desc := "(III)I" } : Jvm.MethodName) prog_23_method_46_code (6 : Nat) (Option.some Jvm.ClassFile.FieldType.int)) ∈ lw_all := lw_g (lw_at lw_m7 139 rfl) rfl
theorem q1666 : (Jvm.Cond.methodLink "BakedBeforeModel" (214 : Nat) ({ cls := "BakedBeforeModel", name := "begins", desc := "()V" } : Jvm.MethodName)) ∈ lw_all := lw_g (lw_at lw_m7 140 rfl) rfl
theorem q1667 : (Jvm.Cond.privateMethod ({ cls := "BakedBeforeModel", name := "begins", desc := "()V" } : Jvm.MethodName)) ∈ lw_tbl := lw_at lw_m7 141 rfl
theorem q1668 : (Jvm.Cond.instanceMethod ({ cls := "BakedBeforeModel", name := "begins", desc := "()V" } : Jvm.MethodName)) ∈ lw_all := lw_g (lw_at lw_m7 142 rfl) rfl
theorem q1669 : (Jvm.Cond.code ({ cls := "BakedBeforeModel", name := "begins", desc := "()V" } : Jvm.MethodName) prog_23_method_8_code (1 : Nat) (Option.none : Option Jvm.ClassFile.FieldType)) ∈ lw_all := lw_g (lw_at lw_m7 143 rfl) rfl
theorem q1670 : (Jvm.Cond.methodLink "BakedBeforeModel" (56 : Nat) ({ cls := "BakedBeforeModel", name := "lays", desc := "([I[I)V" } : Jvm.MethodName)) ∈ lw_all := lw_g (lw_at lw_m7 144 rfl) rfl
theorem q1671 : (Jvm.Cond.static ({ cls := "BakedBeforeModel", name := "lays", desc := "([I[I)V" } : Jvm.MethodName)) ∈ lw_all := lw_g (lw_at lw_m7 145 rfl) rfl
theorem q1672 : (Jvm.Cond.code ({ cls := "BakedBeforeModel", name := "lays", desc := "([I[I)V" } : Jvm.MethodName) prog_23_method_7_code (3 : Nat) (Option.none : Option Jvm.ClassFile.FieldType)) ∈ lw_all := lw_g (lw_at lw_m7 146 rfl) rfl
theorem q1673 : (Jvm.Cond.methodLink "BakedBeforeModel" (217 : Nat) ({ cls := "BakedBeforeModel", name := "ends", desc := "()V" } : Jvm.MethodName)) ∈ lw_all := lw_g (lw_at lw_m7 147 rfl) rfl
theorem q1674 : (Jvm.Cond.privateMethod ({ cls := "BakedBeforeModel", name := "ends", desc := "()V" } : Jvm.MethodName)) ∈ lw_tbl := lw_at lw_m7 148 rfl
theorem q1675 : (Jvm.Cond.instanceMethod ({ cls := "BakedBeforeModel", name := "ends", desc := "()V" } : Jvm.MethodName)) ∈ lw_all := lw_g (lw_at lw_m7 149 rfl) rfl
theorem q1676 : (Jvm.Cond.code ({ cls := "BakedBeforeModel", name := "ends", desc := "()V" } : Jvm.MethodName) prog_23_method_9_code (1 : Nat) (Option.none : Option Jvm.ClassFile.FieldType)) ∈ lw_all := lw_g (lw_at lw_m7 150 rfl) rfl
theorem q1677 : (Jvm.Cond.methodLink "BakedBeforeLaw" (61 : Nat) ({ cls := "BakedBeforeModel", name := "order", desc := "(II)I" } : Jvm.MethodName)) ∈ lw_all := lw_g (lw_at lw_m7 151 rfl) rfl
theorem q1678 : (Jvm.Cond.instanceMethod ({ cls := "BakedBeforeModel", name := "order", desc := "(II)I" } : Jvm.MethodName)) ∈ lw_all := lw_g (lw_at lw_m7 152 rfl) rfl
theorem q1679 : (Jvm.Cond.selects "BakedBeforeModel" ({ cls := "BakedBeforeModel", name := "order", desc := "(II)I" } : Jvm.MethodName) ({ cls := "BakedBeforeModel", name := "order", desc := "(II)I" } : Jvm.MethodName)) ∈ lw_all := lw_g (lw_at lw_m7 153 rfl) rfl
theorem q1680 : (Jvm.Cond.code ({ cls := "BakedBeforeModel", name := "order", desc := "(II)I" } : Jvm.MethodName) prog_23_method_49_code (3 : Nat) (Option.some Jvm.ClassFile.FieldType.int)) ∈ lw_all := lw_g (lw_at lw_m7 154 rfl) rfl
theorem q1681 : (Jvm.Cond.methodLink "BakedBeforeModel" (229 : Nat) ({ cls := "BakedBeforeModel", name := "areLoaves", desc := "(I)Z" } : Jvm.MethodName)) ∈ lw_all := lw_g (lw_at lw_m7 155 rfl) rfl
theorem q1682 : (Jvm.Cond.privateMethod ({ cls := "BakedBeforeModel", name := "areLoaves", desc := "(I)Z" } : Jvm.MethodName)) ∈ lw_tbl := lw_at lw_m7 156 rfl
theorem q1683 : (Jvm.Cond.instanceMethod ({ cls := "BakedBeforeModel", name := "areLoaves", desc := "(I)Z" } : Jvm.MethodName)) ∈ lw_all := lw_g (lw_at lw_m7 157 rfl) rfl
theorem q1684 : (Jvm.Cond.code ({ cls := "BakedBeforeModel", name := "areLoaves", desc := "(I)Z" } : Jvm.MethodName) prog_23_method_5_code (2 : Nat) (Option.some Jvm.ClassFile.FieldType.boolean)) ∈ lw_all := lw_g (lw_at lw_m7 158 rfl) rfl
theorem q1685 : (Jvm.Cond.methodLink "BakedBeforeModel" (232 : Nat) ({ cls := "BakedBeforeModel", name := "bits", desc := "(I)I" } : Jvm.MethodName)) ∈ lw_all := lw_g (lw_at lw_m7 159 rfl) rfl
theorem q1686 : (Jvm.Cond.static ({ cls := "BakedBeforeModel", name := "bits", desc := "(I)I" } : Jvm.MethodName)) ∈ lw_all := lw_g (lw_at lw_m7 160 rfl) rfl
theorem q1687 : (Jvm.Cond.code ({ cls := "BakedBeforeModel", name := "bits", desc := "(I)I" } : Jvm.MethodName) prog_23_method_6_code (3 : Nat) (Option.some Jvm.ClassFile.FieldType.int)) ∈ lw_all := lw_g (lw_at lw_m7 161 rfl) rfl
theorem q1688 : (Jvm.Cond.methodLink "BakedBeforeModel" (226 : Nat) ({ cls := "BakedBeforeModel", name := "orders", desc := "(III)V" } : Jvm.MethodName)) ∈ lw_all := lw_g (lw_at lw_m7 162 rfl) rfl
theorem q1689 : (Jvm.Cond.privateMethod ({ cls := "BakedBeforeModel", name := "orders", desc := "(III)V" } : Jvm.MethodName)) ∈ lw_tbl := lw_at lw_m7 163 rfl
theorem q1690 : (Jvm.Cond.instanceMethod ({ cls := "BakedBeforeModel", name := "orders", desc := "(III)V" } : Jvm.MethodName)) ∈ lw_all := lw_g (lw_at lw_m7 164 rfl) rfl
theorem q1691 : (Jvm.Cond.code ({ cls := "BakedBeforeModel", name := "orders", desc := "(III)V" } : Jvm.MethodName) prog_23_method_48_code (6 : Nat) (Option.none : Option Jvm.ClassFile.FieldType)) ∈ lw_all := lw_g (lw_at lw_m7 165 rfl) rfl
theorem q1692 : (Jvm.Cond.methodLink "BakedBeforeModel" (220 : Nat) ({ cls := "BakedBeforeModel", name := "spoiledBy", desc := "(I)I" } : Jvm.MethodName)) ∈ lw_all := lw_g (lw_at lw_m7 166 rfl) rfl
theorem q1693 : (Jvm.Cond.privateMethod ({ cls := "BakedBeforeModel", name := "spoiledBy", desc := "(I)I" } : Jvm.MethodName)) ∈ lw_tbl := lw_at lw_m7 167 rfl
theorem q1694 : (Jvm.Cond.instanceMethod ({ cls := "BakedBeforeModel", name := "spoiledBy", desc := "(I)I" } : Jvm.MethodName)) ∈ lw_all := lw_g (lw_at lw_m7 168 rfl) rfl
theorem q1695 : (Jvm.Cond.code ({ cls := "BakedBeforeModel", name := "spoiledBy", desc := "(I)I" } : Jvm.MethodName) prog_23_method_47_code (4 : Nat) (Option.some Jvm.ClassFile.FieldType.int)) ∈ lw_all := lw_g (lw_at lw_m7 169 rfl) rfl
theorem q1696 : (Jvm.Cond.methodLink "BakedBeforeLaw" (65 : Nat) ({ cls := "BakedBeforeModel", name := "colds", desc := "(II)I" } : Jvm.MethodName)) ∈ lw_all := lw_g (lw_at lw_m7 170 rfl) rfl
theorem q1697 : (Jvm.Cond.instanceMethod ({ cls := "BakedBeforeModel", name := "colds", desc := "(II)I" } : Jvm.MethodName)) ∈ lw_all := lw_g (lw_at lw_m7 171 rfl) rfl
theorem q1698 : (Jvm.Cond.selects "BakedBeforeModel" ({ cls := "BakedBeforeModel", name := "colds", desc := "(II)I" } : Jvm.MethodName) ({ cls := "BakedBeforeModel", name := "colds", desc := "(II)I" } : Jvm.MethodName)) ∈ lw_all := lw_g (lw_at lw_m7 172 rfl) rfl
theorem q1699 : (Jvm.Cond.code ({ cls := "BakedBeforeModel", name := "colds", desc := "(II)I" } : Jvm.MethodName) prog_23_method_52_code (9 : Nat) (Option.some Jvm.ClassFile.FieldType.int)) ∈ lw_all := lw_g (lw_at lw_m7 173 rfl) rfl
theorem q1700 : (Jvm.Cond.methodLink "BakedBeforeModel" (238 : Nat) ({ cls := "BakedBeforeModel", name := "isWellBy", desc := "(III)Z" } : Jvm.MethodName)) ∈ lw_all := lw_g (lw_at lw_m7 174 rfl) rfl
theorem q1701 : (Jvm.Cond.privateMethod ({ cls := "BakedBeforeModel", name := "isWellBy", desc := "(III)Z" } : Jvm.MethodName)) ∈ lw_tbl := lw_at lw_m7 175 rfl
theorem q1702 : (Jvm.Cond.instanceMethod ({ cls := "BakedBeforeModel", name := "isWellBy", desc := "(III)Z" } : Jvm.MethodName)) ∈ lw_all := lw_g (lw_at lw_m7 176 rfl) rfl
theorem q1703 : (Jvm.Cond.code ({ cls := "BakedBeforeModel", name := "isWellBy", desc := "(III)Z" } : Jvm.MethodName) prog_23_method_51_code (8 : Nat) (Option.some Jvm.ClassFile.FieldType.boolean)) ∈ lw_all := lw_g (lw_at lw_m7 177 rfl) rfl
theorem q1704 : (Jvm.Cond.methodLink "BakedBeforeModel" (235 : Nat) ({ cls := "BakedBeforeModel", name := "memberOf", desc := "(II)I" } : Jvm.MethodName)) ∈ lw_all := lw_g (lw_at lw_m7 178 rfl) rfl
theorem q1705 : (Jvm.Cond.static ({ cls := "BakedBeforeModel", name := "memberOf", desc := "(II)I" } : Jvm.MethodName)) ∈ lw_all := lw_g (lw_at lw_m7 179 rfl) rfl
theorem q1706 : (Jvm.Cond.code ({ cls := "BakedBeforeModel", name := "memberOf", desc := "(II)I" } : Jvm.MethodName) prog_23_method_50_code (4 : Nat) (Option.some Jvm.ClassFile.FieldType.int)) ∈ lw_all := lw_g (lw_at lw_m7 180 rfl) rfl
theorem q1707 : (Jvm.Cond.methodLink "BakedBeforeLaw" (69 : Nat) ({ cls := "BakedBeforeModel", name := "place", desc := "(II)I" } : Jvm.MethodName)) ∈ lw_all := lw_g (lw_at lw_m7 181 rfl) rfl
theorem q1708 : (Jvm.Cond.instanceMethod ({ cls := "BakedBeforeModel", name := "place", desc := "(II)I" } : Jvm.MethodName)) ∈ lw_all := lw_g (lw_at lw_m7 182 rfl) rfl
theorem q1709 : (Jvm.Cond.selects "BakedBeforeModel" ({ cls := "BakedBeforeModel", name := "place", desc := "(II)I" } : Jvm.MethodName) ({ cls := "BakedBeforeModel", name := "place", desc := "(II)I" } : Jvm.MethodName)) ∈ lw_all := lw_g (lw_at lw_m7 183 rfl) rfl
theorem q1710 : (Jvm.Cond.code ({ cls := "BakedBeforeModel", name := "place", desc := "(II)I" } : Jvm.MethodName) prog_23_method_54_code (7 : Nat) (Option.some Jvm.ClassFile.FieldType.int)) ∈ lw_all := lw_g (lw_at lw_m7 184 rfl) rfl
theorem q1711 : (Jvm.Cond.methodLink "BakedBeforeModel" (244 : Nat) ({ cls := "BakedBeforeModel", name := "takesAt", desc := "(II)I" } : Jvm.MethodName)) ∈ lw_all := lw_g (lw_at lw_m7 185 rfl) rfl
theorem q1712 : (Jvm.Cond.privateMethod ({ cls := "BakedBeforeModel", name := "takesAt", desc := "(II)I" } : Jvm.MethodName)) ∈ lw_tbl := lw_at lw_m7 186 rfl
theorem q1713 : (Jvm.Cond.instanceMethod ({ cls := "BakedBeforeModel", name := "takesAt", desc := "(II)I" } : Jvm.MethodName)) ∈ lw_all := lw_g (lw_at lw_m7 187 rfl) rfl
theorem q1714 : (Jvm.Cond.code ({ cls := "BakedBeforeModel", name := "takesAt", desc := "(II)I" } : Jvm.MethodName) prog_23_method_53_code (6 : Nat) (Option.some Jvm.ClassFile.FieldType.int)) ∈ lw_all := lw_g (lw_at lw_m7 188 rfl) rfl
theorem q1715 : (Jvm.Cond.methodLink "BakedBeforeModel" (241 : Nat) ({ cls := "BakedBeforeModel", name := "allTakes", desc := "(I)I" } : Jvm.MethodName)) ∈ lw_all := lw_g (lw_at lw_m7 189 rfl) rfl
theorem q1716 : (Jvm.Cond.privateMethod ({ cls := "BakedBeforeModel", name := "allTakes", desc := "(I)I" } : Jvm.MethodName)) ∈ lw_tbl := lw_at lw_m7 190 rfl
theorem q1717 : (Jvm.Cond.instanceMethod ({ cls := "BakedBeforeModel", name := "allTakes", desc := "(I)I" } : Jvm.MethodName)) ∈ lw_all := lw_g (lw_at lw_m7 191 rfl) rfl
theorem q1718 : (Jvm.Cond.code ({ cls := "BakedBeforeModel", name := "allTakes", desc := "(I)I" } : Jvm.MethodName) prog_23_method_33_code (4 : Nat) (Option.some Jvm.ClassFile.FieldType.int)) ∈ lw_all := lw_g (lw_at lw_m7 192 rfl) rfl
theorem q1719 : (Jvm.Cond.methodLink "BakedBeforeLaw" (73 : Nat) ({ cls := "BakedBeforeModel", name := "guilty", desc := "(I)I" } : Jvm.MethodName)) ∈ lw_all := lw_g (lw_at lw_m7 193 rfl) rfl
theorem q1720 : (Jvm.Cond.instanceMethod ({ cls := "BakedBeforeModel", name := "guilty", desc := "(I)I" } : Jvm.MethodName)) ∈ lw_all := lw_g (lw_at lw_m7 194 rfl) rfl
theorem q1721 : (Jvm.Cond.selects "BakedBeforeModel" ({ cls := "BakedBeforeModel", name := "guilty", desc := "(I)I" } : Jvm.MethodName) ({ cls := "BakedBeforeModel", name := "guilty", desc := "(I)I" } : Jvm.MethodName)) ∈ lw_all := lw_g (lw_at lw_m7 195 rfl) rfl
theorem q1722 : (Jvm.Cond.code ({ cls := "BakedBeforeModel", name := "guilty", desc := "(I)I" } : Jvm.MethodName) prog_23_method_56_code (4 : Nat) (Option.some Jvm.ClassFile.FieldType.int)) ∈ lw_all := lw_g (lw_at lw_m7 196 rfl) rfl
theorem q1723 : (Jvm.Cond.methodLink "BakedBeforeModel" (247 : Nat) ({ cls := "BakedBeforeModel", name := "isSpoiledBehind", desc := "(II)Z" } : Jvm.MethodName)) ∈ lw_all := lw_g (lw_at lw_m7 197 rfl) rfl
theorem q1724 : (Jvm.Cond.privateMethod ({ cls := "BakedBeforeModel", name := "isSpoiledBehind", desc := "(II)Z" } : Jvm.MethodName)) ∈ lw_tbl := lw_at lw_m7 198 rfl
theorem q1725 : (Jvm.Cond.instanceMethod ({ cls := "BakedBeforeModel", name := "isSpoiledBehind", desc := "(II)Z" } : Jvm.MethodName)) ∈ lw_all := lw_g (lw_at lw_m7 199 rfl) rfl
theorem q1726 : (Jvm.Cond.code ({ cls := "BakedBeforeModel", name := "isSpoiledBehind", desc := "(II)Z" } : Jvm.MethodName) prog_23_method_55_code (5 : Nat) (Option.some Jvm.ClassFile.FieldType.boolean)) ∈ lw_all := lw_g (lw_at lw_m7 200 rfl) rfl
theorem q1727 : (Jvm.Cond.methodLink "BakedBeforeLaw" (77 : Nat) ({ cls := "BakedBeforeModel", name := "two", desc := "(I)I" } : Jvm.MethodName)) ∈ lw_all := lw_g (lw_at lw_m7 201 rfl) rfl
theorem q1728 : (Jvm.Cond.instanceMethod ({ cls := "BakedBeforeModel", name := "two", desc := "(I)I" } : Jvm.MethodName)) ∈ lw_all := lw_g (lw_at lw_m7 202 rfl) rfl
theorem q1729 : (Jvm.Cond.selects "BakedBeforeModel" ({ cls := "BakedBeforeModel", name := "two", desc := "(I)I" } : Jvm.MethodName) ({ cls := "BakedBeforeModel", name := "two", desc := "(I)I" } : Jvm.MethodName)) ∈ lw_all := lw_g (lw_at lw_m7 203 rfl) rfl
theorem q1730 : (Jvm.Cond.code ({ cls := "BakedBeforeModel", name := "two", desc := "(I)I" } : Jvm.MethodName) prog_23_method_58_code (7 : Nat) (Option.some Jvm.ClassFile.FieldType.int)) ∈ lw_all := lw_g (lw_at lw_m7 204 rfl) rfl
theorem q1731 : (Jvm.Cond.methodLink "BakedBeforeModel" (251 : Nat) ({ cls := "BakedBeforeModel", name := "spoiledIn", desc := "(I)I" } : Jvm.MethodName)) ∈ lw_all := lw_g (lw_at lw_m7 205 rfl) rfl
theorem q1732 : (Jvm.Cond.privateMethod ({ cls := "BakedBeforeModel", name := "spoiledIn", desc := "(I)I" } : Jvm.MethodName)) ∈ lw_tbl := lw_at lw_m7 206 rfl
theorem q1733 : (Jvm.Cond.instanceMethod ({ cls := "BakedBeforeModel", name := "spoiledIn", desc := "(I)I" } : Jvm.MethodName)) ∈ lw_all := lw_g (lw_at lw_m7 207 rfl) rfl
theorem q1734 : (Jvm.Cond.code ({ cls := "BakedBeforeModel", name := "spoiledIn", desc := "(I)I" } : Jvm.MethodName) prog_23_method_57_code (4 : Nat) (Option.some Jvm.ClassFile.FieldType.int)) ∈ lw_all := lw_g (lw_at lw_m7 208 rfl) rfl
theorem q1735 : (Jvm.Cond.methodLink "BakedBeforeLaw" (81 : Nat) ({ cls := "BakedBeforeModel", name := "has", desc := "(I)I" } : Jvm.MethodName)) ∈ lw_all := lw_g (lw_at lw_m7 209 rfl) rfl
theorem q1736 : (Jvm.Cond.instanceMethod ({ cls := "BakedBeforeModel", name := "has", desc := "(I)I" } : Jvm.MethodName)) ∈ lw_all := lw_g (lw_at lw_m7 210 rfl) rfl
theorem q1737 : (Jvm.Cond.selects "BakedBeforeModel" ({ cls := "BakedBeforeModel", name := "has", desc := "(I)I" } : Jvm.MethodName) ({ cls := "BakedBeforeModel", name := "has", desc := "(I)I" } : Jvm.MethodName)) ∈ lw_all := lw_g (lw_at lw_m7 211 rfl) rfl
theorem q1738 : (Jvm.Cond.code ({ cls := "BakedBeforeModel", name := "has", desc := "(I)I" } : Jvm.MethodName) prog_23_method_60_code (6 : Nat) (Option.some Jvm.ClassFile.FieldType.int)) ∈ lw_all := lw_g (lw_at lw_m7 212 rfl) rfl
theorem q1739 : (Jvm.Cond.constant "BakedBeforeModel" (254 : Nat) (-100001 : Int32)) ∈ lw_all := lw_g (lw_at lw_m7 213 rfl) rfl
theorem q1740 : (Jvm.Cond.methodLink "BakedBeforeModel" (255 : Nat) ({ cls := "BakedBeforeModel", name := "takesBehind", desc := "(II)I" } : Jvm.MethodName)) ∈ lw_all := lw_g (lw_at lw_m7 214 rfl) rfl
theorem q1741 : (Jvm.Cond.privateMethod ({ cls := "BakedBeforeModel", name := "takesBehind", desc := "(II)I" } : Jvm.MethodName)) ∈ lw_tbl := lw_at lw_m7 215 rfl
theorem q1742 : (Jvm.Cond.instanceMethod ({ cls := "BakedBeforeModel", name := "takesBehind", desc := "(II)I" } : Jvm.MethodName)) ∈ lw_all := lw_g (lw_at lw_m7 216 rfl) rfl
theorem q1743 : (Jvm.Cond.code ({ cls := "BakedBeforeModel", name := "takesBehind", desc := "(II)I" } : Jvm.MethodName) prog_23_method_59_code (5 : Nat) (Option.some Jvm.ClassFile.FieldType.int)) ∈ lw_all := lw_g (lw_at lw_m7 217 rfl) rfl
theorem q1744 : (Jvm.Cond.methodLink "BakedBeforeLaw" (85 : Nat) ({ cls := "BakedBeforeModel", name := "swaps", desc := "(I)I" } : Jvm.MethodName)) ∈ lw_all := lw_g (lw_at lw_m7 218 rfl) rfl
theorem q1745 : (Jvm.Cond.instanceMethod ({ cls := "BakedBeforeModel", name := "swaps", desc := "(I)I" } : Jvm.MethodName)) ∈ lw_all := lw_g (lw_at lw_m7 219 rfl) rfl
theorem q1746 : (Jvm.Cond.selects "BakedBeforeModel" ({ cls := "BakedBeforeModel", name := "swaps", desc := "(I)I" } : Jvm.MethodName) ({ cls := "BakedBeforeModel", name := "swaps", desc := "(I)I" } : Jvm.MethodName)) ∈ lw_all := lw_g (lw_at lw_m7 220 rfl) rfl
theorem q1747 : (Jvm.Cond.code ({ cls := "BakedBeforeModel", name := "swaps", desc := "(I)I" } : Jvm.MethodName) prog_23_method_62_code (6 : Nat) (Option.some Jvm.ClassFile.FieldType.int)) ∈ lw_all := lw_g (lw_at lw_m7 221 rfl) rfl
theorem q1748 : (Jvm.Cond.methodLink "BakedBeforeModel" (258 : Nat) ({ cls := "BakedBeforeModel", name := "takesInRow", desc := "(II)I" } : Jvm.MethodName)) ∈ lw_all := lw_g (lw_at lw_m7 222 rfl) rfl
theorem q1749 : (Jvm.Cond.privateMethod ({ cls := "BakedBeforeModel", name := "takesInRow", desc := "(II)I" } : Jvm.MethodName)) ∈ lw_tbl := lw_at lw_m7 223 rfl
theorem q1750 : (Jvm.Cond.instanceMethod ({ cls := "BakedBeforeModel", name := "takesInRow", desc := "(II)I" } : Jvm.MethodName)) ∈ lw_all := lw_g (lw_at lw_m7 224 rfl) rfl
theorem q1751 : (Jvm.Cond.code ({ cls := "BakedBeforeModel", name := "takesInRow", desc := "(II)I" } : Jvm.MethodName) prog_23_method_61_code (7 : Nat) (Option.some Jvm.ClassFile.FieldType.int)) ∈ lw_all := lw_g (lw_at lw_m7 225 rfl) rfl
theorem q1752 : (Jvm.Cond.methodLink "BakedBeforeLaw" (89 : Nat) ({ cls := "BakedBeforeModel", name := "span", desc := "(IIII)I" } : Jvm.MethodName)) ∈ lw_all := lw_g (lw_at lw_m7 226 rfl) rfl
theorem q1753 : (Jvm.Cond.instanceMethod ({ cls := "BakedBeforeModel", name := "span", desc := "(IIII)I" } : Jvm.MethodName)) ∈ lw_all := lw_g (lw_at lw_m7 227 rfl) rfl
theorem q1754 : (Jvm.Cond.selects "BakedBeforeModel" ({ cls := "BakedBeforeModel", name := "span", desc := "(IIII)I" } : Jvm.MethodName) ({ cls := "BakedBeforeModel", name := "span", desc := "(IIII)I" } : Jvm.MethodName)) ∈ lw_all := lw_g (lw_at lw_m7 228 rfl) rfl
theorem q1755 : (Jvm.Cond.code ({ cls := "BakedBeforeModel", name := "span", desc := "(IIII)I" } : Jvm.MethodName) prog_23_method_63_code (11 : Nat) (Option.some Jvm.ClassFile.FieldType.int)) ∈ lw_all := lw_g (lw_at lw_m7 229 rfl) rfl
theorem q1756 : (Jvm.Cond.methodLink "BakedBeforeLaw" (93 : Nat) ({ cls := "BakedBeforeModel", name := "year", desc := "(III)I" } : Jvm.MethodName)) ∈ lw_all := lw_g (lw_at lw_m7 230 rfl) rfl
theorem q1757 : (Jvm.Cond.instanceMethod ({ cls := "BakedBeforeModel", name := "year", desc := "(III)I" } : Jvm.MethodName)) ∈ lw_all := lw_g (lw_at lw_m7 231 rfl) rfl
theorem q1758 : (Jvm.Cond.selects "BakedBeforeModel" ({ cls := "BakedBeforeModel", name := "year", desc := "(III)I" } : Jvm.MethodName) ({ cls := "BakedBeforeModel", name := "year", desc := "(III)I" } : Jvm.MethodName)) ∈ lw_all := lw_g (lw_at lw_m7 232 rfl) rfl
theorem q1759 : (Jvm.Cond.code ({ cls := "BakedBeforeModel", name := "year", desc := "(III)I" } : Jvm.MethodName) prog_23_method_64_code (7 : Nat) (Option.some Jvm.ClassFile.FieldType.int)) ∈ lw_all := lw_g (lw_at lw_m7 233 rfl) rfl
theorem q1760 : (Jvm.Cond.constant "BakedBeforeModel" (261 : Nat) (-100002 : Int32)) ∈ lw_all := lw_g (lw_at lw_m7 234 rfl) rfl
theorem q1761 : (Jvm.Cond.constant "BakedBeforeModel" (262 : Nat) (-100003 : Int32)) ∈ lw_all := lw_g (lw_at lw_m7 235 rfl) rfl
theorem q1762 : (Jvm.Cond.methodLink "BakedBeforeLaw" (98 : Nat) ({ cls := "BakedBeforeModel", name := "odds", desc := "(II)J" } : Jvm.MethodName)) ∈ lw_all := lw_g (lw_at lw_m7 236 rfl) rfl
theorem q1763 : (Jvm.Cond.instanceMethod ({ cls := "BakedBeforeModel", name := "odds", desc := "(II)J" } : Jvm.MethodName)) ∈ lw_all := lw_g (lw_at lw_m7 237 rfl) rfl
theorem q1764 : (Jvm.Cond.selects "BakedBeforeModel" ({ cls := "BakedBeforeModel", name := "odds", desc := "(II)J" } : Jvm.MethodName) ({ cls := "BakedBeforeModel", name := "odds", desc := "(II)J" } : Jvm.MethodName)) ∈ lw_all := lw_g (lw_at lw_m7 238 rfl) rfl
theorem q1765 : (Jvm.Cond.code ({ cls := "BakedBeforeModel", name := "odds", desc := "(II)J" } : Jvm.MethodName) prog_23_method_67_code (6 : Nat) (Option.some Jvm.ClassFile.FieldType.long)) ∈ lw_all := lw_g (lw_at lw_m7 239 rfl) rfl
theorem q1766 : (Jvm.Cond.constantLong "BakedBeforeModel" (266 : Nat) (-9223372036854775808 : Int64)) ∈ lw_all := lw_g (lw_at lw_m8 0 rfl) rfl
theorem q1767 : (Jvm.Cond.methodLink "BakedBeforeModel" (268 : Nat) ({ cls := "BakedBeforeModel", name := "lowest", desc := "(III)J" } : Jvm.MethodName)) ∈ lw_all := lw_g (lw_at lw_m8 1 rfl) rfl
theorem q1768 : (Jvm.Cond.static ({ cls := "BakedBeforeModel", name := "lowest", desc := "(III)J" } : Jvm.MethodName)) ∈ lw_all := lw_g (lw_at lw_m8 2 rfl) rfl
theorem q1769 : (Jvm.Cond.code ({ cls := "BakedBeforeModel", name := "lowest", desc := "(III)J" } : Jvm.MethodName) prog_23_method_66_code (4 : Nat) (Option.some Jvm.ClassFile.FieldType.long)) ∈ lw_all := lw_g (lw_at lw_m8 3 rfl) rfl
theorem q1770 : (Jvm.Cond.methodLink "BakedBeforeModel" (263 : Nat) ({ cls := "BakedBeforeModel", name := "common", desc := "(II)I" } : Jvm.MethodName)) ∈ lw_all := lw_g (lw_at lw_m8 4 rfl) rfl
theorem q1771 : (Jvm.Cond.static ({ cls := "BakedBeforeModel", name := "common", desc := "(II)I" } : Jvm.MethodName)) ∈ lw_all := lw_g (lw_at lw_m8 5 rfl) rfl
theorem q1772 : (Jvm.Cond.code ({ cls := "BakedBeforeModel", name := "common", desc := "(II)I" } : Jvm.MethodName) prog_23_method_65_code (2 : Nat) (Option.some Jvm.ClassFile.FieldType.int)) ∈ lw_all := lw_g (lw_at lw_m8 6 rfl) rfl
theorem q1773 : (Jvm.Cond.methodLink "BakedBeforeLaw" (102 : Nat) ({ cls := "BakedBeforeModel", name := "mean", desc := "(II)J" } : Jvm.MethodName)) ∈ lw_all := lw_g (lw_at lw_m8 7 rfl) rfl
theorem q1774 : (Jvm.Cond.instanceMethod ({ cls := "BakedBeforeModel", name := "mean", desc := "(II)J" } : Jvm.MethodName)) ∈ lw_all := lw_g (lw_at lw_m8 8 rfl) rfl
theorem q1775 : (Jvm.Cond.selects "BakedBeforeModel" ({ cls := "BakedBeforeModel", name := "mean", desc := "(II)J" } : Jvm.MethodName) ({ cls := "BakedBeforeModel", name := "mean", desc := "(II)J" } : Jvm.MethodName)) ∈ lw_all := lw_g (lw_at lw_m8 9 rfl) rfl
theorem q1776 : (Jvm.Cond.code ({ cls := "BakedBeforeModel", name := "mean", desc := "(II)J" } : Jvm.MethodName) prog_23_method_68_code (5 : Nat) (Option.some Jvm.ClassFile.FieldType.long)) ∈ lw_all := lw_g (lw_at lw_m8 10 rfl) rfl
theorem q1777 : (Jvm.Cond.methodLink "BakedBeforeLaw" (107 : Nat) ({ cls := "BakedBeforeModel", name := "book", desc := "(IZ)I" } : Jvm.MethodName)) ∈ lw_all := lw_g (lw_at lw_m8 11 rfl) rfl
theorem q1778 : (Jvm.Cond.instanceMethod ({ cls := "BakedBeforeModel", name := "book", desc := "(IZ)I" } : Jvm.MethodName)) ∈ lw_all := lw_g (lw_at lw_m8 12 rfl) rfl
theorem q1779 : (Jvm.Cond.selects "BakedBeforeModel" ({ cls := "BakedBeforeModel", name := "book", desc := "(IZ)I" } : Jvm.MethodName) ({ cls := "BakedBeforeModel", name := "book", desc := "(IZ)I" } : Jvm.MethodName)) ∈ lw_all := lw_g (lw_at lw_m8 13 rfl) rfl
theorem q1780 : (Jvm.Cond.code ({ cls := "BakedBeforeModel", name := "book", desc := "(IZ)I" } : Jvm.MethodName) prog_23_method_69_code (3 : Nat) (Option.some Jvm.ClassFile.FieldType.int)) ∈ lw_all := lw_g (lw_at lw_m8 14 rfl) rfl
theorem q1781 : (Jvm.Cond.methodLink "BakedBeforeLaw" (111 : Nat) ({ cls := "BakedBeforeModel", name := "looked", desc := "()I" } : Jvm.MethodName)) ∈ lw_all := lw_g (lw_at lw_m8 15 rfl) rfl
theorem q1782 : (Jvm.Cond.instanceMethod ({ cls := "BakedBeforeModel", name := "looked", desc := "()I" } : Jvm.MethodName)) ∈ lw_all := lw_g (lw_at lw_m8 16 rfl) rfl
theorem q1783 : (Jvm.Cond.selects "BakedBeforeModel" ({ cls := "BakedBeforeModel", name := "looked", desc := "()I" } : Jvm.MethodName) ({ cls := "BakedBeforeModel", name := "looked", desc := "()I" } : Jvm.MethodName)) ∈ lw_all := lw_g (lw_at lw_m8 17 rfl) rfl
theorem q1784 : (Jvm.Cond.code ({ cls := "BakedBeforeModel", name := "looked", desc := "()I" } : Jvm.MethodName) prog_23_method_71_code (3 : Nat) (Option.some Jvm.ClassFile.FieldType.int)) ∈ lw_all := lw_g (lw_at lw_m8 18 rfl) rfl
theorem q1785 : (Jvm.Cond.methodLink "BakedBeforeModel" (272 : Nat) ({ cls := "BakedBeforeModel", name := "isBookedSo", desc := "(I)Z" } : Jvm.MethodName)) ∈ lw_all := lw_g (lw_at lw_m8 19 rfl) rfl
theorem q1786 : (Jvm.Cond.privateMethod ({ cls := "BakedBeforeModel", name := "isBookedSo", desc := "(I)Z" } : Jvm.MethodName)) ∈ lw_tbl := lw_at lw_m8 20 rfl
theorem q1787 : (Jvm.Cond.instanceMethod ({ cls := "BakedBeforeModel", name := "isBookedSo", desc := "(I)Z" } : Jvm.MethodName)) ∈ lw_all := lw_g (lw_at lw_m8 21 rfl) rfl
theorem q1788 : (Jvm.Cond.code ({ cls := "BakedBeforeModel", name := "isBookedSo", desc := "(I)Z" } : Jvm.MethodName) prog_23_method_70_code (4 : Nat) (Option.some Jvm.ClassFile.FieldType.boolean)) ∈ lw_all := lw_g (lw_at lw_m8 22 rfl) rfl
theorem q1789 : (Jvm.Cond.methodLink "BakedBeforeLaw" (115 : Nat) ({ cls := "BakedBeforeModel", name := "judge", desc := "(II)I" } : Jvm.MethodName)) ∈ lw_all := lw_g (lw_at lw_m8 23 rfl) rfl
theorem q1790 : (Jvm.Cond.instanceMethod ({ cls := "BakedBeforeModel", name := "judge", desc := "(II)I" } : Jvm.MethodName)) ∈ lw_all := lw_g (lw_at lw_m8 24 rfl) rfl
theorem q1791 : (Jvm.Cond.selects "BakedBeforeModel" ({ cls := "BakedBeforeModel", name := "judge", desc := "(II)I" } : Jvm.MethodName) ({ cls := "BakedBeforeModel", name := "judge", desc := "(II)I" } : Jvm.MethodName)) ∈ lw_all := lw_g (lw_at lw_m8 25 rfl) rfl
theorem q1792 : (Jvm.Cond.code ({ cls := "BakedBeforeModel", name := "judge", desc := "(II)I" } : Jvm.MethodName) prog_23_method_73_code (4 : Nat) (Option.some Jvm.ClassFile.FieldType.int)) ∈ lw_all := lw_g (lw_at lw_m8 26 rfl) rfl
theorem q1793 : (Jvm.Cond.methodLink "BakedBeforeModel" (275 : Nat) ({ cls := "BakedBeforeModel", name := "isTape", desc := "(I)Z" } : Jvm.MethodName)) ∈ lw_all := lw_g (lw_at lw_m8 27 rfl) rfl
theorem q1794 : (Jvm.Cond.static ({ cls := "BakedBeforeModel", name := "isTape", desc := "(I)Z" } : Jvm.MethodName)) ∈ lw_all := lw_g (lw_at lw_m8 28 rfl) rfl
theorem q1795 : (Jvm.Cond.code ({ cls := "BakedBeforeModel", name := "isTape", desc := "(I)Z" } : Jvm.MethodName) prog_23_method_72_code (1 : Nat) (Option.some Jvm.ClassFile.FieldType.boolean)) ∈ lw_all := lw_g (lw_at lw_m8 29 rfl) rfl
theorem q1796 : (Jvm.Cond.methodLink "BakedBeforeLaw" (119 : Nat) ({ cls := "BakedBeforeModel", name := "image", desc := "()I" } : Jvm.MethodName)) ∈ lw_all := lw_g (lw_at lw_m8 30 rfl) rfl
theorem q1797 : (Jvm.Cond.instanceMethod ({ cls := "BakedBeforeModel", name := "image", desc := "()I" } : Jvm.MethodName)) ∈ lw_all := lw_g (lw_at lw_m8 31 rfl) rfl
theorem q1798 : (Jvm.Cond.selects "BakedBeforeModel" ({ cls := "BakedBeforeModel", name := "image", desc := "()I" } : Jvm.MethodName) ({ cls := "BakedBeforeModel", name := "image", desc := "()I" } : Jvm.MethodName)) ∈ lw_all := lw_g (lw_at lw_m8 32 rfl) rfl
theorem q1799 : (Jvm.Cond.code ({ cls := "BakedBeforeModel", name := "image", desc := "()I" } : Jvm.MethodName) prog_23_method_74_code (1 : Nat) (Option.some Jvm.ClassFile.FieldType.int)) ∈ lw_all := lw_g (lw_at lw_m8 33 rfl) rfl
theorem q1800 : (Jvm.Cond.methodLink "BakedBeforeLaw" (123 : Nat) ({ cls := "BakedBeforeModel", name := "undo", desc := "()I" } : Jvm.MethodName)) ∈ lw_all := lw_g (lw_at lw_m8 34 rfl) rfl
theorem q1801 : (Jvm.Cond.instanceMethod ({ cls := "BakedBeforeModel", name := "undo", desc := "()I" } : Jvm.MethodName)) ∈ lw_all := lw_g (lw_at lw_m8 35 rfl) rfl
theorem q1802 : (Jvm.Cond.selects "BakedBeforeModel" ({ cls := "BakedBeforeModel", name := "undo", desc := "()I" } : Jvm.MethodName) ({ cls := "BakedBeforeModel", name := "undo", desc := "()I" } : Jvm.MethodName)) ∈ lw_all := lw_g (lw_at lw_m8 36 rfl) rfl
theorem q1803 : (Jvm.Cond.code ({ cls := "BakedBeforeModel", name := "undo", desc := "()I" } : Jvm.MethodName) prog_23_method_75_code (1 : Nat) (Option.some Jvm.ClassFile.FieldType.int)) ∈ lw_all := lw_g (lw_at lw_m8 37 rfl) rfl
theorem q1804 : (Jvm.Cond.methodLink "BakedBeforeLaw" (127 : Nat) ({ cls := "BakedBeforeModel", name := "act", desc := "(III)I" } : Jvm.MethodName)) ∈ lw_all := lw_g (lw_at lw_m8 38 rfl) rfl
theorem q1805 : (Jvm.Cond.instanceMethod ({ cls := "BakedBeforeModel", name := "act", desc := "(III)I" } : Jvm.MethodName)) ∈ lw_all := lw_g (lw_at lw_m8 39 rfl) rfl
theorem q1806 : (Jvm.Cond.selects "BakedBeforeModel" ({ cls := "BakedBeforeModel", name := "act", desc := "(III)I" } : Jvm.MethodName) ({ cls := "BakedBeforeModel", name := "act", desc := "(III)I" } : Jvm.MethodName)) ∈ lw_all := lw_g (lw_at lw_m8 40 rfl) rfl
theorem q1807 : (Jvm.Cond.code ({ cls := "BakedBeforeModel", name := "act", desc := "(III)I" } : Jvm.MethodName) prog_23_method_80_code (5 : Nat) (Option.some Jvm.ClassFile.FieldType.int)) ∈ lw_all := lw_g (lw_at lw_m8 41 rfl) rfl
theorem q1808 : (Jvm.Cond.methodLink "BakedBeforeModel" (288 : Nat) ({ cls := "BakedBeforeModel", name := "rises", desc := "(II)I" } : Jvm.MethodName)) ∈ lw_all := lw_g (lw_at lw_m8 42 rfl) rfl
theorem q1809 : (Jvm.Cond.privateMethod ({ cls := "BakedBeforeModel", name := "rises", desc := "(II)I" } : Jvm.MethodName)) ∈ lw_tbl := lw_at lw_m8 43 rfl
theorem q1810 : (Jvm.Cond.instanceMethod ({ cls := "BakedBeforeModel", name := "rises", desc := "(II)I" } : Jvm.MethodName)) ∈ lw_all := lw_g (lw_at lw_m8 44 rfl) rfl
theorem q1811 : (Jvm.Cond.code ({ cls := "BakedBeforeModel", name := "rises", desc := "(II)I" } : Jvm.MethodName) prog_23_method_77_code (3 : Nat) (Option.some Jvm.ClassFile.FieldType.int)) ∈ lw_all := lw_g (lw_at lw_m8 45 rfl) rfl
theorem q1812 : (Jvm.Cond.methodLink "BakedBeforeModel" (284 : Nat) ({ cls := "BakedBeforeModel", name := "runs", desc := "(I)V" } : Jvm.MethodName)) ∈ lw_all := lw_g (lw_at lw_m8 46 rfl) rfl
theorem q1813 : (Jvm.Cond.privateMethod ({ cls := "BakedBeforeModel", name := "runs", desc := "(I)V" } : Jvm.MethodName)) ∈ lw_tbl := lw_at lw_m8 47 rfl
theorem q1814 : (Jvm.Cond.instanceMethod ({ cls := "BakedBeforeModel", name := "runs", desc := "(I)V" } : Jvm.MethodName)) ∈ lw_all := lw_g (lw_at lw_m8 48 rfl) rfl
theorem q1815 : (Jvm.Cond.code ({ cls := "BakedBeforeModel", name := "runs", desc := "(I)V" } : Jvm.MethodName) prog_23_method_76_code (2 : Nat) (Option.none : Option Jvm.ClassFile.FieldType)) ∈ lw_all := lw_g (lw_at lw_m8 49 rfl) rfl
theorem q1816 : (Jvm.Cond.methodLink "BakedBeforeModel" (294 : Nat) ({ cls := "BakedBeforeModel", name := "bakesFrom", desc := "(II)I" } : Jvm.MethodName)) ∈ lw_all := lw_g (lw_at lw_m8 50 rfl) rfl
theorem q1817 : (Jvm.Cond.privateMethod ({ cls := "BakedBeforeModel", name := "bakesFrom", desc := "(II)I" } : Jvm.MethodName)) ∈ lw_tbl := lw_at lw_m8 51 rfl
theorem q1818 : (Jvm.Cond.instanceMethod ({ cls := "BakedBeforeModel", name := "bakesFrom", desc := "(II)I" } : Jvm.MethodName)) ∈ lw_all := lw_g (lw_at lw_m8 52 rfl) rfl
theorem q1819 : (Jvm.Cond.code ({ cls := "BakedBeforeModel", name := "bakesFrom", desc := "(II)I" } : Jvm.MethodName) prog_23_method_78_code (4 : Nat) (Option.some Jvm.ClassFile.FieldType.int)) ∈ lw_all := lw_g (lw_at lw_m8 53 rfl) rfl
theorem q1820 : (Jvm.Cond.methodLink "BakedBeforeModel" (297 : Nat) ({ cls := "BakedBeforeModel", name := "tells", desc := "(II)I" } : Jvm.MethodName)) ∈ lw_all := lw_g (lw_at lw_m8 54 rfl) rfl
theorem q1821 : (Jvm.Cond.privateMethod ({ cls := "BakedBeforeModel", name := "tells", desc := "(II)I" } : Jvm.MethodName)) ∈ lw_tbl := lw_at lw_m8 55 rfl
theorem q1822 : (Jvm.Cond.instanceMethod ({ cls := "BakedBeforeModel", name := "tells", desc := "(II)I" } : Jvm.MethodName)) ∈ lw_all := lw_g (lw_at lw_m8 56 rfl) rfl
theorem q1823 : (Jvm.Cond.code ({ cls := "BakedBeforeModel", name := "tells", desc := "(II)I" } : Jvm.MethodName) prog_23_method_79_code (4 : Nat) (Option.some Jvm.ClassFile.FieldType.int)) ∈ lw_all := lw_g (lw_at lw_m8 57 rfl) rfl
theorem q1824 : (Jvm.Cond.methodLink "BakedBeforeLaw" (131 : Nat) ({ cls := "BakedBeforeModel", name := "trace", desc := "(I)I" } : Jvm.MethodName)) ∈ lw_all := lw_g (lw_at lw_m8 58 rfl) rfl
theorem q1825 : (Jvm.Cond.instanceMethod ({ cls := "BakedBeforeModel", name := "trace", desc := "(I)I" } : Jvm.MethodName)) ∈ lw_all := lw_g (lw_at lw_m8 59 rfl) rfl
theorem q1826 : (Jvm.Cond.selects "BakedBeforeModel" ({ cls := "BakedBeforeModel", name := "trace", desc := "(I)I" } : Jvm.MethodName) ({ cls := "BakedBeforeModel", name := "trace", desc := "(I)I" } : Jvm.MethodName)) ∈ lw_all := lw_g (lw_at lw_m8 60 rfl) rfl
theorem q1827 : (Jvm.Cond.code ({ cls := "BakedBeforeModel", name := "trace", desc := "(I)I" } : Jvm.MethodName) prog_23_method_81_code (2 : Nat) (Option.some Jvm.ClassFile.FieldType.int)) ∈ lw_all := lw_g (lw_at lw_m8 61 rfl) rfl
theorem q1828 : (Jvm.Cond.methodLink "BakedBeforeLaw" (135 : Nat) ({ cls := "BakedBeforeModel", name := "taken", desc := "(II)I" } : Jvm.MethodName)) ∈ lw_all := lw_g (lw_at lw_m8 62 rfl) rfl
theorem q1829 : (Jvm.Cond.instanceMethod ({ cls := "BakedBeforeModel", name := "taken", desc := "(II)I" } : Jvm.MethodName)) ∈ lw_all := lw_g (lw_at lw_m8 63 rfl) rfl
theorem q1830 : (Jvm.Cond.selects "BakedBeforeModel" ({ cls := "BakedBeforeModel", name := "taken", desc := "(II)I" } : Jvm.MethodName) ({ cls := "BakedBeforeModel", name := "taken", desc := "(II)I" } : Jvm.MethodName)) ∈ lw_all := lw_g (lw_at lw_m8 64 rfl) rfl
theorem q1831 : (Jvm.Cond.code ({ cls := "BakedBeforeModel", name := "taken", desc := "(II)I" } : Jvm.MethodName) prog_23_method_83_code (4 : Nat) (Option.some Jvm.ClassFile.FieldType.int)) ∈ lw_all := lw_g (lw_at lw_m8 65 rfl) rfl
theorem q1832 : (Jvm.Cond.methodLink "BakedBeforeModel" (300 : Nat) ({ cls := "BakedBeforeModel", name := "above", desc := "(I)I" } : Jvm.MethodName)) ∈ lw_all := lw_g (lw_at lw_m8 66 rfl) rfl
theorem q1833 : (Jvm.Cond.static ({ cls := "BakedBeforeModel", name := "above", desc := "(I)I" } : Jvm.MethodName)) ∈ lw_all := lw_g (lw_at lw_m8 67 rfl) rfl
theorem q1834 : (Jvm.Cond.code ({ cls := "BakedBeforeModel", name := "above", desc := "(I)I" } : Jvm.MethodName) prog_23_method_82_code (1 : Nat) (Option.some Jvm.ClassFile.FieldType.int)) ∈ lw_all := lw_g (lw_at lw_m8 68 rfl) rfl
theorem q1835 : (Jvm.Cond.methodLink "BakedBeforeLaw" (139 : Nat) ({ cls := "BakedBeforeModel", name := "count", desc := "(I)I" } : Jvm.MethodName)) ∈ lw_all := lw_g (lw_at lw_m8 69 rfl) rfl
theorem q1836 : (Jvm.Cond.instanceMethod ({ cls := "BakedBeforeModel", name := "count", desc := "(I)I" } : Jvm.MethodName)) ∈ lw_all := lw_g (lw_at lw_m8 70 rfl) rfl
theorem q1837 : (Jvm.Cond.selects "BakedBeforeModel" ({ cls := "BakedBeforeModel", name := "count", desc := "(I)I" } : Jvm.MethodName) ({ cls := "BakedBeforeModel", name := "count", desc := "(I)I" } : Jvm.MethodName)) ∈ lw_all := lw_g (lw_at lw_m8 71 rfl) rfl
theorem q1838 : (Jvm.Cond.code ({ cls := "BakedBeforeModel", name := "count", desc := "(I)I" } : Jvm.MethodName) prog_23_method_84_code (2 : Nat) (Option.some Jvm.ClassFile.FieldType.int)) ∈ lw_all := lw_g (lw_at lw_m8 72 rfl) rfl
theorem q1839 : (Jvm.Cond.methodLink "BakedBeforeLaw" (143 : Nat) ({ cls := "BakedBeforeModel", name := "tape", desc := "(III)I" } : Jvm.MethodName)) ∈ lw_all := lw_g (lw_at lw_m8 73 rfl) rfl
theorem q1840 : (Jvm.Cond.instanceMethod ({ cls := "BakedBeforeModel", name := "tape", desc := "(III)I" } : Jvm.MethodName)) ∈ lw_all := lw_g (lw_at lw_m8 74 rfl) rfl
theorem q1841 : (Jvm.Cond.selects "BakedBeforeModel" ({ cls := "BakedBeforeModel", name := "tape", desc := "(III)I" } : Jvm.MethodName) ({ cls := "BakedBeforeModel", name := "tape", desc := "(III)I" } : Jvm.MethodName)) ∈ lw_all := lw_g (lw_at lw_m8 75 rfl) rfl
theorem q1842 : (Jvm.Cond.code ({ cls := "BakedBeforeModel", name := "tape", desc := "(III)I" } : Jvm.MethodName) prog_23_method_85_code (5 : Nat) (Option.some Jvm.ClassFile.FieldType.int)) ∈ lw_all := lw_g (lw_at lw_m8 76 rfl) rfl
theorem q1843 : (Jvm.Cond.methodLink "BakedBeforeLaw" (150 : Nat) ({ cls := "BakedBeforeModel", name := "item", desc := "(IIJ)I" } : Jvm.MethodName)) ∈ lw_all := lw_g (lw_at lw_m8 77 rfl) rfl
theorem q1844 : (Jvm.Cond.instanceMethod ({ cls := "BakedBeforeModel", name := "item", desc := "(IIJ)I" } : Jvm.MethodName)) ∈ lw_all := lw_g (lw_at lw_m8 78 rfl) rfl
theorem q1845 : (Jvm.Cond.selects "BakedBeforeModel" ({ cls := "BakedBeforeModel", name := "item", desc := "(IIJ)I" } : Jvm.MethodName) ({ cls := "BakedBeforeModel", name := "item", desc := "(IIJ)I" } : Jvm.MethodName)) ∈ lw_all := lw_g (lw_at lw_m8 79 rfl) rfl
theorem q1846 : (Jvm.Cond.code ({ cls := "BakedBeforeModel", name := "item", desc := "(IIJ)I" } : Jvm.MethodName) prog_23_method_87_code (5 : Nat) (Option.some Jvm.ClassFile.FieldType.int)) ∈ lw_all := lw_g (lw_at lw_m8 80 rfl) rfl
theorem q1847 : (Jvm.Cond.methodLink "BakedBeforeModel" (303 : Nat) ({ cls := "BakedBeforeModel", name := "kept", desc := "(IJ)J" } : Jvm.MethodName)) ∈ lw_all := lw_g (lw_at lw_m8 81 rfl) rfl
theorem q1848 : (Jvm.Cond.static ({ cls := "BakedBeforeModel", name := "kept", desc := "(IJ)J" } : Jvm.MethodName)) ∈ lw_all := lw_g (lw_at lw_m8 82 rfl) rfl
theorem q1849 : (Jvm.Cond.code ({ cls := "BakedBeforeModel", name := "kept", desc := "(IJ)J" } : Jvm.MethodName) prog_23_method_86_code (3 : Nat) (Option.some Jvm.ClassFile.FieldType.long)) ∈ lw_all := lw_g (lw_at lw_m8 83 rfl) rfl
theorem q1850 : (Jvm.Cond.methodLink "BakedBeforeLaw" (154 : Nat) ({ cls := "BakedBeforeModel", name := "read", desc := "(II)J" } : Jvm.MethodName)) ∈ lw_all := lw_g (lw_at lw_m8 84 rfl) rfl
theorem q1851 : (Jvm.Cond.instanceMethod ({ cls := "BakedBeforeModel", name := "read", desc := "(II)J" } : Jvm.MethodName)) ∈ lw_all := lw_g (lw_at lw_m8 85 rfl) rfl
theorem q1852 : (Jvm.Cond.selects "BakedBeforeModel" ({ cls := "BakedBeforeModel", name := "read", desc := "(II)J" } : Jvm.MethodName) ({ cls := "BakedBeforeModel", name := "read", desc := "(II)J" } : Jvm.MethodName)) ∈ lw_all := lw_g (lw_at lw_m8 86 rfl) rfl
theorem q1853 : (Jvm.Cond.code ({ cls := "BakedBeforeModel", name := "read", desc := "(II)J" } : Jvm.MethodName) prog_23_method_88_code (3 : Nat) (Option.some Jvm.ClassFile.FieldType.long)) ∈ lw_all := lw_g (lw_at lw_m8 87 rfl) rfl
theorem q1854 : (Jvm.Cond.methodLink "BakedBeforeLaw" (159 : Nat) ({ cls := "BakedBeforeModel", name := "shift", desc := "(IIIII)I" } : Jvm.MethodName)) ∈ lw_all := lw_g (lw_at lw_m8 88 rfl) rfl
theorem q1855 : (Jvm.Cond.instanceMethod ({ cls := "BakedBeforeModel", name := "shift", desc := "(IIIII)I" } : Jvm.MethodName)) ∈ lw_all := lw_g (lw_at lw_m8 89 rfl) rfl
theorem q1856 : (Jvm.Cond.selects "BakedBeforeModel" ({ cls := "BakedBeforeModel", name := "shift", desc := "(IIIII)I" } : Jvm.MethodName) ({ cls := "BakedBeforeModel", name := "shift", desc := "(IIIII)I" } : Jvm.MethodName)) ∈ lw_all := lw_g (lw_at lw_m8 90 rfl) rfl
theorem q1857 : (Jvm.Cond.code ({ cls := "BakedBeforeModel", name := "shift", desc := "(IIIII)I" } : Jvm.MethodName) prog_23_method_89_code (8 : Nat) (Option.some Jvm.ClassFile.FieldType.int)) ∈ lw_all := lw_g (lw_at lw_m8 91 rfl) rfl
theorem q1858 : (Jvm.Cond.constantLong "BakedBeforeLaw" (144 : Nat) (4294967295 : Int64)) ∈ lw_all := lw_g (lw_at lw_m8 92 rfl) rfl
theorem q1859 : (Jvm.Cond.sameMethod "BakedBefore$Clean" "BakedBefore$Clean" "taking" "(III)I") ∈ lw_all := lw_g (lw_at lw_m8 93 rfl) rfl
theorem q1860 : (Jvm.Cond.sameMethod "BakedBefore$Holy" "BakedBefore$Holy" "taking" "(III)I") ∈ lw_all := lw_g (lw_at lw_m8 94 rfl) rfl
theorem q1861 : (Jvm.Cond.sameMethod "java/lang/Throwable" "java/lang/Throwable" "fillInStackTrace" "(I)Ljava/lang/Throwable;") ∈ lw_all := lw_g (lw_at lw_m8 95 rfl) rfl
theorem q1862 : (Jvm.Cond.sameMethod "BakedBefore$Clean" "BakedBefore$Clean" "bakes" "(I)I") ∈ lw_all := lw_g (lw_at lw_m8 96 rfl) rfl
theorem q1863 : (Jvm.Cond.initialized "java/lang/Object") ∈ lw_all := lw_g (lw_at lw_m8 97 rfl) rfl
theorem q1864 : (Jvm.Cond.castable "java/lang/ArrayIndexOutOfBoundsException" "java/lang/IndexOutOfBoundsException") ∈ lw_tbl := lw_at lw_m8 98 rfl
theorem q1865 : (Jvm.Cond.castable "BakedBefore$Against" "BakedBefore$Test") ∈ lw_tbl := lw_at lw_m8 99 rfl
theorem q1866 : (Jvm.Cond.castable "BakedBefore$Not" "BakedBefore$Test") ∈ lw_tbl := lw_at lw_m8 100 rfl
theorem q1867 : (Jvm.Cond.castable "BakedBefore$Some" "BakedBefore$Test") ∈ lw_tbl := lw_at lw_m8 101 rfl
theorem q1868 : (Jvm.Cond.castable "BakedBefore$Clean" "BakedBefore$Loaf") ∈ lw_tbl := lw_at lw_m8 102 rfl
theorem q1869 : (Jvm.Cond.castable "BakedBefore$Greedy" "BakedBefore$Loaf") ∈ lw_tbl := lw_at lw_m8 103 rfl
theorem q1870 : (Jvm.Cond.castable "BakedBefore$Holy" "BakedBefore$Loaf") ∈ lw_tbl := lw_at lw_m8 104 rfl
theorem q1871 : (Jvm.Cond.castable "BakedBefore$Poisoned" "BakedBefore$Loaf") ∈ lw_tbl := lw_at lw_m8 105 rfl
theorem q1872 : (Jvm.Cond.castable "BakedBefore$Rye" "BakedBefore$Loaf") ∈ lw_tbl := lw_at lw_m8 106 rfl
theorem q1873 : (Jvm.Cond.castable "BakedBefore$Shy" "BakedBefore$Loaf") ∈ lw_tbl := lw_at lw_m8 107 rfl
theorem q1874 : (Jvm.Cond.castable "BakedBefore$Rye" "BakedBefore$Clean") ∈ lw_tbl := lw_at lw_m8 108 rfl
theorem q1875 : (Jvm.Cond.castable "BakedBefore$Poisoned" "BakedBefore$Greedy") ∈ lw_tbl := lw_at lw_m8 109 rfl
theorem q1876 : (Jvm.Cond.castable "BakedBefore$Shy" "BakedBefore$Holy") ∈ lw_tbl := lw_at lw_m8 110 rfl
theorem q1877 : (Jvm.Cond.castable "BakedBefore$Loaf" "java/lang/Object") ∈ lw_tbl := lw_at lw_m8 111 rfl
theorem q1878 : (Jvm.Cond.castable "BakedBefore$Tape" "java/lang/Object") ∈ lw_tbl := lw_at lw_m8 112 rfl
theorem q1879 : (Jvm.Cond.castable "BakedBefore$Time" "java/lang/Object") ∈ lw_tbl := lw_at lw_m8 113 rfl
theorem q1880 : (Jvm.Cond.castable "BakedBefore" "java/lang/Object") ∈ lw_tbl := lw_at lw_m8 114 rfl
theorem q1881 : (Jvm.Cond.castable "BakedBefore$Kiln" "java/lang/Object") ∈ lw_tbl := lw_at lw_m8 115 rfl
theorem q1882 : (Jvm.Cond.castable "java/util/ArrayList" "java/lang/Object") ∈ lw_tbl := lw_at lw_m8 116 rfl
theorem q1883 : (Jvm.Cond.castable "BakedBefore$Look" "java/lang/Object") ∈ lw_tbl := lw_at lw_m8 117 rfl
theorem q1884 : (Jvm.Cond.castable "BakedBefore$Trace" "java/lang/Object") ∈ lw_tbl := lw_at lw_m8 118 rfl
theorem q1885 : (Jvm.Cond.castable "BakedBeforeModel" "java/lang/Object") ∈ lw_tbl := lw_at lw_m8 119 rfl
theorem q1886 : (Jvm.Cond.castable "BakedBefore$Clean" "java/lang/Object") ∈ lw_tbl := lw_at lw_m8 120 rfl
theorem q1887 : (Jvm.Cond.castable "BakedBefore$Greedy" "java/lang/Object") ∈ lw_tbl := lw_at lw_m8 121 rfl
theorem q1888 : (Jvm.Cond.castable "BakedBefore$Holy" "java/lang/Object") ∈ lw_tbl := lw_at lw_m8 122 rfl
theorem q1889 : (Jvm.Cond.castable "BakedBefore$Rye" "java/lang/Object") ∈ lw_tbl := lw_at lw_m8 123 rfl
theorem q1890 : (Jvm.Cond.castable "BakedBefore$Poisoned" "java/lang/Object") ∈ lw_tbl := lw_at lw_m8 124 rfl
theorem q1891 : (Jvm.Cond.castable "BakedBefore$Shy" "java/lang/Object") ∈ lw_tbl := lw_at lw_m8 125 rfl
theorem q1892 : (Jvm.Cond.castable "BakedBefore$Reader" "java/lang/Object") ∈ lw_tbl := lw_at lw_m8 126 rfl
theorem q1893 : (Jvm.Cond.castable "BakedBefore$Off" "java/lang/Object") ∈ lw_tbl := lw_at lw_m8 127 rfl
theorem q1894 : (Jvm.Cond.castable "BakedBefore$Clause" "java/lang/Object") ∈ lw_tbl := lw_at lw_m8 128 rfl
theorem q1895 : (Jvm.Cond.castable "BakedBefore$Some" "java/lang/Object") ∈ lw_tbl := lw_at lw_m8 129 rfl
theorem q1896 : (Jvm.Cond.castable "BakedBefore$Not" "java/lang/Object") ∈ lw_tbl := lw_at lw_m8 130 rfl
theorem q1897 : (Jvm.Cond.castable "BakedBefore$Against" "java/lang/Object") ∈ lw_tbl := lw_at lw_m8 131 rfl
theorem q1898 : (Jvm.Cond.castable "java/lang/ClassCastException" "java/lang/Object") ∈ lw_tbl := lw_at lw_m8 132 rfl
theorem q1899 : (Jvm.Cond.castable "java/lang/NullPointerException" "java/lang/Object") ∈ lw_tbl := lw_at lw_m8 133 rfl
theorem q1900 : (Jvm.Cond.castable "java/lang/NegativeArraySizeException" "java/lang/Object") ∈ lw_tbl := lw_at lw_m8 134 rfl
theorem q1901 : (Jvm.Cond.castable "java/lang/ArrayStoreException" "java/lang/Object") ∈ lw_tbl := lw_at lw_m8 135 rfl
theorem q1902 : (Jvm.Cond.castable "java/lang/ArrayIndexOutOfBoundsException" "java/lang/Object") ∈ lw_tbl := lw_at lw_m8 136 rfl
theorem q1903 : (Jvm.Cond.castable "java/lang/Throwable" "java/lang/Object") ∈ lw_tbl := lw_at lw_m8 137 rfl
theorem q1904 : (Jvm.Cond.castable "java/lang/String" "java/lang/Object") ∈ lw_tbl := lw_at lw_m8 138 rfl
theorem q1905 : (Jvm.Cond.sameMethod "[Ljava/lang/Object;" "java/lang/Object" "getClass" "()Ljava/lang/Class;") ∈ lw_all := lw_g (lw_at lw_m8 139 rfl) rfl
theorem q1906 : (Jvm.Cond.selects "[Ljava/lang/Object;" ({ cls := "java/lang/Object", name := "getClass", desc := "()Ljava/lang/Class;" } : Jvm.MethodName) ({ cls := "java/lang/Object", name := "getClass", desc := "()Ljava/lang/Class;" } : Jvm.MethodName)) ∈ lw_all := lw_g (lw_at lw_m8 140 rfl) rfl
theorem q1907 : (Jvm.Cond.declares ({ cls := "java/lang/Object", name := "getClass", desc := "()Ljava/lang/Class;" } : Jvm.MethodName)) ∈ lw_tbl := lw_at lw_m8 141 rfl
theorem q1908 : (Jvm.Cond.castable "[LBakedBefore$Loaf;" "java/lang/Object") ∈ lw_tbl := lw_at lw_m8 142 rfl
theorem q1909 : (Jvm.Cond.castable "[I" "java/lang/Object") ∈ lw_tbl := lw_at lw_m8 143 rfl
theorem q1910 : (Jvm.Cond.castable "[B" "java/lang/Object") ∈ lw_tbl := lw_at lw_m8 144 rfl
theorem q1911 : (Jvm.Cond.castable "[LBakedBefore$Tape;" "java/lang/Object") ∈ lw_tbl := lw_at lw_m8 145 rfl
theorem q1912 : (Jvm.Cond.castable "[LBakedBefore$Time;" "java/lang/Object") ∈ lw_tbl := lw_at lw_m8 146 rfl
theorem q1913 : (Jvm.Cond.castable "[Z" "java/lang/Object") ∈ lw_tbl := lw_at lw_m8 147 rfl
theorem q1914 : (Jvm.Cond.castable "[Ljava/lang/Object;" "java/lang/Object") ∈ lw_tbl := lw_at lw_m8 148 rfl
theorem q1915 : (Jvm.Cond.castable "[S" "java/lang/Object") ∈ lw_tbl := lw_at lw_m8 149 rfl
theorem q1916 : (Jvm.Cond.castable "[J" "java/lang/Object") ∈ lw_tbl := lw_at lw_m8 150 rfl
theorem q1917 : (Jvm.Cond.fieldLink "java/lang/String" (9 : Nat) "java/lang/String" "value" "[B") ∈ lw_all := lw_g (lw_at lw_m8 151 rfl) rfl
theorem q1918 : (Jvm.Cond.fieldLink "java/lang/String" (15 : Nat) "java/lang/String" "coder" "B") ∈ lw_all := lw_g (lw_at lw_m8 152 rfl) rfl
