set_option maxRecDepth 100000
theorem q84 : (Jvm.Cond.initialized "WriteOnceDiscLaw") ∈ lw_all := lw_g (lw_at lw_m1 0 rfl) rfl
theorem q85 : (Jvm.Cond.initialized "WriteOnceDisc") ∈ lw_all := lw_g (lw_at lw_m1 1 rfl) rfl
theorem q86 : (Jvm.Cond.initialized "WriteOnceDisc$Power") ∈ lw_all := lw_g (lw_at lw_m1 2 rfl) rfl
theorem q87 : (Jvm.Cond.initialized "WriteOnceDisc$Burner") ∈ lw_all := lw_g (lw_at lw_m1 3 rfl) rfl
theorem q88 : (Jvm.Cond.initialized "java/util/AbstractCollection") ∈ lw_all := lw_g (lw_at lw_m1 4 rfl) rfl
theorem q89 : (Jvm.Cond.initialized "java/util/AbstractList") ∈ lw_all := lw_g (lw_at lw_m1 5 rfl) rfl
theorem q90 : (Jvm.Cond.initialized "java/util/ArrayList") ∈ lw_all := lw_g (lw_at lw_m1 6 rfl) rfl
theorem q91 : (Jvm.Cond.initialized "WriteOnceDisc$Page") ∈ lw_all := lw_g (lw_at lw_m1 7 rfl) rfl
theorem q92 : (Jvm.Cond.initialized "WriteOnceDisc$Tree") ∈ lw_all := lw_g (lw_at lw_m1 8 rfl) rfl
theorem q93 : (Jvm.Cond.initialized "WriteOnceDisc$Node") ∈ lw_all := lw_g (lw_at lw_m1 9 rfl) rfl
theorem q94 : (Jvm.Cond.initialized "java/lang/AbstractStringBuilder") ∈ lw_all := lw_g (lw_at lw_m1 10 rfl) rfl
theorem q95 : (Jvm.Cond.initialized "java/lang/StringBuilder") ∈ lw_all := lw_g (lw_at lw_m1 11 rfl) rfl
theorem q96 : (Jvm.Cond.initialized "java/lang/String") ∈ lw_all := lw_g (lw_at lw_m1 12 rfl) rfl
theorem q97 : (Jvm.Cond.initialized "java/lang/StringUTF16") ∈ lw_all := lw_g (lw_at lw_m1 13 rfl) rfl
theorem q98 : (Jvm.Cond.initialized "jdk/internal/util/ArraysSupport") ∈ lw_all := lw_g (lw_at lw_m1 14 rfl) rfl
theorem q99 : (Jvm.Cond.initialized "java/lang/Math") ∈ lw_all := lw_g (lw_at lw_m1 15 rfl) rfl
theorem q100 : (Jvm.Cond.initialized "java/util/Arrays") ∈ lw_all := lw_g (lw_at lw_m1 16 rfl) rfl
theorem q101 : (Jvm.Cond.initialized "java/lang/System") ∈ lw_all := lw_g (lw_at lw_m1 17 rfl) rfl
theorem q102 : (Jvm.Cond.initialized "jdk/internal/util/Preconditions") ∈ lw_all := lw_g (lw_at lw_m1 18 rfl) rfl
theorem q103 : (Jvm.Cond.initialized "java/lang/StringLatin1") ∈ lw_all := lw_g (lw_at lw_m1 19 rfl) rfl
theorem q104 : (Jvm.Cond.initialized "WriteOnceDisc$Medium") ∈ lw_all := lw_g (lw_at lw_m1 20 rfl) rfl
theorem q105 : (Jvm.Cond.initialized "WriteOnceDisc$Reader") ∈ lw_all := lw_g (lw_at lw_m1 21 rfl) rfl
theorem q106 : (Jvm.Cond.initialized "WriteOnceDiscModel") ∈ lw_all := lw_g (lw_at lw_m1 22 rfl) rfl
theorem q107 : (Jvm.Cond.initialized "java/util/Objects") ∈ lw_all := lw_g (lw_at lw_m1 23 rfl) rfl
theorem q108 : (Jvm.Cond.initialized "WriteOnceDisc$Found") ∈ lw_all := lw_g (lw_at lw_m1 24 rfl) rfl
theorem q109 : (Jvm.Cond.initialized "java/lang/Throwable") ∈ lw_all := lw_g (lw_at lw_m1 25 rfl) rfl
theorem q110 : (Jvm.Cond.initialized "java/lang/Exception") ∈ lw_all := lw_g (lw_at lw_m1 26 rfl) rfl
theorem q111 : (Jvm.Cond.initialized "java/lang/RuntimeException") ∈ lw_all := lw_g (lw_at lw_m1 27 rfl) rfl
theorem q112 : (Jvm.Cond.initialized "java/util/NoSuchElementException") ∈ lw_all := lw_g (lw_at lw_m1 28 rfl) rfl
theorem q113 : (Jvm.Cond.classLink "WriteOnceDiscLaw" (8 : Nat) "WriteOnceDisc") ∈ lw_all := lw_g (lw_at lw_m1 29 rfl) rfl
theorem q114 : (Jvm.Cond.instantiable "WriteOnceDisc" (11 : Nat)) ∈ lw_all := lw_g (lw_at lw_m1 30 rfl) rfl
theorem q115 : (Jvm.Cond.methodLink "WriteOnceDiscLaw" (34 : Nat) ({ cls := "WriteOnceDisc", name := "<init>", desc := "(I)V" } : Jvm.MethodName)) ∈ lw_all := lw_g (lw_at lw_m1 31 rfl) rfl
theorem q116 : (Jvm.Cond.instanceMethod ({ cls := "WriteOnceDisc", name := "<init>", desc := "(I)V" } : Jvm.MethodName)) ∈ lw_all := lw_g (lw_at lw_m1 32 rfl) rfl
theorem q117 : (Jvm.Cond.code ({ cls := "WriteOnceDisc", name := "<init>", desc := "(I)V" } : Jvm.MethodName) prog_1_method_4_code (3 : Nat) (Option.none : Option Jvm.ClassFile.FieldType)) ∈ lw_all := lw_g (lw_at lw_m1 33 rfl) rfl
theorem q118 : (Jvm.Cond.methodLink "WriteOnceDisc" (33 : Nat) ({ cls := "java/lang/Object", name := "<init>", desc := "()V" } : Jvm.MethodName)) ∈ lw_all := lw_g (lw_at lw_m1 34 rfl) rfl
theorem q119 : (Jvm.Cond.instanceMethod ({ cls := "java/lang/Object", name := "<init>", desc := "()V" } : Jvm.MethodName)) ∈ lw_all := lw_g (lw_at lw_m1 35 rfl) rfl
theorem q120 : (Jvm.Cond.code ({ cls := "java/lang/Object", name := "<init>", desc := "()V" } : Jvm.MethodName) object_method_1_code (1 : Nat) (Option.none : Option Jvm.ClassFile.FieldType)) ∈ lw_all := lw_g (lw_at lw_m1 36 rfl) rfl
theorem q121 : (Jvm.Cond.classLink "WriteOnceDisc" (36 : Nat) "WriteOnceDisc$Power") ∈ lw_all := lw_g (lw_at lw_m1 37 rfl) rfl
theorem q122 : (Jvm.Cond.instantiable "WriteOnceDisc$Power" (3 : Nat)) ∈ lw_all := lw_g (lw_at lw_m1 38 rfl) rfl
theorem q123 : (Jvm.Cond.methodLinkNest "WriteOnceDisc" (38 : Nat) ({ cls := "WriteOnceDisc$Power", name := "<init>", desc := "()V" } : Jvm.MethodName) "WriteOnceDisc") ∈ lw_tbl := lw_at lw_m1 39 rfl
theorem q124 : (Jvm.Cond.instanceMethod ({ cls := "WriteOnceDisc$Power", name := "<init>", desc := "()V" } : Jvm.MethodName)) ∈ lw_all := lw_g (lw_at lw_m1 40 rfl) rfl
theorem q125 : (Jvm.Cond.code ({ cls := "WriteOnceDisc$Power", name := "<init>", desc := "()V" } : Jvm.MethodName) prog_7_method_1_code (1 : Nat) (Option.none : Option Jvm.ClassFile.FieldType)) ∈ lw_all := lw_g (lw_at lw_m1 41 rfl) rfl
theorem q126 : (Jvm.Cond.methodLink "WriteOnceDisc$Power" (3 : Nat) ({ cls := "java/lang/Object", name := "<init>", desc := "()V" } : Jvm.MethodName)) ∈ lw_all := lw_g (lw_at lw_m1 42 rfl) rfl
theorem q127 : (Jvm.Cond.fieldLink "WriteOnceDisc$Power" (9 : Nat) "WriteOnceDisc$Power" "left" "I") ∈ lw_all := lw_g (lw_at lw_m1 43 rfl) rfl
theorem q128 : (Jvm.Cond.fieldLink "WriteOnceDisc" (102 : Nat) "WriteOnceDisc$Power" "left" "I") ∈ lw_all := lw_g (lw_at lw_m1 44 rfl) rfl
theorem q129 : (Jvm.Cond.fieldLink "WriteOnceDisc$Power" (15 : Nat) "WriteOnceDisc$Power" "writes" "I") ∈ lw_all := lw_g (lw_at lw_m1 45 rfl) rfl
theorem q130 : (Jvm.Cond.fieldLink "WriteOnceDisc" (271 : Nat) "WriteOnceDisc$Power" "writes" "I") ∈ lw_all := lw_g (lw_at lw_m1 46 rfl) rfl
theorem q131 : (Jvm.Cond.fieldLink "WriteOnceDisc$Power" (18 : Nat) "WriteOnceDisc$Power" "lost" "Z") ∈ lw_all := lw_g (lw_at lw_m1 47 rfl) rfl
theorem q132 : (Jvm.Cond.fieldLink "WriteOnceDisc$Burner" (98 : Nat) "WriteOnceDisc$Power" "lost" "Z") ∈ lw_all := lw_g (lw_at lw_m1 48 rfl) rfl
theorem q133 : (Jvm.Cond.fieldLink "WriteOnceDisc" (115 : Nat) "WriteOnceDisc$Power" "lost" "Z") ∈ lw_all := lw_g (lw_at lw_m1 49 rfl) rfl
theorem q134 : (Jvm.Cond.lays "WriteOnceDisc$Power" "WriteOnceDisc$Power" "left" "I") ∈ lw_all := lw_g (lw_at lw_m1 50 rfl) rfl
theorem q135 : (Jvm.Cond.soleField "WriteOnceDisc$Power" "left") ∈ lw_all := lw_g (lw_at lw_m1 51 rfl) rfl
theorem q136 : (Jvm.Cond.lays "WriteOnceDisc$Power" "WriteOnceDisc$Power" "writes" "I") ∈ lw_all := lw_g (lw_at lw_m1 52 rfl) rfl
theorem q137 : (Jvm.Cond.soleField "WriteOnceDisc$Power" "writes") ∈ lw_all := lw_g (lw_at lw_m1 53 rfl) rfl
theorem q138 : (Jvm.Cond.lays "WriteOnceDisc$Power" "WriteOnceDisc$Power" "lost" "Z") ∈ lw_all := lw_g (lw_at lw_m1 54 rfl) rfl
theorem q139 : (Jvm.Cond.soleField "WriteOnceDisc$Power" "lost") ∈ lw_all := lw_g (lw_at lw_m1 55 rfl) rfl
theorem q140 : (Jvm.Cond.superclass "WriteOnceDisc$Power" "java/lang/Object") ∈ lw_all := lw_g (lw_at lw_m1 56 rfl) rfl
theorem q141 : (Jvm.Cond.classLink "WriteOnceDisc" (43 : Nat) "WriteOnceDisc$Burner") ∈ lw_all := lw_g (lw_at lw_m1 57 rfl) rfl
theorem q142 : (Jvm.Cond.instantiable "WriteOnceDisc$Burner" (6 : Nat)) ∈ lw_all := lw_g (lw_at lw_m1 58 rfl) rfl
theorem q143 : (Jvm.Cond.methodLink "WriteOnceDisc" (45 : Nat) ({ cls := "WriteOnceDisc$Burner", name := "<init>", desc := "(LWriteOnceDisc$Power;)V" } : Jvm.MethodName)) ∈ lw_all := lw_g (lw_at lw_m1 59 rfl) rfl
theorem q144 : (Jvm.Cond.instanceMethod ({ cls := "WriteOnceDisc$Burner", name := "<init>", desc := "(LWriteOnceDisc$Power;)V" } : Jvm.MethodName)) ∈ lw_all := lw_g (lw_at lw_m1 60 rfl) rfl
theorem q145 : (Jvm.Cond.code ({ cls := "WriteOnceDisc$Burner", name := "<init>", desc := "(LWriteOnceDisc$Power;)V" } : Jvm.MethodName) prog_2_method_1_code (2 : Nat) (Option.none : Option Jvm.ClassFile.FieldType)) ∈ lw_all := lw_g (lw_at lw_m1 61 rfl) rfl
theorem q146 : (Jvm.Cond.methodLink "WriteOnceDisc$Burner" (3 : Nat) ({ cls := "java/lang/Object", name := "<init>", desc := "()V" } : Jvm.MethodName)) ∈ lw_all := lw_g (lw_at lw_m1 62 rfl) rfl
theorem q147 : (Jvm.Cond.classLink "WriteOnceDisc$Burner" (9 : Nat) "java/util/ArrayList") ∈ lw_all := lw_g (lw_at lw_m1 63 rfl) rfl
theorem q148 : (Jvm.Cond.instantiable "java/util/ArrayList" (3 : Nat)) ∈ lw_all := lw_g (lw_at lw_m1 64 rfl) rfl
theorem q149 : (Jvm.Cond.methodLink "WriteOnceDisc$Burner" (11 : Nat) ({ cls := "java/util/ArrayList", name := "<init>", desc := "()V" } : Jvm.MethodName)) ∈ lw_all := lw_g (lw_at lw_m1 65 rfl) rfl
theorem q150 : (Jvm.Cond.instanceMethod ({ cls := "java/util/ArrayList", name := "<init>", desc := "()V" } : Jvm.MethodName)) ∈ lw_all := lw_g (lw_at lw_m1 66 rfl) rfl
theorem q151 : (Jvm.Cond.code ({ cls := "java/util/ArrayList", name := "<init>", desc := "()V" } : Jvm.MethodName) prog_27_method_2_code (1 : Nat) (Option.none : Option Jvm.ClassFile.FieldType)) ∈ lw_all := lw_g (lw_at lw_m1 67 rfl) rfl
theorem q152 : (Jvm.Cond.methodLink "java/util/ArrayList" (1 : Nat) ({ cls := "java/util/AbstractList", name := "<init>", desc := "()V" } : Jvm.MethodName)) ∈ lw_all := lw_g (lw_at lw_m1 68 rfl) rfl
theorem q153 : (Jvm.Cond.instanceMethod ({ cls := "java/util/AbstractList", name := "<init>", desc := "()V" } : Jvm.MethodName)) ∈ lw_all := lw_g (lw_at lw_m1 69 rfl) rfl
theorem q154 : (Jvm.Cond.code ({ cls := "java/util/AbstractList", name := "<init>", desc := "()V" } : Jvm.MethodName) prog_26_method_1_code (1 : Nat) (Option.none : Option Jvm.ClassFile.FieldType)) ∈ lw_all := lw_g (lw_at lw_m1 70 rfl) rfl
theorem q155 : (Jvm.Cond.methodLink "java/util/AbstractList" (1 : Nat) ({ cls := "java/util/AbstractCollection", name := "<init>", desc := "()V" } : Jvm.MethodName)) ∈ lw_all := lw_g (lw_at lw_m1 71 rfl) rfl
theorem q156 : (Jvm.Cond.instanceMethod ({ cls := "java/util/AbstractCollection", name := "<init>", desc := "()V" } : Jvm.MethodName)) ∈ lw_all := lw_g (lw_at lw_m1 72 rfl) rfl
theorem q157 : (Jvm.Cond.code ({ cls := "java/util/AbstractCollection", name := "<init>", desc := "()V" } : Jvm.MethodName) prog_25_method_1_code (1 : Nat) (Option.none : Option Jvm.ClassFile.FieldType)) ∈ lw_all := lw_g (lw_at lw_m1 73 rfl) rfl
theorem q158 : (Jvm.Cond.methodLink "java/util/AbstractCollection" (1 : Nat) ({ cls := "java/lang/Object", name := "<init>", desc := "()V" } : Jvm.MethodName)) ∈ lw_all := lw_g (lw_at lw_m1 74 rfl) rfl
theorem q159 : (Jvm.Cond.fieldLink "java/util/ArrayList" (39 : Nat) "java/util/ArrayList" "DEFAULTCAPACITY_EMPTY_ELEMENTDATA" "[Ljava/lang/Object;") ∈ lw_all := lw_g (lw_at lw_m1 75 rfl) rfl
theorem q160 : (Jvm.Cond.laysStatic "java/util/ArrayList" "DEFAULTCAPACITY_EMPTY_ELEMENTDATA" "[Ljava/lang/Object;") ∈ lw_tbl := lw_at lw_m1 76 rfl
theorem q161 : (Jvm.Cond.fieldLink "java/util/ArrayList" (9 : Nat) "java/util/ArrayList" "elementData" "[Ljava/lang/Object;") ∈ lw_all := lw_g (lw_at lw_m1 77 rfl) rfl
theorem q162 : (Jvm.Cond.fieldLink "java/util/ArrayList" (48 : Nat) "java/util/ArrayList" "size" "I") ∈ lw_all := lw_g (lw_at lw_m1 78 rfl) rfl
theorem q163 : (Jvm.Cond.fieldLink "java/util/AbstractList" (7 : Nat) "java/util/AbstractList" "modCount" "I") ∈ lw_all := lw_g (lw_at lw_m1 79 rfl) rfl
theorem q164 : (Jvm.Cond.fieldLink "java/util/ArrayList" (63 : Nat) "java/util/ArrayList" "modCount" "I") ∈ lw_all := lw_g (lw_at lw_m1 80 rfl) rfl
theorem q165 : (Jvm.Cond.sameField "java/util/ArrayList" "java/util/AbstractList" "modCount" "I") ∈ lw_all := lw_g (lw_at lw_m1 81 rfl) rfl
theorem q166 : (Jvm.Cond.lays "java/util/ArrayList" "java/util/ArrayList" "elementData" "[Ljava/lang/Object;") ∈ lw_all := lw_g (lw_at lw_m1 82 rfl) rfl
theorem q167 : (Jvm.Cond.soleField "java/util/ArrayList" "elementData") ∈ lw_all := lw_g (lw_at lw_m1 83 rfl) rfl
theorem q168 : (Jvm.Cond.lays "java/util/ArrayList" "java/util/ArrayList" "size" "I") ∈ lw_all := lw_g (lw_at lw_m1 84 rfl) rfl
theorem q169 : (Jvm.Cond.soleField "java/util/ArrayList" "size") ∈ lw_all := lw_g (lw_at lw_m1 85 rfl) rfl
theorem q170 : (Jvm.Cond.lays "java/util/ArrayList" "java/util/AbstractList" "modCount" "I") ∈ lw_all := lw_g (lw_at lw_m1 86 rfl) rfl
theorem q171 : (Jvm.Cond.soleField "java/util/AbstractList" "modCount") ∈ lw_all := lw_g (lw_at lw_m1 87 rfl) rfl
theorem q172 : (Jvm.Cond.superclass "java/util/ArrayList" "java/util/AbstractList") ∈ lw_all := lw_g (lw_at lw_m1 88 rfl) rfl
theorem q173 : (Jvm.Cond.classLink "WriteOnceDisc$Burner" (18 : Nat) "WriteOnceDisc$Page") ∈ lw_all := lw_g (lw_at lw_m1 89 rfl) rfl
theorem q174 : (Jvm.Cond.instantiable "WriteOnceDisc$Page" (1 : Nat)) ∈ lw_all := lw_g (lw_at lw_m1 90 rfl) rfl
theorem q175 : (Jvm.Cond.methodLinkNest "WriteOnceDisc$Burner" (20 : Nat) ({ cls := "WriteOnceDisc$Page", name := "<init>", desc := "()V" } : Jvm.MethodName) "WriteOnceDisc") ∈ lw_tbl := lw_at lw_m1 91 rfl
theorem q176 : (Jvm.Cond.instanceMethod ({ cls := "WriteOnceDisc$Page", name := "<init>", desc := "()V" } : Jvm.MethodName)) ∈ lw_all := lw_g (lw_at lw_m1 92 rfl) rfl
theorem q177 : (Jvm.Cond.code ({ cls := "WriteOnceDisc$Page", name := "<init>", desc := "()V" } : Jvm.MethodName) prog_6_method_1_code (1 : Nat) (Option.none : Option Jvm.ClassFile.FieldType)) ∈ lw_all := lw_g (lw_at lw_m1 93 rfl) rfl
theorem q178 : (Jvm.Cond.methodLink "WriteOnceDisc$Page" (3 : Nat) ({ cls := "java/lang/Object", name := "<init>", desc := "()V" } : Jvm.MethodName)) ∈ lw_all := lw_g (lw_at lw_m1 94 rfl) rfl
theorem q179 : (Jvm.Cond.fieldLink "WriteOnceDisc$Page" (9 : Nat) "WriteOnceDisc$Page" "bytes" "[B") ∈ lw_all := lw_g (lw_at lw_m1 95 rfl) rfl
theorem q180 : (Jvm.Cond.fieldLink "WriteOnceDisc$Burner" (60 : Nat) "WriteOnceDisc$Page" "bytes" "[B") ∈ lw_all := lw_g (lw_at lw_m1 96 rfl) rfl
theorem q181 : (Jvm.Cond.laysFinal "WriteOnceDisc$Page" "WriteOnceDisc$Page" "bytes" "[B") ∈ lw_all := lw_g (lw_at lw_m1 97 rfl) rfl
theorem q182 : (Jvm.Cond.soleField "WriteOnceDisc$Page" "bytes") ∈ lw_all := lw_g (lw_at lw_m1 98 rfl) rfl
theorem q183 : (Jvm.Cond.superclass "WriteOnceDisc$Page" "java/lang/Object") ∈ lw_all := lw_g (lw_at lw_m1 99 rfl) rfl
theorem q184 : (Jvm.Cond.arrayClass Jvm.ClassFile.FieldType.byte) ∈ lw_all := lw_g (lw_at lw_m1 100 rfl) rfl
theorem q185 : (Jvm.Cond.fieldLink "WriteOnceDisc$Burner" (38 : Nat) "WriteOnceDisc$Burner" "medium" "LWriteOnceDisc$Medium;") ∈ lw_all := lw_g (lw_at lw_m1 101 rfl) rfl
theorem q186 : (Jvm.Cond.fieldLink "WriteOnceDisc$Burner" (71 : Nat) "WriteOnceDisc$Burner" "old" "LWriteOnceDisc$Medium;") ∈ lw_all := lw_g (lw_at lw_m1 102 rfl) rfl
theorem q187 : (Jvm.Cond.fieldLink "WriteOnceDisc$Burner" (25 : Nat) "WriteOnceDisc$Burner" "power" "LWriteOnceDisc$Power;") ∈ lw_all := lw_g (lw_at lw_m1 103 rfl) rfl
theorem q188 : (Jvm.Cond.fieldLink "WriteOnceDisc$Burner" (123 : Nat) "WriteOnceDisc$Burner" "tree" "LWriteOnceDisc$Tree;") ∈ lw_all := lw_g (lw_at lw_m1 104 rfl) rfl
theorem q189 : (Jvm.Cond.fieldLink "WriteOnceDisc$Burner" (12 : Nat) "WriteOnceDisc$Burner" "table" "Ljava/util/ArrayList;") ∈ lw_all := lw_g (lw_at lw_m1 105 rfl) rfl
theorem q190 : (Jvm.Cond.fieldLink "WriteOnceDisc$Burner" (21 : Nat) "WriteOnceDisc$Burner" "page" "LWriteOnceDisc$Page;") ∈ lw_all := lw_g (lw_at lw_m1 106 rfl) rfl
theorem q191 : (Jvm.Cond.lays "WriteOnceDisc$Burner" "WriteOnceDisc$Burner" "medium" "LWriteOnceDisc$Medium;") ∈ lw_all := lw_g (lw_at lw_m1 107 rfl) rfl
theorem q192 : (Jvm.Cond.soleField "WriteOnceDisc$Burner" "medium") ∈ lw_all := lw_g (lw_at lw_m1 108 rfl) rfl
theorem q193 : (Jvm.Cond.lays "WriteOnceDisc$Burner" "WriteOnceDisc$Burner" "old" "LWriteOnceDisc$Medium;") ∈ lw_all := lw_g (lw_at lw_m1 109 rfl) rfl
theorem q194 : (Jvm.Cond.soleField "WriteOnceDisc$Burner" "old") ∈ lw_all := lw_g (lw_at lw_m1 110 rfl) rfl
theorem q195 : (Jvm.Cond.laysFinal "WriteOnceDisc$Burner" "WriteOnceDisc$Burner" "power" "LWriteOnceDisc$Power;") ∈ lw_all := lw_g (lw_at lw_m1 111 rfl) rfl
theorem q196 : (Jvm.Cond.soleField "WriteOnceDisc$Burner" "power") ∈ lw_all := lw_g (lw_at lw_m1 112 rfl) rfl
theorem q197 : (Jvm.Cond.lays "WriteOnceDisc$Burner" "WriteOnceDisc$Burner" "tree" "LWriteOnceDisc$Tree;") ∈ lw_all := lw_g (lw_at lw_m1 113 rfl) rfl
theorem q198 : (Jvm.Cond.soleField "WriteOnceDisc$Burner" "tree") ∈ lw_all := lw_g (lw_at lw_m1 114 rfl) rfl
theorem q199 : (Jvm.Cond.laysFinal "WriteOnceDisc$Burner" "WriteOnceDisc$Burner" "table" "Ljava/util/ArrayList;") ∈ lw_all := lw_g (lw_at lw_m1 115 rfl) rfl
theorem q200 : (Jvm.Cond.soleField "WriteOnceDisc$Burner" "table") ∈ lw_all := lw_g (lw_at lw_m1 116 rfl) rfl
theorem q201 : (Jvm.Cond.laysFinal "WriteOnceDisc$Burner" "WriteOnceDisc$Burner" "page" "LWriteOnceDisc$Page;") ∈ lw_all := lw_g (lw_at lw_m1 117 rfl) rfl
theorem q202 : (Jvm.Cond.soleField "WriteOnceDisc$Burner" "page") ∈ lw_all := lw_g (lw_at lw_m1 118 rfl) rfl
theorem q203 : (Jvm.Cond.superclass "WriteOnceDisc$Burner" "java/lang/Object") ∈ lw_all := lw_g (lw_at lw_m1 119 rfl) rfl
theorem q204 : (Jvm.Cond.classLink "WriteOnceDisc" (52 : Nat) "WriteOnceDisc$Tree") ∈ lw_all := lw_g (lw_at lw_m1 120 rfl) rfl
theorem q205 : (Jvm.Cond.instantiable "WriteOnceDisc$Tree" (2 : Nat)) ∈ lw_all := lw_g (lw_at lw_m1 121 rfl) rfl
theorem q206 : (Jvm.Cond.methodLink "WriteOnceDisc" (54 : Nat) ({ cls := "WriteOnceDisc$Tree", name := "<init>", desc := "()V" } : Jvm.MethodName)) ∈ lw_all := lw_g (lw_at lw_m1 122 rfl) rfl
theorem q207 : (Jvm.Cond.instanceMethod ({ cls := "WriteOnceDisc$Tree", name := "<init>", desc := "()V" } : Jvm.MethodName)) ∈ lw_all := lw_g (lw_at lw_m1 123 rfl) rfl
theorem q208 : (Jvm.Cond.code ({ cls := "WriteOnceDisc$Tree", name := "<init>", desc := "()V" } : Jvm.MethodName) prog_9_method_1_code (1 : Nat) (Option.none : Option Jvm.ClassFile.FieldType)) ∈ lw_all := lw_g (lw_at lw_m1 124 rfl) rfl
theorem q209 : (Jvm.Cond.methodLink "WriteOnceDisc$Tree" (3 : Nat) ({ cls := "java/lang/Object", name := "<init>", desc := "()V" } : Jvm.MethodName)) ∈ lw_all := lw_g (lw_at lw_m1 125 rfl) rfl
theorem q210 : (Jvm.Cond.classLink "WriteOnceDisc$Tree" (9 : Nat) "java/util/ArrayList") ∈ lw_all := lw_g (lw_at lw_m1 126 rfl) rfl
theorem q211 : (Jvm.Cond.methodLink "WriteOnceDisc$Tree" (11 : Nat) ({ cls := "java/util/ArrayList", name := "<init>", desc := "()V" } : Jvm.MethodName)) ∈ lw_all := lw_g (lw_at lw_m1 127 rfl) rfl
theorem q212 : (Jvm.Cond.classLink "WriteOnceDisc$Tree" (18 : Nat) "WriteOnceDisc$Node") ∈ lw_all := lw_g (lw_at lw_m1 128 rfl) rfl
theorem q213 : (Jvm.Cond.instantiable "WriteOnceDisc$Node" (12 : Nat)) ∈ lw_all := lw_g (lw_at lw_m1 129 rfl) rfl
theorem q214 : (Jvm.Cond.stringRef "WriteOnceDisc$Tree" (20 : Nat) "") ∈ lw_tbl := lw_at lw_m1 130 rfl
theorem q215 : (Jvm.Cond.methodLink "WriteOnceDisc$Tree" (22 : Nat) ({ cls := "WriteOnceDisc$Node", name := "<init>", desc := "(IIZLjava/lang/String;)V" } : Jvm.MethodName)) ∈ lw_all := lw_g (lw_at lw_m1 131 rfl) rfl
theorem q216 : (Jvm.Cond.instanceMethod ({ cls := "WriteOnceDisc$Node", name := "<init>", desc := "(IIZLjava/lang/String;)V" } : Jvm.MethodName)) ∈ lw_all := lw_g (lw_at lw_m1 132 rfl) rfl
theorem q217 : (Jvm.Cond.code ({ cls := "WriteOnceDisc$Node", name := "<init>", desc := "(IIZLjava/lang/String;)V" } : Jvm.MethodName) prog_5_method_1_code (5 : Nat) (Option.none : Option Jvm.ClassFile.FieldType)) ∈ lw_all := lw_g (lw_at lw_m1 133 rfl) rfl
theorem q218 : (Jvm.Cond.methodLink "WriteOnceDisc$Node" (3 : Nat) ({ cls := "java/lang/Object", name := "<init>", desc := "()V" } : Jvm.MethodName)) ∈ lw_all := lw_g (lw_at lw_m1 134 rfl) rfl
theorem q219 : (Jvm.Cond.methodLink "WriteOnceDisc$Node" (22 : Nat) ({ cls := "WriteOnceDisc$Node", name := "call", desc := "(Ljava/lang/String;)V" } : Jvm.MethodName)) ∈ lw_all := lw_g (lw_at lw_m1 135 rfl) rfl
theorem q220 : (Jvm.Cond.instanceMethod ({ cls := "WriteOnceDisc$Node", name := "call", desc := "(Ljava/lang/String;)V" } : Jvm.MethodName)) ∈ lw_all := lw_g (lw_at lw_m1 136 rfl) rfl
theorem q221 : (Jvm.Cond.selects "WriteOnceDisc$Node" ({ cls := "WriteOnceDisc$Node", name := "call", desc := "(Ljava/lang/String;)V" } : Jvm.MethodName) ({ cls := "WriteOnceDisc$Node", name := "call", desc := "(Ljava/lang/String;)V" } : Jvm.MethodName)) ∈ lw_all := lw_g (lw_at lw_m1 137 rfl) rfl
theorem q222 : (Jvm.Cond.code ({ cls := "WriteOnceDisc$Node", name := "call", desc := "(Ljava/lang/String;)V" } : Jvm.MethodName) prog_5_method_2_code (2 : Nat) (Option.none : Option Jvm.ClassFile.FieldType)) ∈ lw_all := lw_g (lw_at lw_m1 138 rfl) rfl
theorem q223 : (Jvm.Cond.classLink "WriteOnceDisc$Node" (30 : Nat) "java/lang/StringBuilder") ∈ lw_all := lw_g (lw_at lw_m1 139 rfl) rfl
theorem q224 : (Jvm.Cond.instantiable "java/lang/StringBuilder" (4 : Nat)) ∈ lw_all := lw_g (lw_at lw_m1 140 rfl) rfl
theorem q225 : (Jvm.Cond.methodLink "WriteOnceDisc$Node" (32 : Nat) ({ cls := "java/lang/StringBuilder", name := "<init>", desc := "()V" } : Jvm.MethodName)) ∈ lw_all := lw_g (lw_at lw_m1 141 rfl) rfl
theorem q226 : (Jvm.Cond.instanceMethod ({ cls := "java/lang/StringBuilder", name := "<init>", desc := "()V" } : Jvm.MethodName)) ∈ lw_all := lw_g (lw_at lw_m1 142 rfl) rfl
theorem q227 : (Jvm.Cond.code ({ cls := "java/lang/StringBuilder", name := "<init>", desc := "()V" } : Jvm.MethodName) prog_20_method_1_code (1 : Nat) (Option.none : Option Jvm.ClassFile.FieldType)) ∈ lw_all := lw_g (lw_at lw_m1 143 rfl) rfl
theorem q228 : (Jvm.Cond.methodLink "java/lang/StringBuilder" (1 : Nat) ({ cls := "java/lang/AbstractStringBuilder", name := "<init>", desc := "(I)V" } : Jvm.MethodName)) ∈ lw_all := lw_g (lw_at lw_m1 144 rfl) rfl
theorem q229 : (Jvm.Cond.instanceMethod ({ cls := "java/lang/AbstractStringBuilder", name := "<init>", desc := "(I)V" } : Jvm.MethodName)) ∈ lw_all := lw_g (lw_at lw_m1 145 rfl) rfl
theorem q230 : (Jvm.Cond.code ({ cls := "java/lang/AbstractStringBuilder", name := "<init>", desc := "(I)V" } : Jvm.MethodName) prog_13_method_2_code (2 : Nat) (Option.none : Option Jvm.ClassFile.FieldType)) ∈ lw_all := lw_g (lw_at lw_m1 146 rfl) rfl
theorem q231 : (Jvm.Cond.methodLink "java/lang/AbstractStringBuilder" (3 : Nat) ({ cls := "java/lang/Object", name := "<init>", desc := "()V" } : Jvm.MethodName)) ∈ lw_all := lw_g (lw_at lw_m1 147 rfl) rfl
theorem q232 : (Jvm.Cond.fieldLink "java/lang/AbstractStringBuilder" (18 : Nat) "java/lang/String" "COMPACT_STRINGS" "Z") ∈ lw_all := lw_g (lw_at lw_m1 148 rfl) rfl
theorem q233 : (Jvm.Cond.laysStatic "java/lang/String" "COMPACT_STRINGS" "Z") ∈ lw_tbl := lw_at lw_m1 149 rfl
theorem q234 : (Jvm.Cond.methodLink "java/lang/AbstractStringBuilder" (26 : Nat) ({ cls := "java/lang/StringUTF16", name := "newBytesFor", desc := "(I)[B" } : Jvm.MethodName)) ∈ lw_all := lw_g (lw_at lw_m1 150 rfl) rfl
theorem q235 : (Jvm.Cond.static ({ cls := "java/lang/StringUTF16", name := "newBytesFor", desc := "(I)[B" } : Jvm.MethodName)) ∈ lw_all := lw_g (lw_at lw_m1 151 rfl) rfl
theorem q236 : (Jvm.Cond.code ({ cls := "java/lang/StringUTF16", name := "newBytesFor", desc := "(I)[B" } : Jvm.MethodName) prog_22_method_2_code (1 : Nat) (Option.some (Jvm.ClassFile.FieldType.array Jvm.ClassFile.FieldType.byte))) ∈ lw_all := lw_g (lw_at lw_m1 152 rfl) rfl
theorem q237 : (Jvm.Cond.methodLink "java/lang/StringUTF16" (11 : Nat) ({ cls := "java/lang/StringUTF16", name := "newBytesLength", desc := "(I)I" } : Jvm.MethodName)) ∈ lw_all := lw_g (lw_at lw_m1 153 rfl) rfl
theorem q238 : (Jvm.Cond.static ({ cls := "java/lang/StringUTF16", name := "newBytesLength", desc := "(I)I" } : Jvm.MethodName)) ∈ lw_all := lw_g (lw_at lw_m1 154 rfl) rfl
theorem q239 : (Jvm.Cond.code ({ cls := "java/lang/StringUTF16", name := "newBytesLength", desc := "(I)I" } : Jvm.MethodName) prog_22_method_3_code (1 : Nat) (Option.some Jvm.ClassFile.FieldType.int)) ∈ lw_all := lw_g (lw_at lw_m1 155 rfl) rfl
theorem q240 : (Jvm.Cond.constant "java/lang/StringUTF16" (20 : Nat) (1073741823 : Int32)) ∈ lw_all := lw_g (lw_at lw_m1 156 rfl) rfl
theorem q241 : (Jvm.Cond.fieldLink "java/lang/AbstractStringBuilder" (15 : Nat) "java/lang/AbstractStringBuilder" "value" "[B") ∈ lw_all := lw_g (lw_at lw_m1 157 rfl) rfl
theorem q242 : (Jvm.Cond.fieldLink "java/lang/AbstractStringBuilder" (22 : Nat) "java/lang/AbstractStringBuilder" "coder" "B") ∈ lw_all := lw_g (lw_at lw_m1 158 rfl) rfl
theorem q243 : (Jvm.Cond.fieldLink "java/lang/String" (1048 : Nat) "java/lang/AbstractStringBuilder" "maybeLatin1" "Z") ∈ lw_all := lw_g (lw_at lw_m1 159 rfl) rfl
theorem q244 : (Jvm.Cond.fieldLink "java/lang/AbstractStringBuilder" (79 : Nat) "java/lang/AbstractStringBuilder" "count" "I") ∈ lw_all := lw_g (lw_at lw_m1 160 rfl) rfl
theorem q245 : (Jvm.Cond.lays "java/lang/StringBuilder" "java/lang/AbstractStringBuilder" "value" "[B") ∈ lw_all := lw_g (lw_at lw_m1 161 rfl) rfl
theorem q246 : (Jvm.Cond.soleField "java/lang/AbstractStringBuilder" "value") ∈ lw_all := lw_g (lw_at lw_m1 162 rfl) rfl
theorem q247 : (Jvm.Cond.lays "java/lang/StringBuilder" "java/lang/AbstractStringBuilder" "coder" "B") ∈ lw_all := lw_g (lw_at lw_m1 163 rfl) rfl
theorem q248 : (Jvm.Cond.soleField "java/lang/AbstractStringBuilder" "coder") ∈ lw_all := lw_g (lw_at lw_m1 164 rfl) rfl
theorem q249 : (Jvm.Cond.lays "java/lang/StringBuilder" "java/lang/AbstractStringBuilder" "maybeLatin1" "Z") ∈ lw_all := lw_g (lw_at lw_m1 165 rfl) rfl
theorem q250 : (Jvm.Cond.soleField "java/lang/AbstractStringBuilder" "maybeLatin1") ∈ lw_all := lw_g (lw_at lw_m1 166 rfl) rfl
theorem q251 : (Jvm.Cond.lays "java/lang/StringBuilder" "java/lang/AbstractStringBuilder" "count" "I") ∈ lw_all := lw_g (lw_at lw_m1 167 rfl) rfl
theorem q252 : (Jvm.Cond.soleField "java/lang/AbstractStringBuilder" "count") ∈ lw_all := lw_g (lw_at lw_m1 168 rfl) rfl
theorem q253 : (Jvm.Cond.superclass "java/lang/StringBuilder" "java/lang/AbstractStringBuilder") ∈ lw_all := lw_g (lw_at lw_m1 169 rfl) rfl
theorem q254 : (Jvm.Cond.methodLink "WriteOnceDisc$Node" (33 : Nat) ({ cls := "java/lang/StringBuilder", name := "append", desc := "(Ljava/lang/String;)Ljava/lang/StringBuilder;" } : Jvm.MethodName)) ∈ lw_all := lw_g (lw_at lw_m1 170 rfl) rfl
theorem q255 : (Jvm.Cond.instanceMethod ({ cls := "java/lang/StringBuilder", name := "append", desc := "(Ljava/lang/String;)Ljava/lang/StringBuilder;" } : Jvm.MethodName)) ∈ lw_all := lw_g (lw_at lw_m1 171 rfl) rfl
theorem q256 : (Jvm.Cond.selects "java/lang/StringBuilder" ({ cls := "java/lang/StringBuilder", name := "append", desc := "(Ljava/lang/String;)Ljava/lang/StringBuilder;" } : Jvm.MethodName) ({ cls := "java/lang/StringBuilder", name := "append", desc := "(Ljava/lang/String;)Ljava/lang/StringBuilder;" } : Jvm.MethodName)) ∈ lw_all := lw_g (lw_at lw_m1 172 rfl) rfl
theorem q257 : (Jvm.Cond.code ({ cls := "java/lang/StringBuilder", name := "append", desc := "(Ljava/lang/String;)Ljava/lang/StringBuilder;" } : Jvm.MethodName) prog_20_method_7_code (2 : Nat) (Option.some (Jvm.ClassFile.FieldType.object "java/lang/StringBuilder"))) ∈ lw_all := lw_g (lw_at lw_m1 173 rfl) rfl
theorem q258 : (Jvm.Cond.methodLink "java/lang/StringBuilder" (29 : Nat) ({ cls := "java/lang/AbstractStringBuilder", name := "append", desc := "(Ljava/lang/String;)Ljava/lang/AbstractStringBuilder;" } : Jvm.MethodName)) ∈ lw_all := lw_g (lw_at lw_m1 174 rfl) rfl
theorem q259 : (Jvm.Cond.instanceMethod ({ cls := "java/lang/AbstractStringBuilder", name := "append", desc := "(Ljava/lang/String;)Ljava/lang/AbstractStringBuilder;" } : Jvm.MethodName)) ∈ lw_all := lw_g (lw_at lw_m1 175 rfl) rfl
theorem q260 : (Jvm.Cond.code ({ cls := "java/lang/AbstractStringBuilder", name := "append", desc := "(Ljava/lang/String;)Ljava/lang/AbstractStringBuilder;" } : Jvm.MethodName) prog_13_method_22_code (3 : Nat) (Option.some (Jvm.ClassFile.FieldType.object "java/lang/AbstractStringBuilder"))) ∈ lw_all := lw_g (lw_at lw_m1 176 rfl) rfl
theorem q261 : (Jvm.Cond.methodLink "java/lang/AbstractStringBuilder" (204 : Nat) ({ cls := "java/lang/AbstractStringBuilder", name := "appendNull", desc := "()Ljava/lang/AbstractStringBuilder;" } : Jvm.MethodName)) ∈ lw_all := lw_g (lw_at lw_m1 177 rfl) rfl
theorem q262 : (Jvm.Cond.privateMethod ({ cls := "java/lang/AbstractStringBuilder", name := "appendNull", desc := "()Ljava/lang/AbstractStringBuilder;" } : Jvm.MethodName)) ∈ lw_tbl := lw_at lw_m1 178 rfl
theorem q263 : (Jvm.Cond.instanceMethod ({ cls := "java/lang/AbstractStringBuilder", name := "appendNull", desc := "()Ljava/lang/AbstractStringBuilder;" } : Jvm.MethodName)) ∈ lw_all := lw_g (lw_at lw_m1 179 rfl) rfl
theorem q264 : (Jvm.Cond.code ({ cls := "java/lang/AbstractStringBuilder", name := "appendNull", desc := "()Ljava/lang/AbstractStringBuilder;" } : Jvm.MethodName) prog_13_method_26_code (3 : Nat) (Option.some (Jvm.ClassFile.FieldType.object "java/lang/AbstractStringBuilder"))) ∈ lw_all := lw_g (lw_at lw_m1 180 rfl) rfl
theorem q265 : (Jvm.Cond.methodLink "java/lang/AbstractStringBuilder" (100 : Nat) ({ cls := "java/lang/AbstractStringBuilder", name := "ensureCapacityInternal", desc := "(I)V" } : Jvm.MethodName)) ∈ lw_all := lw_g (lw_at lw_m1 181 rfl) rfl
theorem q266 : (Jvm.Cond.privateMethod ({ cls := "java/lang/AbstractStringBuilder", name := "ensureCapacityInternal", desc := "(I)V" } : Jvm.MethodName)) ∈ lw_tbl := lw_at lw_m1 182 rfl
theorem q267 : (Jvm.Cond.instanceMethod ({ cls := "java/lang/AbstractStringBuilder", name := "ensureCapacityInternal", desc := "(I)V" } : Jvm.MethodName)) ∈ lw_all := lw_g (lw_at lw_m1 183 rfl) rfl
theorem q268 : (Jvm.Cond.code ({ cls := "java/lang/AbstractStringBuilder", name := "ensureCapacityInternal", desc := "(I)V" } : Jvm.MethodName) prog_13_method_9_code (3 : Nat) (Option.none : Option Jvm.ClassFile.FieldType)) ∈ lw_all := lw_g (lw_at lw_m1 184 rfl) rfl
theorem q269 : (Jvm.Cond.methodLink "java/lang/AbstractStringBuilder" (104 : Nat) ({ cls := "java/lang/AbstractStringBuilder", name := "newCapacity", desc := "(I)I" } : Jvm.MethodName)) ∈ lw_all := lw_g (lw_at lw_m1 185 rfl) rfl
theorem q270 : (Jvm.Cond.privateMethod ({ cls := "java/lang/AbstractStringBuilder", name := "newCapacity", desc := "(I)I" } : Jvm.MethodName)) ∈ lw_tbl := lw_at lw_m1 186 rfl
theorem q271 : (Jvm.Cond.instanceMethod ({ cls := "java/lang/AbstractStringBuilder", name := "newCapacity", desc := "(I)I" } : Jvm.MethodName)) ∈ lw_all := lw_g (lw_at lw_m1 187 rfl) rfl
theorem q272 : (Jvm.Cond.code ({ cls := "java/lang/AbstractStringBuilder", name := "newCapacity", desc := "(I)I" } : Jvm.MethodName) prog_13_method_10_code (6 : Nat) (Option.some Jvm.ClassFile.FieldType.int)) ∈ lw_all := lw_g (lw_at lw_m1 188 rfl) rfl
theorem q273 : (Jvm.Cond.methodLink "java/lang/AbstractStringBuilder" (114 : Nat) ({ cls := "jdk/internal/util/ArraysSupport", name := "newLength", desc := "(III)I" } : Jvm.MethodName)) ∈ lw_all := lw_g (lw_at lw_m1 189 rfl) rfl
theorem q274 : (Jvm.Cond.static ({ cls := "jdk/internal/util/ArraysSupport", name := "newLength", desc := "(III)I" } : Jvm.MethodName)) ∈ lw_all := lw_g (lw_at lw_m1 190 rfl) rfl
theorem q275 : (Jvm.Cond.code ({ cls := "jdk/internal/util/ArraysSupport", name := "newLength", desc := "(III)I" } : Jvm.MethodName) prog_35_method_27_code (4 : Nat) (Option.some Jvm.ClassFile.FieldType.int)) ∈ lw_all := lw_g (lw_at lw_m1 191 rfl) rfl
theorem q276 : (Jvm.Cond.methodLink "jdk/internal/util/ArraysSupport" (194 : Nat) ({ cls := "java/lang/Math", name := "max", desc := "(II)I" } : Jvm.MethodName)) ∈ lw_all := lw_g (lw_at lw_m1 192 rfl) rfl
theorem q277 : (Jvm.Cond.static ({ cls := "java/lang/Math", name := "max", desc := "(II)I" } : Jvm.MethodName)) ∈ lw_all := lw_g (lw_at lw_m1 193 rfl) rfl
theorem q278 : (Jvm.Cond.code ({ cls := "java/lang/Math", name := "max", desc := "(II)I" } : Jvm.MethodName) prog_17_method_65_code (2 : Nat) (Option.some Jvm.ClassFile.FieldType.int)) ∈ lw_all := lw_g (lw_at lw_m1 194 rfl) rfl
theorem q279 : (Jvm.Cond.constant "jdk/internal/util/ArraysSupport" (200 : Nat) (2147483639 : Int32)) ∈ lw_all := lw_g (lw_at lw_m1 195 rfl) rfl
theorem q280 : (Jvm.Cond.methodLink "jdk/internal/util/ArraysSupport" (201 : Nat) ({ cls := "jdk/internal/util/ArraysSupport", name := "hugeLength", desc := "(II)I" } : Jvm.MethodName)) ∈ lw_all := lw_g (lw_at lw_m1 196 rfl) rfl
theorem q281 : (Jvm.Cond.static ({ cls := "jdk/internal/util/ArraysSupport", name := "hugeLength", desc := "(II)I" } : Jvm.MethodName)) ∈ lw_all := lw_g (lw_at lw_m1 197 rfl) rfl
theorem q282 : (Jvm.Cond.code ({ cls := "jdk/internal/util/ArraysSupport", name := "hugeLength", desc := "(II)I" } : Jvm.MethodName) prog_35_method_28_code (3 : Nat) (Option.some Jvm.ClassFile.FieldType.int)) ∈ lw_all := lw_g (lw_at lw_m1 198 rfl) rfl
theorem q283 : (Jvm.Cond.constant "java/lang/AbstractStringBuilder" (39 : Nat) (2147483647 : Int32)) ∈ lw_all := lw_g (lw_at lw_m1 199 rfl) rfl
theorem q284 : (Jvm.Cond.methodLink "java/lang/AbstractStringBuilder" (108 : Nat) ({ cls := "java/util/Arrays", name := "copyOf", desc := "([BI)[B" } : Jvm.MethodName)) ∈ lw_all := lw_g (lw_at lw_m1 200 rfl) rfl
theorem q285 : (Jvm.Cond.static ({ cls := "java/util/Arrays", name := "copyOf", desc := "([BI)[B" } : Jvm.MethodName)) ∈ lw_all := lw_g (lw_at lw_m1 201 rfl) rfl
theorem q286 : (Jvm.Cond.code ({ cls := "java/util/Arrays", name := "copyOf", desc := "([BI)[B" } : Jvm.MethodName) prog_28_method_121_code (3 : Nat) (Option.some (Jvm.ClassFile.FieldType.array Jvm.ClassFile.FieldType.byte))) ∈ lw_all := lw_g (lw_at lw_m1 202 rfl) rfl
theorem q287 : (Jvm.Cond.methodLink "java/util/Arrays" (310 : Nat) ({ cls := "[B", name := "clone", desc := "()Ljava/lang/Object;" } : Jvm.MethodName)) ∈ lw_all := lw_g (lw_at lw_m1 203 rfl) rfl
theorem q288 : (Jvm.Cond.sameMethod "[B" "java/lang/Object" "clone" "()Ljava/lang/Object;") ∈ lw_all := lw_g (lw_at lw_m1 204 rfl) rfl
theorem q289 : (Jvm.Cond.native ({ cls := "java/lang/Object", name := "clone", desc := "()Ljava/lang/Object;" } : Jvm.MethodName)) ∈ lw_all := lw_g (lw_at lw_m1 205 rfl) rfl
theorem q290 : (Jvm.Cond.instanceMethod ({ cls := "java/lang/Object", name := "clone", desc := "()Ljava/lang/Object;" } : Jvm.MethodName)) ∈ lw_all := lw_g (lw_at lw_m1 206 rfl) rfl
theorem q291 : (Jvm.Cond.selects "[B" ({ cls := "[B", name := "clone", desc := "()Ljava/lang/Object;" } : Jvm.MethodName) ({ cls := "java/lang/Object", name := "clone", desc := "()Ljava/lang/Object;" } : Jvm.MethodName)) ∈ lw_all := lw_g (lw_at lw_m1 207 rfl) rfl
theorem q292 : (Jvm.Cond.castable "[B" "java/lang/Cloneable") ∈ lw_tbl := lw_at lw_m1 208 rfl
theorem q293 : (Jvm.Cond.classLink "java/util/Arrays" (311 : Nat) "[B") ∈ lw_all := lw_g (lw_at lw_m1 209 rfl) rfl
theorem q294 : (Jvm.Cond.methodLink "java/util/Arrays" (304 : Nat) ({ cls := "java/lang/Math", name := "min", desc := "(II)I" } : Jvm.MethodName)) ∈ lw_all := lw_g (lw_at lw_m1 210 rfl) rfl
theorem q295 : (Jvm.Cond.static ({ cls := "java/lang/Math", name := "min", desc := "(II)I" } : Jvm.MethodName)) ∈ lw_all := lw_g (lw_at lw_m1 211 rfl) rfl
theorem q296 : (Jvm.Cond.code ({ cls := "java/lang/Math", name := "min", desc := "(II)I" } : Jvm.MethodName) prog_17_method_69_code (2 : Nat) (Option.some Jvm.ClassFile.FieldType.int)) ∈ lw_all := lw_g (lw_at lw_m1 212 rfl) rfl
theorem q297 : (Jvm.Cond.methodLink "java/util/Arrays" (150 : Nat) ({ cls := "java/lang/System", name := "arraycopy", desc := "(Ljava/lang/Object;ILjava/lang/Object;II)V" } : Jvm.MethodName)) ∈ lw_all := lw_g (lw_at lw_m1 213 rfl) rfl
theorem q298 : (Jvm.Cond.static ({ cls := "java/lang/System", name := "arraycopy", desc := "(Ljava/lang/Object;ILjava/lang/Object;II)V" } : Jvm.MethodName)) ∈ lw_all := lw_g (lw_at lw_m1 214 rfl) rfl
theorem q299 : (Jvm.Cond.native ({ cls := "java/lang/System", name := "arraycopy", desc := "(Ljava/lang/Object;ILjava/lang/Object;II)V" } : Jvm.MethodName)) ∈ lw_all := lw_g (lw_at lw_m1 215 rfl) rfl
theorem q300 : (Jvm.Cond.methodLink "java/lang/AbstractStringBuilder" (83 : Nat) ({ cls := "java/lang/AbstractStringBuilder", name := "isLatin1", desc := "()Z" } : Jvm.MethodName)) ∈ lw_all := lw_g (lw_at lw_m1 216 rfl) rfl
theorem q301 : (Jvm.Cond.instanceMethod ({ cls := "java/lang/AbstractStringBuilder", name := "isLatin1", desc := "()Z" } : Jvm.MethodName)) ∈ lw_all := lw_g (lw_at lw_m1 217 rfl) rfl
theorem q302 : (Jvm.Cond.sameMethod "java/lang/AbstractStringBuilder" "java/lang/AbstractStringBuilder" "isLatin1" "()Z") ∈ lw_all := lw_g (lw_at lw_m1 218 rfl) rfl
theorem q303 : (Jvm.Cond.selects "java/lang/StringBuilder" ({ cls := "java/lang/AbstractStringBuilder", name := "isLatin1", desc := "()Z" } : Jvm.MethodName) ({ cls := "java/lang/AbstractStringBuilder", name := "isLatin1", desc := "()Z" } : Jvm.MethodName)) ∈ lw_all := lw_g (lw_at lw_m1 219 rfl) rfl
theorem q304 : (Jvm.Cond.code ({ cls := "java/lang/AbstractStringBuilder", name := "isLatin1", desc := "()Z" } : Jvm.MethodName) prog_13_method_68_code (1 : Nat) (Option.some Jvm.ClassFile.FieldType.boolean)) ∈ lw_all := lw_g (lw_at lw_m1 220 rfl) rfl
theorem q305 : (Jvm.Cond.methodLink "java/lang/AbstractStringBuilder" (226 : Nat) ({ cls := "java/lang/StringUTF16", name := "putCharsAt", desc := "([BICCCC)I" } : Jvm.MethodName)) ∈ lw_all := lw_g (lw_at lw_m1 221 rfl) rfl
theorem q306 : (Jvm.Cond.static ({ cls := "java/lang/StringUTF16", name := "putCharsAt", desc := "([BICCCC)I" } : Jvm.MethodName)) ∈ lw_all := lw_g (lw_at lw_m1 222 rfl) rfl
theorem q307 : (Jvm.Cond.code ({ cls := "java/lang/StringUTF16", name := "putCharsAt", desc := "([BICCCC)I" } : Jvm.MethodName) prog_22_method_81_code (7 : Nat) (Option.some Jvm.ClassFile.FieldType.int)) ∈ lw_all := lw_g (lw_at lw_m1 223 rfl) rfl
theorem q308 : (Jvm.Cond.methodLink "java/lang/StringUTF16" (96 : Nat) ({ cls := "java/lang/StringUTF16", name := "checkBoundsBeginEnd", desc := "(II[B)V" } : Jvm.MethodName)) ∈ lw_all := lw_g (lw_at lw_m1 224 rfl) rfl
theorem q309 : (Jvm.Cond.static ({ cls := "java/lang/StringUTF16", name := "checkBoundsBeginEnd", desc := "(II[B)V" } : Jvm.MethodName)) ∈ lw_all := lw_g (lw_at lw_m1 225 rfl) rfl
theorem q310 : (Jvm.Cond.code ({ cls := "java/lang/StringUTF16", name := "checkBoundsBeginEnd", desc := "(II[B)V" } : Jvm.MethodName) prog_22_method_93_code (3 : Nat) (Option.none : Option Jvm.ClassFile.FieldType)) ∈ lw_all := lw_g (lw_at lw_m1 226 rfl) rfl
theorem q311 : (Jvm.Cond.methodLink "java/lang/StringUTF16" (48 : Nat) ({ cls := "java/lang/StringUTF16", name := "length", desc := "([B)I" } : Jvm.MethodName)) ∈ lw_all := lw_g (lw_at lw_m1 227 rfl) rfl
theorem q312 : (Jvm.Cond.static ({ cls := "java/lang/StringUTF16", name := "length", desc := "([B)I" } : Jvm.MethodName)) ∈ lw_all := lw_g (lw_at lw_m1 228 rfl) rfl
theorem q313 : (Jvm.Cond.code ({ cls := "java/lang/StringUTF16", name := "length", desc := "([B)I" } : Jvm.MethodName) prog_22_method_6_code (1 : Nat) (Option.some Jvm.ClassFile.FieldType.int)) ∈ lw_all := lw_g (lw_at lw_m1 229 rfl) rfl
theorem q314 : (Jvm.Cond.methodLink "java/lang/StringUTF16" (241 : Nat) ({ cls := "java/lang/String", name := "checkBoundsBeginEnd", desc := "(III)V" } : Jvm.MethodName)) ∈ lw_all := lw_g (lw_at lw_m1 230 rfl) rfl
theorem q315 : (Jvm.Cond.static ({ cls := "java/lang/String", name := "checkBoundsBeginEnd", desc := "(III)V" } : Jvm.MethodName)) ∈ lw_all := lw_g (lw_at lw_m1 231 rfl) rfl
theorem q316 : (Jvm.Cond.code ({ cls := "java/lang/String", name := "checkBoundsBeginEnd", desc := "(III)V" } : Jvm.MethodName) prog_19_method_158_code (3 : Nat) (Option.none : Option Jvm.ClassFile.FieldType)) ∈ lw_all := lw_g (lw_at lw_m1 232 rfl) rfl
theorem q317 : (Jvm.Cond.fieldLink "java/lang/String" (1053 : Nat) "jdk/internal/util/Preconditions" "SIOOBE_FORMATTER" "Ljava/util/function/BiFunction;") ∈ lw_all := lw_g (lw_at lw_m1 233 rfl) rfl
theorem q318 : (Jvm.Cond.laysStatic "jdk/internal/util/Preconditions" "SIOOBE_FORMATTER" "Ljava/util/function/BiFunction;") ∈ lw_tbl := lw_at lw_m1 234 rfl
theorem q319 : (Jvm.Cond.methodLink "java/lang/String" (1062 : Nat) ({ cls := "jdk/internal/util/Preconditions", name := "checkFromToIndex", desc := "(IIILjava/util/function/BiFunction;)I" } : Jvm.MethodName)) ∈ lw_all := lw_g (lw_at lw_m1 235 rfl) rfl
theorem q320 : (Jvm.Cond.static ({ cls := "jdk/internal/util/Preconditions", name := "checkFromToIndex", desc := "(IIILjava/util/function/BiFunction;)I" } : Jvm.MethodName)) ∈ lw_all := lw_g (lw_at lw_m1 236 rfl) rfl
theorem q321 : (Jvm.Cond.code ({ cls := "jdk/internal/util/Preconditions", name := "checkFromToIndex", desc := "(IIILjava/util/function/BiFunction;)I" } : Jvm.MethodName) prog_36_method_12_code (4 : Nat) (Option.some Jvm.ClassFile.FieldType.int)) ∈ lw_all := lw_g (lw_at lw_m1 237 rfl) rfl
theorem q322 : (Jvm.Cond.methodLink "java/lang/StringUTF16" (111 : Nat) ({ cls := "java/lang/StringUTF16", name := "putChar", desc := "([BII)V" } : Jvm.MethodName)) ∈ lw_all := lw_g (lw_at lw_m1 238 rfl) rfl
theorem q323 : (Jvm.Cond.static ({ cls := "java/lang/StringUTF16", name := "putChar", desc := "([BII)V" } : Jvm.MethodName)) ∈ lw_all := lw_g (lw_at lw_m1 239 rfl) rfl
theorem q324 : (Jvm.Cond.code ({ cls := "java/lang/StringUTF16", name := "putChar", desc := "([BII)V" } : Jvm.MethodName) prog_22_method_4_code (3 : Nat) (Option.none : Option Jvm.ClassFile.FieldType)) ∈ lw_all := lw_g (lw_at lw_m2 0 rfl) rfl
theorem q325 : (Jvm.Cond.fieldLink "java/lang/StringUTF16" (44 : Nat) "java/lang/StringUTF16" "$assertionsDisabled" "Z") ∈ lw_all := lw_g (lw_at lw_m2 1 rfl) rfl
theorem q326 : (Jvm.Cond.laysStatic "java/lang/StringUTF16" "$assertionsDisabled" "Z") ∈ lw_tbl := lw_at lw_m2 2 rfl
theorem q327 : (Jvm.Cond.fieldLink "java/lang/StringUTF16" (59 : Nat) "java/lang/StringUTF16" "HI_BYTE_SHIFT" "I") ∈ lw_all := lw_g (lw_at lw_m2 3 rfl) rfl
theorem q328 : (Jvm.Cond.laysStatic "java/lang/StringUTF16" "HI_BYTE_SHIFT" "I") ∈ lw_tbl := lw_at lw_m2 4 rfl
theorem q329 : (Jvm.Cond.fieldLink "java/lang/StringUTF16" (63 : Nat) "java/lang/StringUTF16" "LO_BYTE_SHIFT" "I") ∈ lw_all := lw_g (lw_at lw_m2 5 rfl) rfl
theorem q330 : (Jvm.Cond.laysStatic "java/lang/StringUTF16" "LO_BYTE_SHIFT" "I") ∈ lw_tbl := lw_at lw_m2 6 rfl
theorem q331 : (Jvm.Cond.methodLink "java/lang/AbstractStringBuilder" (32 : Nat) ({ cls := "java/lang/String", name := "length", desc := "()I" } : Jvm.MethodName)) ∈ lw_all := lw_g (lw_at lw_m2 7 rfl) rfl
theorem q332 : (Jvm.Cond.instanceMethod ({ cls := "java/lang/String", name := "length", desc := "()I" } : Jvm.MethodName)) ∈ lw_all := lw_g (lw_at lw_m2 8 rfl) rfl
theorem q333 : (Jvm.Cond.selects "java/lang/String" ({ cls := "java/lang/String", name := "length", desc := "()I" } : Jvm.MethodName) ({ cls := "java/lang/String", name := "length", desc := "()I" } : Jvm.MethodName)) ∈ lw_all := lw_g (lw_at lw_m2 9 rfl) rfl
theorem q334 : (Jvm.Cond.code ({ cls := "java/lang/String", name := "length", desc := "()I" } : Jvm.MethodName) prog_19_method_54_code (1 : Nat) (Option.some Jvm.ClassFile.FieldType.int)) ∈ lw_all := lw_g (lw_at lw_m2 10 rfl) rfl
theorem q335 : (Jvm.Cond.methodLink "java/lang/String" (335 : Nat) ({ cls := "java/lang/String", name := "coder", desc := "()B" } : Jvm.MethodName)) ∈ lw_all := lw_g (lw_at lw_m2 11 rfl) rfl
theorem q336 : (Jvm.Cond.instanceMethod ({ cls := "java/lang/String", name := "coder", desc := "()B" } : Jvm.MethodName)) ∈ lw_all := lw_g (lw_at lw_m2 12 rfl) rfl
theorem q337 : (Jvm.Cond.selects "java/lang/String" ({ cls := "java/lang/String", name := "coder", desc := "()B" } : Jvm.MethodName) ({ cls := "java/lang/String", name := "coder", desc := "()B" } : Jvm.MethodName)) ∈ lw_all := lw_g (lw_at lw_m2 13 rfl) rfl
theorem q338 : (Jvm.Cond.code ({ cls := "java/lang/String", name := "coder", desc := "()B" } : Jvm.MethodName) prog_19_method_152_code (1 : Nat) (Option.some Jvm.ClassFile.FieldType.byte)) ∈ lw_all := lw_g (lw_at lw_m2 14 rfl) rfl
theorem q339 : (Jvm.Cond.fieldLink "java/lang/String" (38 : Nat) "java/lang/String" "COMPACT_STRINGS" "Z") ∈ lw_all := lw_g (lw_at lw_m2 15 rfl) rfl
theorem q340 : (Jvm.Cond.methodLink "java/lang/AbstractStringBuilder" (208 : Nat) ({ cls := "java/lang/AbstractStringBuilder", name := "putStringAt", desc := "(ILjava/lang/String;)V" } : Jvm.MethodName)) ∈ lw_all := lw_g (lw_at lw_m2 16 rfl) rfl
theorem q341 : (Jvm.Cond.privateMethod ({ cls := "java/lang/AbstractStringBuilder", name := "putStringAt", desc := "(ILjava/lang/String;)V" } : Jvm.MethodName)) ∈ lw_tbl := lw_at lw_m2 17 rfl
theorem q342 : (Jvm.Cond.instanceMethod ({ cls := "java/lang/AbstractStringBuilder", name := "putStringAt", desc := "(ILjava/lang/String;)V" } : Jvm.MethodName)) ∈ lw_all := lw_g (lw_at lw_m2 18 rfl) rfl
theorem q343 : (Jvm.Cond.code ({ cls := "java/lang/AbstractStringBuilder", name := "putStringAt", desc := "(ILjava/lang/String;)V" } : Jvm.MethodName) prog_13_method_73_code (3 : Nat) (Option.none : Option Jvm.ClassFile.FieldType)) ∈ lw_all := lw_g (lw_at lw_m2 19 rfl) rfl
theorem q344 : (Jvm.Cond.methodLink "java/lang/AbstractStringBuilder" (397 : Nat) ({ cls := "java/lang/AbstractStringBuilder", name := "inflateIfNeededFor", desc := "(Ljava/lang/String;)V" } : Jvm.MethodName)) ∈ lw_all := lw_g (lw_at lw_m2 20 rfl) rfl
theorem q345 : (Jvm.Cond.privateMethod ({ cls := "java/lang/AbstractStringBuilder", name := "inflateIfNeededFor", desc := "(Ljava/lang/String;)V" } : Jvm.MethodName)) ∈ lw_tbl := lw_at lw_m2 21 rfl
theorem q346 : (Jvm.Cond.instanceMethod ({ cls := "java/lang/AbstractStringBuilder", name := "inflateIfNeededFor", desc := "(Ljava/lang/String;)V" } : Jvm.MethodName)) ∈ lw_all := lw_g (lw_at lw_m2 22 rfl) rfl
theorem q347 : (Jvm.Cond.code ({ cls := "java/lang/AbstractStringBuilder", name := "inflateIfNeededFor", desc := "(Ljava/lang/String;)V" } : Jvm.MethodName) prog_13_method_71_code (2 : Nat) (Option.none : Option Jvm.ClassFile.FieldType)) ∈ lw_all := lw_g (lw_at lw_m2 23 rfl) rfl
theorem q348 : (Jvm.Cond.methodLink "java/lang/AbstractStringBuilder" (40 : Nat) ({ cls := "java/lang/String", name := "coder", desc := "()B" } : Jvm.MethodName)) ∈ lw_all := lw_g (lw_at lw_m2 24 rfl) rfl
theorem q349 : (Jvm.Cond.methodLink "java/lang/AbstractStringBuilder" (195 : Nat) ({ cls := "java/lang/AbstractStringBuilder", name := "inflate", desc := "()V" } : Jvm.MethodName)) ∈ lw_all := lw_g (lw_at lw_m2 25 rfl) rfl
theorem q350 : (Jvm.Cond.privateMethod ({ cls := "java/lang/AbstractStringBuilder", name := "inflate", desc := "()V" } : Jvm.MethodName)) ∈ lw_tbl := lw_at lw_m2 26 rfl
theorem q351 : (Jvm.Cond.instanceMethod ({ cls := "java/lang/AbstractStringBuilder", name := "inflate", desc := "()V" } : Jvm.MethodName)) ∈ lw_all := lw_g (lw_at lw_m2 27 rfl) rfl
theorem q352 : (Jvm.Cond.code ({ cls := "java/lang/AbstractStringBuilder", name := "inflate", desc := "()V" } : Jvm.MethodName) prog_13_method_11_code (2 : Nat) (Option.none : Option Jvm.ClassFile.FieldType)) ∈ lw_all := lw_g (lw_at lw_m2 28 rfl) rfl
theorem q353 : (Jvm.Cond.methodLink "java/lang/AbstractStringBuilder" (125 : Nat) ({ cls := "java/lang/StringLatin1", name := "inflate", desc := "([BI[BII)V" } : Jvm.MethodName)) ∈ lw_all := lw_g (lw_at lw_m2 29 rfl) rfl
theorem q354 : (Jvm.Cond.static ({ cls := "java/lang/StringLatin1", name := "inflate", desc := "([BI[BII)V" } : Jvm.MethodName)) ∈ lw_all := lw_g (lw_at lw_m2 30 rfl) rfl
theorem q355 : (Jvm.Cond.code ({ cls := "java/lang/StringLatin1", name := "inflate", desc := "([BI[BII)V" } : Jvm.MethodName) prog_21_method_50_code (5 : Nat) (Option.none : Option Jvm.ClassFile.FieldType)) ∈ lw_all := lw_g (lw_at lw_m2 31 rfl) rfl
theorem q356 : (Jvm.Cond.methodLink "java/lang/StringLatin1" (240 : Nat) ({ cls := "java/lang/StringUTF16", name := "inflate", desc := "([BI[BII)V" } : Jvm.MethodName)) ∈ lw_all := lw_g (lw_at lw_m2 32 rfl) rfl
theorem q357 : (Jvm.Cond.static ({ cls := "java/lang/StringUTF16", name := "inflate", desc := "([BI[BII)V" } : Jvm.MethodName)) ∈ lw_all := lw_g (lw_at lw_m2 33 rfl) rfl
theorem q358 : (Jvm.Cond.code ({ cls := "java/lang/StringUTF16", name := "inflate", desc := "([BI[BII)V" } : Jvm.MethodName) prog_22_method_86_code (6 : Nat) (Option.none : Option Jvm.ClassFile.FieldType)) ∈ lw_all := lw_g (lw_at lw_m2 34 rfl) rfl
theorem q359 : (Jvm.Cond.methodLink "java/lang/StringUTF16" (173 : Nat) ({ cls := "java/lang/StringUTF16", name := "checkBoundsOffCount", desc := "(II[B)V" } : Jvm.MethodName)) ∈ lw_all := lw_g (lw_at lw_m2 35 rfl) rfl
theorem q360 : (Jvm.Cond.static ({ cls := "java/lang/StringUTF16", name := "checkBoundsOffCount", desc := "(II[B)V" } : Jvm.MethodName)) ∈ lw_all := lw_g (lw_at lw_m2 36 rfl) rfl
theorem q361 : (Jvm.Cond.code ({ cls := "java/lang/StringUTF16", name := "checkBoundsOffCount", desc := "(II[B)V" } : Jvm.MethodName) prog_22_method_94_code (3 : Nat) (Option.none : Option Jvm.ClassFile.FieldType)) ∈ lw_all := lw_g (lw_at lw_m2 37 rfl) rfl
theorem q362 : (Jvm.Cond.methodLink "java/lang/StringUTF16" (419 : Nat) ({ cls := "java/lang/String", name := "checkBoundsOffCount", desc := "(III)I" } : Jvm.MethodName)) ∈ lw_all := lw_g (lw_at lw_m2 38 rfl) rfl
theorem q363 : (Jvm.Cond.static ({ cls := "java/lang/String", name := "checkBoundsOffCount", desc := "(III)I" } : Jvm.MethodName)) ∈ lw_all := lw_g (lw_at lw_m2 39 rfl) rfl
theorem q364 : (Jvm.Cond.code ({ cls := "java/lang/String", name := "checkBoundsOffCount", desc := "(III)I" } : Jvm.MethodName) prog_19_method_157_code (3 : Nat) (Option.some Jvm.ClassFile.FieldType.int)) ∈ lw_all := lw_g (lw_at lw_m2 40 rfl) rfl
theorem q365 : (Jvm.Cond.methodLink "java/lang/String" (1065 : Nat) ({ cls := "jdk/internal/util/Preconditions", name := "checkFromIndexSize", desc := "(IIILjava/util/function/BiFunction;)I" } : Jvm.MethodName)) ∈ lw_all := lw_g (lw_at lw_m2 41 rfl) rfl
theorem q366 : (Jvm.Cond.static ({ cls := "jdk/internal/util/Preconditions", name := "checkFromIndexSize", desc := "(IIILjava/util/function/BiFunction;)I" } : Jvm.MethodName)) ∈ lw_all := lw_g (lw_at lw_m2 42 rfl) rfl
theorem q367 : (Jvm.Cond.code ({ cls := "jdk/internal/util/Preconditions", name := "checkFromIndexSize", desc := "(IIILjava/util/function/BiFunction;)I" } : Jvm.MethodName) prog_36_method_13_code (4 : Nat) (Option.some Jvm.ClassFile.FieldType.int)) ∈ lw_all := lw_g (lw_at lw_m2 43 rfl) rfl
theorem q368 : (Jvm.Cond.methodLink "java/lang/AbstractStringBuilder" (399 : Nat) ({ cls := "java/lang/String", name := "getBytes", desc := "([BIB)V" } : Jvm.MethodName)) ∈ lw_all := lw_g (lw_at lw_m2 44 rfl) rfl
theorem q369 : (Jvm.Cond.instanceMethod ({ cls := "java/lang/String", name := "getBytes", desc := "([BIB)V" } : Jvm.MethodName)) ∈ lw_all := lw_g (lw_at lw_m2 45 rfl) rfl
theorem q370 : (Jvm.Cond.selects "java/lang/String" ({ cls := "java/lang/String", name := "getBytes", desc := "([BIB)V" } : Jvm.MethodName) ({ cls := "java/lang/String", name := "getBytes", desc := "([BIB)V" } : Jvm.MethodName)) ∈ lw_all := lw_g (lw_at lw_m2 46 rfl) rfl
theorem q371 : (Jvm.Cond.code ({ cls := "java/lang/String", name := "getBytes", desc := "([BIB)V" } : Jvm.MethodName) prog_19_method_147_code (4 : Nat) (Option.none : Option Jvm.ClassFile.FieldType)) ∈ lw_all := lw_g (lw_at lw_m2 47 rfl) rfl
theorem q372 : (Jvm.Cond.methodLink "java/lang/String" (212 : Nat) ({ cls := "java/lang/System", name := "arraycopy", desc := "(Ljava/lang/Object;ILjava/lang/Object;II)V" } : Jvm.MethodName)) ∈ lw_all := lw_g (lw_at lw_m2 48 rfl) rfl
theorem q373 : (Jvm.Cond.methodLink "java/lang/String" (106 : Nat) ({ cls := "java/lang/StringLatin1", name := "inflate", desc := "([BI[BII)V" } : Jvm.MethodName)) ∈ lw_all := lw_g (lw_at lw_m2 49 rfl) rfl
theorem q374 : (Jvm.Cond.stringRef "WriteOnceDisc$Node" (37 : Nat) ".;1") ∈ lw_tbl := lw_at lw_m2 50 rfl
theorem q375 : (Jvm.Cond.methodLink "WriteOnceDisc$Node" (39 : Nat) ({ cls := "java/lang/StringBuilder", name := "toString", desc := "()Ljava/lang/String;" } : Jvm.MethodName)) ∈ lw_all := lw_g (lw_at lw_m2 51 rfl) rfl
theorem q376 : (Jvm.Cond.instanceMethod ({ cls := "java/lang/StringBuilder", name := "toString", desc := "()Ljava/lang/String;" } : Jvm.MethodName)) ∈ lw_all := lw_g (lw_at lw_m2 52 rfl) rfl
theorem q377 : (Jvm.Cond.selects "java/lang/StringBuilder" ({ cls := "java/lang/StringBuilder", name := "toString", desc := "()Ljava/lang/String;" } : Jvm.MethodName) ({ cls := "java/lang/StringBuilder", name := "toString", desc := "()Ljava/lang/String;" } : Jvm.MethodName)) ∈ lw_all := lw_g (lw_at lw_m2 53 rfl) rfl
theorem q378 : (Jvm.Cond.code ({ cls := "java/lang/StringBuilder", name := "toString", desc := "()Ljava/lang/String;" } : Jvm.MethodName) prog_20_method_42_code (1 : Nat) (Option.some (Jvm.ClassFile.FieldType.object "java/lang/String"))) ∈ lw_all := lw_g (lw_at lw_m2 54 rfl) rfl
theorem q379 : (Jvm.Cond.classLink "java/lang/StringBuilder" (18 : Nat) "java/lang/String") ∈ lw_all := lw_g (lw_at lw_m2 55 rfl) rfl
theorem q380 : (Jvm.Cond.instantiable "java/lang/String" (4 : Nat)) ∈ lw_all := lw_g (lw_at lw_m2 56 rfl) rfl
theorem q381 : (Jvm.Cond.methodLink "java/lang/StringBuilder" (137 : Nat) ({ cls := "java/lang/String", name := "<init>", desc := "(Ljava/lang/StringBuilder;)V" } : Jvm.MethodName)) ∈ lw_all := lw_g (lw_at lw_m2 57 rfl) rfl
theorem q382 : (Jvm.Cond.instanceMethod ({ cls := "java/lang/String", name := "<init>", desc := "(Ljava/lang/StringBuilder;)V" } : Jvm.MethodName)) ∈ lw_all := lw_g (lw_at lw_m2 58 rfl) rfl
theorem q383 : (Jvm.Cond.code ({ cls := "java/lang/String", name := "<init>", desc := "(Ljava/lang/StringBuilder;)V" } : Jvm.MethodName) prog_19_method_53_code (2 : Nat) (Option.none : Option Jvm.ClassFile.FieldType)) ∈ lw_all := lw_g (lw_at lw_m2 59 rfl) rfl
theorem q384 : (Jvm.Cond.methodLink "java/lang/String" (489 : Nat) ({ cls := "java/lang/String", name := "<init>", desc := "(Ljava/lang/AbstractStringBuilder;Ljava/lang/Void;)V" } : Jvm.MethodName)) ∈ lw_all := lw_g (lw_at lw_m2 60 rfl) rfl
theorem q385 : (Jvm.Cond.instanceMethod ({ cls := "java/lang/String", name := "<init>", desc := "(Ljava/lang/AbstractStringBuilder;Ljava/lang/Void;)V" } : Jvm.MethodName)) ∈ lw_all := lw_g (lw_at lw_m2 61 rfl) rfl
theorem q386 : (Jvm.Cond.code ({ cls := "java/lang/String", name := "<init>", desc := "(Ljava/lang/AbstractStringBuilder;Ljava/lang/Void;)V" } : Jvm.MethodName) prog_19_method_150_code (5 : Nat) (Option.none : Option Jvm.ClassFile.FieldType)) ∈ lw_all := lw_g (lw_at lw_m2 62 rfl) rfl
theorem q387 : (Jvm.Cond.methodLink "java/lang/String" (1 : Nat) ({ cls := "java/lang/Object", name := "<init>", desc := "()V" } : Jvm.MethodName)) ∈ lw_all := lw_g (lw_at lw_m2 63 rfl) rfl
theorem q388 : (Jvm.Cond.methodLink "java/lang/String" (552 : Nat) ({ cls := "java/lang/AbstractStringBuilder", name := "getValue", desc := "()[B" } : Jvm.MethodName)) ∈ lw_all := lw_g (lw_at lw_m2 64 rfl) rfl
theorem q389 : (Jvm.Cond.instanceMethod ({ cls := "java/lang/AbstractStringBuilder", name := "getValue", desc := "()[B" } : Jvm.MethodName)) ∈ lw_all := lw_g (lw_at lw_m2 65 rfl) rfl
theorem q390 : (Jvm.Cond.sameMethod "java/lang/AbstractStringBuilder" "java/lang/AbstractStringBuilder" "getValue" "()[B") ∈ lw_all := lw_g (lw_at lw_m2 66 rfl) rfl
theorem q391 : (Jvm.Cond.selects "java/lang/StringBuilder" ({ cls := "java/lang/AbstractStringBuilder", name := "getValue", desc := "()[B" } : Jvm.MethodName) ({ cls := "java/lang/AbstractStringBuilder", name := "getValue", desc := "()[B" } : Jvm.MethodName)) ∈ lw_all := lw_g (lw_at lw_m2 67 rfl) rfl
theorem q392 : (Jvm.Cond.code ({ cls := "java/lang/AbstractStringBuilder", name := "getValue", desc := "()[B" } : Jvm.MethodName) prog_13_method_64_code (1 : Nat) (Option.some (Jvm.ClassFile.FieldType.array Jvm.ClassFile.FieldType.byte))) ∈ lw_all := lw_g (lw_at lw_m2 68 rfl) rfl
theorem q393 : (Jvm.Cond.methodLink "java/lang/String" (549 : Nat) ({ cls := "java/lang/AbstractStringBuilder", name := "length", desc := "()I" } : Jvm.MethodName)) ∈ lw_all := lw_g (lw_at lw_m2 69 rfl) rfl
theorem q394 : (Jvm.Cond.instanceMethod ({ cls := "java/lang/AbstractStringBuilder", name := "length", desc := "()I" } : Jvm.MethodName)) ∈ lw_all := lw_g (lw_at lw_m2 70 rfl) rfl
theorem q395 : (Jvm.Cond.sameMethod "java/lang/AbstractStringBuilder" "java/lang/AbstractStringBuilder" "length" "()I") ∈ lw_all := lw_g (lw_at lw_m2 71 rfl) rfl
theorem q396 : (Jvm.Cond.selects "java/lang/StringBuilder" ({ cls := "java/lang/AbstractStringBuilder", name := "length", desc := "()I" } : Jvm.MethodName) ({ cls := "java/lang/StringBuilder", name := "length", desc := "()I" } : Jvm.MethodName)) ∈ lw_all := lw_g (lw_at lw_m2 72 rfl) rfl
theorem q397 : (Jvm.Cond.instanceMethod ({ cls := "java/lang/StringBuilder", name := "length", desc := "()I" } : Jvm.MethodName)) ∈ lw_all := lw_g (lw_at lw_m2 73 rfl) rfl
theorem q398 : (Jvm.Cond.code ({ cls := "java/lang/StringBuilder", name := "length", desc := "()I" } : Jvm.MethodName) prog_20_method_93_code (1 : Nat) (Option.some Jvm.ClassFile.FieldType.int)) ∈ lw_all := lw_g (lw_at lw_m2 74 rfl) rfl
theorem q399 : (Jvm.Cond.methodLink "java/lang/StringBuilder" (343 : Nat) ({ cls := "java/lang/AbstractStringBuilder", name := "length", desc := "()I" } : Jvm.MethodName)) ∈ lw_all := lw_g (lw_at lw_m2 75 rfl) rfl
theorem q400 : (Jvm.Cond.code ({ cls := "java/lang/AbstractStringBuilder", name := "length", desc := "()I" } : Jvm.MethodName) prog_13_method_6_code (1 : Nat) (Option.some Jvm.ClassFile.FieldType.int)) ∈ lw_all := lw_g (lw_at lw_m2 76 rfl) rfl
theorem q401 : (Jvm.Cond.methodLink "java/lang/String" (1047 : Nat) ({ cls := "java/lang/AbstractStringBuilder", name := "isLatin1", desc := "()Z" } : Jvm.MethodName)) ∈ lw_all := lw_g (lw_at lw_m2 77 rfl) rfl
theorem q402 : (Jvm.Cond.methodLink "java/lang/String" (54 : Nat) ({ cls := "java/util/Arrays", name := "copyOfRange", desc := "([BII)[B" } : Jvm.MethodName)) ∈ lw_all := lw_g (lw_at lw_m2 78 rfl) rfl
theorem q403 : (Jvm.Cond.static ({ cls := "java/util/Arrays", name := "copyOfRange", desc := "([BII)[B" } : Jvm.MethodName)) ∈ lw_all := lw_g (lw_at lw_m2 79 rfl) rfl
theorem q404 : (Jvm.Cond.code ({ cls := "java/util/Arrays", name := "copyOfRange", desc := "([BII)[B" } : Jvm.MethodName) prog_28_method_132_code (3 : Nat) (Option.some (Jvm.ClassFile.FieldType.array Jvm.ClassFile.FieldType.byte))) ∈ lw_all := lw_g (lw_at lw_m2 80 rfl) rfl
theorem q405 : (Jvm.Cond.methodLink "java/util/Arrays" (339 : Nat) ({ cls := "java/util/Arrays", name := "copyOfRangeByte", desc := "([BII)[B" } : Jvm.MethodName)) ∈ lw_all := lw_g (lw_at lw_m2 81 rfl) rfl
theorem q406 : (Jvm.Cond.static ({ cls := "java/util/Arrays", name := "copyOfRangeByte", desc := "([BII)[B" } : Jvm.MethodName)) ∈ lw_all := lw_g (lw_at lw_m2 82 rfl) rfl
theorem q407 : (Jvm.Cond.code ({ cls := "java/util/Arrays", name := "copyOfRangeByte", desc := "([BII)[B" } : Jvm.MethodName) prog_28_method_133_code (5 : Nat) (Option.some (Jvm.ClassFile.FieldType.array Jvm.ClassFile.FieldType.byte))) ∈ lw_all := lw_g (lw_at lw_m2 83 rfl) rfl
theorem q408 : (Jvm.Cond.methodLink "java/util/Arrays" (343 : Nat) ({ cls := "java/util/Arrays", name := "checkLength", desc := "(II)V" } : Jvm.MethodName)) ∈ lw_all := lw_g (lw_at lw_m2 84 rfl) rfl
theorem q409 : (Jvm.Cond.static ({ cls := "java/util/Arrays", name := "checkLength", desc := "(II)V" } : Jvm.MethodName)) ∈ lw_all := lw_g (lw_at lw_m2 85 rfl) rfl
theorem q410 : (Jvm.Cond.code ({ cls := "java/util/Arrays", name := "checkLength", desc := "(II)V" } : Jvm.MethodName) prog_28_method_131_code (2 : Nat) (Option.none : Option Jvm.ClassFile.FieldType)) ∈ lw_all := lw_g (lw_at lw_m2 86 rfl) rfl
theorem q411 : (Jvm.Cond.methodLink "java/lang/String" (1051 : Nat) ({ cls := "java/lang/StringUTF16", name := "compress", desc := "([BII)[B" } : Jvm.MethodName)) ∈ lw_all := lw_g (lw_at lw_m2 87 rfl) rfl
theorem q412 : (Jvm.Cond.static ({ cls := "java/lang/StringUTF16", name := "compress", desc := "([BII)[B" } : Jvm.MethodName)) ∈ lw_all := lw_g (lw_at lw_m2 88 rfl) rfl
theorem q413 : (Jvm.Cond.code ({ cls := "java/lang/StringUTF16", name := "compress", desc := "([BII)[B" } : Jvm.MethodName) prog_22_method_17_code (6 : Nat) (Option.some (Jvm.ClassFile.FieldType.array Jvm.ClassFile.FieldType.byte))) ∈ lw_all := lw_g (lw_at lw_m2 89 rfl) rfl
theorem q414 : (Jvm.Cond.methodLink "java/lang/StringUTF16" (123 : Nat) ({ cls := "java/lang/StringUTF16", name := "compress", desc := "([BI[BII)I" } : Jvm.MethodName)) ∈ lw_all := lw_g (lw_at lw_m2 90 rfl) rfl
theorem q415 : (Jvm.Cond.static ({ cls := "java/lang/StringUTF16", name := "compress", desc := "([BI[BII)I" } : Jvm.MethodName)) ∈ lw_all := lw_g (lw_at lw_m2 91 rfl) rfl
theorem q416 : (Jvm.Cond.code ({ cls := "java/lang/StringUTF16", name := "compress", desc := "([BI[BII)I" } : Jvm.MethodName) prog_22_method_22_code (7 : Nat) (Option.some Jvm.ClassFile.FieldType.int)) ∈ lw_all := lw_g (lw_at lw_m2 92 rfl) rfl
theorem q417 : (Jvm.Cond.methodLink "java/lang/StringUTF16" (71 : Nat) ({ cls := "java/lang/StringUTF16", name := "getChar", desc := "([BI)C" } : Jvm.MethodName)) ∈ lw_all := lw_g (lw_at lw_m2 93 rfl) rfl
theorem q418 : (Jvm.Cond.static ({ cls := "java/lang/StringUTF16", name := "getChar", desc := "([BI)C" } : Jvm.MethodName)) ∈ lw_all := lw_g (lw_at lw_m2 94 rfl) rfl
theorem q419 : (Jvm.Cond.code ({ cls := "java/lang/StringUTF16", name := "getChar", desc := "([BI)C" } : Jvm.MethodName) prog_22_method_5_code (2 : Nat) (Option.some Jvm.ClassFile.FieldType.char)) ∈ lw_all := lw_g (lw_at lw_m2 95 rfl) rfl
theorem q420 : (Jvm.Cond.methodLink "java/lang/StringUTF16" (126 : Nat) ({ cls := "java/util/Arrays", name := "copyOfRange", desc := "([BII)[B" } : Jvm.MethodName)) ∈ lw_all := lw_g (lw_at lw_m2 96 rfl) rfl
theorem q421 : (Jvm.Cond.methodLink "java/lang/String" (47 : Nat) ({ cls := "java/lang/StringUTF16", name := "coderFromArrayLen", desc := "([BI)B" } : Jvm.MethodName)) ∈ lw_all := lw_g (lw_at lw_m2 97 rfl) rfl
theorem q422 : (Jvm.Cond.static ({ cls := "java/lang/StringUTF16", name := "coderFromArrayLen", desc := "([BI)B" } : Jvm.MethodName)) ∈ lw_all := lw_g (lw_at lw_m2 98 rfl) rfl
theorem q423 : (Jvm.Cond.code ({ cls := "java/lang/StringUTF16", name := "coderFromArrayLen", desc := "([BI)B" } : Jvm.MethodName) prog_22_method_15_code (2 : Nat) (Option.some Jvm.ClassFile.FieldType.byte)) ∈ lw_all := lw_g (lw_at lw_m2 99 rfl) rfl
theorem q424 : (Jvm.Cond.fieldLink "java/lang/String" (9 : Nat) "java/lang/String" "value" "[B") ∈ lw_all := lw_g (lw_at lw_m2 100 rfl) rfl
theorem q425 : (Jvm.Cond.fieldLink "java/lang/String" (15 : Nat) "java/lang/String" "coder" "B") ∈ lw_all := lw_g (lw_at lw_m2 101 rfl) rfl
theorem q426 : (Jvm.Cond.laysFinal "java/lang/String" "java/lang/String" "value" "[B") ∈ lw_all := lw_g (lw_at lw_m2 102 rfl) rfl
theorem q427 : (Jvm.Cond.soleField "java/lang/String" "value") ∈ lw_all := lw_g (lw_at lw_m2 103 rfl) rfl
theorem q428 : (Jvm.Cond.laysFinal "java/lang/String" "java/lang/String" "coder" "B") ∈ lw_all := lw_g (lw_at lw_m2 104 rfl) rfl
theorem q429 : (Jvm.Cond.soleField "java/lang/String" "coder") ∈ lw_all := lw_g (lw_at lw_m2 105 rfl) rfl
theorem q430 : (Jvm.Cond.lays "java/lang/String" "java/lang/String" "hash" "I") ∈ lw_all := lw_g (lw_at lw_m2 106 rfl) rfl
theorem q431 : (Jvm.Cond.soleField "java/lang/String" "hash") ∈ lw_all := lw_g (lw_at lw_m2 107 rfl) rfl
theorem q432 : (Jvm.Cond.lays "java/lang/String" "java/lang/String" "hashIsZero" "Z") ∈ lw_all := lw_g (lw_at lw_m2 108 rfl) rfl
theorem q433 : (Jvm.Cond.soleField "java/lang/String" "hashIsZero") ∈ lw_all := lw_g (lw_at lw_m2 109 rfl) rfl
theorem q434 : (Jvm.Cond.superclass "java/lang/String" "java/lang/Object") ∈ lw_all := lw_g (lw_at lw_m2 110 rfl) rfl
theorem q435 : (Jvm.Cond.fieldLink "WriteOnceDisc$Node" (9 : Nat) "WriteOnceDisc$Node" "number" "I") ∈ lw_all := lw_g (lw_at lw_m2 111 rfl) rfl
theorem q436 : (Jvm.Cond.fieldLink "WriteOnceDisc$Tree" (32 : Nat) "WriteOnceDisc$Node" "number" "I") ∈ lw_all := lw_g (lw_at lw_m2 112 rfl) rfl
theorem q437 : (Jvm.Cond.fieldLink "WriteOnceDisc$Burner" (146 : Nat) "WriteOnceDisc$Node" "number" "I") ∈ lw_all := lw_g (lw_at lw_m2 113 rfl) rfl
theorem q438 : (Jvm.Cond.fieldLink "WriteOnceDisc" (165 : Nat) "WriteOnceDisc$Node" "number" "I") ∈ lw_all := lw_g (lw_at lw_m2 114 rfl) rfl
theorem q439 : (Jvm.Cond.fieldLink "WriteOnceDisc$Node" (18 : Nat) "WriteOnceDisc$Node" "directory" "Z") ∈ lw_all := lw_g (lw_at lw_m2 115 rfl) rfl
theorem q440 : (Jvm.Cond.fieldLink "WriteOnceDisc$Tree" (63 : Nat) "WriteOnceDisc$Node" "directory" "Z") ∈ lw_all := lw_g (lw_at lw_m2 116 rfl) rfl
theorem q441 : (Jvm.Cond.fieldLink "WriteOnceDisc" (109 : Nat) "WriteOnceDisc$Node" "directory" "Z") ∈ lw_all := lw_g (lw_at lw_m2 117 rfl) rfl
theorem q442 : (Jvm.Cond.fieldLink "WriteOnceDisc$Burner" (165 : Nat) "WriteOnceDisc$Node" "directory" "Z") ∈ lw_all := lw_g (lw_at lw_m2 118 rfl) rfl
theorem q443 : (Jvm.Cond.fieldLink "WriteOnceDisc$Node" (15 : Nat) "WriteOnceDisc$Node" "parent" "I") ∈ lw_all := lw_g (lw_at lw_m2 119 rfl) rfl
theorem q444 : (Jvm.Cond.fieldLink "WriteOnceDisc$Tree" (51 : Nat) "WriteOnceDisc$Node" "parent" "I") ∈ lw_all := lw_g (lw_at lw_m2 120 rfl) rfl
theorem q445 : (Jvm.Cond.fieldLink "WriteOnceDisc$Burner" (193 : Nat) "WriteOnceDisc$Node" "parent" "I") ∈ lw_all := lw_g (lw_at lw_m2 121 rfl) rfl
theorem q446 : (Jvm.Cond.fieldLink "WriteOnceDisc" (190 : Nat) "WriteOnceDisc$Node" "parent" "I") ∈ lw_all := lw_g (lw_at lw_m2 122 rfl) rfl
theorem q447 : (Jvm.Cond.fieldLink "WriteOnceDisc$Node" (46 : Nat) "WriteOnceDisc$Node" "size" "I") ∈ lw_all := lw_g (lw_at lw_m2 123 rfl) rfl
theorem q448 : (Jvm.Cond.fieldLink "WriteOnceDisc$Burner" (61 : Nat) "WriteOnceDisc$Node" "size" "I") ∈ lw_all := lw_g (lw_at lw_m2 124 rfl) rfl
theorem q449 : (Jvm.Cond.fieldLink "WriteOnceDisc" (160 : Nat) "WriteOnceDisc$Node" "size" "I") ∈ lw_all := lw_g (lw_at lw_m2 125 rfl) rfl
theorem q450 : (Jvm.Cond.fieldLink "WriteOnceDisc$Burner" (77 : Nat) "WriteOnceDisc$Node" "seed" "I") ∈ lw_all := lw_g (lw_at lw_m2 126 rfl) rfl
theorem q451 : (Jvm.Cond.fieldLink "WriteOnceDisc" (162 : Nat) "WriteOnceDisc$Node" "seed" "I") ∈ lw_all := lw_g (lw_at lw_m2 127 rfl) rfl
theorem q452 : (Jvm.Cond.fieldLink "WriteOnceDisc$Burner" (74 : Nat) "WriteOnceDisc$Node" "sector" "I") ∈ lw_all := lw_g (lw_at lw_m2 128 rfl) rfl
theorem q453 : (Jvm.Cond.fieldLink "WriteOnceDisc" (168 : Nat) "WriteOnceDisc$Node" "sector" "I") ∈ lw_all := lw_g (lw_at lw_m2 129 rfl) rfl
theorem q454 : (Jvm.Cond.fieldLink "WriteOnceDisc$Node" (26 : Nat) "WriteOnceDisc$Node" "name" "Ljava/lang/String;") ∈ lw_all := lw_g (lw_at lw_m2 130 rfl) rfl
theorem q455 : (Jvm.Cond.fieldLink "WriteOnceDisc$Tree" (54 : Nat) "WriteOnceDisc$Node" "name" "Ljava/lang/String;") ∈ lw_all := lw_g (lw_at lw_m2 131 rfl) rfl
theorem q456 : (Jvm.Cond.fieldLink "WriteOnceDisc$Burner" (196 : Nat) "WriteOnceDisc$Node" "name" "Ljava/lang/String;") ∈ lw_all := lw_g (lw_at lw_m2 132 rfl) rfl
theorem q457 : (Jvm.Cond.fieldLink "WriteOnceDisc" (258 : Nat) "WriteOnceDisc$Node" "name" "Ljava/lang/String;") ∈ lw_all := lw_g (lw_at lw_m2 133 rfl) rfl
theorem q458 : (Jvm.Cond.fieldLink "WriteOnceDisc$Node" (43 : Nat) "WriteOnceDisc$Node" "identifier" "Ljava/lang/String;") ∈ lw_all := lw_g (lw_at lw_m2 134 rfl) rfl
theorem q459 : (Jvm.Cond.fieldLink "WriteOnceDisc$Tree" (81 : Nat) "WriteOnceDisc$Node" "identifier" "Ljava/lang/String;") ∈ lw_all := lw_g (lw_at lw_m2 135 rfl) rfl
theorem q460 : (Jvm.Cond.fieldLink "WriteOnceDisc$Burner" (153 : Nat) "WriteOnceDisc$Node" "identifier" "Ljava/lang/String;") ∈ lw_all := lw_g (lw_at lw_m2 136 rfl) rfl
theorem q461 : (Jvm.Cond.fieldLink "WriteOnceDisc$Burner" (67 : Nat) "WriteOnceDisc$Node" "written" "Z") ∈ lw_all := lw_g (lw_at lw_m2 137 rfl) rfl
theorem q462 : (Jvm.Cond.fieldLink "WriteOnceDisc" (171 : Nat) "WriteOnceDisc$Node" "written" "Z") ∈ lw_all := lw_g (lw_at lw_m2 138 rfl) rfl
theorem q463 : (Jvm.Cond.fieldLink "WriteOnceDisc$Burner" (168 : Nat) "WriteOnceDisc$Node" "at" "I") ∈ lw_all := lw_g (lw_at lw_m2 139 rfl) rfl
theorem q464 : (Jvm.Cond.fieldLink "WriteOnceDisc$Burner" (171 : Nat) "WriteOnceDisc$Node" "many" "I") ∈ lw_all := lw_g (lw_at lw_m2 140 rfl) rfl
theorem q465 : (Jvm.Cond.fieldLink "WriteOnceDisc$Burner" (143 : Nat) "WriteOnceDisc$Node" "place" "I") ∈ lw_all := lw_g (lw_at lw_m2 141 rfl) rfl
theorem q466 : (Jvm.Cond.laysFinal "WriteOnceDisc$Node" "WriteOnceDisc$Node" "number" "I") ∈ lw_all := lw_g (lw_at lw_m2 142 rfl) rfl
theorem q467 : (Jvm.Cond.soleField "WriteOnceDisc$Node" "number") ∈ lw_all := lw_g (lw_at lw_m2 143 rfl) rfl
theorem q468 : (Jvm.Cond.laysFinal "WriteOnceDisc$Node" "WriteOnceDisc$Node" "directory" "Z") ∈ lw_all := lw_g (lw_at lw_m2 144 rfl) rfl
theorem q469 : (Jvm.Cond.soleField "WriteOnceDisc$Node" "directory") ∈ lw_all := lw_g (lw_at lw_m2 145 rfl) rfl
theorem q470 : (Jvm.Cond.lays "WriteOnceDisc$Node" "WriteOnceDisc$Node" "parent" "I") ∈ lw_all := lw_g (lw_at lw_m2 146 rfl) rfl
theorem q471 : (Jvm.Cond.soleField "WriteOnceDisc$Node" "parent") ∈ lw_all := lw_g (lw_at lw_m2 147 rfl) rfl
theorem q472 : (Jvm.Cond.lays "WriteOnceDisc$Node" "WriteOnceDisc$Node" "size" "I") ∈ lw_all := lw_g (lw_at lw_m2 148 rfl) rfl
theorem q473 : (Jvm.Cond.soleField "WriteOnceDisc$Node" "size") ∈ lw_all := lw_g (lw_at lw_m2 149 rfl) rfl
theorem q474 : (Jvm.Cond.lays "WriteOnceDisc$Node" "WriteOnceDisc$Node" "seed" "I") ∈ lw_all := lw_g (lw_at lw_m2 150 rfl) rfl
theorem q475 : (Jvm.Cond.soleField "WriteOnceDisc$Node" "seed") ∈ lw_all := lw_g (lw_at lw_m2 151 rfl) rfl
theorem q476 : (Jvm.Cond.lays "WriteOnceDisc$Node" "WriteOnceDisc$Node" "sector" "I") ∈ lw_all := lw_g (lw_at lw_m2 152 rfl) rfl
theorem q477 : (Jvm.Cond.soleField "WriteOnceDisc$Node" "sector") ∈ lw_all := lw_g (lw_at lw_m2 153 rfl) rfl
theorem q478 : (Jvm.Cond.lays "WriteOnceDisc$Node" "WriteOnceDisc$Node" "name" "Ljava/lang/String;") ∈ lw_all := lw_g (lw_at lw_m2 154 rfl) rfl
theorem q479 : (Jvm.Cond.soleField "WriteOnceDisc$Node" "name") ∈ lw_all := lw_g (lw_at lw_m2 155 rfl) rfl
theorem q480 : (Jvm.Cond.lays "WriteOnceDisc$Node" "WriteOnceDisc$Node" "identifier" "Ljava/lang/String;") ∈ lw_all := lw_g (lw_at lw_m2 156 rfl) rfl
theorem q481 : (Jvm.Cond.soleField "WriteOnceDisc$Node" "identifier") ∈ lw_all := lw_g (lw_at lw_m2 157 rfl) rfl
theorem q482 : (Jvm.Cond.lays "WriteOnceDisc$Node" "WriteOnceDisc$Node" "written" "Z") ∈ lw_all := lw_g (lw_at lw_m2 158 rfl) rfl
theorem q483 : (Jvm.Cond.soleField "WriteOnceDisc$Node" "written") ∈ lw_all := lw_g (lw_at lw_m2 159 rfl) rfl
theorem q484 : (Jvm.Cond.lays "WriteOnceDisc$Node" "WriteOnceDisc$Node" "at" "I") ∈ lw_all := lw_g (lw_at lw_m2 160 rfl) rfl
theorem q485 : (Jvm.Cond.soleField "WriteOnceDisc$Node" "at") ∈ lw_all := lw_g (lw_at lw_m2 161 rfl) rfl
theorem q486 : (Jvm.Cond.lays "WriteOnceDisc$Node" "WriteOnceDisc$Node" "many" "I") ∈ lw_all := lw_g (lw_at lw_m2 162 rfl) rfl
theorem q487 : (Jvm.Cond.soleField "WriteOnceDisc$Node" "many") ∈ lw_all := lw_g (lw_at lw_m2 163 rfl) rfl
theorem q488 : (Jvm.Cond.lays "WriteOnceDisc$Node" "WriteOnceDisc$Node" "place" "I") ∈ lw_all := lw_g (lw_at lw_m2 164 rfl) rfl
theorem q489 : (Jvm.Cond.soleField "WriteOnceDisc$Node" "place") ∈ lw_all := lw_g (lw_at lw_m2 165 rfl) rfl
theorem q490 : (Jvm.Cond.superclass "WriteOnceDisc$Node" "java/lang/Object") ∈ lw_all := lw_g (lw_at lw_m2 166 rfl) rfl
theorem q491 : (Jvm.Cond.methodLink "WriteOnceDisc$Tree" (25 : Nat) ({ cls := "WriteOnceDisc$Tree", name := "add", desc := "(LWriteOnceDisc$Node;)V" } : Jvm.MethodName)) ∈ lw_all := lw_g (lw_at lw_m2 167 rfl) rfl
theorem q492 : (Jvm.Cond.instanceMethod ({ cls := "WriteOnceDisc$Tree", name := "add", desc := "(LWriteOnceDisc$Node;)V" } : Jvm.MethodName)) ∈ lw_all := lw_g (lw_at lw_m2 168 rfl) rfl
theorem q493 : (Jvm.Cond.selects "WriteOnceDisc$Tree" ({ cls := "WriteOnceDisc$Tree", name := "add", desc := "(LWriteOnceDisc$Node;)V" } : Jvm.MethodName) ({ cls := "WriteOnceDisc$Tree", name := "add", desc := "(LWriteOnceDisc$Node;)V" } : Jvm.MethodName)) ∈ lw_all := lw_g (lw_at lw_m2 169 rfl) rfl
theorem q494 : (Jvm.Cond.code ({ cls := "WriteOnceDisc$Tree", name := "add", desc := "(LWriteOnceDisc$Node;)V" } : Jvm.MethodName) prog_9_method_2_code (2 : Nat) (Option.none : Option Jvm.ClassFile.FieldType)) ∈ lw_all := lw_g (lw_at lw_m2 170 rfl) rfl
theorem q495 : (Jvm.Cond.methodLink "WriteOnceDisc$Tree" (29 : Nat) ({ cls := "java/util/ArrayList", name := "add", desc := "(Ljava/lang/Object;)Z" } : Jvm.MethodName)) ∈ lw_all := lw_g (lw_at lw_m2 171 rfl) rfl
theorem q496 : (Jvm.Cond.instanceMethod ({ cls := "java/util/ArrayList", name := "add", desc := "(Ljava/lang/Object;)Z" } : Jvm.MethodName)) ∈ lw_all := lw_g (lw_at lw_m2 172 rfl) rfl
theorem q497 : (Jvm.Cond.selects "java/util/ArrayList" ({ cls := "java/util/ArrayList", name := "add", desc := "(Ljava/lang/Object;)Z" } : Jvm.MethodName) ({ cls := "java/util/ArrayList", name := "add", desc := "(Ljava/lang/Object;)Z" } : Jvm.MethodName)) ∈ lw_all := lw_g (lw_at lw_m2 173 rfl) rfl
theorem q498 : (Jvm.Cond.code ({ cls := "java/util/ArrayList", name := "add", desc := "(Ljava/lang/Object;)Z" } : Jvm.MethodName) prog_27_method_25_code (2 : Nat) (Option.some Jvm.ClassFile.FieldType.boolean)) ∈ lw_all := lw_g (lw_at lw_m2 174 rfl) rfl
theorem q499 : (Jvm.Cond.methodLink "java/util/ArrayList" (131 : Nat) ({ cls := "java/util/ArrayList", name := "add", desc := "(Ljava/lang/Object;[Ljava/lang/Object;I)V" } : Jvm.MethodName)) ∈ lw_all := lw_g (lw_at lw_m2 175 rfl) rfl
theorem q500 : (Jvm.Cond.privateMethod ({ cls := "java/util/ArrayList", name := "add", desc := "(Ljava/lang/Object;[Ljava/lang/Object;I)V" } : Jvm.MethodName)) ∈ lw_tbl := lw_at lw_m2 176 rfl
theorem q501 : (Jvm.Cond.instanceMethod ({ cls := "java/util/ArrayList", name := "add", desc := "(Ljava/lang/Object;[Ljava/lang/Object;I)V" } : Jvm.MethodName)) ∈ lw_all := lw_g (lw_at lw_m2 177 rfl) rfl
theorem q502 : (Jvm.Cond.code ({ cls := "java/util/ArrayList", name := "add", desc := "(Ljava/lang/Object;[Ljava/lang/Object;I)V" } : Jvm.MethodName) prog_27_method_24_code (4 : Nat) (Option.none : Option Jvm.ClassFile.FieldType)) ∈ lw_all := lw_g (lw_at lw_m2 178 rfl) rfl
theorem q503 : (Jvm.Cond.methodLink "java/util/ArrayList" (129 : Nat) ({ cls := "java/util/ArrayList", name := "grow", desc := "()[Ljava/lang/Object;" } : Jvm.MethodName)) ∈ lw_all := lw_g (lw_at lw_m2 179 rfl) rfl
theorem q504 : (Jvm.Cond.privateMethod ({ cls := "java/util/ArrayList", name := "grow", desc := "()[Ljava/lang/Object;" } : Jvm.MethodName)) ∈ lw_tbl := lw_at lw_m2 180 rfl
theorem q505 : (Jvm.Cond.instanceMethod ({ cls := "java/util/ArrayList", name := "grow", desc := "()[Ljava/lang/Object;" } : Jvm.MethodName)) ∈ lw_all := lw_g (lw_at lw_m2 181 rfl) rfl
theorem q506 : (Jvm.Cond.code ({ cls := "java/util/ArrayList", name := "grow", desc := "()[Ljava/lang/Object;" } : Jvm.MethodName) prog_27_method_7_code (1 : Nat) (Option.some (Jvm.ClassFile.FieldType.array (Jvm.ClassFile.FieldType.object "java/lang/Object")))) ∈ lw_all := lw_g (lw_at lw_m2 182 rfl) rfl
theorem q507 : (Jvm.Cond.methodLink "java/util/ArrayList" (69 : Nat) ({ cls := "java/util/ArrayList", name := "grow", desc := "(I)[Ljava/lang/Object;" } : Jvm.MethodName)) ∈ lw_all := lw_g (lw_at lw_m2 183 rfl) rfl
theorem q508 : (Jvm.Cond.privateMethod ({ cls := "java/util/ArrayList", name := "grow", desc := "(I)[Ljava/lang/Object;" } : Jvm.MethodName)) ∈ lw_tbl := lw_at lw_m2 184 rfl
theorem q509 : (Jvm.Cond.instanceMethod ({ cls := "java/util/ArrayList", name := "grow", desc := "(I)[Ljava/lang/Object;" } : Jvm.MethodName)) ∈ lw_all := lw_g (lw_at lw_m2 185 rfl) rfl
theorem q510 : (Jvm.Cond.code ({ cls := "java/util/ArrayList", name := "grow", desc := "(I)[Ljava/lang/Object;" } : Jvm.MethodName) prog_27_method_6_code (4 : Nat) (Option.some (Jvm.ClassFile.FieldType.array (Jvm.ClassFile.FieldType.object "java/lang/Object")))) ∈ lw_all := lw_g (lw_at lw_m2 186 rfl) rfl
theorem q511 : (Jvm.Cond.methodLink "java/util/ArrayList" (73 : Nat) ({ cls := "jdk/internal/util/ArraysSupport", name := "newLength", desc := "(III)I" } : Jvm.MethodName)) ∈ lw_all := lw_g (lw_at lw_m2 187 rfl) rfl
theorem q512 : (Jvm.Cond.methodLink "java/util/ArrayList" (66 : Nat) ({ cls := "java/util/Arrays", name := "copyOf", desc := "([Ljava/lang/Object;I)[Ljava/lang/Object;" } : Jvm.MethodName)) ∈ lw_all := lw_g (lw_at lw_m2 188 rfl) rfl
theorem q513 : (Jvm.Cond.static ({ cls := "java/util/Arrays", name := "copyOf", desc := "([Ljava/lang/Object;I)[Ljava/lang/Object;" } : Jvm.MethodName)) ∈ lw_all := lw_g (lw_at lw_m2 189 rfl) rfl
theorem q514 : (Jvm.Cond.code ({ cls := "java/util/Arrays", name := "copyOf", desc := "([Ljava/lang/Object;I)[Ljava/lang/Object;" } : Jvm.MethodName) prog_28_method_119_code (2 : Nat) (Option.some (Jvm.ClassFile.FieldType.array (Jvm.ClassFile.FieldType.object "java/lang/Object")))) ∈ lw_all := lw_g (lw_at lw_m2 190 rfl) rfl
theorem q515 : (Jvm.Cond.methodLink "java/util/Arrays" (86 : Nat) ({ cls := "java/lang/Object", name := "getClass", desc := "()Ljava/lang/Class;" } : Jvm.MethodName)) ∈ lw_all := lw_g (lw_at lw_m2 191 rfl) rfl
theorem q516 : (Jvm.Cond.instanceMethod ({ cls := "java/lang/Object", name := "getClass", desc := "()Ljava/lang/Class;" } : Jvm.MethodName)) ∈ lw_all := lw_g (lw_at lw_m2 192 rfl) rfl
theorem q517 : (Jvm.Cond.sameMethod "java/lang/Object" "java/lang/Object" "getClass" "()Ljava/lang/Class;") ∈ lw_all := lw_g (lw_at lw_m2 193 rfl) rfl
theorem q518 : (Jvm.Cond.selects "WriteOnceDisc" ({ cls := "java/lang/Object", name := "getClass", desc := "()Ljava/lang/Class;" } : Jvm.MethodName) ({ cls := "java/lang/Object", name := "getClass", desc := "()Ljava/lang/Class;" } : Jvm.MethodName)) ∈ lw_all := lw_g (lw_at lw_m2 194 rfl) rfl
theorem q519 : (Jvm.Cond.selects "WriteOnceDisc$Burner" ({ cls := "java/lang/Object", name := "getClass", desc := "()Ljava/lang/Class;" } : Jvm.MethodName) ({ cls := "java/lang/Object", name := "getClass", desc := "()Ljava/lang/Class;" } : Jvm.MethodName)) ∈ lw_all := lw_g (lw_at lw_m2 195 rfl) rfl
theorem q520 : (Jvm.Cond.selects "WriteOnceDisc$Found" ({ cls := "java/lang/Object", name := "getClass", desc := "()Ljava/lang/Class;" } : Jvm.MethodName) ({ cls := "java/lang/Object", name := "getClass", desc := "()Ljava/lang/Class;" } : Jvm.MethodName)) ∈ lw_all := lw_g (lw_at lw_m2 196 rfl) rfl
theorem q521 : (Jvm.Cond.selects "WriteOnceDisc$Medium" ({ cls := "java/lang/Object", name := "getClass", desc := "()Ljava/lang/Class;" } : Jvm.MethodName) ({ cls := "java/lang/Object", name := "getClass", desc := "()Ljava/lang/Class;" } : Jvm.MethodName)) ∈ lw_all := lw_g (lw_at lw_m2 197 rfl) rfl
theorem q522 : (Jvm.Cond.selects "WriteOnceDisc$Node" ({ cls := "java/lang/Object", name := "getClass", desc := "()Ljava/lang/Class;" } : Jvm.MethodName) ({ cls := "java/lang/Object", name := "getClass", desc := "()Ljava/lang/Class;" } : Jvm.MethodName)) ∈ lw_all := lw_g (lw_at lw_m2 198 rfl) rfl
theorem q523 : (Jvm.Cond.selects "WriteOnceDisc$Page" ({ cls := "java/lang/Object", name := "getClass", desc := "()Ljava/lang/Class;" } : Jvm.MethodName) ({ cls := "java/lang/Object", name := "getClass", desc := "()Ljava/lang/Class;" } : Jvm.MethodName)) ∈ lw_all := lw_g (lw_at lw_m2 199 rfl) rfl
theorem q524 : (Jvm.Cond.selects "WriteOnceDisc$Power" ({ cls := "java/lang/Object", name := "getClass", desc := "()Ljava/lang/Class;" } : Jvm.MethodName) ({ cls := "java/lang/Object", name := "getClass", desc := "()Ljava/lang/Class;" } : Jvm.MethodName)) ∈ lw_all := lw_g (lw_at lw_m2 200 rfl) rfl
theorem q525 : (Jvm.Cond.selects "WriteOnceDisc$Reader" ({ cls := "java/lang/Object", name := "getClass", desc := "()Ljava/lang/Class;" } : Jvm.MethodName) ({ cls := "java/lang/Object", name := "getClass", desc := "()Ljava/lang/Class;" } : Jvm.MethodName)) ∈ lw_all := lw_g (lw_at lw_m2 201 rfl) rfl
theorem q526 : (Jvm.Cond.selects "WriteOnceDisc$Tree" ({ cls := "java/lang/Object", name := "getClass", desc := "()Ljava/lang/Class;" } : Jvm.MethodName) ({ cls := "java/lang/Object", name := "getClass", desc := "()Ljava/lang/Class;" } : Jvm.MethodName)) ∈ lw_all := lw_g (lw_at lw_m2 202 rfl) rfl
theorem q527 : (Jvm.Cond.selects "WriteOnceDiscModel" ({ cls := "java/lang/Object", name := "getClass", desc := "()Ljava/lang/Class;" } : Jvm.MethodName) ({ cls := "java/lang/Object", name := "getClass", desc := "()Ljava/lang/Class;" } : Jvm.MethodName)) ∈ lw_all := lw_g (lw_at lw_m2 203 rfl) rfl
theorem q528 : (Jvm.Cond.selects "java/lang/String" ({ cls := "java/lang/Object", name := "getClass", desc := "()Ljava/lang/Class;" } : Jvm.MethodName) ({ cls := "java/lang/Object", name := "getClass", desc := "()Ljava/lang/Class;" } : Jvm.MethodName)) ∈ lw_all := lw_g (lw_at lw_m2 204 rfl) rfl
theorem q529 : (Jvm.Cond.selects "java/lang/StringBuilder" ({ cls := "java/lang/Object", name := "getClass", desc := "()Ljava/lang/Class;" } : Jvm.MethodName) ({ cls := "java/lang/Object", name := "getClass", desc := "()Ljava/lang/Class;" } : Jvm.MethodName)) ∈ lw_all := lw_g (lw_at lw_m2 205 rfl) rfl
theorem q530 : (Jvm.Cond.selects "java/util/ArrayList" ({ cls := "java/lang/Object", name := "getClass", desc := "()Ljava/lang/Class;" } : Jvm.MethodName) ({ cls := "java/lang/Object", name := "getClass", desc := "()Ljava/lang/Class;" } : Jvm.MethodName)) ∈ lw_all := lw_g (lw_at lw_m2 206 rfl) rfl
theorem q531 : (Jvm.Cond.selects "java/util/NoSuchElementException" ({ cls := "java/lang/Object", name := "getClass", desc := "()Ljava/lang/Class;" } : Jvm.MethodName) ({ cls := "java/lang/Object", name := "getClass", desc := "()Ljava/lang/Class;" } : Jvm.MethodName)) ∈ lw_all := lw_g (lw_at lw_m2 207 rfl) rfl
theorem q532 : (Jvm.Cond.native ({ cls := "java/lang/Object", name := "getClass", desc := "()Ljava/lang/Class;" } : Jvm.MethodName)) ∈ lw_all := lw_g (lw_at lw_m2 208 rfl) rfl
theorem q533 : (Jvm.Cond.methodLink "java/util/Arrays" (300 : Nat) ({ cls := "java/util/Arrays", name := "copyOf", desc := "([Ljava/lang/Object;ILjava/lang/Class;)[Ljava/lang/Object;" } : Jvm.MethodName)) ∈ lw_all := lw_g (lw_at lw_m2 209 rfl) rfl
theorem q534 : (Jvm.Cond.static ({ cls := "java/util/Arrays", name := "copyOf", desc := "([Ljava/lang/Object;ILjava/lang/Class;)[Ljava/lang/Object;" } : Jvm.MethodName)) ∈ lw_all := lw_g (lw_at lw_m2 210 rfl) rfl
theorem q535 : (Jvm.Cond.code ({ cls := "java/util/Arrays", name := "copyOf", desc := "([Ljava/lang/Object;ILjava/lang/Class;)[Ljava/lang/Object;" } : Jvm.MethodName) prog_28_method_120_code (4 : Nat) (Option.some (Jvm.ClassFile.FieldType.array (Jvm.ClassFile.FieldType.object "java/lang/Object")))) ∈ lw_all := lw_g (lw_at lw_m2 211 rfl) rfl
theorem q536 : (Jvm.Cond.classLink "java/util/Arrays" (110 : Nat) "[Ljava/lang/Object;") ∈ lw_all := lw_g (lw_at lw_m2 212 rfl) rfl
theorem q537 : (Jvm.Cond.arrayOver (Jvm.ClassFile.FieldType.object "java/lang/Object")) ∈ lw_tbl := lw_at lw_m2 213 rfl
theorem q538 : (Jvm.Cond.classLink "java/util/Arrays" (2 : Nat) "java/lang/Object") ∈ lw_all := lw_g (lw_at lw_m2 214 rfl) rfl
theorem q539 : (Jvm.Cond.methodLink "java/util/ArrayList" (79 : Nat) ({ cls := "java/lang/Math", name := "max", desc := "(II)I" } : Jvm.MethodName)) ∈ lw_all := lw_g (lw_at lw_m2 215 rfl) rfl
theorem q540 : (Jvm.Cond.classLink "java/util/ArrayList" (7 : Nat) "java/lang/Object") ∈ lw_all := lw_g (lw_at lw_m2 216 rfl) rfl
theorem q541 : (Jvm.Cond.fieldLink "WriteOnceDisc$Tree" (12 : Nat) "WriteOnceDisc$Tree" "nodes" "Ljava/util/ArrayList;") ∈ lw_all := lw_g (lw_at lw_m2 217 rfl) rfl
theorem q542 : (Jvm.Cond.fieldLink "WriteOnceDisc" (129 : Nat) "WriteOnceDisc$Tree" "nodes" "Ljava/util/ArrayList;") ∈ lw_all := lw_g (lw_at lw_m2 218 rfl) rfl
theorem q543 : (Jvm.Cond.fieldLink "WriteOnceDisc$Burner" (231 : Nat) "WriteOnceDisc$Tree" "nodes" "Ljava/util/ArrayList;") ∈ lw_all := lw_g (lw_at lw_m2 219 rfl) rfl
theorem q544 : (Jvm.Cond.fieldLink "WriteOnceDisc$Tree" (36 : Nat) "WriteOnceDisc$Tree" "given" "I") ∈ lw_all := lw_g (lw_at lw_m2 220 rfl) rfl
theorem q545 : (Jvm.Cond.fieldLink "WriteOnceDisc" (146 : Nat) "WriteOnceDisc$Tree" "given" "I") ∈ lw_all := lw_g (lw_at lw_m2 221 rfl) rfl
theorem q546 : (Jvm.Cond.laysFinal "WriteOnceDisc$Tree" "WriteOnceDisc$Tree" "nodes" "Ljava/util/ArrayList;") ∈ lw_all := lw_g (lw_at lw_m2 222 rfl) rfl
theorem q547 : (Jvm.Cond.soleField "WriteOnceDisc$Tree" "nodes") ∈ lw_all := lw_g (lw_at lw_m2 223 rfl) rfl
theorem q548 : (Jvm.Cond.lays "WriteOnceDisc$Tree" "WriteOnceDisc$Tree" "given" "I") ∈ lw_all := lw_g (lw_at lw_m2 224 rfl) rfl
theorem q549 : (Jvm.Cond.soleField "WriteOnceDisc$Tree" "given") ∈ lw_all := lw_g (lw_at lw_m2 225 rfl) rfl
theorem q550 : (Jvm.Cond.superclass "WriteOnceDisc$Tree" "java/lang/Object") ∈ lw_all := lw_g (lw_at lw_m2 226 rfl) rfl
theorem q551 : (Jvm.Cond.classLink "WriteOnceDisc" (59 : Nat) "WriteOnceDisc$Medium") ∈ lw_all := lw_g (lw_at lw_m2 227 rfl) rfl
theorem q552 : (Jvm.Cond.instantiable "WriteOnceDisc$Medium" (4 : Nat)) ∈ lw_all := lw_g (lw_at lw_m2 228 rfl) rfl
theorem q553 : (Jvm.Cond.methodLink "WriteOnceDisc" (61 : Nat) ({ cls := "WriteOnceDisc$Medium", name := "<init>", desc := "(I)V" } : Jvm.MethodName)) ∈ lw_all := lw_g (lw_at lw_m2 229 rfl) rfl
theorem q554 : (Jvm.Cond.instanceMethod ({ cls := "WriteOnceDisc$Medium", name := "<init>", desc := "(I)V" } : Jvm.MethodName)) ∈ lw_all := lw_g (lw_at lw_m2 230 rfl) rfl
theorem q555 : (Jvm.Cond.code ({ cls := "WriteOnceDisc$Medium", name := "<init>", desc := "(I)V" } : Jvm.MethodName) prog_4_method_1_code (2 : Nat) (Option.none : Option Jvm.ClassFile.FieldType)) ∈ lw_all := lw_g (lw_at lw_m2 231 rfl) rfl
theorem q556 : (Jvm.Cond.methodLink "WriteOnceDisc$Medium" (3 : Nat) ({ cls := "java/lang/Object", name := "<init>", desc := "()V" } : Jvm.MethodName)) ∈ lw_all := lw_g (lw_at lw_m2 232 rfl) rfl
theorem q557 : (Jvm.Cond.fieldLink "WriteOnceDisc$Medium" (9 : Nat) "WriteOnceDisc$Medium" "sectors" "I") ∈ lw_all := lw_g (lw_at lw_m2 233 rfl) rfl
theorem q558 : (Jvm.Cond.fieldLink "WriteOnceDisc$Burner" (87 : Nat) "WriteOnceDisc$Medium" "sectors" "I") ∈ lw_all := lw_g (lw_at lw_m2 234 rfl) rfl
theorem q559 : (Jvm.Cond.fieldLink "WriteOnceDisc" (90 : Nat) "WriteOnceDisc$Medium" "sectors" "I") ∈ lw_all := lw_g (lw_at lw_m2 235 rfl) rfl
theorem q560 : (Jvm.Cond.fieldLink "WriteOnceDisc$Medium" (15 : Nat) "WriteOnceDisc$Medium" "bytes" "[B") ∈ lw_all := lw_g (lw_at lw_m2 236 rfl) rfl
theorem q561 : (Jvm.Cond.fieldLink "WriteOnceDisc$Burner" (52 : Nat) "WriteOnceDisc$Medium" "bytes" "[B") ∈ lw_all := lw_g (lw_at lw_m2 237 rfl) rfl
theorem q562 : (Jvm.Cond.fieldLink "WriteOnceDisc" (267 : Nat) "WriteOnceDisc$Medium" "bytes" "[B") ∈ lw_all := lw_g (lw_at lw_m2 238 rfl) rfl
theorem q563 : (Jvm.Cond.fieldLink "WriteOnceDisc$Medium" (19 : Nat) "WriteOnceDisc$Medium" "states" "[I") ∈ lw_all := lw_g (lw_at lw_m2 239 rfl) rfl
theorem q564 : (Jvm.Cond.fieldLink "WriteOnceDisc$Burner" (48 : Nat) "WriteOnceDisc$Medium" "states" "[I") ∈ lw_all := lw_g (lw_at lw_m3 0 rfl) rfl
theorem q565 : (Jvm.Cond.fieldLink "WriteOnceDisc" (206 : Nat) "WriteOnceDisc$Medium" "states" "[I") ∈ lw_all := lw_g (lw_at lw_m3 1 rfl) rfl
theorem q566 : (Jvm.Cond.fieldLink "WriteOnceDisc$Medium" (23 : Nat) "WriteOnceDisc$Medium" "defects" "[Z") ∈ lw_all := lw_g (lw_at lw_m3 2 rfl) rfl
theorem q567 : (Jvm.Cond.fieldLink "WriteOnceDisc$Burner" (42 : Nat) "WriteOnceDisc$Medium" "defects" "[Z") ∈ lw_all := lw_g (lw_at lw_m3 3 rfl) rfl
theorem q568 : (Jvm.Cond.fieldLink "WriteOnceDisc" (98 : Nat) "WriteOnceDisc$Medium" "defects" "[Z") ∈ lw_all := lw_g (lw_at lw_m3 4 rfl) rfl
theorem q569 : (Jvm.Cond.laysFinal "WriteOnceDisc$Medium" "WriteOnceDisc$Medium" "sectors" "I") ∈ lw_all := lw_g (lw_at lw_m3 5 rfl) rfl
theorem q570 : (Jvm.Cond.soleField "WriteOnceDisc$Medium" "sectors") ∈ lw_all := lw_g (lw_at lw_m3 6 rfl) rfl
theorem q571 : (Jvm.Cond.laysFinal "WriteOnceDisc$Medium" "WriteOnceDisc$Medium" "bytes" "[B") ∈ lw_all := lw_g (lw_at lw_m3 7 rfl) rfl
theorem q572 : (Jvm.Cond.soleField "WriteOnceDisc$Medium" "bytes") ∈ lw_all := lw_g (lw_at lw_m3 8 rfl) rfl
theorem q573 : (Jvm.Cond.laysFinal "WriteOnceDisc$Medium" "WriteOnceDisc$Medium" "states" "[I") ∈ lw_all := lw_g (lw_at lw_m3 9 rfl) rfl
theorem q574 : (Jvm.Cond.soleField "WriteOnceDisc$Medium" "states") ∈ lw_all := lw_g (lw_at lw_m3 10 rfl) rfl
theorem q575 : (Jvm.Cond.laysFinal "WriteOnceDisc$Medium" "WriteOnceDisc$Medium" "defects" "[Z") ∈ lw_all := lw_g (lw_at lw_m3 11 rfl) rfl
theorem q576 : (Jvm.Cond.soleField "WriteOnceDisc$Medium" "defects") ∈ lw_all := lw_g (lw_at lw_m3 12 rfl) rfl
theorem q577 : (Jvm.Cond.superclass "WriteOnceDisc$Medium" "java/lang/Object") ∈ lw_all := lw_g (lw_at lw_m3 13 rfl) rfl
theorem q578 : (Jvm.Cond.arrayClass Jvm.ClassFile.FieldType.int) ∈ lw_all := lw_g (lw_at lw_m3 14 rfl) rfl
theorem q579 : (Jvm.Cond.arrayClass Jvm.ClassFile.FieldType.boolean) ∈ lw_all := lw_g (lw_at lw_m3 15 rfl) rfl
theorem q580 : (Jvm.Cond.classLink "WriteOnceDisc" (71 : Nat) "WriteOnceDisc$Reader") ∈ lw_all := lw_g (lw_at lw_m3 16 rfl) rfl
theorem q581 : (Jvm.Cond.instantiable "WriteOnceDisc$Reader" (11 : Nat)) ∈ lw_all := lw_g (lw_at lw_m3 17 rfl) rfl
theorem q582 : (Jvm.Cond.methodLink "WriteOnceDisc" (73 : Nat) ({ cls := "WriteOnceDisc$Reader", name := "<init>", desc := "(LWriteOnceDisc$Medium;)V" } : Jvm.MethodName)) ∈ lw_all := lw_g (lw_at lw_m3 18 rfl) rfl
theorem q583 : (Jvm.Cond.instanceMethod ({ cls := "WriteOnceDisc$Reader", name := "<init>", desc := "(LWriteOnceDisc$Medium;)V" } : Jvm.MethodName)) ∈ lw_all := lw_g (lw_at lw_m3 19 rfl) rfl
theorem q584 : (Jvm.Cond.code ({ cls := "WriteOnceDisc$Reader", name := "<init>", desc := "(LWriteOnceDisc$Medium;)V" } : Jvm.MethodName) prog_8_method_1_code (2 : Nat) (Option.none : Option Jvm.ClassFile.FieldType)) ∈ lw_all := lw_g (lw_at lw_m3 20 rfl) rfl
theorem q585 : (Jvm.Cond.methodLink "WriteOnceDisc$Reader" (3 : Nat) ({ cls := "java/lang/Object", name := "<init>", desc := "()V" } : Jvm.MethodName)) ∈ lw_all := lw_g (lw_at lw_m3 21 rfl) rfl
theorem q586 : (Jvm.Cond.classLink "WriteOnceDisc$Reader" (9 : Nat) "java/util/ArrayList") ∈ lw_all := lw_g (lw_at lw_m3 22 rfl) rfl
theorem q587 : (Jvm.Cond.methodLink "WriteOnceDisc$Reader" (11 : Nat) ({ cls := "java/util/ArrayList", name := "<init>", desc := "()V" } : Jvm.MethodName)) ∈ lw_all := lw_g (lw_at lw_m3 23 rfl) rfl
theorem q588 : (Jvm.Cond.classLink "WriteOnceDisc$Reader" (18 : Nat) "WriteOnceDisc$Found") ∈ lw_all := lw_g (lw_at lw_m3 24 rfl) rfl
theorem q589 : (Jvm.Cond.arrayOver (Jvm.ClassFile.FieldType.object "WriteOnceDisc$Found")) ∈ lw_tbl := lw_at lw_m3 25 rfl
theorem q590 : (Jvm.Cond.fieldLink "WriteOnceDisc$Reader" (12 : Nat) "WriteOnceDisc$Reader" "nodes" "Ljava/util/ArrayList;") ∈ lw_all := lw_g (lw_at lw_m3 26 rfl) rfl
theorem q591 : (Jvm.Cond.fieldLink "WriteOnceDisc" (226 : Nat) "WriteOnceDisc$Reader" "nodes" "Ljava/util/ArrayList;") ∈ lw_all := lw_g (lw_at lw_m3 27 rfl) rfl
theorem q592 : (Jvm.Cond.fieldLink "WriteOnceDisc$Reader" (20 : Nat) "WriteOnceDisc$Reader" "made" "[LWriteOnceDisc$Found;") ∈ lw_all := lw_g (lw_at lw_m3 28 rfl) rfl
theorem q593 : (Jvm.Cond.fieldLink "WriteOnceDisc$Reader" (118 : Nat) "WriteOnceDisc$Reader" "used" "I") ∈ lw_all := lw_g (lw_at lw_m3 29 rfl) rfl
theorem q594 : (Jvm.Cond.fieldLink "WriteOnceDisc$Reader" (28 : Nat) "WriteOnceDisc$Reader" "medium" "LWriteOnceDisc$Medium;") ∈ lw_all := lw_g (lw_at lw_m3 30 rfl) rfl
theorem q595 : (Jvm.Cond.fieldLink "WriteOnceDisc$Reader" (55 : Nat) "WriteOnceDisc$Reader" "idAt" "J") ∈ lw_all := lw_g (lw_at lw_m3 31 rfl) rfl
theorem q596 : (Jvm.Cond.fieldLink "WriteOnceDisc$Reader" (75 : Nat) "WriteOnceDisc$Reader" "lastAt" "J") ∈ lw_all := lw_g (lw_at lw_m3 32 rfl) rfl
theorem q597 : (Jvm.Cond.fieldLink "WriteOnceDisc$Reader" (61 : Nat) "WriteOnceDisc$Reader" "idLength" "I") ∈ lw_all := lw_g (lw_at lw_m3 33 rfl) rfl
theorem q598 : (Jvm.Cond.fieldLink "WriteOnceDisc$Reader" (72 : Nat) "WriteOnceDisc$Reader" "lastLength" "I") ∈ lw_all := lw_g (lw_at lw_m3 34 rfl) rfl
theorem q599 : (Jvm.Cond.fieldLink "WriteOnceDisc$Reader" (35 : Nat) "WriteOnceDisc$Reader" "wrong" "I") ∈ lw_all := lw_g (lw_at lw_m3 35 rfl) rfl
theorem q600 : (Jvm.Cond.fieldLink "WriteOnceDisc" (277 : Nat) "WriteOnceDisc$Reader" "wrong" "I") ∈ lw_all := lw_g (lw_at lw_m3 36 rfl) rfl
theorem q601 : (Jvm.Cond.fieldLink "WriteOnceDisc$Reader" (24 : Nat) "WriteOnceDisc$Reader" "places" "[I") ∈ lw_all := lw_g (lw_at lw_m3 37 rfl) rfl
theorem q602 : (Jvm.Cond.fieldLink "WriteOnceDisc$Reader" (193 : Nat) "WriteOnceDisc$Reader" "length" "I") ∈ lw_all := lw_g (lw_at lw_m3 38 rfl) rfl
theorem q603 : (Jvm.Cond.laysFinal "WriteOnceDisc$Reader" "WriteOnceDisc$Reader" "nodes" "Ljava/util/ArrayList;") ∈ lw_all := lw_g (lw_at lw_m3 39 rfl) rfl
theorem q604 : (Jvm.Cond.soleField "WriteOnceDisc$Reader" "nodes") ∈ lw_all := lw_g (lw_at lw_m3 40 rfl) rfl
theorem q605 : (Jvm.Cond.laysFinal "WriteOnceDisc$Reader" "WriteOnceDisc$Reader" "made" "[LWriteOnceDisc$Found;") ∈ lw_all := lw_g (lw_at lw_m3 41 rfl) rfl
theorem q606 : (Jvm.Cond.soleField "WriteOnceDisc$Reader" "made") ∈ lw_all := lw_g (lw_at lw_m3 42 rfl) rfl
theorem q607 : (Jvm.Cond.lays "WriteOnceDisc$Reader" "WriteOnceDisc$Reader" "used" "I") ∈ lw_all := lw_g (lw_at lw_m3 43 rfl) rfl
theorem q608 : (Jvm.Cond.soleField "WriteOnceDisc$Reader" "used") ∈ lw_all := lw_g (lw_at lw_m3 44 rfl) rfl
theorem q609 : (Jvm.Cond.lays "WriteOnceDisc$Reader" "WriteOnceDisc$Reader" "medium" "LWriteOnceDisc$Medium;") ∈ lw_all := lw_g (lw_at lw_m3 45 rfl) rfl
theorem q610 : (Jvm.Cond.soleField "WriteOnceDisc$Reader" "medium") ∈ lw_all := lw_g (lw_at lw_m3 46 rfl) rfl
theorem q611 : (Jvm.Cond.lays "WriteOnceDisc$Reader" "WriteOnceDisc$Reader" "idAt" "J") ∈ lw_all := lw_g (lw_at lw_m3 47 rfl) rfl
theorem q612 : (Jvm.Cond.soleField "WriteOnceDisc$Reader" "idAt") ∈ lw_all := lw_g (lw_at lw_m3 48 rfl) rfl
theorem q613 : (Jvm.Cond.lays "WriteOnceDisc$Reader" "WriteOnceDisc$Reader" "lastAt" "J") ∈ lw_all := lw_g (lw_at lw_m3 49 rfl) rfl
theorem q614 : (Jvm.Cond.soleField "WriteOnceDisc$Reader" "lastAt") ∈ lw_all := lw_g (lw_at lw_m3 50 rfl) rfl
theorem q615 : (Jvm.Cond.lays "WriteOnceDisc$Reader" "WriteOnceDisc$Reader" "idLength" "I") ∈ lw_all := lw_g (lw_at lw_m3 51 rfl) rfl
theorem q616 : (Jvm.Cond.soleField "WriteOnceDisc$Reader" "idLength") ∈ lw_all := lw_g (lw_at lw_m3 52 rfl) rfl
theorem q617 : (Jvm.Cond.lays "WriteOnceDisc$Reader" "WriteOnceDisc$Reader" "lastLength" "I") ∈ lw_all := lw_g (lw_at lw_m3 53 rfl) rfl
theorem q618 : (Jvm.Cond.soleField "WriteOnceDisc$Reader" "lastLength") ∈ lw_all := lw_g (lw_at lw_m3 54 rfl) rfl
theorem q619 : (Jvm.Cond.lays "WriteOnceDisc$Reader" "WriteOnceDisc$Reader" "wrong" "I") ∈ lw_all := lw_g (lw_at lw_m3 55 rfl) rfl
theorem q620 : (Jvm.Cond.soleField "WriteOnceDisc$Reader" "wrong") ∈ lw_all := lw_g (lw_at lw_m3 56 rfl) rfl
theorem q621 : (Jvm.Cond.laysFinal "WriteOnceDisc$Reader" "WriteOnceDisc$Reader" "places" "[I") ∈ lw_all := lw_g (lw_at lw_m3 57 rfl) rfl
theorem q622 : (Jvm.Cond.soleField "WriteOnceDisc$Reader" "places") ∈ lw_all := lw_g (lw_at lw_m3 58 rfl) rfl
theorem q623 : (Jvm.Cond.lays "WriteOnceDisc$Reader" "WriteOnceDisc$Reader" "length" "I") ∈ lw_all := lw_g (lw_at lw_m3 59 rfl) rfl
theorem q624 : (Jvm.Cond.soleField "WriteOnceDisc$Reader" "length") ∈ lw_all := lw_g (lw_at lw_m3 60 rfl) rfl
theorem q625 : (Jvm.Cond.superclass "WriteOnceDisc$Reader" "java/lang/Object") ∈ lw_all := lw_g (lw_at lw_m3 61 rfl) rfl
theorem q626 : (Jvm.Cond.fieldLink "WriteOnceDisc" (39 : Nat) "WriteOnceDisc" "power" "LWriteOnceDisc$Power;") ∈ lw_all := lw_g (lw_at lw_m3 62 rfl) rfl
theorem q627 : (Jvm.Cond.fieldLink "WriteOnceDisc" (48 : Nat) "WriteOnceDisc" "burner" "LWriteOnceDisc$Burner;") ∈ lw_all := lw_g (lw_at lw_m3 63 rfl) rfl
theorem q628 : (Jvm.Cond.fieldLink "WriteOnceDisc" (64 : Nat) "WriteOnceDisc" "medium" "LWriteOnceDisc$Medium;") ∈ lw_all := lw_g (lw_at lw_m3 64 rfl) rfl
theorem q629 : (Jvm.Cond.fieldLink "WriteOnceDisc" (68 : Nat) "WriteOnceDisc" "other" "LWriteOnceDisc$Medium;") ∈ lw_all := lw_g (lw_at lw_m3 65 rfl) rfl
theorem q630 : (Jvm.Cond.fieldLink "WriteOnceDisc" (55 : Nat) "WriteOnceDisc" "tree" "LWriteOnceDisc$Tree;") ∈ lw_all := lw_g (lw_at lw_m3 66 rfl) rfl
theorem q631 : (Jvm.Cond.fieldLink "WriteOnceDisc" (76 : Nat) "WriteOnceDisc" "opened" "LWriteOnceDisc$Reader;") ∈ lw_all := lw_g (lw_at lw_m3 67 rfl) rfl
theorem q632 : (Jvm.Cond.fieldLink "WriteOnceDisc" (80 : Nat) "WriteOnceDisc" "one" "LWriteOnceDisc$Reader;") ∈ lw_all := lw_g (lw_at lw_m3 68 rfl) rfl
theorem q633 : (Jvm.Cond.fieldLink "WriteOnceDisc" (83 : Nat) "WriteOnceDisc" "two" "LWriteOnceDisc$Reader;") ∈ lw_all := lw_g (lw_at lw_m3 69 rfl) rfl
theorem q634 : (Jvm.Cond.fieldLink "WriteOnceDisc" (86 : Nat) "WriteOnceDisc" "marked" "[I") ∈ lw_all := lw_g (lw_at lw_m3 70 rfl) rfl
theorem q635 : (Jvm.Cond.fieldLink "WriteOnceDisc" (197 : Nat) "WriteOnceDisc" "last" "I") ∈ lw_all := lw_g (lw_at lw_m3 71 rfl) rfl
theorem q636 : (Jvm.Cond.fieldLink "WriteOnceDisc" (223 : Nat) "WriteOnceDisc" "markCount" "I") ∈ lw_all := lw_g (lw_at lw_m3 72 rfl) rfl
theorem q637 : (Jvm.Cond.laysFinal "WriteOnceDisc" "WriteOnceDisc" "power" "LWriteOnceDisc$Power;") ∈ lw_all := lw_g (lw_at lw_m3 73 rfl) rfl
theorem q638 : (Jvm.Cond.soleField "WriteOnceDisc" "power") ∈ lw_all := lw_g (lw_at lw_m3 74 rfl) rfl
theorem q639 : (Jvm.Cond.laysFinal "WriteOnceDisc" "WriteOnceDisc" "burner" "LWriteOnceDisc$Burner;") ∈ lw_all := lw_g (lw_at lw_m3 75 rfl) rfl
theorem q640 : (Jvm.Cond.soleField "WriteOnceDisc" "burner") ∈ lw_all := lw_g (lw_at lw_m3 76 rfl) rfl
theorem q641 : (Jvm.Cond.lays "WriteOnceDisc" "WriteOnceDisc" "medium" "LWriteOnceDisc$Medium;") ∈ lw_all := lw_g (lw_at lw_m3 77 rfl) rfl
theorem q642 : (Jvm.Cond.soleField "WriteOnceDisc" "medium") ∈ lw_all := lw_g (lw_at lw_m3 78 rfl) rfl
theorem q643 : (Jvm.Cond.lays "WriteOnceDisc" "WriteOnceDisc" "other" "LWriteOnceDisc$Medium;") ∈ lw_all := lw_g (lw_at lw_m3 79 rfl) rfl
theorem q644 : (Jvm.Cond.soleField "WriteOnceDisc" "other") ∈ lw_all := lw_g (lw_at lw_m3 80 rfl) rfl
theorem q645 : (Jvm.Cond.lays "WriteOnceDisc" "WriteOnceDisc" "tree" "LWriteOnceDisc$Tree;") ∈ lw_all := lw_g (lw_at lw_m3 81 rfl) rfl
theorem q646 : (Jvm.Cond.soleField "WriteOnceDisc" "tree") ∈ lw_all := lw_g (lw_at lw_m3 82 rfl) rfl
theorem q647 : (Jvm.Cond.laysFinal "WriteOnceDisc" "WriteOnceDisc" "opened" "LWriteOnceDisc$Reader;") ∈ lw_all := lw_g (lw_at lw_m3 83 rfl) rfl
theorem q648 : (Jvm.Cond.soleField "WriteOnceDisc" "opened") ∈ lw_all := lw_g (lw_at lw_m3 84 rfl) rfl
theorem q649 : (Jvm.Cond.laysFinal "WriteOnceDisc" "WriteOnceDisc" "one" "LWriteOnceDisc$Reader;") ∈ lw_all := lw_g (lw_at lw_m3 85 rfl) rfl
theorem q650 : (Jvm.Cond.soleField "WriteOnceDisc" "one") ∈ lw_all := lw_g (lw_at lw_m3 86 rfl) rfl
theorem q651 : (Jvm.Cond.laysFinal "WriteOnceDisc" "WriteOnceDisc" "two" "LWriteOnceDisc$Reader;") ∈ lw_all := lw_g (lw_at lw_m3 87 rfl) rfl
theorem q652 : (Jvm.Cond.soleField "WriteOnceDisc" "two") ∈ lw_all := lw_g (lw_at lw_m3 88 rfl) rfl
theorem q653 : (Jvm.Cond.laysFinal "WriteOnceDisc" "WriteOnceDisc" "marked" "[I") ∈ lw_all := lw_g (lw_at lw_m3 89 rfl) rfl
theorem q654 : (Jvm.Cond.soleField "WriteOnceDisc" "marked") ∈ lw_all := lw_g (lw_at lw_m3 90 rfl) rfl
theorem q655 : (Jvm.Cond.lays "WriteOnceDisc" "WriteOnceDisc" "last" "I") ∈ lw_all := lw_g (lw_at lw_m3 91 rfl) rfl
theorem q656 : (Jvm.Cond.soleField "WriteOnceDisc" "last") ∈ lw_all := lw_g (lw_at lw_m3 92 rfl) rfl
theorem q657 : (Jvm.Cond.lays "WriteOnceDisc" "WriteOnceDisc" "markCount" "I") ∈ lw_all := lw_g (lw_at lw_m3 93 rfl) rfl
theorem q658 : (Jvm.Cond.soleField "WriteOnceDisc" "markCount") ∈ lw_all := lw_g (lw_at lw_m3 94 rfl) rfl
theorem q659 : (Jvm.Cond.superclass "WriteOnceDisc" "java/lang/Object") ∈ lw_all := lw_g (lw_at lw_m3 95 rfl) rfl
theorem q660 : (Jvm.Cond.methodLink "WriteOnceDiscLaw" (40 : Nat) ({ cls := "WriteOnceDisc", name := "defect", desc := "(I)Z" } : Jvm.MethodName)) ∈ lw_all := lw_g (lw_at lw_m3 96 rfl) rfl
theorem q661 : (Jvm.Cond.instanceMethod ({ cls := "WriteOnceDisc", name := "defect", desc := "(I)Z" } : Jvm.MethodName)) ∈ lw_all := lw_g (lw_at lw_m3 97 rfl) rfl
theorem q662 : (Jvm.Cond.selects "WriteOnceDisc" ({ cls := "WriteOnceDisc", name := "defect", desc := "(I)Z" } : Jvm.MethodName) ({ cls := "WriteOnceDisc", name := "defect", desc := "(I)Z" } : Jvm.MethodName)) ∈ lw_all := lw_g (lw_at lw_m3 98 rfl) rfl
theorem q663 : (Jvm.Cond.code ({ cls := "WriteOnceDisc", name := "defect", desc := "(I)Z" } : Jvm.MethodName) prog_1_method_6_code (2 : Nat) (Option.some Jvm.ClassFile.FieldType.boolean)) ∈ lw_all := lw_g (lw_at lw_m3 99 rfl) rfl
theorem q664 : (Jvm.Cond.methodLink "WriteOnceDisc" (94 : Nat) ({ cls := "WriteOnceDisc", name := "in", desc := "(III)Z" } : Jvm.MethodName)) ∈ lw_all := lw_g (lw_at lw_m3 100 rfl) rfl
theorem q665 : (Jvm.Cond.static ({ cls := "WriteOnceDisc", name := "in", desc := "(III)Z" } : Jvm.MethodName)) ∈ lw_all := lw_g (lw_at lw_m3 101 rfl) rfl
theorem q666 : (Jvm.Cond.code ({ cls := "WriteOnceDisc", name := "in", desc := "(III)Z" } : Jvm.MethodName) prog_1_method_5_code (3 : Nat) (Option.some Jvm.ClassFile.FieldType.boolean)) ∈ lw_all := lw_g (lw_at lw_m3 102 rfl) rfl
theorem q667 : (Jvm.Cond.methodLink "WriteOnceDiscLaw" (45 : Nat) ({ cls := "WriteOnceDisc", name := "power", desc := "(I)V" } : Jvm.MethodName)) ∈ lw_all := lw_g (lw_at lw_m3 103 rfl) rfl
theorem q668 : (Jvm.Cond.instanceMethod ({ cls := "WriteOnceDisc", name := "power", desc := "(I)V" } : Jvm.MethodName)) ∈ lw_all := lw_g (lw_at lw_m3 104 rfl) rfl
theorem q669 : (Jvm.Cond.selects "WriteOnceDisc" ({ cls := "WriteOnceDisc", name := "power", desc := "(I)V" } : Jvm.MethodName) ({ cls := "WriteOnceDisc", name := "power", desc := "(I)V" } : Jvm.MethodName)) ∈ lw_all := lw_g (lw_at lw_m3 105 rfl) rfl
theorem q670 : (Jvm.Cond.code ({ cls := "WriteOnceDisc", name := "power", desc := "(I)V" } : Jvm.MethodName) prog_1_method_7_code (2 : Nat) (Option.none : Option Jvm.ClassFile.FieldType)) ∈ lw_all := lw_g (lw_at lw_m3 106 rfl) rfl
theorem q671 : (Jvm.Cond.methodLink "WriteOnceDiscLaw" (51 : Nat) ({ cls := "WriteOnceDisc", name := "directory", desc := "(IJ)I" } : Jvm.MethodName)) ∈ lw_all := lw_g (lw_at lw_m3 107 rfl) rfl
theorem q672 : (Jvm.Cond.instanceMethod ({ cls := "WriteOnceDisc", name := "directory", desc := "(IJ)I" } : Jvm.MethodName)) ∈ lw_all := lw_g (lw_at lw_m3 108 rfl) rfl
theorem q673 : (Jvm.Cond.selects "WriteOnceDisc" ({ cls := "WriteOnceDisc", name := "directory", desc := "(IJ)I" } : Jvm.MethodName) ({ cls := "WriteOnceDisc", name := "directory", desc := "(IJ)I" } : Jvm.MethodName)) ∈ lw_all := lw_g (lw_at lw_m3 109 rfl) rfl
theorem q674 : (Jvm.Cond.code ({ cls := "WriteOnceDisc", name := "directory", desc := "(IJ)I" } : Jvm.MethodName) prog_1_method_11_code (6 : Nat) (Option.some Jvm.ClassFile.FieldType.int)) ∈ lw_all := lw_g (lw_at lw_m3 110 rfl) rfl
theorem q675 : (Jvm.Cond.methodLink "WriteOnceDisc" (138 : Nat) ({ cls := "WriteOnceDisc", name := "nameOf", desc := "(J)Ljava/lang/String;" } : Jvm.MethodName)) ∈ lw_all := lw_g (lw_at lw_m3 111 rfl) rfl
theorem q676 : (Jvm.Cond.static ({ cls := "WriteOnceDisc", name := "nameOf", desc := "(J)Ljava/lang/String;" } : Jvm.MethodName)) ∈ lw_all := lw_g (lw_at lw_m3 112 rfl) rfl
theorem q677 : (Jvm.Cond.code ({ cls := "WriteOnceDisc", name := "nameOf", desc := "(J)Ljava/lang/String;" } : Jvm.MethodName) prog_1_method_1_code (5 : Nat) (Option.some (Jvm.ClassFile.FieldType.object "java/lang/String"))) ∈ lw_all := lw_g (lw_at lw_m3 113 rfl) rfl
theorem q678 : (Jvm.Cond.classLink "WriteOnceDisc" (1 : Nat) "java/lang/StringBuilder") ∈ lw_all := lw_g (lw_at lw_m3 114 rfl) rfl
theorem q679 : (Jvm.Cond.methodLink "WriteOnceDisc" (3 : Nat) ({ cls := "java/lang/StringBuilder", name := "<init>", desc := "()V" } : Jvm.MethodName)) ∈ lw_all := lw_g (lw_at lw_m3 115 rfl) rfl
theorem q680 : (Jvm.Cond.methodLink "WriteOnceDisc" (7 : Nat) ({ cls := "WriteOnceDisc", name := "isName", desc := "(I)Z" } : Jvm.MethodName)) ∈ lw_all := lw_g (lw_at lw_m3 116 rfl) rfl
theorem q681 : (Jvm.Cond.static ({ cls := "WriteOnceDisc", name := "isName", desc := "(I)Z" } : Jvm.MethodName)) ∈ lw_all := lw_g (lw_at lw_m3 117 rfl) rfl
theorem q682 : (Jvm.Cond.code ({ cls := "WriteOnceDisc", name := "isName", desc := "(I)Z" } : Jvm.MethodName) prog_1_method_2_code (1 : Nat) (Option.some Jvm.ClassFile.FieldType.boolean)) ∈ lw_all := lw_g (lw_at lw_m3 118 rfl) rfl
theorem q683 : (Jvm.Cond.stringRef "WriteOnceDisc" (13 : Nat) "") ∈ lw_tbl := lw_at lw_m3 119 rfl
theorem q684 : (Jvm.Cond.methodLink "WriteOnceDisc" (15 : Nat) ({ cls := "java/lang/StringBuilder", name := "append", desc := "(C)Ljava/lang/StringBuilder;" } : Jvm.MethodName)) ∈ lw_all := lw_g (lw_at lw_m3 120 rfl) rfl
theorem q685 : (Jvm.Cond.instanceMethod ({ cls := "java/lang/StringBuilder", name := "append", desc := "(C)Ljava/lang/StringBuilder;" } : Jvm.MethodName)) ∈ lw_all := lw_g (lw_at lw_m3 121 rfl) rfl
theorem q686 : (Jvm.Cond.selects "java/lang/StringBuilder" ({ cls := "java/lang/StringBuilder", name := "append", desc := "(C)Ljava/lang/StringBuilder;" } : Jvm.MethodName) ({ cls := "java/lang/StringBuilder", name := "append", desc := "(C)Ljava/lang/StringBuilder;" } : Jvm.MethodName)) ∈ lw_all := lw_g (lw_at lw_m3 122 rfl) rfl
theorem q687 : (Jvm.Cond.code ({ cls := "java/lang/StringBuilder", name := "append", desc := "(C)Ljava/lang/StringBuilder;" } : Jvm.MethodName) prog_20_method_14_code (2 : Nat) (Option.some (Jvm.ClassFile.FieldType.object "java/lang/StringBuilder"))) ∈ lw_all := lw_g (lw_at lw_m3 123 rfl) rfl
theorem q688 : (Jvm.Cond.methodLink "java/lang/StringBuilder" (50 : Nat) ({ cls := "java/lang/AbstractStringBuilder", name := "append", desc := "(C)Ljava/lang/AbstractStringBuilder;" } : Jvm.MethodName)) ∈ lw_all := lw_g (lw_at lw_m3 124 rfl) rfl
theorem q689 : (Jvm.Cond.instanceMethod ({ cls := "java/lang/AbstractStringBuilder", name := "append", desc := "(C)Ljava/lang/AbstractStringBuilder;" } : Jvm.MethodName)) ∈ lw_all := lw_g (lw_at lw_m3 125 rfl) rfl
theorem q690 : (Jvm.Cond.code ({ cls := "java/lang/AbstractStringBuilder", name := "append", desc := "(C)Ljava/lang/AbstractStringBuilder;" } : Jvm.MethodName) prog_13_method_31_code (2 : Nat) (Option.some (Jvm.ClassFile.FieldType.object "java/lang/AbstractStringBuilder"))) ∈ lw_all := lw_g (lw_at lw_m3 126 rfl) rfl
theorem q691 : (Jvm.Cond.methodLink "java/lang/AbstractStringBuilder" (191 : Nat) ({ cls := "java/lang/StringLatin1", name := "canEncode", desc := "(C)Z" } : Jvm.MethodName)) ∈ lw_all := lw_g (lw_at lw_m3 127 rfl) rfl
theorem q692 : (Jvm.Cond.static ({ cls := "java/lang/StringLatin1", name := "canEncode", desc := "(C)Z" } : Jvm.MethodName)) ∈ lw_all := lw_g (lw_at lw_m3 128 rfl) rfl
theorem q693 : (Jvm.Cond.code ({ cls := "java/lang/StringLatin1", name := "canEncode", desc := "(C)Z" } : Jvm.MethodName) prog_21_method_3_code (1 : Nat) (Option.some Jvm.ClassFile.FieldType.boolean)) ∈ lw_all := lw_g (lw_at lw_m3 129 rfl) rfl
theorem q694 : (Jvm.Cond.methodLink "java/lang/AbstractStringBuilder" (197 : Nat) ({ cls := "java/lang/StringUTF16", name := "putCharSB", desc := "([BII)V" } : Jvm.MethodName)) ∈ lw_all := lw_g (lw_at lw_m3 130 rfl) rfl
theorem q695 : (Jvm.Cond.static ({ cls := "java/lang/StringUTF16", name := "putCharSB", desc := "([BII)V" } : Jvm.MethodName)) ∈ lw_all := lw_g (lw_at lw_m3 131 rfl) rfl
theorem q696 : (Jvm.Cond.code ({ cls := "java/lang/StringUTF16", name := "putCharSB", desc := "([BII)V" } : Jvm.MethodName) prog_22_method_71_code (3 : Nat) (Option.none : Option Jvm.ClassFile.FieldType)) ∈ lw_all := lw_g (lw_at lw_m3 132 rfl) rfl
theorem q697 : (Jvm.Cond.methodLink "java/lang/StringUTF16" (67 : Nat) ({ cls := "java/lang/StringUTF16", name := "checkIndex", desc := "(I[B)V" } : Jvm.MethodName)) ∈ lw_all := lw_g (lw_at lw_m3 133 rfl) rfl
theorem q698 : (Jvm.Cond.static ({ cls := "java/lang/StringUTF16", name := "checkIndex", desc := "(I[B)V" } : Jvm.MethodName)) ∈ lw_all := lw_g (lw_at lw_m3 134 rfl) rfl
theorem q699 : (Jvm.Cond.code ({ cls := "java/lang/StringUTF16", name := "checkIndex", desc := "(I[B)V" } : Jvm.MethodName) prog_22_method_91_code (2 : Nat) (Option.none : Option Jvm.ClassFile.FieldType)) ∈ lw_all := lw_g (lw_at lw_m3 135 rfl) rfl
theorem q700 : (Jvm.Cond.methodLink "java/lang/StringUTF16" (414 : Nat) ({ cls := "java/lang/String", name := "checkIndex", desc := "(II)V" } : Jvm.MethodName)) ∈ lw_all := lw_g (lw_at lw_m3 136 rfl) rfl
theorem q701 : (Jvm.Cond.static ({ cls := "java/lang/String", name := "checkIndex", desc := "(II)V" } : Jvm.MethodName)) ∈ lw_all := lw_g (lw_at lw_m3 137 rfl) rfl
theorem q702 : (Jvm.Cond.code ({ cls := "java/lang/String", name := "checkIndex", desc := "(II)V" } : Jvm.MethodName) prog_19_method_155_code (2 : Nat) (Option.none : Option Jvm.ClassFile.FieldType)) ∈ lw_all := lw_g (lw_at lw_m3 138 rfl) rfl
theorem q703 : (Jvm.Cond.methodLink "java/lang/String" (1059 : Nat) ({ cls := "jdk/internal/util/Preconditions", name := "checkIndex", desc := "(IILjava/util/function/BiFunction;)I" } : Jvm.MethodName)) ∈ lw_all := lw_g (lw_at lw_m3 139 rfl) rfl
theorem q704 : (Jvm.Cond.static ({ cls := "jdk/internal/util/Preconditions", name := "checkIndex", desc := "(IILjava/util/function/BiFunction;)I" } : Jvm.MethodName)) ∈ lw_all := lw_g (lw_at lw_m3 140 rfl) rfl
theorem q705 : (Jvm.Cond.code ({ cls := "jdk/internal/util/Preconditions", name := "checkIndex", desc := "(IILjava/util/function/BiFunction;)I" } : Jvm.MethodName) prog_36_method_11_code (3 : Nat) (Option.some Jvm.ClassFile.FieldType.int)) ∈ lw_all := lw_g (lw_at lw_m3 141 rfl) rfl
theorem q706 : (Jvm.Cond.methodLink "WriteOnceDisc" (19 : Nat) ({ cls := "java/lang/StringBuilder", name := "toString", desc := "()Ljava/lang/String;" } : Jvm.MethodName)) ∈ lw_all := lw_g (lw_at lw_m3 142 rfl) rfl
theorem q707 : (Jvm.Cond.methodLink "WriteOnceDisc" (142 : Nat) ({ cls := "WriteOnceDisc", name := "hindrance", desc := "(ILjava/lang/String;ZZ)I" } : Jvm.MethodName)) ∈ lw_all := lw_g (lw_at lw_m3 143 rfl) rfl
theorem q708 : (Jvm.Cond.privateMethod ({ cls := "WriteOnceDisc", name := "hindrance", desc := "(ILjava/lang/String;ZZ)I" } : Jvm.MethodName)) ∈ lw_tbl := lw_at lw_m3 144 rfl
theorem q709 : (Jvm.Cond.instanceMethod ({ cls := "WriteOnceDisc", name := "hindrance", desc := "(ILjava/lang/String;ZZ)I" } : Jvm.MethodName)) ∈ lw_all := lw_g (lw_at lw_m3 145 rfl) rfl
theorem q710 : (Jvm.Cond.code ({ cls := "WriteOnceDisc", name := "hindrance", desc := "(ILjava/lang/String;ZZ)I" } : Jvm.MethodName) prog_1_method_9_code (5 : Nat) (Option.some Jvm.ClassFile.FieldType.int)) ∈ lw_all := lw_g (lw_at lw_m3 146 rfl) rfl
theorem q711 : (Jvm.Cond.methodLink "WriteOnceDisc" (118 : Nat) ({ cls := "WriteOnceDisc", name := "isDirectory", desc := "(I)Z" } : Jvm.MethodName)) ∈ lw_all := lw_g (lw_at lw_m3 147 rfl) rfl
theorem q712 : (Jvm.Cond.privateMethod ({ cls := "WriteOnceDisc", name := "isDirectory", desc := "(I)Z" } : Jvm.MethodName)) ∈ lw_tbl := lw_at lw_m3 148 rfl
theorem q713 : (Jvm.Cond.instanceMethod ({ cls := "WriteOnceDisc", name := "isDirectory", desc := "(I)Z" } : Jvm.MethodName)) ∈ lw_all := lw_g (lw_at lw_m3 149 rfl) rfl
theorem q714 : (Jvm.Cond.code ({ cls := "WriteOnceDisc", name := "isDirectory", desc := "(I)Z" } : Jvm.MethodName) prog_1_method_8_code (2 : Nat) (Option.some Jvm.ClassFile.FieldType.boolean)) ∈ lw_all := lw_g (lw_at lw_m3 150 rfl) rfl
theorem q715 : (Jvm.Cond.methodLink "WriteOnceDisc" (105 : Nat) ({ cls := "WriteOnceDisc$Tree", name := "find", desc := "(I)LWriteOnceDisc$Node;" } : Jvm.MethodName)) ∈ lw_all := lw_g (lw_at lw_m3 151 rfl) rfl
theorem q716 : (Jvm.Cond.instanceMethod ({ cls := "WriteOnceDisc$Tree", name := "find", desc := "(I)LWriteOnceDisc$Node;" } : Jvm.MethodName)) ∈ lw_all := lw_g (lw_at lw_m3 152 rfl) rfl
theorem q717 : (Jvm.Cond.selects "WriteOnceDisc$Tree" ({ cls := "WriteOnceDisc$Tree", name := "find", desc := "(I)LWriteOnceDisc$Node;" } : Jvm.MethodName) ({ cls := "WriteOnceDisc$Tree", name := "find", desc := "(I)LWriteOnceDisc$Node;" } : Jvm.MethodName)) ∈ lw_all := lw_g (lw_at lw_m3 153 rfl) rfl
theorem q718 : (Jvm.Cond.code ({ cls := "WriteOnceDisc$Tree", name := "find", desc := "(I)LWriteOnceDisc$Node;" } : Jvm.MethodName) prog_9_method_3_code (3 : Nat) (Option.some (Jvm.ClassFile.FieldType.object "WriteOnceDisc$Node"))) ∈ lw_all := lw_g (lw_at lw_m3 154 rfl) rfl
theorem q719 : (Jvm.Cond.methodLink "WriteOnceDisc$Tree" (39 : Nat) ({ cls := "java/util/ArrayList", name := "size", desc := "()I" } : Jvm.MethodName)) ∈ lw_all := lw_g (lw_at lw_m3 155 rfl) rfl
theorem q720 : (Jvm.Cond.instanceMethod ({ cls := "java/util/ArrayList", name := "size", desc := "()I" } : Jvm.MethodName)) ∈ lw_all := lw_g (lw_at lw_m3 156 rfl) rfl
theorem q721 : (Jvm.Cond.selects "java/util/ArrayList" ({ cls := "java/util/ArrayList", name := "size", desc := "()I" } : Jvm.MethodName) ({ cls := "java/util/ArrayList", name := "size", desc := "()I" } : Jvm.MethodName)) ∈ lw_all := lw_g (lw_at lw_m3 157 rfl) rfl
theorem q722 : (Jvm.Cond.code ({ cls := "java/util/ArrayList", name := "size", desc := "()I" } : Jvm.MethodName) prog_27_method_8_code (1 : Nat) (Option.some Jvm.ClassFile.FieldType.int)) ∈ lw_all := lw_g (lw_at lw_m3 158 rfl) rfl
theorem q723 : (Jvm.Cond.methodLink "WriteOnceDisc$Tree" (43 : Nat) ({ cls := "java/util/ArrayList", name := "get", desc := "(I)Ljava/lang/Object;" } : Jvm.MethodName)) ∈ lw_all := lw_g (lw_at lw_m3 159 rfl) rfl
theorem q724 : (Jvm.Cond.instanceMethod ({ cls := "java/util/ArrayList", name := "get", desc := "(I)Ljava/lang/Object;" } : Jvm.MethodName)) ∈ lw_all := lw_g (lw_at lw_m3 160 rfl) rfl
theorem q725 : (Jvm.Cond.selects "java/util/ArrayList" ({ cls := "java/util/ArrayList", name := "get", desc := "(I)Ljava/lang/Object;" } : Jvm.MethodName) ({ cls := "java/util/ArrayList", name := "get", desc := "(I)Ljava/lang/Object;" } : Jvm.MethodName)) ∈ lw_all := lw_g (lw_at lw_m3 161 rfl) rfl
theorem q726 : (Jvm.Cond.code ({ cls := "java/util/ArrayList", name := "get", desc := "(I)Ljava/lang/Object;" } : Jvm.MethodName) prog_27_method_20_code (2 : Nat) (Option.some (Jvm.ClassFile.FieldType.object "java/lang/Object"))) ∈ lw_all := lw_g (lw_at lw_m3 162 rfl) rfl
theorem q727 : (Jvm.Cond.methodLink "java/util/ArrayList" (118 : Nat) ({ cls := "java/util/Objects", name := "checkIndex", desc := "(II)I" } : Jvm.MethodName)) ∈ lw_all := lw_g (lw_at lw_m3 163 rfl) rfl
theorem q728 : (Jvm.Cond.static ({ cls := "java/util/Objects", name := "checkIndex", desc := "(II)I" } : Jvm.MethodName)) ∈ lw_all := lw_g (lw_at lw_m3 164 rfl) rfl
theorem q729 : (Jvm.Cond.code ({ cls := "java/util/Objects", name := "checkIndex", desc := "(II)I" } : Jvm.MethodName) prog_32_method_17_code (2 : Nat) (Option.some Jvm.ClassFile.FieldType.int)) ∈ lw_all := lw_g (lw_at lw_m3 165 rfl) rfl
theorem q730 : (Jvm.Cond.methodLink "java/util/Objects" (105 : Nat) ({ cls := "jdk/internal/util/Preconditions", name := "checkIndex", desc := "(IILjava/util/function/BiFunction;)I" } : Jvm.MethodName)) ∈ lw_all := lw_g (lw_at lw_m3 166 rfl) rfl
theorem q731 : (Jvm.Cond.methodLink "java/util/ArrayList" (123 : Nat) ({ cls := "java/util/ArrayList", name := "elementData", desc := "(I)Ljava/lang/Object;" } : Jvm.MethodName)) ∈ lw_all := lw_g (lw_at lw_m3 167 rfl) rfl
theorem q732 : (Jvm.Cond.instanceMethod ({ cls := "java/util/ArrayList", name := "elementData", desc := "(I)Ljava/lang/Object;" } : Jvm.MethodName)) ∈ lw_all := lw_g (lw_at lw_m3 168 rfl) rfl
theorem q733 : (Jvm.Cond.selects "java/util/ArrayList" ({ cls := "java/util/ArrayList", name := "elementData", desc := "(I)Ljava/lang/Object;" } : Jvm.MethodName) ({ cls := "java/util/ArrayList", name := "elementData", desc := "(I)Ljava/lang/Object;" } : Jvm.MethodName)) ∈ lw_all := lw_g (lw_at lw_m3 169 rfl) rfl
theorem q734 : (Jvm.Cond.code ({ cls := "java/util/ArrayList", name := "elementData", desc := "(I)Ljava/lang/Object;" } : Jvm.MethodName) prog_27_method_18_code (2 : Nat) (Option.some (Jvm.ClassFile.FieldType.object "java/lang/Object"))) ∈ lw_all := lw_g (lw_at lw_m3 170 rfl) rfl
theorem q735 : (Jvm.Cond.methodLink "WriteOnceDisc" (23 : Nat) ({ cls := "java/lang/String", name := "length", desc := "()I" } : Jvm.MethodName)) ∈ lw_all := lw_g (lw_at lw_m3 171 rfl) rfl
theorem q736 : (Jvm.Cond.methodLink "WriteOnceDisc" (121 : Nat) ({ cls := "WriteOnceDisc$Tree", name := "depth", desc := "(I)I" } : Jvm.MethodName)) ∈ lw_all := lw_g (lw_at lw_m3 172 rfl) rfl
theorem q737 : (Jvm.Cond.instanceMethod ({ cls := "WriteOnceDisc$Tree", name := "depth", desc := "(I)I" } : Jvm.MethodName)) ∈ lw_all := lw_g (lw_at lw_m3 173 rfl) rfl
theorem q738 : (Jvm.Cond.selects "WriteOnceDisc$Tree" ({ cls := "WriteOnceDisc$Tree", name := "depth", desc := "(I)I" } : Jvm.MethodName) ({ cls := "WriteOnceDisc$Tree", name := "depth", desc := "(I)I" } : Jvm.MethodName)) ∈ lw_all := lw_g (lw_at lw_m3 174 rfl) rfl
theorem q739 : (Jvm.Cond.code ({ cls := "WriteOnceDisc$Tree", name := "depth", desc := "(I)I" } : Jvm.MethodName) prog_9_method_4_code (4 : Nat) (Option.some Jvm.ClassFile.FieldType.int)) ∈ lw_all := lw_g (lw_at lw_m3 175 rfl) rfl
theorem q740 : (Jvm.Cond.methodLink "WriteOnceDisc$Tree" (47 : Nat) ({ cls := "WriteOnceDisc$Tree", name := "find", desc := "(I)LWriteOnceDisc$Node;" } : Jvm.MethodName)) ∈ lw_all := lw_g (lw_at lw_m3 176 rfl) rfl
theorem q741 : (Jvm.Cond.methodLink "WriteOnceDisc" (125 : Nat) ({ cls := "WriteOnceDisc$Tree", name := "isNamed", desc := "(ILjava/lang/String;I)Z" } : Jvm.MethodName)) ∈ lw_all := lw_g (lw_at lw_m3 177 rfl) rfl
theorem q742 : (Jvm.Cond.instanceMethod ({ cls := "WriteOnceDisc$Tree", name := "isNamed", desc := "(ILjava/lang/String;I)Z" } : Jvm.MethodName)) ∈ lw_all := lw_g (lw_at lw_m3 178 rfl) rfl
theorem q743 : (Jvm.Cond.selects "WriteOnceDisc$Tree" ({ cls := "WriteOnceDisc$Tree", name := "isNamed", desc := "(ILjava/lang/String;I)Z" } : Jvm.MethodName) ({ cls := "WriteOnceDisc$Tree", name := "isNamed", desc := "(ILjava/lang/String;I)Z" } : Jvm.MethodName)) ∈ lw_all := lw_g (lw_at lw_m3 179 rfl) rfl
theorem q744 : (Jvm.Cond.code ({ cls := "WriteOnceDisc$Tree", name := "isNamed", desc := "(ILjava/lang/String;I)Z" } : Jvm.MethodName) prog_9_method_5_code (6 : Nat) (Option.some Jvm.ClassFile.FieldType.boolean)) ∈ lw_all := lw_g (lw_at lw_m3 180 rfl) rfl
theorem q745 : (Jvm.Cond.methodLink "WriteOnceDisc$Tree" (58 : Nat) ({ cls := "java/lang/String", name := "equals", desc := "(Ljava/lang/Object;)Z" } : Jvm.MethodName)) ∈ lw_all := lw_g (lw_at lw_m3 181 rfl) rfl
theorem q746 : (Jvm.Cond.instanceMethod ({ cls := "java/lang/String", name := "equals", desc := "(Ljava/lang/Object;)Z" } : Jvm.MethodName)) ∈ lw_all := lw_g (lw_at lw_m3 182 rfl) rfl
theorem q747 : (Jvm.Cond.selects "java/lang/String" ({ cls := "java/lang/String", name := "equals", desc := "(Ljava/lang/Object;)Z" } : Jvm.MethodName) ({ cls := "java/lang/String", name := "equals", desc := "(Ljava/lang/Object;)Z" } : Jvm.MethodName)) ∈ lw_all := lw_g (lw_at lw_m3 183 rfl) rfl
theorem q748 : (Jvm.Cond.code ({ cls := "java/lang/String", name := "equals", desc := "(Ljava/lang/Object;)Z" } : Jvm.MethodName) prog_19_method_66_code (3 : Nat) (Option.some Jvm.ClassFile.FieldType.boolean)) ∈ lw_all := lw_g (lw_at lw_m3 184 rfl) rfl
theorem q749 : (Jvm.Cond.classLink "java/lang/String" (10 : Nat) "java/lang/String") ∈ lw_all := lw_g (lw_at lw_m3 185 rfl) rfl
theorem q750 : (Jvm.Cond.methodLink "java/lang/String" (541 : Nat) ({ cls := "java/lang/StringLatin1", name := "equals", desc := "([B[B)Z" } : Jvm.MethodName)) ∈ lw_all := lw_g (lw_at lw_m3 186 rfl) rfl
theorem q751 : (Jvm.Cond.static ({ cls := "java/lang/StringLatin1", name := "equals", desc := "([B[B)Z" } : Jvm.MethodName)) ∈ lw_all := lw_g (lw_at lw_m3 187 rfl) rfl
theorem q752 : (Jvm.Cond.code ({ cls := "java/lang/StringLatin1", name := "equals", desc := "([B[B)Z" } : Jvm.MethodName) prog_21_method_13_code (3 : Nat) (Option.some Jvm.ClassFile.FieldType.boolean)) ∈ lw_all := lw_g (lw_at lw_m3 188 rfl) rfl
theorem q753 : (Jvm.Cond.methodLink "WriteOnceDisc" (133 : Nat) ({ cls := "java/util/ArrayList", name := "size", desc := "()I" } : Jvm.MethodName)) ∈ lw_all := lw_g (lw_at lw_m3 189 rfl) rfl
theorem q754 : (Jvm.Cond.classLink "WriteOnceDisc" (110 : Nat) "WriteOnceDisc$Node") ∈ lw_all := lw_g (lw_at lw_m3 190 rfl) rfl
theorem q755 : (Jvm.Cond.methodLink "WriteOnceDisc" (149 : Nat) ({ cls := "WriteOnceDisc$Node", name := "<init>", desc := "(IIZLjava/lang/String;)V" } : Jvm.MethodName)) ∈ lw_all := lw_g (lw_at lw_m3 191 rfl) rfl
theorem q756 : (Jvm.Cond.methodLink "WriteOnceDisc" (152 : Nat) ({ cls := "WriteOnceDisc$Tree", name := "add", desc := "(LWriteOnceDisc$Node;)V" } : Jvm.MethodName)) ∈ lw_all := lw_g (lw_at lw_m3 192 rfl) rfl
theorem q757 : (Jvm.Cond.methodLink "WriteOnceDiscLaw" (56 : Nat) ({ cls := "WriteOnceDisc", name := "file", desc := "(IJII)I" } : Jvm.MethodName)) ∈ lw_all := lw_g (lw_at lw_m3 193 rfl) rfl
theorem q758 : (Jvm.Cond.instanceMethod ({ cls := "WriteOnceDisc", name := "file", desc := "(IJII)I" } : Jvm.MethodName)) ∈ lw_all := lw_g (lw_at lw_m3 194 rfl) rfl
theorem q759 : (Jvm.Cond.selects "WriteOnceDisc" ({ cls := "WriteOnceDisc", name := "file", desc := "(IJII)I" } : Jvm.MethodName) ({ cls := "WriteOnceDisc", name := "file", desc := "(IJII)I" } : Jvm.MethodName)) ∈ lw_all := lw_g (lw_at lw_m3 195 rfl) rfl
theorem q760 : (Jvm.Cond.code ({ cls := "WriteOnceDisc", name := "file", desc := "(IJII)I" } : Jvm.MethodName) prog_1_method_12_code (9 : Nat) (Option.some Jvm.ClassFile.FieldType.int)) ∈ lw_all := lw_g (lw_at lw_m3 196 rfl) rfl
theorem q761 : (Jvm.Cond.methodLink "WriteOnceDisc" (156 : Nat) ({ cls := "WriteOnceDisc", name := "isContent", desc := "(II)Z" } : Jvm.MethodName)) ∈ lw_all := lw_g (lw_at lw_m3 197 rfl) rfl
theorem q762 : (Jvm.Cond.static ({ cls := "WriteOnceDisc", name := "isContent", desc := "(II)Z" } : Jvm.MethodName)) ∈ lw_all := lw_g (lw_at lw_m3 198 rfl) rfl
theorem q763 : (Jvm.Cond.code ({ cls := "WriteOnceDisc", name := "isContent", desc := "(II)Z" } : Jvm.MethodName) prog_1_method_10_code (2 : Nat) (Option.some Jvm.ClassFile.FieldType.boolean)) ∈ lw_all := lw_g (lw_at lw_m3 199 rfl) rfl
theorem q764 : (Jvm.Cond.methodLink "WriteOnceDiscLaw" (61 : Nat) ({ cls := "WriteOnceDisc", name := "replace", desc := "(III)I" } : Jvm.MethodName)) ∈ lw_all := lw_g (lw_at lw_m3 200 rfl) rfl
theorem q765 : (Jvm.Cond.instanceMethod ({ cls := "WriteOnceDisc", name := "replace", desc := "(III)I" } : Jvm.MethodName)) ∈ lw_all := lw_g (lw_at lw_m3 201 rfl) rfl
theorem q766 : (Jvm.Cond.selects "WriteOnceDisc" ({ cls := "WriteOnceDisc", name := "replace", desc := "(III)I" } : Jvm.MethodName) ({ cls := "WriteOnceDisc", name := "replace", desc := "(III)I" } : Jvm.MethodName)) ∈ lw_all := lw_g (lw_at lw_m3 202 rfl) rfl
theorem q767 : (Jvm.Cond.code ({ cls := "WriteOnceDisc", name := "replace", desc := "(III)I" } : Jvm.MethodName) prog_1_method_13_code (5 : Nat) (Option.some Jvm.ClassFile.FieldType.int)) ∈ lw_all := lw_g (lw_at lw_m3 203 rfl) rfl
theorem q768 : (Jvm.Cond.methodLink "WriteOnceDiscLaw" (66 : Nat) ({ cls := "WriteOnceDisc", name := "remove", desc := "(I)I" } : Jvm.MethodName)) ∈ lw_all := lw_g (lw_at lw_m3 204 rfl) rfl
theorem q769 : (Jvm.Cond.instanceMethod ({ cls := "WriteOnceDisc", name := "remove", desc := "(I)I" } : Jvm.MethodName)) ∈ lw_all := lw_g (lw_at lw_m3 205 rfl) rfl
theorem q770 : (Jvm.Cond.selects "WriteOnceDisc" ({ cls := "WriteOnceDisc", name := "remove", desc := "(I)I" } : Jvm.MethodName) ({ cls := "WriteOnceDisc", name := "remove", desc := "(I)I" } : Jvm.MethodName)) ∈ lw_all := lw_g (lw_at lw_m3 206 rfl) rfl
theorem q771 : (Jvm.Cond.code ({ cls := "WriteOnceDisc", name := "remove", desc := "(I)I" } : Jvm.MethodName) prog_1_method_14_code (4 : Nat) (Option.some Jvm.ClassFile.FieldType.int)) ∈ lw_all := lw_g (lw_at lw_m3 207 rfl) rfl
theorem q772 : (Jvm.Cond.methodLink "WriteOnceDisc" (174 : Nat) ({ cls := "WriteOnceDisc$Tree", name := "isEmpty", desc := "(I)Z" } : Jvm.MethodName)) ∈ lw_all := lw_g (lw_at lw_m3 208 rfl) rfl
theorem q773 : (Jvm.Cond.instanceMethod ({ cls := "WriteOnceDisc$Tree", name := "isEmpty", desc := "(I)Z" } : Jvm.MethodName)) ∈ lw_all := lw_g (lw_at lw_m3 209 rfl) rfl
theorem q774 : (Jvm.Cond.selects "WriteOnceDisc$Tree" ({ cls := "WriteOnceDisc$Tree", name := "isEmpty", desc := "(I)Z" } : Jvm.MethodName) ({ cls := "WriteOnceDisc$Tree", name := "isEmpty", desc := "(I)Z" } : Jvm.MethodName)) ∈ lw_all := lw_g (lw_at lw_m3 210 rfl) rfl
theorem q775 : (Jvm.Cond.code ({ cls := "WriteOnceDisc$Tree", name := "isEmpty", desc := "(I)Z" } : Jvm.MethodName) prog_9_method_6_code (4 : Nat) (Option.some Jvm.ClassFile.FieldType.boolean)) ∈ lw_all := lw_g (lw_at lw_m3 211 rfl) rfl
theorem q776 : (Jvm.Cond.methodLink "WriteOnceDisc" (177 : Nat) ({ cls := "java/util/ArrayList", name := "get", desc := "(I)Ljava/lang/Object;" } : Jvm.MethodName)) ∈ lw_all := lw_g (lw_at lw_m3 212 rfl) rfl
theorem q777 : (Jvm.Cond.methodLink "WriteOnceDisc" (181 : Nat) ({ cls := "java/util/ArrayList", name := "remove", desc := "(I)Ljava/lang/Object;" } : Jvm.MethodName)) ∈ lw_all := lw_g (lw_at lw_m3 213 rfl) rfl
theorem q778 : (Jvm.Cond.instanceMethod ({ cls := "java/util/ArrayList", name := "remove", desc := "(I)Ljava/lang/Object;" } : Jvm.MethodName)) ∈ lw_all := lw_g (lw_at lw_m3 214 rfl) rfl
theorem q779 : (Jvm.Cond.selects "java/util/ArrayList" ({ cls := "java/util/ArrayList", name := "remove", desc := "(I)Ljava/lang/Object;" } : Jvm.MethodName) ({ cls := "java/util/ArrayList", name := "remove", desc := "(I)Ljava/lang/Object;" } : Jvm.MethodName)) ∈ lw_all := lw_g (lw_at lw_m3 215 rfl) rfl
theorem q780 : (Jvm.Cond.code ({ cls := "java/util/ArrayList", name := "remove", desc := "(I)Ljava/lang/Object;" } : Jvm.MethodName) prog_27_method_29_code (4 : Nat) (Option.some (Jvm.ClassFile.FieldType.object "java/lang/Object"))) ∈ lw_all := lw_g (lw_at lw_m3 216 rfl) rfl
theorem q781 : (Jvm.Cond.methodLink "java/util/ArrayList" (144 : Nat) ({ cls := "java/util/ArrayList", name := "fastRemove", desc := "([Ljava/lang/Object;I)V" } : Jvm.MethodName)) ∈ lw_all := lw_g (lw_at lw_m3 217 rfl) rfl
theorem q782 : (Jvm.Cond.privateMethod ({ cls := "java/util/ArrayList", name := "fastRemove", desc := "([Ljava/lang/Object;I)V" } : Jvm.MethodName)) ∈ lw_tbl := lw_at lw_m3 218 rfl
theorem q783 : (Jvm.Cond.instanceMethod ({ cls := "java/util/ArrayList", name := "fastRemove", desc := "([Ljava/lang/Object;I)V" } : Jvm.MethodName)) ∈ lw_all := lw_g (lw_at lw_m3 219 rfl) rfl
theorem q784 : (Jvm.Cond.code ({ cls := "java/util/ArrayList", name := "fastRemove", desc := "([Ljava/lang/Object;I)V" } : Jvm.MethodName) prog_27_method_39_code (4 : Nat) (Option.none : Option Jvm.ClassFile.FieldType)) ∈ lw_all := lw_g (lw_at lw_m3 220 rfl) rfl
theorem q785 : (Jvm.Cond.methodLink "java/util/ArrayList" (112 : Nat) ({ cls := "java/lang/System", name := "arraycopy", desc := "(Ljava/lang/Object;ILjava/lang/Object;II)V" } : Jvm.MethodName)) ∈ lw_all := lw_g (lw_at lw_m3 221 rfl) rfl
theorem q786 : (Jvm.Cond.methodLink "WriteOnceDiscLaw" (71 : Nat) ({ cls := "WriteOnceDisc", name := "rename", desc := "(IIJ)I" } : Jvm.MethodName)) ∈ lw_all := lw_g (lw_at lw_m3 222 rfl) rfl
theorem q787 : (Jvm.Cond.instanceMethod ({ cls := "WriteOnceDisc", name := "rename", desc := "(IIJ)I" } : Jvm.MethodName)) ∈ lw_all := lw_g (lw_at lw_m3 223 rfl) rfl
theorem q788 : (Jvm.Cond.selects "WriteOnceDisc" ({ cls := "WriteOnceDisc", name := "rename", desc := "(IIJ)I" } : Jvm.MethodName) ({ cls := "WriteOnceDisc", name := "rename", desc := "(IIJ)I" } : Jvm.MethodName)) ∈ lw_all := lw_g (lw_at lw_m3 224 rfl) rfl
theorem q789 : (Jvm.Cond.code ({ cls := "WriteOnceDisc", name := "rename", desc := "(IIJ)I" } : Jvm.MethodName) prog_1_method_15_code (7 : Nat) (Option.some Jvm.ClassFile.FieldType.int)) ∈ lw_all := lw_g (lw_at lw_m3 225 rfl) rfl
theorem q790 : (Jvm.Cond.methodLink "WriteOnceDisc" (184 : Nat) ({ cls := "WriteOnceDisc$Tree", name := "isIn", desc := "(II)Z" } : Jvm.MethodName)) ∈ lw_all := lw_g (lw_at lw_m3 226 rfl) rfl
theorem q791 : (Jvm.Cond.instanceMethod ({ cls := "WriteOnceDisc$Tree", name := "isIn", desc := "(II)Z" } : Jvm.MethodName)) ∈ lw_all := lw_g (lw_at lw_m3 227 rfl) rfl
theorem q792 : (Jvm.Cond.selects "WriteOnceDisc$Tree" ({ cls := "WriteOnceDisc$Tree", name := "isIn", desc := "(II)Z" } : Jvm.MethodName) ({ cls := "WriteOnceDisc$Tree", name := "isIn", desc := "(II)Z" } : Jvm.MethodName)) ∈ lw_all := lw_g (lw_at lw_m3 228 rfl) rfl
theorem q793 : (Jvm.Cond.code ({ cls := "WriteOnceDisc$Tree", name := "isIn", desc := "(II)Z" } : Jvm.MethodName) prog_9_method_7_code (5 : Nat) (Option.some Jvm.ClassFile.FieldType.boolean)) ∈ lw_all := lw_g (lw_at lw_m3 229 rfl) rfl
theorem q794 : (Jvm.Cond.methodLink "WriteOnceDisc" (187 : Nat) ({ cls := "WriteOnceDisc$Tree", name := "height", desc := "(I)I" } : Jvm.MethodName)) ∈ lw_all := lw_g (lw_at lw_m3 230 rfl) rfl
theorem q795 : (Jvm.Cond.instanceMethod ({ cls := "WriteOnceDisc$Tree", name := "height", desc := "(I)I" } : Jvm.MethodName)) ∈ lw_all := lw_g (lw_at lw_m3 231 rfl) rfl
theorem q796 : (Jvm.Cond.selects "WriteOnceDisc$Tree" ({ cls := "WriteOnceDisc$Tree", name := "height", desc := "(I)I" } : Jvm.MethodName) ({ cls := "WriteOnceDisc$Tree", name := "height", desc := "(I)I" } : Jvm.MethodName)) ∈ lw_all := lw_g (lw_at lw_m3 232 rfl) rfl
theorem q797 : (Jvm.Cond.code ({ cls := "WriteOnceDisc$Tree", name := "height", desc := "(I)I" } : Jvm.MethodName) prog_9_method_8_code (5 : Nat) (Option.some Jvm.ClassFile.FieldType.int)) ∈ lw_all := lw_g (lw_at lw_m3 233 rfl) rfl
theorem q798 : (Jvm.Cond.methodLink "WriteOnceDisc$Tree" (67 : Nat) ({ cls := "WriteOnceDisc$Tree", name := "depth", desc := "(I)I" } : Jvm.MethodName)) ∈ lw_all := lw_g (lw_at lw_m3 234 rfl) rfl
theorem q799 : (Jvm.Cond.methodLink "WriteOnceDisc$Tree" (71 : Nat) ({ cls := "WriteOnceDisc$Tree", name := "isIn", desc := "(II)Z" } : Jvm.MethodName)) ∈ lw_all := lw_g (lw_at lw_m3 235 rfl) rfl
theorem q800 : (Jvm.Cond.methodLink "WriteOnceDisc$Tree" (75 : Nat) ({ cls := "java/lang/Math", name := "max", desc := "(II)I" } : Jvm.MethodName)) ∈ lw_all := lw_g (lw_at lw_m3 236 rfl) rfl
theorem q801 : (Jvm.Cond.methodLink "WriteOnceDisc" (193 : Nat) ({ cls := "WriteOnceDisc$Node", name := "call", desc := "(Ljava/lang/String;)V" } : Jvm.MethodName)) ∈ lw_all := lw_g (lw_at lw_m3 237 rfl) rfl
theorem q802 : (Jvm.Cond.methodLink "WriteOnceDiscLaw" (76 : Nat) ({ cls := "WriteOnceDisc", name := "commit", desc := "()I" } : Jvm.MethodName)) ∈ lw_all := lw_g (lw_at lw_m3 238 rfl) rfl
theorem q803 : (Jvm.Cond.instanceMethod ({ cls := "WriteOnceDisc", name := "commit", desc := "()I" } : Jvm.MethodName)) ∈ lw_all := lw_g (lw_at lw_m3 239 rfl) rfl
theorem q804 : (Jvm.Cond.selects "WriteOnceDisc" ({ cls := "WriteOnceDisc", name := "commit", desc := "()I" } : Jvm.MethodName) ({ cls := "WriteOnceDisc", name := "commit", desc := "()I" } : Jvm.MethodName)) ∈ lw_all := lw_g (lw_at lw_m4 0 rfl) rfl
theorem q805 : (Jvm.Cond.code ({ cls := "WriteOnceDisc", name := "commit", desc := "()I" } : Jvm.MethodName) prog_1_method_16_code (2 : Nat) (Option.some Jvm.ClassFile.FieldType.int)) ∈ lw_all := lw_g (lw_at lw_m4 1 rfl) rfl
theorem q806 : (Jvm.Cond.methodLink "WriteOnceDisc" (200 : Nat) ({ cls := "WriteOnceDisc$Burner", name := "commit", desc := "(LWriteOnceDisc$Medium;LWriteOnceDisc$Medium;LWriteOnceDisc$Tree;I)I" } : Jvm.MethodName)) ∈ lw_all := lw_g (lw_at lw_m4 2 rfl) rfl
theorem q807 : (Jvm.Cond.instanceMethod ({ cls := "WriteOnceDisc$Burner", name := "commit", desc := "(LWriteOnceDisc$Medium;LWriteOnceDisc$Medium;LWriteOnceDisc$Tree;I)I" } : Jvm.MethodName)) ∈ lw_all := lw_g (lw_at lw_m4 3 rfl) rfl
theorem q808 : (Jvm.Cond.selects "WriteOnceDisc$Burner" ({ cls := "WriteOnceDisc$Burner", name := "commit", desc := "(LWriteOnceDisc$Medium;LWriteOnceDisc$Medium;LWriteOnceDisc$Tree;I)I" } : Jvm.MethodName) ({ cls := "WriteOnceDisc$Burner", name := "commit", desc := "(LWriteOnceDisc$Medium;LWriteOnceDisc$Medium;LWriteOnceDisc$Tree;I)I" } : Jvm.MethodName)) ∈ lw_all := lw_g (lw_at lw_m4 4 rfl) rfl
theorem q809 : (Jvm.Cond.code ({ cls := "WriteOnceDisc$Burner", name := "commit", desc := "(LWriteOnceDisc$Medium;LWriteOnceDisc$Medium;LWriteOnceDisc$Tree;I)I" } : Jvm.MethodName) prog_2_method_18_code (8 : Nat) (Option.some Jvm.ClassFile.FieldType.int)) ∈ lw_all := lw_g (lw_at lw_m4 5 rfl) rfl
theorem q810 : (Jvm.Cond.methodLink "WriteOnceDisc$Burner" (137 : Nat) ({ cls := "java/util/ArrayList", name := "size", desc := "()I" } : Jvm.MethodName)) ∈ lw_all := lw_g (lw_at lw_m4 6 rfl) rfl
theorem q811 : (Jvm.Cond.methodLink "WriteOnceDisc$Burner" (139 : Nat) ({ cls := "java/util/ArrayList", name := "get", desc := "(I)Ljava/lang/Object;" } : Jvm.MethodName)) ∈ lw_all := lw_g (lw_at lw_m4 7 rfl) rfl
theorem q812 : (Jvm.Cond.classLink "WriteOnceDisc$Burner" (62 : Nat) "WriteOnceDisc$Node") ∈ lw_all := lw_g (lw_at lw_m4 8 rfl) rfl
theorem q813 : (Jvm.Cond.methodLink "WriteOnceDisc$Burner" (234 : Nat) ({ cls := "WriteOnceDisc$Burner", name := "extent", desc := "(LWriteOnceDisc$Node;)I" } : Jvm.MethodName)) ∈ lw_all := lw_g (lw_at lw_m4 9 rfl) rfl
theorem q814 : (Jvm.Cond.privateMethod ({ cls := "WriteOnceDisc$Burner", name := "extent", desc := "(LWriteOnceDisc$Node;)I" } : Jvm.MethodName)) ∈ lw_tbl := lw_at lw_m4 10 rfl
theorem q815 : (Jvm.Cond.instanceMethod ({ cls := "WriteOnceDisc$Burner", name := "extent", desc := "(LWriteOnceDisc$Node;)I" } : Jvm.MethodName)) ∈ lw_all := lw_g (lw_at lw_m4 11 rfl) rfl
theorem q816 : (Jvm.Cond.code ({ cls := "WriteOnceDisc$Burner", name := "extent", desc := "(LWriteOnceDisc$Node;)I" } : Jvm.MethodName) prog_2_method_5_code (4 : Nat) (Option.some Jvm.ClassFile.FieldType.int)) ∈ lw_all := lw_g (lw_at lw_m4 12 rfl) rfl
theorem q817 : (Jvm.Cond.methodLink "WriteOnceDisc$Burner" (80 : Nat) ({ cls := "WriteOnceDisc$Medium", name := "front", desc := "()I" } : Jvm.MethodName)) ∈ lw_all := lw_g (lw_at lw_m4 13 rfl) rfl
theorem q818 : (Jvm.Cond.instanceMethod ({ cls := "WriteOnceDisc$Medium", name := "front", desc := "()I" } : Jvm.MethodName)) ∈ lw_all := lw_g (lw_at lw_m4 14 rfl) rfl
theorem q819 : (Jvm.Cond.selects "WriteOnceDisc$Medium" ({ cls := "WriteOnceDisc$Medium", name := "front", desc := "()I" } : Jvm.MethodName) ({ cls := "WriteOnceDisc$Medium", name := "front", desc := "()I" } : Jvm.MethodName)) ∈ lw_all := lw_g (lw_at lw_m4 15 rfl) rfl
theorem q820 : (Jvm.Cond.code ({ cls := "WriteOnceDisc$Medium", name := "front", desc := "()I" } : Jvm.MethodName) prog_4_method_3_code (2 : Nat) (Option.some Jvm.ClassFile.FieldType.int)) ∈ lw_all := lw_g (lw_at lw_m4 16 rfl) rfl
theorem q821 : (Jvm.Cond.methodLink "WriteOnceDisc$Burner" (84 : Nat) ({ cls := "WriteOnceDisc$Node", name := "need", desc := "()I" } : Jvm.MethodName)) ∈ lw_all := lw_g (lw_at lw_m4 17 rfl) rfl
theorem q822 : (Jvm.Cond.instanceMethod ({ cls := "WriteOnceDisc$Node", name := "need", desc := "()I" } : Jvm.MethodName)) ∈ lw_all := lw_g (lw_at lw_m4 18 rfl) rfl
theorem q823 : (Jvm.Cond.selects "WriteOnceDisc$Node" ({ cls := "WriteOnceDisc$Node", name := "need", desc := "()I" } : Jvm.MethodName) ({ cls := "WriteOnceDisc$Node", name := "need", desc := "()I" } : Jvm.MethodName)) ∈ lw_all := lw_g (lw_at lw_m4 19 rfl) rfl
theorem q824 : (Jvm.Cond.code ({ cls := "WriteOnceDisc$Node", name := "need", desc := "()I" } : Jvm.MethodName) prog_5_method_3_code (1 : Nat) (Option.some Jvm.ClassFile.FieldType.int)) ∈ lw_all := lw_g (lw_at lw_m4 20 rfl) rfl
theorem q825 : (Jvm.Cond.methodLink "WriteOnceDisc$Burner" (90 : Nat) ({ cls := "WriteOnceDisc$Burner", name := "contentOf", desc := "(LWriteOnceDisc$Node;I)[B" } : Jvm.MethodName)) ∈ lw_all := lw_g (lw_at lw_m4 21 rfl) rfl
theorem q826 : (Jvm.Cond.privateMethod ({ cls := "WriteOnceDisc$Burner", name := "contentOf", desc := "(LWriteOnceDisc$Node;I)[B" } : Jvm.MethodName)) ∈ lw_tbl := lw_at lw_m4 22 rfl
theorem q827 : (Jvm.Cond.instanceMethod ({ cls := "WriteOnceDisc$Burner", name := "contentOf", desc := "(LWriteOnceDisc$Node;I)[B" } : Jvm.MethodName)) ∈ lw_all := lw_g (lw_at lw_m4 23 rfl) rfl
theorem q828 : (Jvm.Cond.code ({ cls := "WriteOnceDisc$Burner", name := "contentOf", desc := "(LWriteOnceDisc$Node;I)[B" } : Jvm.MethodName) prog_2_method_4_code (6 : Nat) (Option.some (Jvm.ClassFile.FieldType.array Jvm.ClassFile.FieldType.byte))) ∈ lw_all := lw_g (lw_at lw_m4 24 rfl) rfl
theorem q829 : (Jvm.Cond.methodLink "WriteOnceDisc$Burner" (56 : Nat) ({ cls := "WriteOnceDisc$Burner", name := "blank", desc := "()LWriteOnceDisc$Page;" } : Jvm.MethodName)) ∈ lw_all := lw_g (lw_at lw_m4 25 rfl) rfl
theorem q830 : (Jvm.Cond.privateMethod ({ cls := "WriteOnceDisc$Burner", name := "blank", desc := "()LWriteOnceDisc$Page;" } : Jvm.MethodName)) ∈ lw_tbl := lw_at lw_m4 26 rfl
theorem q831 : (Jvm.Cond.instanceMethod ({ cls := "WriteOnceDisc$Burner", name := "blank", desc := "()LWriteOnceDisc$Page;" } : Jvm.MethodName)) ∈ lw_all := lw_g (lw_at lw_m4 27 rfl) rfl
theorem q832 : (Jvm.Cond.code ({ cls := "WriteOnceDisc$Burner", name := "blank", desc := "()LWriteOnceDisc$Page;" } : Jvm.MethodName) prog_2_method_2_code (1 : Nat) (Option.some (Jvm.ClassFile.FieldType.object "WriteOnceDisc$Page"))) ∈ lw_all := lw_g (lw_at lw_m4 28 rfl) rfl
theorem q833 : (Jvm.Cond.methodLink "WriteOnceDisc$Burner" (29 : Nat) ({ cls := "WriteOnceDisc$Page", name := "clear", desc := "()V" } : Jvm.MethodName)) ∈ lw_all := lw_g (lw_at lw_m4 29 rfl) rfl
theorem q834 : (Jvm.Cond.instanceMethod ({ cls := "WriteOnceDisc$Page", name := "clear", desc := "()V" } : Jvm.MethodName)) ∈ lw_all := lw_g (lw_at lw_m4 30 rfl) rfl
theorem q835 : (Jvm.Cond.selects "WriteOnceDisc$Page" ({ cls := "WriteOnceDisc$Page", name := "clear", desc := "()V" } : Jvm.MethodName) ({ cls := "WriteOnceDisc$Page", name := "clear", desc := "()V" } : Jvm.MethodName)) ∈ lw_all := lw_g (lw_at lw_m4 31 rfl) rfl
theorem q836 : (Jvm.Cond.code ({ cls := "WriteOnceDisc$Page", name := "clear", desc := "()V" } : Jvm.MethodName) prog_6_method_2_code (2 : Nat) (Option.none : Option Jvm.ClassFile.FieldType)) ∈ lw_all := lw_g (lw_at lw_m4 32 rfl) rfl
theorem q837 : (Jvm.Cond.methodLink "WriteOnceDisc$Burner" (94 : Nat) ({ cls := "WriteOnceDisc$Burner", name := "writes", desc := "(I[BI)Z" } : Jvm.MethodName)) ∈ lw_all := lw_g (lw_at lw_m4 33 rfl) rfl
theorem q838 : (Jvm.Cond.privateMethod ({ cls := "WriteOnceDisc$Burner", name := "writes", desc := "(I[BI)Z" } : Jvm.MethodName)) ∈ lw_tbl := lw_at lw_m4 34 rfl
theorem q839 : (Jvm.Cond.instanceMethod ({ cls := "WriteOnceDisc$Burner", name := "writes", desc := "(I[BI)Z" } : Jvm.MethodName)) ∈ lw_all := lw_g (lw_at lw_m4 35 rfl) rfl
theorem q840 : (Jvm.Cond.code ({ cls := "WriteOnceDisc$Burner", name := "writes", desc := "(I[BI)Z" } : Jvm.MethodName) prog_2_method_3_code (5 : Nat) (Option.some Jvm.ClassFile.FieldType.boolean)) ∈ lw_all := lw_g (lw_at lw_m4 36 rfl) rfl
theorem q841 : (Jvm.Cond.methodLink "WriteOnceDisc$Burner" (32 : Nat) ({ cls := "WriteOnceDisc$Power", name := "lasts", desc := "()Z" } : Jvm.MethodName)) ∈ lw_all := lw_g (lw_at lw_m4 37 rfl) rfl
theorem q842 : (Jvm.Cond.instanceMethod ({ cls := "WriteOnceDisc$Power", name := "lasts", desc := "()Z" } : Jvm.MethodName)) ∈ lw_all := lw_g (lw_at lw_m4 38 rfl) rfl
theorem q843 : (Jvm.Cond.selects "WriteOnceDisc$Power" ({ cls := "WriteOnceDisc$Power", name := "lasts", desc := "()Z" } : Jvm.MethodName) ({ cls := "WriteOnceDisc$Power", name := "lasts", desc := "()Z" } : Jvm.MethodName)) ∈ lw_all := lw_g (lw_at lw_m4 39 rfl) rfl
theorem q844 : (Jvm.Cond.code ({ cls := "WriteOnceDisc$Power", name := "lasts", desc := "()Z" } : Jvm.MethodName) prog_7_method_2_code (1 : Nat) (Option.some Jvm.ClassFile.FieldType.boolean)) ∈ lw_all := lw_g (lw_at lw_m4 40 rfl) rfl
theorem q845 : (Jvm.Cond.methodLink "WriteOnceDisc$Burner" (213 : Nat) ({ cls := "WriteOnceDisc$Burner", name := "layOut", desc := "(I)I" } : Jvm.MethodName)) ∈ lw_all := lw_g (lw_at lw_m4 41 rfl) rfl
theorem q846 : (Jvm.Cond.privateMethod ({ cls := "WriteOnceDisc$Burner", name := "layOut", desc := "(I)I" } : Jvm.MethodName)) ∈ lw_tbl := lw_at lw_m4 42 rfl
theorem q847 : (Jvm.Cond.instanceMethod ({ cls := "WriteOnceDisc$Burner", name := "layOut", desc := "(I)I" } : Jvm.MethodName)) ∈ lw_all := lw_g (lw_at lw_m4 43 rfl) rfl
theorem q848 : (Jvm.Cond.code ({ cls := "WriteOnceDisc$Burner", name := "layOut", desc := "(I)I" } : Jvm.MethodName) prog_2_method_9_code (9 : Nat) (Option.some Jvm.ClassFile.FieldType.int)) ∈ lw_all := lw_g (lw_at lw_m4 44 rfl) rfl
theorem q849 : (Jvm.Cond.methodLink "WriteOnceDisc$Burner" (122 : Nat) ({ cls := "java/util/ArrayList", name := "clear", desc := "()V" } : Jvm.MethodName)) ∈ lw_all := lw_g (lw_at lw_m4 45 rfl) rfl
theorem q850 : (Jvm.Cond.instanceMethod ({ cls := "java/util/ArrayList", name := "clear", desc := "()V" } : Jvm.MethodName)) ∈ lw_all := lw_g (lw_at lw_m4 46 rfl) rfl
theorem q851 : (Jvm.Cond.selects "java/util/ArrayList" ({ cls := "java/util/ArrayList", name := "clear", desc := "()V" } : Jvm.MethodName) ({ cls := "java/util/ArrayList", name := "clear", desc := "()V" } : Jvm.MethodName)) ∈ lw_all := lw_g (lw_at lw_m4 47 rfl) rfl
theorem q852 : (Jvm.Cond.code ({ cls := "java/util/ArrayList", name := "clear", desc := "()V" } : Jvm.MethodName) prog_27_method_40_code (4 : Nat) (Option.none : Option Jvm.ClassFile.FieldType)) ∈ lw_all := lw_g (lw_at lw_m4 48 rfl) rfl
theorem q853 : (Jvm.Cond.methodLink "WriteOnceDisc$Burner" (127 : Nat) ({ cls := "WriteOnceDisc$Tree", name := "find", desc := "(I)LWriteOnceDisc$Node;" } : Jvm.MethodName)) ∈ lw_all := lw_g (lw_at lw_m4 49 rfl) rfl
theorem q854 : (Jvm.Cond.methodLink "WriteOnceDisc$Burner" (133 : Nat) ({ cls := "java/util/ArrayList", name := "add", desc := "(Ljava/lang/Object;)Z" } : Jvm.MethodName)) ∈ lw_all := lw_g (lw_at lw_m4 50 rfl) rfl
theorem q855 : (Jvm.Cond.methodLink "WriteOnceDisc$Burner" (149 : Nat) ({ cls := "WriteOnceDisc$Tree", name := "order", desc := "(I)Ljava/util/ArrayList;" } : Jvm.MethodName)) ∈ lw_all := lw_g (lw_at lw_m4 51 rfl) rfl
theorem q856 : (Jvm.Cond.instanceMethod ({ cls := "WriteOnceDisc$Tree", name := "order", desc := "(I)Ljava/util/ArrayList;" } : Jvm.MethodName)) ∈ lw_all := lw_g (lw_at lw_m4 52 rfl) rfl
theorem q857 : (Jvm.Cond.selects "WriteOnceDisc$Tree" ({ cls := "WriteOnceDisc$Tree", name := "order", desc := "(I)Ljava/util/ArrayList;" } : Jvm.MethodName) ({ cls := "WriteOnceDisc$Tree", name := "order", desc := "(I)Ljava/util/ArrayList;" } : Jvm.MethodName)) ∈ lw_all := lw_g (lw_at lw_m4 53 rfl) rfl
theorem q858 : (Jvm.Cond.code ({ cls := "WriteOnceDisc$Tree", name := "order", desc := "(I)Ljava/util/ArrayList;" } : Jvm.MethodName) prog_9_method_9_code (6 : Nat) (Option.some (Jvm.ClassFile.FieldType.object "java/util/ArrayList"))) ∈ lw_all := lw_g (lw_at lw_m4 54 rfl) rfl
theorem q859 : (Jvm.Cond.methodLinkNest "WriteOnceDisc$Tree" (84 : Nat) ({ cls := "WriteOnceDisc", name := "isBefore", desc := "(Ljava/lang/String;Ljava/lang/String;)Z" } : Jvm.MethodName) "WriteOnceDisc") ∈ lw_tbl := lw_at lw_m4 55 rfl
theorem q860 : (Jvm.Cond.static ({ cls := "WriteOnceDisc", name := "isBefore", desc := "(Ljava/lang/String;Ljava/lang/String;)Z" } : Jvm.MethodName)) ∈ lw_all := lw_g (lw_at lw_m4 56 rfl) rfl
theorem q861 : (Jvm.Cond.code ({ cls := "WriteOnceDisc", name := "isBefore", desc := "(Ljava/lang/String;Ljava/lang/String;)Z" } : Jvm.MethodName) prog_1_method_3_code (3 : Nat) (Option.some Jvm.ClassFile.FieldType.boolean)) ∈ lw_all := lw_g (lw_at lw_m4 57 rfl) rfl
theorem q862 : (Jvm.Cond.methodLink "WriteOnceDisc" (29 : Nat) ({ cls := "java/lang/String", name := "charAt", desc := "(I)C" } : Jvm.MethodName)) ∈ lw_all := lw_g (lw_at lw_m4 58 rfl) rfl
theorem q863 : (Jvm.Cond.instanceMethod ({ cls := "java/lang/String", name := "charAt", desc := "(I)C" } : Jvm.MethodName)) ∈ lw_all := lw_g (lw_at lw_m4 59 rfl) rfl
theorem q864 : (Jvm.Cond.selects "java/lang/String" ({ cls := "java/lang/String", name := "charAt", desc := "(I)C" } : Jvm.MethodName) ({ cls := "java/lang/String", name := "charAt", desc := "(I)C" } : Jvm.MethodName)) ∈ lw_all := lw_g (lw_at lw_m4 60 rfl) rfl
theorem q865 : (Jvm.Cond.code ({ cls := "java/lang/String", name := "charAt", desc := "(I)C" } : Jvm.MethodName) prog_19_method_56_code (2 : Nat) (Option.some Jvm.ClassFile.FieldType.char)) ∈ lw_all := lw_g (lw_at lw_m4 61 rfl) rfl
theorem q866 : (Jvm.Cond.methodLink "java/lang/String" (492 : Nat) ({ cls := "java/lang/String", name := "isLatin1", desc := "()Z" } : Jvm.MethodName)) ∈ lw_all := lw_g (lw_at lw_m4 62 rfl) rfl
theorem q867 : (Jvm.Cond.instanceMethod ({ cls := "java/lang/String", name := "isLatin1", desc := "()Z" } : Jvm.MethodName)) ∈ lw_all := lw_g (lw_at lw_m4 63 rfl) rfl
theorem q868 : (Jvm.Cond.selects "java/lang/String" ({ cls := "java/lang/String", name := "isLatin1", desc := "()Z" } : Jvm.MethodName) ({ cls := "java/lang/String", name := "isLatin1", desc := "()Z" } : Jvm.MethodName)) ∈ lw_all := lw_g (lw_at lw_m4 64 rfl) rfl
theorem q869 : (Jvm.Cond.code ({ cls := "java/lang/String", name := "isLatin1", desc := "()Z" } : Jvm.MethodName) prog_19_method_154_code (1 : Nat) (Option.some Jvm.ClassFile.FieldType.boolean)) ∈ lw_all := lw_g (lw_at lw_m4 65 rfl) rfl
theorem q870 : (Jvm.Cond.methodLink "java/lang/String" (495 : Nat) ({ cls := "java/lang/StringLatin1", name := "charAt", desc := "([BI)C" } : Jvm.MethodName)) ∈ lw_all := lw_g (lw_at lw_m4 66 rfl) rfl
theorem q871 : (Jvm.Cond.static ({ cls := "java/lang/StringLatin1", name := "charAt", desc := "([BI)C" } : Jvm.MethodName)) ∈ lw_all := lw_g (lw_at lw_m4 67 rfl) rfl
theorem q872 : (Jvm.Cond.code ({ cls := "java/lang/StringLatin1", name := "charAt", desc := "([BI)C" } : Jvm.MethodName) prog_21_method_2_code (2 : Nat) (Option.some Jvm.ClassFile.FieldType.char)) ∈ lw_all := lw_g (lw_at lw_m4 68 rfl) rfl
theorem q873 : (Jvm.Cond.methodLink "java/lang/StringLatin1" (9 : Nat) ({ cls := "java/lang/String", name := "checkIndex", desc := "(II)V" } : Jvm.MethodName)) ∈ lw_all := lw_g (lw_at lw_m4 69 rfl) rfl
theorem q874 : (Jvm.Cond.methodLink "java/lang/String" (498 : Nat) ({ cls := "java/lang/StringUTF16", name := "charAt", desc := "([BI)C" } : Jvm.MethodName)) ∈ lw_all := lw_g (lw_at lw_m4 70 rfl) rfl
theorem q875 : (Jvm.Cond.static ({ cls := "java/lang/StringUTF16", name := "charAt", desc := "([BI)C" } : Jvm.MethodName)) ∈ lw_all := lw_g (lw_at lw_m4 71 rfl) rfl
theorem q876 : (Jvm.Cond.code ({ cls := "java/lang/StringUTF16", name := "charAt", desc := "([BI)C" } : Jvm.MethodName) prog_22_method_83_code (2 : Nat) (Option.some Jvm.ClassFile.FieldType.char)) ∈ lw_all := lw_g (lw_at lw_m4 72 rfl) rfl
theorem q877 : (Jvm.Cond.methodLink "WriteOnceDisc$Tree" (88 : Nat) ({ cls := "java/util/ArrayList", name := "set", desc := "(ILjava/lang/Object;)Ljava/lang/Object;" } : Jvm.MethodName)) ∈ lw_all := lw_g (lw_at lw_m4 73 rfl) rfl
theorem q878 : (Jvm.Cond.instanceMethod ({ cls := "java/util/ArrayList", name := "set", desc := "(ILjava/lang/Object;)Ljava/lang/Object;" } : Jvm.MethodName)) ∈ lw_all := lw_g (lw_at lw_m4 74 rfl) rfl
theorem q879 : (Jvm.Cond.selects "java/util/ArrayList" ({ cls := "java/util/ArrayList", name := "set", desc := "(ILjava/lang/Object;)Ljava/lang/Object;" } : Jvm.MethodName) ({ cls := "java/util/ArrayList", name := "set", desc := "(ILjava/lang/Object;)Ljava/lang/Object;" } : Jvm.MethodName)) ∈ lw_all := lw_g (lw_at lw_m4 75 rfl) rfl
theorem q880 : (Jvm.Cond.code ({ cls := "java/util/ArrayList", name := "set", desc := "(ILjava/lang/Object;)Ljava/lang/Object;" } : Jvm.MethodName) prog_27_method_23_code (4 : Nat) (Option.some (Jvm.ClassFile.FieldType.object "java/lang/Object"))) ∈ lw_all := lw_g (lw_at lw_m4 76 rfl) rfl
theorem q881 : (Jvm.Cond.methodLink "WriteOnceDisc$Burner" (157 : Nat) ({ cls := "WriteOnceDisc$Burner", name := "recordSize", desc := "(Ljava/lang/String;)I" } : Jvm.MethodName)) ∈ lw_all := lw_g (lw_at lw_m4 77 rfl) rfl
theorem q882 : (Jvm.Cond.static ({ cls := "WriteOnceDisc$Burner", name := "recordSize", desc := "(Ljava/lang/String;)I" } : Jvm.MethodName)) ∈ lw_all := lw_g (lw_at lw_m4 78 rfl) rfl
theorem q883 : (Jvm.Cond.code ({ cls := "WriteOnceDisc$Burner", name := "recordSize", desc := "(Ljava/lang/String;)I" } : Jvm.MethodName) prog_2_method_6_code (1 : Nat) (Option.some Jvm.ClassFile.FieldType.int)) ∈ lw_all := lw_g (lw_at lw_m4 79 rfl) rfl
theorem q884 : (Jvm.Cond.methodLink "WriteOnceDisc$Burner" (101 : Nat) ({ cls := "java/lang/String", name := "length", desc := "()I" } : Jvm.MethodName)) ∈ lw_all := lw_g (lw_at lw_m4 80 rfl) rfl
theorem q885 : (Jvm.Cond.methodLink "WriteOnceDisc$Burner" (161 : Nat) ({ cls := "WriteOnceDisc$Burner", name := "fit", desc := "(II)I" } : Jvm.MethodName)) ∈ lw_all := lw_g (lw_at lw_m4 81 rfl) rfl
theorem q886 : (Jvm.Cond.static ({ cls := "WriteOnceDisc$Burner", name := "fit", desc := "(II)I" } : Jvm.MethodName)) ∈ lw_all := lw_g (lw_at lw_m4 82 rfl) rfl
theorem q887 : (Jvm.Cond.code ({ cls := "WriteOnceDisc$Burner", name := "fit", desc := "(II)I" } : Jvm.MethodName) prog_2_method_7_code (2 : Nat) (Option.some Jvm.ClassFile.FieldType.int)) ∈ lw_all := lw_g (lw_at lw_m4 83 rfl) rfl
theorem q888 : (Jvm.Cond.methodLink "WriteOnceDisc$Burner" (238 : Nat) ({ cls := "WriteOnceDisc$Burner", name := "burns", desc := "(II)Z" } : Jvm.MethodName)) ∈ lw_all := lw_g (lw_at lw_m4 84 rfl) rfl
theorem q889 : (Jvm.Cond.privateMethod ({ cls := "WriteOnceDisc$Burner", name := "burns", desc := "(II)Z" } : Jvm.MethodName)) ∈ lw_tbl := lw_at lw_m4 85 rfl
theorem q890 : (Jvm.Cond.instanceMethod ({ cls := "WriteOnceDisc$Burner", name := "burns", desc := "(II)Z" } : Jvm.MethodName)) ∈ lw_all := lw_g (lw_at lw_m4 86 rfl) rfl
theorem q891 : (Jvm.Cond.code ({ cls := "WriteOnceDisc$Burner", name := "burns", desc := "(II)Z" } : Jvm.MethodName) prog_2_method_17_code (9 : Nat) (Option.some Jvm.ClassFile.FieldType.boolean)) ∈ lw_all := lw_g (lw_at lw_m4 87 rfl) rfl
theorem q892 : (Jvm.Cond.methodLink "WriteOnceDisc$Burner" (217 : Nat) ({ cls := "WriteOnceDisc$Burner", name := "descriptor", desc := "(I)LWriteOnceDisc$Page;" } : Jvm.MethodName)) ∈ lw_all := lw_g (lw_at lw_m4 88 rfl) rfl
theorem q893 : (Jvm.Cond.privateMethod ({ cls := "WriteOnceDisc$Burner", name := "descriptor", desc := "(I)LWriteOnceDisc$Page;" } : Jvm.MethodName)) ∈ lw_tbl := lw_at lw_m4 89 rfl
theorem q894 : (Jvm.Cond.instanceMethod ({ cls := "WriteOnceDisc$Burner", name := "descriptor", desc := "(I)LWriteOnceDisc$Page;" } : Jvm.MethodName)) ∈ lw_all := lw_g (lw_at lw_m4 90 rfl) rfl
theorem q895 : (Jvm.Cond.code ({ cls := "WriteOnceDisc$Burner", name := "descriptor", desc := "(I)LWriteOnceDisc$Page;" } : Jvm.MethodName) prog_2_method_15_code (3 : Nat) (Option.some (Jvm.ClassFile.FieldType.object "WriteOnceDisc$Page"))) ∈ lw_all := lw_g (lw_at lw_m4 91 rfl) rfl
theorem q896 : (Jvm.Cond.methodLink "WriteOnceDisc$Burner" (204 : Nat) ({ cls := "WriteOnceDisc$Burner", name := "head", desc := "(I)LWriteOnceDisc$Page;" } : Jvm.MethodName)) ∈ lw_all := lw_g (lw_at lw_m4 92 rfl) rfl
theorem q897 : (Jvm.Cond.privateMethod ({ cls := "WriteOnceDisc$Burner", name := "head", desc := "(I)LWriteOnceDisc$Page;" } : Jvm.MethodName)) ∈ lw_tbl := lw_at lw_m4 93 rfl
theorem q898 : (Jvm.Cond.instanceMethod ({ cls := "WriteOnceDisc$Burner", name := "head", desc := "(I)LWriteOnceDisc$Page;" } : Jvm.MethodName)) ∈ lw_all := lw_g (lw_at lw_m4 94 rfl) rfl
theorem q899 : (Jvm.Cond.code ({ cls := "WriteOnceDisc$Burner", name := "head", desc := "(I)LWriteOnceDisc$Page;" } : Jvm.MethodName) prog_2_method_14_code (3 : Nat) (Option.some (Jvm.ClassFile.FieldType.object "WriteOnceDisc$Page"))) ∈ lw_all := lw_g (lw_at lw_m4 95 rfl) rfl
theorem q900 : (Jvm.Cond.methodLink "WriteOnceDisc$Burner" (174 : Nat) ({ cls := "WriteOnceDisc$Page", name := "low", desc := "(III)V" } : Jvm.MethodName)) ∈ lw_all := lw_g (lw_at lw_m4 96 rfl) rfl
theorem q901 : (Jvm.Cond.instanceMethod ({ cls := "WriteOnceDisc$Page", name := "low", desc := "(III)V" } : Jvm.MethodName)) ∈ lw_all := lw_g (lw_at lw_m4 97 rfl) rfl
theorem q902 : (Jvm.Cond.selects "WriteOnceDisc$Page" ({ cls := "WriteOnceDisc$Page", name := "low", desc := "(III)V" } : Jvm.MethodName) ({ cls := "WriteOnceDisc$Page", name := "low", desc := "(III)V" } : Jvm.MethodName)) ∈ lw_all := lw_g (lw_at lw_m4 98 rfl) rfl
theorem q903 : (Jvm.Cond.code ({ cls := "WriteOnceDisc$Page", name := "low", desc := "(III)V" } : Jvm.MethodName) prog_6_method_3_code (5 : Nat) (Option.none : Option Jvm.ClassFile.FieldType)) ∈ lw_all := lw_g (lw_at lw_m4 99 rfl) rfl
theorem q904 : (Jvm.Cond.stringRef "WriteOnceDisc$Burner" (202 : Nat) "CD001") ∈ lw_tbl := lw_at lw_m4 100 rfl
theorem q905 : (Jvm.Cond.methodLink "WriteOnceDisc$Burner" (181 : Nat) ({ cls := "WriteOnceDisc$Page", name := "say", desc := "(ILjava/lang/String;)V" } : Jvm.MethodName)) ∈ lw_all := lw_g (lw_at lw_m4 101 rfl) rfl
theorem q906 : (Jvm.Cond.instanceMethod ({ cls := "WriteOnceDisc$Page", name := "say", desc := "(ILjava/lang/String;)V" } : Jvm.MethodName)) ∈ lw_all := lw_g (lw_at lw_m4 102 rfl) rfl
theorem q907 : (Jvm.Cond.selects "WriteOnceDisc$Page" ({ cls := "WriteOnceDisc$Page", name := "say", desc := "(ILjava/lang/String;)V" } : Jvm.MethodName) ({ cls := "WriteOnceDisc$Page", name := "say", desc := "(ILjava/lang/String;)V" } : Jvm.MethodName)) ∈ lw_all := lw_g (lw_at lw_m4 103 rfl) rfl
theorem q908 : (Jvm.Cond.code ({ cls := "WriteOnceDisc$Page", name := "say", desc := "(ILjava/lang/String;)V" } : Jvm.MethodName) prog_6_method_6_code (4 : Nat) (Option.none : Option Jvm.ClassFile.FieldType)) ∈ lw_all := lw_g (lw_at lw_m4 104 rfl) rfl
theorem q909 : (Jvm.Cond.methodLink "WriteOnceDisc$Page" (22 : Nat) ({ cls := "java/lang/String", name := "length", desc := "()I" } : Jvm.MethodName)) ∈ lw_all := lw_g (lw_at lw_m4 105 rfl) rfl
theorem q910 : (Jvm.Cond.methodLink "WriteOnceDisc$Page" (28 : Nat) ({ cls := "java/lang/String", name := "charAt", desc := "(I)C" } : Jvm.MethodName)) ∈ lw_all := lw_g (lw_at lw_m4 106 rfl) rfl
theorem q911 : (Jvm.Cond.methodLink "WriteOnceDisc$Burner" (178 : Nat) ({ cls := "WriteOnceDisc$Page", name := "both", desc := "(III)V" } : Jvm.MethodName)) ∈ lw_all := lw_g (lw_at lw_m4 107 rfl) rfl
theorem q912 : (Jvm.Cond.instanceMethod ({ cls := "WriteOnceDisc$Page", name := "both", desc := "(III)V" } : Jvm.MethodName)) ∈ lw_all := lw_g (lw_at lw_m4 108 rfl) rfl
theorem q913 : (Jvm.Cond.selects "WriteOnceDisc$Page" ({ cls := "WriteOnceDisc$Page", name := "both", desc := "(III)V" } : Jvm.MethodName) ({ cls := "WriteOnceDisc$Page", name := "both", desc := "(III)V" } : Jvm.MethodName)) ∈ lw_all := lw_g (lw_at lw_m4 109 rfl) rfl
theorem q914 : (Jvm.Cond.code ({ cls := "WriteOnceDisc$Page", name := "both", desc := "(III)V" } : Jvm.MethodName) prog_6_method_5_code (4 : Nat) (Option.none : Option Jvm.ClassFile.FieldType)) ∈ lw_all := lw_g (lw_at lw_m4 110 rfl) rfl
theorem q915 : (Jvm.Cond.methodLink "WriteOnceDisc$Page" (15 : Nat) ({ cls := "WriteOnceDisc$Page", name := "low", desc := "(III)V" } : Jvm.MethodName)) ∈ lw_all := lw_g (lw_at lw_m4 111 rfl) rfl
theorem q916 : (Jvm.Cond.methodLink "WriteOnceDisc$Page" (19 : Nat) ({ cls := "WriteOnceDisc$Page", name := "high", desc := "(III)V" } : Jvm.MethodName)) ∈ lw_all := lw_g (lw_at lw_m4 112 rfl) rfl
theorem q917 : (Jvm.Cond.instanceMethod ({ cls := "WriteOnceDisc$Page", name := "high", desc := "(III)V" } : Jvm.MethodName)) ∈ lw_all := lw_g (lw_at lw_m4 113 rfl) rfl
theorem q918 : (Jvm.Cond.selects "WriteOnceDisc$Page" ({ cls := "WriteOnceDisc$Page", name := "high", desc := "(III)V" } : Jvm.MethodName) ({ cls := "WriteOnceDisc$Page", name := "high", desc := "(III)V" } : Jvm.MethodName)) ∈ lw_all := lw_g (lw_at lw_m4 114 rfl) rfl
theorem q919 : (Jvm.Cond.code ({ cls := "WriteOnceDisc$Page", name := "high", desc := "(III)V" } : Jvm.MethodName) prog_6_method_4_code (5 : Nat) (Option.none : Option Jvm.ClassFile.FieldType)) ∈ lw_all := lw_g (lw_at lw_m4 115 rfl) rfl
theorem q920 : (Jvm.Cond.methodLink "WriteOnceDisc$Burner" (208 : Nat) ({ cls := "WriteOnceDisc$Burner", name := "tableSize", desc := "()I" } : Jvm.MethodName)) ∈ lw_all := lw_g (lw_at lw_m4 116 rfl) rfl
theorem q921 : (Jvm.Cond.privateMethod ({ cls := "WriteOnceDisc$Burner", name := "tableSize", desc := "()I" } : Jvm.MethodName)) ∈ lw_tbl := lw_at lw_m4 117 rfl
theorem q922 : (Jvm.Cond.instanceMethod ({ cls := "WriteOnceDisc$Burner", name := "tableSize", desc := "()I" } : Jvm.MethodName)) ∈ lw_all := lw_g (lw_at lw_m4 118 rfl) rfl
theorem q923 : (Jvm.Cond.code ({ cls := "WriteOnceDisc$Burner", name := "tableSize", desc := "()I" } : Jvm.MethodName) prog_2_method_12_code (4 : Nat) (Option.some Jvm.ClassFile.FieldType.int)) ∈ lw_all := lw_g (lw_at lw_m4 119 rfl) rfl
theorem q924 : (Jvm.Cond.methodLink "WriteOnceDisc$Burner" (199 : Nat) ({ cls := "WriteOnceDisc$Page", name := "high", desc := "(III)V" } : Jvm.MethodName)) ∈ lw_all := lw_g (lw_at lw_m4 120 rfl) rfl
theorem q925 : (Jvm.Cond.methodLink "WriteOnceDisc$Burner" (185 : Nat) ({ cls := "WriteOnceDisc$Burner", name := "special", desc := "(I)Ljava/lang/String;" } : Jvm.MethodName)) ∈ lw_all := lw_g (lw_at lw_m4 121 rfl) rfl
theorem q926 : (Jvm.Cond.static ({ cls := "WriteOnceDisc$Burner", name := "special", desc := "(I)Ljava/lang/String;" } : Jvm.MethodName)) ∈ lw_all := lw_g (lw_at lw_m4 122 rfl) rfl
theorem q927 : (Jvm.Cond.code ({ cls := "WriteOnceDisc$Burner", name := "special", desc := "(I)Ljava/lang/String;" } : Jvm.MethodName) prog_2_method_8_code (1 : Nat) (Option.some (Jvm.ClassFile.FieldType.object "java/lang/String"))) ∈ lw_all := lw_g (lw_at lw_m4 123 rfl) rfl
theorem q928 : (Jvm.Cond.classLink "WriteOnceDisc$Burner" (106 : Nat) "java/lang/StringBuilder") ∈ lw_all := lw_g (lw_at lw_m4 124 rfl) rfl
theorem q929 : (Jvm.Cond.methodLink "WriteOnceDisc$Burner" (108 : Nat) ({ cls := "java/lang/StringBuilder", name := "<init>", desc := "()V" } : Jvm.MethodName)) ∈ lw_all := lw_g (lw_at lw_m4 125 rfl) rfl
theorem q930 : (Jvm.Cond.stringRef "WriteOnceDisc$Burner" (109 : Nat) "") ∈ lw_tbl := lw_at lw_m4 126 rfl
theorem q931 : (Jvm.Cond.methodLink "WriteOnceDisc$Burner" (111 : Nat) ({ cls := "java/lang/StringBuilder", name := "append", desc := "(Ljava/lang/String;)Ljava/lang/StringBuilder;" } : Jvm.MethodName)) ∈ lw_all := lw_g (lw_at lw_m4 127 rfl) rfl
theorem q932 : (Jvm.Cond.methodLink "WriteOnceDisc$Burner" (115 : Nat) ({ cls := "java/lang/StringBuilder", name := "append", desc := "(C)Ljava/lang/StringBuilder;" } : Jvm.MethodName)) ∈ lw_all := lw_g (lw_at lw_m4 128 rfl) rfl
theorem q933 : (Jvm.Cond.methodLink "WriteOnceDisc$Burner" (118 : Nat) ({ cls := "java/lang/StringBuilder", name := "toString", desc := "()Ljava/lang/String;" } : Jvm.MethodName)) ∈ lw_all := lw_g (lw_at lw_m4 129 rfl) rfl
theorem q934 : (Jvm.Cond.methodLink "WriteOnceDisc$Burner" (189 : Nat) ({ cls := "WriteOnceDisc$Burner", name := "record", desc := "(LWriteOnceDisc$Page;ILWriteOnceDisc$Node;Ljava/lang/String;)V" } : Jvm.MethodName)) ∈ lw_all := lw_g (lw_at lw_m4 130 rfl) rfl
theorem q935 : (Jvm.Cond.privateMethod ({ cls := "WriteOnceDisc$Burner", name := "record", desc := "(LWriteOnceDisc$Page;ILWriteOnceDisc$Node;Ljava/lang/String;)V" } : Jvm.MethodName)) ∈ lw_tbl := lw_at lw_m4 131 rfl
theorem q936 : (Jvm.Cond.instanceMethod ({ cls := "WriteOnceDisc$Burner", name := "record", desc := "(LWriteOnceDisc$Page;ILWriteOnceDisc$Node;Ljava/lang/String;)V" } : Jvm.MethodName)) ∈ lw_all := lw_g (lw_at lw_m4 132 rfl) rfl
theorem q937 : (Jvm.Cond.code ({ cls := "WriteOnceDisc$Burner", name := "record", desc := "(LWriteOnceDisc$Page;ILWriteOnceDisc$Node;Ljava/lang/String;)V" } : Jvm.MethodName) prog_2_method_10_code (5 : Nat) (Option.none : Option Jvm.ClassFile.FieldType)) ∈ lw_all := lw_g (lw_at lw_m4 133 rfl) rfl
theorem q938 : (Jvm.Cond.methodLink "WriteOnceDisc$Burner" (220 : Nat) ({ cls := "WriteOnceDisc$Burner", name := "paths", desc := "(Z)LWriteOnceDisc$Page;" } : Jvm.MethodName)) ∈ lw_all := lw_g (lw_at lw_m4 134 rfl) rfl
theorem q939 : (Jvm.Cond.privateMethod ({ cls := "WriteOnceDisc$Burner", name := "paths", desc := "(Z)LWriteOnceDisc$Page;" } : Jvm.MethodName)) ∈ lw_tbl := lw_at lw_m4 135 rfl
theorem q940 : (Jvm.Cond.instanceMethod ({ cls := "WriteOnceDisc$Burner", name := "paths", desc := "(Z)LWriteOnceDisc$Page;" } : Jvm.MethodName)) ∈ lw_all := lw_g (lw_at lw_m4 136 rfl) rfl
theorem q941 : (Jvm.Cond.code ({ cls := "WriteOnceDisc$Burner", name := "paths", desc := "(Z)LWriteOnceDisc$Page;" } : Jvm.MethodName) prog_2_method_13_code (8 : Nat) (Option.some (Jvm.ClassFile.FieldType.object "WriteOnceDisc$Page"))) ∈ lw_all := lw_g (lw_at lw_m4 137 rfl) rfl
theorem q942 : (Jvm.Cond.methodLink "WriteOnceDisc$Burner" (224 : Nat) ({ cls := "WriteOnceDisc$Burner", name := "directory", desc := "(LWriteOnceDisc$Node;)LWriteOnceDisc$Page;" } : Jvm.MethodName)) ∈ lw_all := lw_g (lw_at lw_m4 138 rfl) rfl
theorem q943 : (Jvm.Cond.privateMethod ({ cls := "WriteOnceDisc$Burner", name := "directory", desc := "(LWriteOnceDisc$Node;)LWriteOnceDisc$Page;" } : Jvm.MethodName)) ∈ lw_tbl := lw_at lw_m4 139 rfl
theorem q944 : (Jvm.Cond.instanceMethod ({ cls := "WriteOnceDisc$Burner", name := "directory", desc := "(LWriteOnceDisc$Node;)LWriteOnceDisc$Page;" } : Jvm.MethodName)) ∈ lw_all := lw_g (lw_at lw_m4 140 rfl) rfl
theorem q945 : (Jvm.Cond.code ({ cls := "WriteOnceDisc$Burner", name := "directory", desc := "(LWriteOnceDisc$Node;)LWriteOnceDisc$Page;" } : Jvm.MethodName) prog_2_method_11_code (7 : Nat) (Option.some (Jvm.ClassFile.FieldType.object "WriteOnceDisc$Page"))) ∈ lw_all := lw_g (lw_at lw_m4 141 rfl) rfl
theorem q946 : (Jvm.Cond.methodLink "WriteOnceDisc$Burner" (227 : Nat) ({ cls := "WriteOnceDisc$Burner", name := "mark", desc := "(II)LWriteOnceDisc$Page;" } : Jvm.MethodName)) ∈ lw_all := lw_g (lw_at lw_m4 142 rfl) rfl
theorem q947 : (Jvm.Cond.privateMethod ({ cls := "WriteOnceDisc$Burner", name := "mark", desc := "(II)LWriteOnceDisc$Page;" } : Jvm.MethodName)) ∈ lw_tbl := lw_at lw_m4 143 rfl
theorem q948 : (Jvm.Cond.instanceMethod ({ cls := "WriteOnceDisc$Burner", name := "mark", desc := "(II)LWriteOnceDisc$Page;" } : Jvm.MethodName)) ∈ lw_all := lw_g (lw_at lw_m4 144 rfl) rfl
theorem q949 : (Jvm.Cond.code ({ cls := "WriteOnceDisc$Burner", name := "mark", desc := "(II)LWriteOnceDisc$Page;" } : Jvm.MethodName) prog_2_method_16_code (4 : Nat) (Option.some (Jvm.ClassFile.FieldType.object "WriteOnceDisc$Page"))) ∈ lw_all := lw_g (lw_at lw_m4 145 rfl) rfl
theorem q950 : (Jvm.Cond.stringRef "WriteOnceDisc$Burner" (211 : Nat) "MARK") ∈ lw_tbl := lw_at lw_m4 146 rfl
theorem q951 : (Jvm.Cond.methodLink "WriteOnceDiscLaw" (81 : Nat) ({ cls := "WriteOnceDisc", name := "discover", desc := "()I" } : Jvm.MethodName)) ∈ lw_all := lw_g (lw_at lw_m4 147 rfl) rfl
theorem q952 : (Jvm.Cond.instanceMethod ({ cls := "WriteOnceDisc", name := "discover", desc := "()I" } : Jvm.MethodName)) ∈ lw_all := lw_g (lw_at lw_m4 148 rfl) rfl
theorem q953 : (Jvm.Cond.selects "WriteOnceDisc" ({ cls := "WriteOnceDisc", name := "discover", desc := "()I" } : Jvm.MethodName) ({ cls := "WriteOnceDisc", name := "discover", desc := "()I" } : Jvm.MethodName)) ∈ lw_all := lw_g (lw_at lw_m4 149 rfl) rfl
theorem q954 : (Jvm.Cond.code ({ cls := "WriteOnceDisc", name := "discover", desc := "()I" } : Jvm.MethodName) prog_1_method_20_code (6 : Nat) (Option.some Jvm.ClassFile.FieldType.int)) ∈ lw_all := lw_g (lw_at lw_m4 150 rfl) rfl
theorem q955 : (Jvm.Cond.methodLink "WriteOnceDisc" (237 : Nat) ({ cls := "WriteOnceDisc", name := "marks", desc := "()[I" } : Jvm.MethodName)) ∈ lw_all := lw_g (lw_at lw_m4 151 rfl) rfl
theorem q956 : (Jvm.Cond.privateMethod ({ cls := "WriteOnceDisc", name := "marks", desc := "()[I" } : Jvm.MethodName)) ∈ lw_tbl := lw_at lw_m4 152 rfl
theorem q957 : (Jvm.Cond.instanceMethod ({ cls := "WriteOnceDisc", name := "marks", desc := "()[I" } : Jvm.MethodName)) ∈ lw_all := lw_g (lw_at lw_m4 153 rfl) rfl
theorem q958 : (Jvm.Cond.code ({ cls := "WriteOnceDisc", name := "marks", desc := "()[I" } : Jvm.MethodName) prog_1_method_17_code (6 : Nat) (Option.some (Jvm.ClassFile.FieldType.array Jvm.ClassFile.FieldType.int))) ∈ lw_all := lw_g (lw_at lw_m4 154 rfl) rfl
theorem q959 : (Jvm.Cond.constantLong "WriteOnceDisc" (204 : Nat) (2048 : Int64)) ∈ lw_all := lw_g (lw_at lw_m4 155 rfl) rfl
theorem q960 : (Jvm.Cond.stringRef "WriteOnceDisc" (209 : Nat) "MARK") ∈ lw_tbl := lw_at lw_m4 156 rfl
theorem q961 : (Jvm.Cond.methodLink "WriteOnceDisc" (211 : Nat) ({ cls := "WriteOnceDisc$Medium", name := "says", desc := "(JLjava/lang/String;)Z" } : Jvm.MethodName)) ∈ lw_all := lw_g (lw_at lw_m4 157 rfl) rfl
theorem q962 : (Jvm.Cond.instanceMethod ({ cls := "WriteOnceDisc$Medium", name := "says", desc := "(JLjava/lang/String;)Z" } : Jvm.MethodName)) ∈ lw_all := lw_g (lw_at lw_m4 158 rfl) rfl
theorem q963 : (Jvm.Cond.selects "WriteOnceDisc$Medium" ({ cls := "WriteOnceDisc$Medium", name := "says", desc := "(JLjava/lang/String;)Z" } : Jvm.MethodName) ({ cls := "WriteOnceDisc$Medium", name := "says", desc := "(JLjava/lang/String;)Z" } : Jvm.MethodName)) ∈ lw_all := lw_g (lw_at lw_m4 159 rfl) rfl
theorem q964 : (Jvm.Cond.code ({ cls := "WriteOnceDisc$Medium", name := "says", desc := "(JLjava/lang/String;)Z" } : Jvm.MethodName) prog_4_method_7_code (6 : Nat) (Option.some Jvm.ClassFile.FieldType.boolean)) ∈ lw_all := lw_g (lw_at lw_m4 160 rfl) rfl
theorem q965 : (Jvm.Cond.methodLink "WriteOnceDisc$Medium" (31 : Nat) ({ cls := "java/lang/String", name := "length", desc := "()I" } : Jvm.MethodName)) ∈ lw_all := lw_g (lw_at lw_m4 161 rfl) rfl
theorem q966 : (Jvm.Cond.methodLink "WriteOnceDisc$Medium" (27 : Nat) ({ cls := "WriteOnceDisc$Medium", name := "at", desc := "(J)I" } : Jvm.MethodName)) ∈ lw_all := lw_g (lw_at lw_m4 162 rfl) rfl
theorem q967 : (Jvm.Cond.instanceMethod ({ cls := "WriteOnceDisc$Medium", name := "at", desc := "(J)I" } : Jvm.MethodName)) ∈ lw_all := lw_g (lw_at lw_m4 163 rfl) rfl
theorem q968 : (Jvm.Cond.selects "WriteOnceDisc$Medium" ({ cls := "WriteOnceDisc$Medium", name := "at", desc := "(J)I" } : Jvm.MethodName) ({ cls := "WriteOnceDisc$Medium", name := "at", desc := "(J)I" } : Jvm.MethodName)) ∈ lw_all := lw_g (lw_at lw_m4 164 rfl) rfl
theorem q969 : (Jvm.Cond.code ({ cls := "WriteOnceDisc$Medium", name := "at", desc := "(J)I" } : Jvm.MethodName) prog_4_method_4_code (3 : Nat) (Option.some Jvm.ClassFile.FieldType.int)) ∈ lw_all := lw_g (lw_at lw_m4 165 rfl) rfl
theorem q970 : (Jvm.Cond.methodLink "WriteOnceDisc$Medium" (37 : Nat) ({ cls := "java/lang/String", name := "charAt", desc := "(I)C" } : Jvm.MethodName)) ∈ lw_all := lw_g (lw_at lw_m4 166 rfl) rfl
theorem q971 : (Jvm.Cond.constantLong "WriteOnceDisc" (215 : Nat) (4 : Int64)) ∈ lw_all := lw_g (lw_at lw_m4 167 rfl) rfl
theorem q972 : (Jvm.Cond.methodLink "WriteOnceDisc" (217 : Nat) ({ cls := "WriteOnceDisc$Medium", name := "low", desc := "(JI)I" } : Jvm.MethodName)) ∈ lw_all := lw_g (lw_at lw_m4 168 rfl) rfl
theorem q973 : (Jvm.Cond.instanceMethod ({ cls := "WriteOnceDisc$Medium", name := "low", desc := "(JI)I" } : Jvm.MethodName)) ∈ lw_all := lw_g (lw_at lw_m4 169 rfl) rfl
theorem q974 : (Jvm.Cond.selects "WriteOnceDisc$Medium" ({ cls := "WriteOnceDisc$Medium", name := "low", desc := "(JI)I" } : Jvm.MethodName) ({ cls := "WriteOnceDisc$Medium", name := "low", desc := "(JI)I" } : Jvm.MethodName)) ∈ lw_all := lw_g (lw_at lw_m4 170 rfl) rfl
theorem q975 : (Jvm.Cond.code ({ cls := "WriteOnceDisc$Medium", name := "low", desc := "(JI)I" } : Jvm.MethodName) prog_4_method_5_code (6 : Nat) (Option.some Jvm.ClassFile.FieldType.int)) ∈ lw_all := lw_g (lw_at lw_m4 171 rfl) rfl
theorem q976 : (Jvm.Cond.constantLong "WriteOnceDisc" (221 : Nat) (8 : Int64)) ∈ lw_all := lw_g (lw_at lw_m4 172 rfl) rfl
theorem q977 : (Jvm.Cond.methodLink "WriteOnceDisc" (241 : Nat) ({ cls := "WriteOnceDisc$Reader", name := "begin", desc := "(LWriteOnceDisc$Medium;)V" } : Jvm.MethodName)) ∈ lw_all := lw_g (lw_at lw_m4 173 rfl) rfl
theorem q978 : (Jvm.Cond.instanceMethod ({ cls := "WriteOnceDisc$Reader", name := "begin", desc := "(LWriteOnceDisc$Medium;)V" } : Jvm.MethodName)) ∈ lw_all := lw_g (lw_at lw_m4 174 rfl) rfl
theorem q979 : (Jvm.Cond.selects "WriteOnceDisc$Reader" ({ cls := "WriteOnceDisc$Reader", name := "begin", desc := "(LWriteOnceDisc$Medium;)V" } : Jvm.MethodName) ({ cls := "WriteOnceDisc$Reader", name := "begin", desc := "(LWriteOnceDisc$Medium;)V" } : Jvm.MethodName)) ∈ lw_all := lw_g (lw_at lw_m4 175 rfl) rfl
theorem q980 : (Jvm.Cond.code ({ cls := "WriteOnceDisc$Reader", name := "begin", desc := "(LWriteOnceDisc$Medium;)V" } : Jvm.MethodName) prog_8_method_2_code (2 : Nat) (Option.none : Option Jvm.ClassFile.FieldType)) ∈ lw_all := lw_g (lw_at lw_m4 176 rfl) rfl
theorem q981 : (Jvm.Cond.methodLink "WriteOnceDisc$Reader" (32 : Nat) ({ cls := "java/util/ArrayList", name := "clear", desc := "()V" } : Jvm.MethodName)) ∈ lw_all := lw_g (lw_at lw_m4 177 rfl) rfl
theorem q982 : (Jvm.Cond.methodLink "WriteOnceDisc" (244 : Nat) ({ cls := "WriteOnceDisc", name := "base", desc := "(I)I" } : Jvm.MethodName)) ∈ lw_all := lw_g (lw_at lw_m4 178 rfl) rfl
theorem q983 : (Jvm.Cond.privateMethod ({ cls := "WriteOnceDisc", name := "base", desc := "(I)I" } : Jvm.MethodName)) ∈ lw_tbl := lw_at lw_m4 179 rfl
theorem q984 : (Jvm.Cond.instanceMethod ({ cls := "WriteOnceDisc", name := "base", desc := "(I)I" } : Jvm.MethodName)) ∈ lw_all := lw_g (lw_at lw_m4 180 rfl) rfl
theorem q985 : (Jvm.Cond.code ({ cls := "WriteOnceDisc", name := "base", desc := "(I)I" } : Jvm.MethodName) prog_1_method_18_code (2 : Nat) (Option.some Jvm.ClassFile.FieldType.int)) ∈ lw_all := lw_g (lw_at lw_m4 181 rfl) rfl
theorem q986 : (Jvm.Cond.methodLink "WriteOnceDisc" (247 : Nat) ({ cls := "WriteOnceDisc$Reader", name := "reads", desc := "(J)Z" } : Jvm.MethodName)) ∈ lw_all := lw_g (lw_at lw_m4 182 rfl) rfl
theorem q987 : (Jvm.Cond.instanceMethod ({ cls := "WriteOnceDisc$Reader", name := "reads", desc := "(J)Z" } : Jvm.MethodName)) ∈ lw_all := lw_g (lw_at lw_m4 183 rfl) rfl
theorem q988 : (Jvm.Cond.selects "WriteOnceDisc$Reader" ({ cls := "WriteOnceDisc$Reader", name := "reads", desc := "(J)Z" } : Jvm.MethodName) ({ cls := "WriteOnceDisc$Reader", name := "reads", desc := "(J)Z" } : Jvm.MethodName)) ∈ lw_all := lw_g (lw_at lw_m4 184 rfl) rfl
theorem q989 : (Jvm.Cond.code ({ cls := "WriteOnceDisc$Reader", name := "reads", desc := "(J)Z" } : Jvm.MethodName) prog_8_method_21_code (8 : Nat) (Option.some Jvm.ClassFile.FieldType.boolean)) ∈ lw_all := lw_g (lw_at lw_m4 185 rfl) rfl
theorem q990 : (Jvm.Cond.constantLong "WriteOnceDisc$Reader" (196 : Nat) (16 : Int64)) ∈ lw_all := lw_g (lw_at lw_m4 186 rfl) rfl
theorem q991 : (Jvm.Cond.constantLong "WriteOnceDisc$Reader" (87 : Nat) (2048 : Int64)) ∈ lw_all := lw_g (lw_at lw_m4 187 rfl) rfl
theorem q992 : (Jvm.Cond.methodLink "WriteOnceDisc$Reader" (114 : Nat) ({ cls := "WriteOnceDisc$Medium", name := "hasWritten", desc := "(JJ)Z" } : Jvm.MethodName)) ∈ lw_all := lw_g (lw_at lw_m4 188 rfl) rfl
theorem q993 : (Jvm.Cond.instanceMethod ({ cls := "WriteOnceDisc$Medium", name := "hasWritten", desc := "(JJ)Z" } : Jvm.MethodName)) ∈ lw_all := lw_g (lw_at lw_m4 189 rfl) rfl
theorem q994 : (Jvm.Cond.selects "WriteOnceDisc$Medium" ({ cls := "WriteOnceDisc$Medium", name := "hasWritten", desc := "(JJ)Z" } : Jvm.MethodName) ({ cls := "WriteOnceDisc$Medium", name := "hasWritten", desc := "(JJ)Z" } : Jvm.MethodName)) ∈ lw_all := lw_g (lw_at lw_m4 190 rfl) rfl
theorem q995 : (Jvm.Cond.code ({ cls := "WriteOnceDisc$Medium", name := "hasWritten", desc := "(JJ)Z" } : Jvm.MethodName) prog_4_method_8_code (7 : Nat) (Option.some Jvm.ClassFile.FieldType.boolean)) ∈ lw_all := lw_g (lw_at lw_m4 191 rfl) rfl
theorem q996 : (Jvm.Cond.methodLink "WriteOnceDisc$Reader" (89 : Nat) ({ cls := "WriteOnceDisc$Reader", name := "bad", desc := "(J)Z" } : Jvm.MethodName)) ∈ lw_all := lw_g (lw_at lw_m4 192 rfl) rfl
theorem q997 : (Jvm.Cond.privateMethod ({ cls := "WriteOnceDisc$Reader", name := "bad", desc := "(J)Z" } : Jvm.MethodName)) ∈ lw_tbl := lw_at lw_m4 193 rfl
theorem q998 : (Jvm.Cond.instanceMethod ({ cls := "WriteOnceDisc$Reader", name := "bad", desc := "(J)Z" } : Jvm.MethodName)) ∈ lw_all := lw_g (lw_at lw_m4 194 rfl) rfl
theorem q999 : (Jvm.Cond.code ({ cls := "WriteOnceDisc$Reader", name := "bad", desc := "(J)Z" } : Jvm.MethodName) prog_8_method_3_code (3 : Nat) (Option.some Jvm.ClassFile.FieldType.boolean)) ∈ lw_all := lw_g (lw_at lw_m4 195 rfl) rfl
theorem q1000 : (Jvm.Cond.methodLink "WriteOnceDisc$Reader" (198 : Nat) ({ cls := "WriteOnceDisc$Reader", name := "isHead", desc := "(JI)Z" } : Jvm.MethodName)) ∈ lw_all := lw_g (lw_at lw_m4 196 rfl) rfl
theorem q1001 : (Jvm.Cond.privateMethod ({ cls := "WriteOnceDisc$Reader", name := "isHead", desc := "(JI)Z" } : Jvm.MethodName)) ∈ lw_tbl := lw_at lw_m4 197 rfl
theorem q1002 : (Jvm.Cond.instanceMethod ({ cls := "WriteOnceDisc$Reader", name := "isHead", desc := "(JI)Z" } : Jvm.MethodName)) ∈ lw_all := lw_g (lw_at lw_m4 198 rfl) rfl
theorem q1003 : (Jvm.Cond.code ({ cls := "WriteOnceDisc$Reader", name := "isHead", desc := "(JI)Z" } : Jvm.MethodName) prog_8_method_4_code (4 : Nat) (Option.some Jvm.ClassFile.FieldType.boolean)) ∈ lw_all := lw_g (lw_at lw_m4 199 rfl) rfl
theorem q1004 : (Jvm.Cond.methodLink "WriteOnceDisc$Reader" (39 : Nat) ({ cls := "WriteOnceDisc$Medium", name := "at", desc := "(J)I" } : Jvm.MethodName)) ∈ lw_all := lw_g (lw_at lw_m4 200 rfl) rfl
theorem q1005 : (Jvm.Cond.stringRef "WriteOnceDisc$Reader" (45 : Nat) "CD001") ∈ lw_tbl := lw_at lw_m4 201 rfl
theorem q1006 : (Jvm.Cond.methodLink "WriteOnceDisc$Reader" (47 : Nat) ({ cls := "WriteOnceDisc$Medium", name := "says", desc := "(JLjava/lang/String;)Z" } : Jvm.MethodName)) ∈ lw_all := lw_g (lw_at lw_m4 202 rfl) rfl
theorem q1007 : (Jvm.Cond.constantLong "WriteOnceDisc$Reader" (51 : Nat) (6 : Int64)) ∈ lw_all := lw_g (lw_at lw_m4 203 rfl) rfl
theorem q1008 : (Jvm.Cond.constantLong "WriteOnceDisc$Reader" (201 : Nat) (128 : Int64)) ∈ lw_all := lw_g (lw_at lw_m4 204 rfl) rfl
theorem q1009 : (Jvm.Cond.methodLink "WriteOnceDisc$Reader" (95 : Nat) ({ cls := "WriteOnceDisc$Medium", name := "isBoth", desc := "(JI)Z" } : Jvm.MethodName)) ∈ lw_all := lw_g (lw_at lw_m4 205 rfl) rfl
theorem q1010 : (Jvm.Cond.instanceMethod ({ cls := "WriteOnceDisc$Medium", name := "isBoth", desc := "(JI)Z" } : Jvm.MethodName)) ∈ lw_all := lw_g (lw_at lw_m4 206 rfl) rfl
theorem q1011 : (Jvm.Cond.selects "WriteOnceDisc$Medium" ({ cls := "WriteOnceDisc$Medium", name := "isBoth", desc := "(JI)Z" } : Jvm.MethodName) ({ cls := "WriteOnceDisc$Medium", name := "isBoth", desc := "(JI)Z" } : Jvm.MethodName)) ∈ lw_all := lw_g (lw_at lw_m4 207 rfl) rfl
theorem q1012 : (Jvm.Cond.code ({ cls := "WriteOnceDisc$Medium", name := "isBoth", desc := "(JI)Z" } : Jvm.MethodName) prog_4_method_6_code (6 : Nat) (Option.some Jvm.ClassFile.FieldType.boolean)) ∈ lw_all := lw_g (lw_at lw_m4 208 rfl) rfl
theorem q1013 : (Jvm.Cond.methodLink "WriteOnceDisc$Reader" (110 : Nat) ({ cls := "WriteOnceDisc$Medium", name := "low", desc := "(JI)I" } : Jvm.MethodName)) ∈ lw_all := lw_g (lw_at lw_m4 209 rfl) rfl
theorem q1014 : (Jvm.Cond.constantLong "WriteOnceDisc$Reader" (203 : Nat) (132 : Int64)) ∈ lw_all := lw_g (lw_at lw_m4 210 rfl) rfl
theorem q1015 : (Jvm.Cond.constantLong "WriteOnceDisc$Reader" (205 : Nat) (140 : Int64)) ∈ lw_all := lw_g (lw_at lw_m4 211 rfl) rfl
theorem q1016 : (Jvm.Cond.constantLong "WriteOnceDisc$Reader" (207 : Nat) (18 : Int64)) ∈ lw_all := lw_g (lw_at lw_m4 212 rfl) rfl
theorem q1017 : (Jvm.Cond.constantLong "WriteOnceDisc$Reader" (209 : Nat) (148 : Int64)) ∈ lw_all := lw_g (lw_at lw_m4 213 rfl) rfl
theorem q1018 : (Jvm.Cond.constantLong "WriteOnceDisc$Reader" (211 : Nat) (19 : Int64)) ∈ lw_all := lw_g (lw_at lw_m4 214 rfl) rfl
theorem q1019 : (Jvm.Cond.constantLong "WriteOnceDisc$Reader" (213 : Nat) (255 : Int64)) ∈ lw_all := lw_g (lw_at lw_m4 215 rfl) rfl
theorem q1020 : (Jvm.Cond.constantLong "WriteOnceDisc$Reader" (215 : Nat) (156 : Int64)) ∈ lw_all := lw_g (lw_at lw_m4 216 rfl) rfl
theorem q1021 : (Jvm.Cond.methodLink "WriteOnceDisc$Reader" (170 : Nat) ({ cls := "WriteOnceDisc$Reader", name := "sound", desc := "(JI)Z" } : Jvm.MethodName)) ∈ lw_all := lw_g (lw_at lw_m4 217 rfl) rfl
theorem q1022 : (Jvm.Cond.privateMethod ({ cls := "WriteOnceDisc$Reader", name := "sound", desc := "(JI)Z" } : Jvm.MethodName)) ∈ lw_tbl := lw_at lw_m4 218 rfl
theorem q1023 : (Jvm.Cond.instanceMethod ({ cls := "WriteOnceDisc$Reader", name := "sound", desc := "(JI)Z" } : Jvm.MethodName)) ∈ lw_all := lw_g (lw_at lw_m4 219 rfl) rfl
theorem q1024 : (Jvm.Cond.code ({ cls := "WriteOnceDisc$Reader", name := "sound", desc := "(JI)Z" } : Jvm.MethodName) prog_8_method_12_code (8 : Nat) (Option.some Jvm.ClassFile.FieldType.boolean)) ∈ lw_all := lw_g (lw_at lw_m4 220 rfl) rfl
theorem q1025 : (Jvm.Cond.constantLong "WriteOnceDisc$Reader" (59 : Nat) (32 : Int64)) ∈ lw_all := lw_g (lw_at lw_m4 221 rfl) rfl
theorem q1026 : (Jvm.Cond.constantLong "WriteOnceDisc$Reader" (85 : Nat) (25 : Int64)) ∈ lw_all := lw_g (lw_at lw_m4 222 rfl) rfl
theorem q1027 : (Jvm.Cond.constantLong "WriteOnceDisc$Reader" (93 : Nat) (2 : Int64)) ∈ lw_all := lw_g (lw_at lw_m4 223 rfl) rfl
theorem q1028 : (Jvm.Cond.constantLong "WriteOnceDisc$Reader" (99 : Nat) (10 : Int64)) ∈ lw_all := lw_g (lw_at lw_m4 224 rfl) rfl
theorem q1029 : (Jvm.Cond.constantLong "WriteOnceDisc$Reader" (101 : Nat) (28 : Int64)) ∈ lw_all := lw_g (lw_at lw_m4 225 rfl) rfl
theorem q1030 : (Jvm.Cond.methodLink "WriteOnceDisc$Reader" (103 : Nat) ({ cls := "WriteOnceDisc$Reader", name := "read", desc := "(J)V" } : Jvm.MethodName)) ∈ lw_all := lw_g (lw_at lw_m4 226 rfl) rfl
theorem q1031 : (Jvm.Cond.privateMethod ({ cls := "WriteOnceDisc$Reader", name := "read", desc := "(J)V" } : Jvm.MethodName)) ∈ lw_tbl := lw_at lw_m4 227 rfl
theorem q1032 : (Jvm.Cond.instanceMethod ({ cls := "WriteOnceDisc$Reader", name := "read", desc := "(J)V" } : Jvm.MethodName)) ∈ lw_all := lw_g (lw_at lw_m4 228 rfl) rfl
theorem q1033 : (Jvm.Cond.code ({ cls := "WriteOnceDisc$Reader", name := "read", desc := "(J)V" } : Jvm.MethodName) prog_8_method_5_code (3 : Nat) (Option.none : Option Jvm.ClassFile.FieldType)) ∈ lw_all := lw_g (lw_at lw_m4 229 rfl) rfl
theorem q1034 : (Jvm.Cond.constantLong "WriteOnceDisc$Reader" (53 : Nat) (33 : Int64)) ∈ lw_all := lw_g (lw_at lw_m4 230 rfl) rfl
theorem q1035 : (Jvm.Cond.methodLink "WriteOnceDisc$Reader" (107 : Nat) ({ cls := "WriteOnceDisc$Reader", name := "isIdentifier", desc := "(I)Z" } : Jvm.MethodName)) ∈ lw_all := lw_g (lw_at lw_m4 231 rfl) rfl
theorem q1036 : (Jvm.Cond.privateMethod ({ cls := "WriteOnceDisc$Reader", name := "isIdentifier", desc := "(I)Z" } : Jvm.MethodName)) ∈ lw_tbl := lw_at lw_m4 232 rfl
theorem q1037 : (Jvm.Cond.instanceMethod ({ cls := "WriteOnceDisc$Reader", name := "isIdentifier", desc := "(I)Z" } : Jvm.MethodName)) ∈ lw_all := lw_g (lw_at lw_m4 233 rfl) rfl
theorem q1038 : (Jvm.Cond.code ({ cls := "WriteOnceDisc$Reader", name := "isIdentifier", desc := "(I)Z" } : Jvm.MethodName) prog_8_method_10_code (3 : Nat) (Option.some Jvm.ClassFile.FieldType.boolean)) ∈ lw_all := lw_g (lw_at lw_m4 234 rfl) rfl
theorem q1039 : (Jvm.Cond.methodLink "WriteOnceDisc$Reader" (64 : Nat) ({ cls := "WriteOnceDisc$Reader", name := "letter", desc := "(I)I" } : Jvm.MethodName)) ∈ lw_all := lw_g (lw_at lw_m4 235 rfl) rfl
theorem q1040 : (Jvm.Cond.privateMethod ({ cls := "WriteOnceDisc$Reader", name := "letter", desc := "(I)I" } : Jvm.MethodName)) ∈ lw_tbl := lw_at lw_m4 236 rfl
theorem q1041 : (Jvm.Cond.instanceMethod ({ cls := "WriteOnceDisc$Reader", name := "letter", desc := "(I)I" } : Jvm.MethodName)) ∈ lw_all := lw_g (lw_at lw_m4 237 rfl) rfl
theorem q1042 : (Jvm.Cond.code ({ cls := "WriteOnceDisc$Reader", name := "letter", desc := "(I)I" } : Jvm.MethodName) prog_8_method_6_code (2 : Nat) (Option.some Jvm.ClassFile.FieldType.int)) ∈ lw_all := lw_g (lw_at lw_m4 238 rfl) rfl
theorem q1043 : (Jvm.Cond.methodLink "WriteOnceDisc$Reader" (78 : Nat) ({ cls := "WriteOnceDisc$Reader", name := "isPlain", desc := "(I)Z" } : Jvm.MethodName)) ∈ lw_all := lw_g (lw_at lw_m4 239 rfl) rfl
theorem q1044 : (Jvm.Cond.privateMethod ({ cls := "WriteOnceDisc$Reader", name := "isPlain", desc := "(I)Z" } : Jvm.MethodName)) ∈ lw_tbl := lw_at lw_m5 0 rfl
theorem q1045 : (Jvm.Cond.instanceMethod ({ cls := "WriteOnceDisc$Reader", name := "isPlain", desc := "(I)Z" } : Jvm.MethodName)) ∈ lw_all := lw_g (lw_at lw_m5 1 rfl) rfl
theorem q1046 : (Jvm.Cond.code ({ cls := "WriteOnceDisc$Reader", name := "isPlain", desc := "(I)Z" } : Jvm.MethodName) prog_8_method_7_code (4 : Nat) (Option.some Jvm.ClassFile.FieldType.boolean)) ∈ lw_all := lw_g (lw_at lw_m5 2 rfl) rfl
theorem q1047 : (Jvm.Cond.methodLinkNest "WriteOnceDisc$Reader" (68 : Nat) ({ cls := "WriteOnceDisc", name := "isName", desc := "(I)Z" } : Jvm.MethodName) "WriteOnceDisc") ∈ lw_tbl := lw_at lw_m5 3 rfl
theorem q1048 : (Jvm.Cond.constantLong "WriteOnceDisc$Reader" (81 : Nat) (3 : Int64)) ∈ lw_all := lw_g (lw_at lw_m5 4 rfl) rfl
theorem q1049 : (Jvm.Cond.stringRef "WriteOnceDisc$Reader" (83 : Nat) ".;1") ∈ lw_tbl := lw_at lw_m5 5 rfl
theorem q1050 : (Jvm.Cond.methodLink "WriteOnceDisc$Reader" (154 : Nat) ({ cls := "WriteOnceDisc$Reader", name := "found", desc := "(JI)LWriteOnceDisc$Found;" } : Jvm.MethodName)) ∈ lw_all := lw_g (lw_at lw_m5 6 rfl) rfl
theorem q1051 : (Jvm.Cond.privateMethod ({ cls := "WriteOnceDisc$Reader", name := "found", desc := "(JI)LWriteOnceDisc$Found;" } : Jvm.MethodName)) ∈ lw_tbl := lw_at lw_m5 7 rfl
theorem q1052 : (Jvm.Cond.instanceMethod ({ cls := "WriteOnceDisc$Reader", name := "found", desc := "(JI)LWriteOnceDisc$Found;" } : Jvm.MethodName)) ∈ lw_all := lw_g (lw_at lw_m5 8 rfl) rfl
theorem q1053 : (Jvm.Cond.code ({ cls := "WriteOnceDisc$Reader", name := "found", desc := "(JI)LWriteOnceDisc$Found;" } : Jvm.MethodName) prog_8_method_13_code (5 : Nat) (Option.some (Jvm.ClassFile.FieldType.object "WriteOnceDisc$Found"))) ∈ lw_all := lw_g (lw_at lw_m5 9 rfl) rfl
theorem q1054 : (Jvm.Cond.instantiable "WriteOnceDisc$Found" (6 : Nat)) ∈ lw_all := lw_g (lw_at lw_m5 10 rfl) rfl
theorem q1055 : (Jvm.Cond.methodLinkNest "WriteOnceDisc$Reader" (121 : Nat) ({ cls := "WriteOnceDisc$Found", name := "<init>", desc := "()V" } : Jvm.MethodName) "WriteOnceDisc") ∈ lw_tbl := lw_at lw_m5 11 rfl
theorem q1056 : (Jvm.Cond.instanceMethod ({ cls := "WriteOnceDisc$Found", name := "<init>", desc := "()V" } : Jvm.MethodName)) ∈ lw_all := lw_g (lw_at lw_m5 12 rfl) rfl
theorem q1057 : (Jvm.Cond.code ({ cls := "WriteOnceDisc$Found", name := "<init>", desc := "()V" } : Jvm.MethodName) prog_3_method_1_code (1 : Nat) (Option.none : Option Jvm.ClassFile.FieldType)) ∈ lw_all := lw_g (lw_at lw_m5 13 rfl) rfl
theorem q1058 : (Jvm.Cond.methodLink "WriteOnceDisc$Found" (3 : Nat) ({ cls := "java/lang/Object", name := "<init>", desc := "()V" } : Jvm.MethodName)) ∈ lw_all := lw_g (lw_at lw_m5 14 rfl) rfl
theorem q1059 : (Jvm.Cond.fieldLink "WriteOnceDisc$Reader" (122 : Nat) "WriteOnceDisc$Found" "parent" "I") ∈ lw_all := lw_g (lw_at lw_m5 15 rfl) rfl
theorem q1060 : (Jvm.Cond.fieldLink "WriteOnceDisc" (229 : Nat) "WriteOnceDisc$Found" "parent" "I") ∈ lw_all := lw_g (lw_at lw_m5 16 rfl) rfl
theorem q1061 : (Jvm.Cond.fieldLink "WriteOnceDisc$Reader" (125 : Nat) "WriteOnceDisc$Found" "depth" "I") ∈ lw_all := lw_g (lw_at lw_m5 17 rfl) rfl
theorem q1062 : (Jvm.Cond.fieldLink "WriteOnceDisc$Reader" (138 : Nat) "WriteOnceDisc$Found" "sector" "I") ∈ lw_all := lw_g (lw_at lw_m5 18 rfl) rfl
theorem q1063 : (Jvm.Cond.fieldLink "WriteOnceDisc" (236 : Nat) "WriteOnceDisc$Found" "sector" "I") ∈ lw_all := lw_g (lw_at lw_m5 19 rfl) rfl
theorem q1064 : (Jvm.Cond.fieldLink "WriteOnceDisc$Found" (9 : Nat) "WriteOnceDisc$Found" "size" "I") ∈ lw_all := lw_g (lw_at lw_m5 20 rfl) rfl
theorem q1065 : (Jvm.Cond.fieldLink "WriteOnceDisc$Reader" (141 : Nat) "WriteOnceDisc$Found" "size" "I") ∈ lw_all := lw_g (lw_at lw_m5 21 rfl) rfl
theorem q1066 : (Jvm.Cond.fieldLink "WriteOnceDisc" (235 : Nat) "WriteOnceDisc$Found" "size" "I") ∈ lw_all := lw_g (lw_at lw_m5 22 rfl) rfl
theorem q1067 : (Jvm.Cond.fieldLink "WriteOnceDisc$Reader" (134 : Nat) "WriteOnceDisc$Found" "directory" "Z") ∈ lw_all := lw_g (lw_at lw_m5 23 rfl) rfl
theorem q1068 : (Jvm.Cond.fieldLink "WriteOnceDisc" (230 : Nat) "WriteOnceDisc$Found" "directory" "Z") ∈ lw_all := lw_g (lw_at lw_m5 24 rfl) rfl
theorem q1069 : (Jvm.Cond.fieldLink "WriteOnceDisc$Reader" (128 : Nat) "WriteOnceDisc$Found" "name" "J") ∈ lw_all := lw_g (lw_at lw_m5 25 rfl) rfl
theorem q1070 : (Jvm.Cond.fieldLink "WriteOnceDisc" (231 : Nat) "WriteOnceDisc$Found" "name" "J") ∈ lw_all := lw_g (lw_at lw_m5 26 rfl) rfl
theorem q1071 : (Jvm.Cond.lays "WriteOnceDisc$Found" "WriteOnceDisc$Found" "parent" "I") ∈ lw_all := lw_g (lw_at lw_m5 27 rfl) rfl
theorem q1072 : (Jvm.Cond.soleField "WriteOnceDisc$Found" "parent") ∈ lw_all := lw_g (lw_at lw_m5 28 rfl) rfl
theorem q1073 : (Jvm.Cond.lays "WriteOnceDisc$Found" "WriteOnceDisc$Found" "depth" "I") ∈ lw_all := lw_g (lw_at lw_m5 29 rfl) rfl
theorem q1074 : (Jvm.Cond.soleField "WriteOnceDisc$Found" "depth") ∈ lw_all := lw_g (lw_at lw_m5 30 rfl) rfl
theorem q1075 : (Jvm.Cond.lays "WriteOnceDisc$Found" "WriteOnceDisc$Found" "sector" "I") ∈ lw_all := lw_g (lw_at lw_m5 31 rfl) rfl
theorem q1076 : (Jvm.Cond.soleField "WriteOnceDisc$Found" "sector") ∈ lw_all := lw_g (lw_at lw_m5 32 rfl) rfl
theorem q1077 : (Jvm.Cond.lays "WriteOnceDisc$Found" "WriteOnceDisc$Found" "size" "I") ∈ lw_all := lw_g (lw_at lw_m5 33 rfl) rfl
theorem q1078 : (Jvm.Cond.soleField "WriteOnceDisc$Found" "size") ∈ lw_all := lw_g (lw_at lw_m5 34 rfl) rfl
theorem q1079 : (Jvm.Cond.lays "WriteOnceDisc$Found" "WriteOnceDisc$Found" "directory" "Z") ∈ lw_all := lw_g (lw_at lw_m5 35 rfl) rfl
theorem q1080 : (Jvm.Cond.soleField "WriteOnceDisc$Found" "directory") ∈ lw_all := lw_g (lw_at lw_m5 36 rfl) rfl
theorem q1081 : (Jvm.Cond.lays "WriteOnceDisc$Found" "WriteOnceDisc$Found" "name" "J") ∈ lw_all := lw_g (lw_at lw_m5 37 rfl) rfl
theorem q1082 : (Jvm.Cond.soleField "WriteOnceDisc$Found" "name") ∈ lw_all := lw_g (lw_at lw_m5 38 rfl) rfl
theorem q1083 : (Jvm.Cond.superclass "WriteOnceDisc$Found" "java/lang/Object") ∈ lw_all := lw_g (lw_at lw_m5 39 rfl) rfl
theorem q1084 : (Jvm.Cond.methodLink "WriteOnceDisc$Reader" (131 : Nat) ({ cls := "WriteOnceDisc$Reader", name := "isDirectory", desc := "(J)Z" } : Jvm.MethodName)) ∈ lw_all := lw_g (lw_at lw_m5 40 rfl) rfl
theorem q1085 : (Jvm.Cond.privateMethod ({ cls := "WriteOnceDisc$Reader", name := "isDirectory", desc := "(J)Z" } : Jvm.MethodName)) ∈ lw_tbl := lw_at lw_m5 41 rfl
theorem q1086 : (Jvm.Cond.instanceMethod ({ cls := "WriteOnceDisc$Reader", name := "isDirectory", desc := "(J)Z" } : Jvm.MethodName)) ∈ lw_all := lw_g (lw_at lw_m5 42 rfl) rfl
theorem q1087 : (Jvm.Cond.code ({ cls := "WriteOnceDisc$Reader", name := "isDirectory", desc := "(J)Z" } : Jvm.MethodName) prog_8_method_11_code (3 : Nat) (Option.some Jvm.ClassFile.FieldType.boolean)) ∈ lw_all := lw_g (lw_at lw_m5 43 rfl) rfl
theorem q1088 : (Jvm.Cond.methodLink "WriteOnceDisc$Reader" (166 : Nat) ({ cls := "java/util/ArrayList", name := "add", desc := "(Ljava/lang/Object;)Z" } : Jvm.MethodName)) ∈ lw_all := lw_g (lw_at lw_m5 44 rfl) rfl
theorem q1089 : (Jvm.Cond.methodLink "WriteOnceDisc$Reader" (144 : Nat) ({ cls := "java/util/ArrayList", name := "size", desc := "()I" } : Jvm.MethodName)) ∈ lw_all := lw_g (lw_at lw_m5 45 rfl) rfl
theorem q1090 : (Jvm.Cond.methodLink "WriteOnceDisc$Reader" (147 : Nat) ({ cls := "java/util/ArrayList", name := "get", desc := "(I)Ljava/lang/Object;" } : Jvm.MethodName)) ∈ lw_all := lw_g (lw_at lw_m5 46 rfl) rfl
theorem q1091 : (Jvm.Cond.methodLink "WriteOnceDisc$Reader" (217 : Nat) ({ cls := "WriteOnceDisc$Reader", name := "directory", desc := "(I)Z" } : Jvm.MethodName)) ∈ lw_all := lw_g (lw_at lw_m5 47 rfl) rfl
theorem q1092 : (Jvm.Cond.privateMethod ({ cls := "WriteOnceDisc$Reader", name := "directory", desc := "(I)Z" } : Jvm.MethodName)) ∈ lw_tbl := lw_at lw_m5 48 rfl
theorem q1093 : (Jvm.Cond.instanceMethod ({ cls := "WriteOnceDisc$Reader", name := "directory", desc := "(I)Z" } : Jvm.MethodName)) ∈ lw_all := lw_g (lw_at lw_m5 49 rfl) rfl
theorem q1094 : (Jvm.Cond.code ({ cls := "WriteOnceDisc$Reader", name := "directory", desc := "(I)Z" } : Jvm.MethodName) prog_8_method_17_code (8 : Nat) (Option.some Jvm.ClassFile.FieldType.boolean)) ∈ lw_all := lw_g (lw_at lw_m5 50 rfl) rfl
theorem q1095 : (Jvm.Cond.methodLink "WriteOnceDisc$Reader" (173 : Nat) ({ cls := "WriteOnceDisc$Reader", name := "same", desc := "(JLWriteOnceDisc$Found;)Z" } : Jvm.MethodName)) ∈ lw_all := lw_g (lw_at lw_m5 51 rfl) rfl
theorem q1096 : (Jvm.Cond.privateMethod ({ cls := "WriteOnceDisc$Reader", name := "same", desc := "(JLWriteOnceDisc$Found;)Z" } : Jvm.MethodName)) ∈ lw_tbl := lw_at lw_m5 52 rfl
theorem q1097 : (Jvm.Cond.instanceMethod ({ cls := "WriteOnceDisc$Reader", name := "same", desc := "(JLWriteOnceDisc$Found;)Z" } : Jvm.MethodName)) ∈ lw_all := lw_g (lw_at lw_m5 53 rfl) rfl
theorem q1098 : (Jvm.Cond.code ({ cls := "WriteOnceDisc$Reader", name := "same", desc := "(JLWriteOnceDisc$Found;)Z" } : Jvm.MethodName) prog_8_method_16_code (4 : Nat) (Option.some Jvm.ClassFile.FieldType.boolean)) ∈ lw_all := lw_g (lw_at lw_m5 54 rfl) rfl
theorem q1099 : (Jvm.Cond.methodLink "WriteOnceDisc$Reader" (177 : Nat) ({ cls := "WriteOnceDisc$Reader", name := "rises", desc := "()Z" } : Jvm.MethodName)) ∈ lw_all := lw_g (lw_at lw_m5 55 rfl) rfl
theorem q1100 : (Jvm.Cond.privateMethod ({ cls := "WriteOnceDisc$Reader", name := "rises", desc := "()Z" } : Jvm.MethodName)) ∈ lw_tbl := lw_at lw_m5 56 rfl
theorem q1101 : (Jvm.Cond.instanceMethod ({ cls := "WriteOnceDisc$Reader", name := "rises", desc := "()Z" } : Jvm.MethodName)) ∈ lw_all := lw_g (lw_at lw_m5 57 rfl) rfl
theorem q1102 : (Jvm.Cond.code ({ cls := "WriteOnceDisc$Reader", name := "rises", desc := "()Z" } : Jvm.MethodName) prog_8_method_9_code (3 : Nat) (Option.some Jvm.ClassFile.FieldType.boolean)) ∈ lw_all := lw_g (lw_at lw_m5 58 rfl) rfl
theorem q1103 : (Jvm.Cond.methodLink "WriteOnceDisc$Reader" (181 : Nat) ({ cls := "WriteOnceDisc$Reader", name := "node", desc := "(JI)Z" } : Jvm.MethodName)) ∈ lw_all := lw_g (lw_at lw_m5 59 rfl) rfl
theorem q1104 : (Jvm.Cond.privateMethod ({ cls := "WriteOnceDisc$Reader", name := "node", desc := "(JI)Z" } : Jvm.MethodName)) ∈ lw_tbl := lw_at lw_m5 60 rfl
theorem q1105 : (Jvm.Cond.instanceMethod ({ cls := "WriteOnceDisc$Reader", name := "node", desc := "(JI)Z" } : Jvm.MethodName)) ∈ lw_all := lw_g (lw_at lw_m5 61 rfl) rfl
theorem q1106 : (Jvm.Cond.code ({ cls := "WriteOnceDisc$Reader", name := "node", desc := "(JI)Z" } : Jvm.MethodName) prog_8_method_15_code (5 : Nat) (Option.some Jvm.ClassFile.FieldType.boolean)) ∈ lw_all := lw_g (lw_at lw_m5 62 rfl) rfl
theorem q1107 : (Jvm.Cond.methodLink "WriteOnceDisc$Reader" (158 : Nat) ({ cls := "WriteOnceDisc$Reader", name := "word", desc := "(I)J" } : Jvm.MethodName)) ∈ lw_all := lw_g (lw_at lw_m5 63 rfl) rfl
theorem q1108 : (Jvm.Cond.privateMethod ({ cls := "WriteOnceDisc$Reader", name := "word", desc := "(I)J" } : Jvm.MethodName)) ∈ lw_tbl := lw_at lw_m5 64 rfl
theorem q1109 : (Jvm.Cond.instanceMethod ({ cls := "WriteOnceDisc$Reader", name := "word", desc := "(I)J" } : Jvm.MethodName)) ∈ lw_all := lw_g (lw_at lw_m5 65 rfl) rfl
theorem q1110 : (Jvm.Cond.code ({ cls := "WriteOnceDisc$Reader", name := "word", desc := "(I)J" } : Jvm.MethodName) prog_8_method_8_code (5 : Nat) (Option.some Jvm.ClassFile.FieldType.long)) ∈ lw_all := lw_g (lw_at lw_m5 66 rfl) rfl
theorem q1111 : (Jvm.Cond.methodLink "WriteOnceDisc$Reader" (162 : Nat) ({ cls := "WriteOnceDisc$Reader", name := "overlaps", desc := "(LWriteOnceDisc$Found;)Z" } : Jvm.MethodName)) ∈ lw_all := lw_g (lw_at lw_m5 67 rfl) rfl
theorem q1112 : (Jvm.Cond.privateMethod ({ cls := "WriteOnceDisc$Reader", name := "overlaps", desc := "(LWriteOnceDisc$Found;)Z" } : Jvm.MethodName)) ∈ lw_tbl := lw_at lw_m5 68 rfl
theorem q1113 : (Jvm.Cond.instanceMethod ({ cls := "WriteOnceDisc$Reader", name := "overlaps", desc := "(LWriteOnceDisc$Found;)Z" } : Jvm.MethodName)) ∈ lw_all := lw_g (lw_at lw_m5 69 rfl) rfl
theorem q1114 : (Jvm.Cond.code ({ cls := "WriteOnceDisc$Reader", name := "overlaps", desc := "(LWriteOnceDisc$Found;)Z" } : Jvm.MethodName) prog_8_method_14_code (5 : Nat) (Option.some Jvm.ClassFile.FieldType.boolean)) ∈ lw_all := lw_g (lw_at lw_m5 70 rfl) rfl
theorem q1115 : (Jvm.Cond.methodLink "WriteOnceDisc$Reader" (151 : Nat) ({ cls := "WriteOnceDisc$Found", name := "sectors", desc := "()I" } : Jvm.MethodName)) ∈ lw_all := lw_g (lw_at lw_m5 71 rfl) rfl
theorem q1116 : (Jvm.Cond.instanceMethod ({ cls := "WriteOnceDisc$Found", name := "sectors", desc := "()I" } : Jvm.MethodName)) ∈ lw_all := lw_g (lw_at lw_m5 72 rfl) rfl
theorem q1117 : (Jvm.Cond.selects "WriteOnceDisc$Found" ({ cls := "WriteOnceDisc$Found", name := "sectors", desc := "()I" } : Jvm.MethodName) ({ cls := "WriteOnceDisc$Found", name := "sectors", desc := "()I" } : Jvm.MethodName)) ∈ lw_all := lw_g (lw_at lw_m5 73 rfl) rfl
theorem q1118 : (Jvm.Cond.code ({ cls := "WriteOnceDisc$Found", name := "sectors", desc := "()I" } : Jvm.MethodName) prog_3_method_2_code (1 : Nat) (Option.some Jvm.ClassFile.FieldType.int)) ∈ lw_all := lw_g (lw_at lw_m5 74 rfl) rfl
theorem q1119 : (Jvm.Cond.constantLong "WriteOnceDisc$Reader" (219 : Nat) (4096 : Int64)) ∈ lw_all := lw_g (lw_at lw_m5 75 rfl) rfl
theorem q1120 : (Jvm.Cond.methodLink "WriteOnceDisc$Reader" (221 : Nat) ({ cls := "WriteOnceDisc$Reader", name := "paths", desc := "(JZ)Z" } : Jvm.MethodName)) ∈ lw_all := lw_g (lw_at lw_m5 76 rfl) rfl
theorem q1121 : (Jvm.Cond.privateMethod ({ cls := "WriteOnceDisc$Reader", name := "paths", desc := "(JZ)Z" } : Jvm.MethodName)) ∈ lw_tbl := lw_at lw_m5 77 rfl
theorem q1122 : (Jvm.Cond.instanceMethod ({ cls := "WriteOnceDisc$Reader", name := "paths", desc := "(JZ)Z" } : Jvm.MethodName)) ∈ lw_all := lw_g (lw_at lw_m5 78 rfl) rfl
theorem q1123 : (Jvm.Cond.code ({ cls := "WriteOnceDisc$Reader", name := "paths", desc := "(JZ)Z" } : Jvm.MethodName) prog_8_method_20_code (12 : Nat) (Option.some Jvm.ClassFile.FieldType.boolean)) ∈ lw_all := lw_g (lw_at lw_m5 79 rfl) rfl
theorem q1124 : (Jvm.Cond.methodLink "WriteOnceDisc$Reader" (184 : Nat) ({ cls := "WriteOnceDisc$Reader", name := "lettersOf", desc := "(J)I" } : Jvm.MethodName)) ∈ lw_all := lw_g (lw_at lw_m5 80 rfl) rfl
theorem q1125 : (Jvm.Cond.static ({ cls := "WriteOnceDisc$Reader", name := "lettersOf", desc := "(J)I" } : Jvm.MethodName)) ∈ lw_all := lw_g (lw_at lw_m5 81 rfl) rfl
theorem q1126 : (Jvm.Cond.code ({ cls := "WriteOnceDisc$Reader", name := "lettersOf", desc := "(J)I" } : Jvm.MethodName) prog_8_method_19_code (3 : Nat) (Option.some Jvm.ClassFile.FieldType.int)) ∈ lw_all := lw_g (lw_at lw_m5 82 rfl) rfl
theorem q1127 : (Jvm.Cond.methodLink "WriteOnceDisc$Reader" (187 : Nat) ({ cls := "WriteOnceDisc$Reader", name := "isNumber", desc := "(JIIZ)Z" } : Jvm.MethodName)) ∈ lw_all := lw_g (lw_at lw_m5 83 rfl) rfl
theorem q1128 : (Jvm.Cond.privateMethod ({ cls := "WriteOnceDisc$Reader", name := "isNumber", desc := "(JIIZ)Z" } : Jvm.MethodName)) ∈ lw_tbl := lw_at lw_m5 84 rfl
theorem q1129 : (Jvm.Cond.instanceMethod ({ cls := "WriteOnceDisc$Reader", name := "isNumber", desc := "(JIIZ)Z" } : Jvm.MethodName)) ∈ lw_all := lw_g (lw_at lw_m5 85 rfl) rfl
theorem q1130 : (Jvm.Cond.code ({ cls := "WriteOnceDisc$Reader", name := "isNumber", desc := "(JIIZ)Z" } : Jvm.MethodName) prog_8_method_18_code (7 : Nat) (Option.some Jvm.ClassFile.FieldType.boolean)) ∈ lw_all := lw_g (lw_at lw_m5 86 rfl) rfl
theorem q1131 : (Jvm.Cond.constantLong "WriteOnceDisc$Reader" (191 : Nat) (8 : Int64)) ∈ lw_all := lw_g (lw_at lw_m5 87 rfl) rfl
theorem q1132 : (Jvm.Cond.constantLong "WriteOnceDisc$Reader" (225 : Nat) (6144 : Int64)) ∈ lw_all := lw_g (lw_at lw_m5 88 rfl) rfl
theorem q1133 : (Jvm.Cond.methodLink "WriteOnceDisc" (251 : Nat) ({ cls := "WriteOnceDisc", name := "take", desc := "(LWriteOnceDisc$Reader;)V" } : Jvm.MethodName)) ∈ lw_all := lw_g (lw_at lw_m5 89 rfl) rfl
theorem q1134 : (Jvm.Cond.privateMethod ({ cls := "WriteOnceDisc", name := "take", desc := "(LWriteOnceDisc$Reader;)V" } : Jvm.MethodName)) ∈ lw_tbl := lw_at lw_m5 90 rfl
theorem q1135 : (Jvm.Cond.instanceMethod ({ cls := "WriteOnceDisc", name := "take", desc := "(LWriteOnceDisc$Reader;)V" } : Jvm.MethodName)) ∈ lw_all := lw_g (lw_at lw_m5 91 rfl) rfl
theorem q1136 : (Jvm.Cond.code ({ cls := "WriteOnceDisc", name := "take", desc := "(LWriteOnceDisc$Reader;)V" } : Jvm.MethodName) prog_1_method_19_code (5 : Nat) (Option.none : Option Jvm.ClassFile.FieldType)) ∈ lw_all := lw_g (lw_at lw_m5 92 rfl) rfl
theorem q1137 : (Jvm.Cond.classLink "WriteOnceDisc" (227 : Nat) "WriteOnceDisc$Found") ∈ lw_all := lw_g (lw_at lw_m5 93 rfl) rfl
theorem q1138 : (Jvm.Cond.methodLink "WriteOnceDiscLaw" (85 : Nat) ({ cls := "WriteOnceDisc", name := "compact", desc := "()I" } : Jvm.MethodName)) ∈ lw_all := lw_g (lw_at lw_m5 94 rfl) rfl
theorem q1139 : (Jvm.Cond.instanceMethod ({ cls := "WriteOnceDisc", name := "compact", desc := "()I" } : Jvm.MethodName)) ∈ lw_all := lw_g (lw_at lw_m5 95 rfl) rfl
theorem q1140 : (Jvm.Cond.selects "WriteOnceDisc" ({ cls := "WriteOnceDisc", name := "compact", desc := "()I" } : Jvm.MethodName) ({ cls := "WriteOnceDisc", name := "compact", desc := "()I" } : Jvm.MethodName)) ∈ lw_all := lw_g (lw_at lw_m5 96 rfl) rfl
theorem q1141 : (Jvm.Cond.code ({ cls := "WriteOnceDisc", name := "compact", desc := "()I" } : Jvm.MethodName) prog_1_method_21_code (5 : Nat) (Option.some Jvm.ClassFile.FieldType.int)) ∈ lw_all := lw_g (lw_at lw_m5 97 rfl) rfl
theorem q1142 : (Jvm.Cond.methodLink "WriteOnceDisc" (255 : Nat) ({ cls := "WriteOnceDisc$Medium", name := "wipe", desc := "()V" } : Jvm.MethodName)) ∈ lw_all := lw_g (lw_at lw_m5 98 rfl) rfl
theorem q1143 : (Jvm.Cond.instanceMethod ({ cls := "WriteOnceDisc$Medium", name := "wipe", desc := "()V" } : Jvm.MethodName)) ∈ lw_all := lw_g (lw_at lw_m5 99 rfl) rfl
theorem q1144 : (Jvm.Cond.selects "WriteOnceDisc$Medium" ({ cls := "WriteOnceDisc$Medium", name := "wipe", desc := "()V" } : Jvm.MethodName) ({ cls := "WriteOnceDisc$Medium", name := "wipe", desc := "()V" } : Jvm.MethodName)) ∈ lw_all := lw_g (lw_at lw_m5 100 rfl) rfl
theorem q1145 : (Jvm.Cond.code ({ cls := "WriteOnceDisc$Medium", name := "wipe", desc := "()V" } : Jvm.MethodName) prog_4_method_2_code (2 : Nat) (Option.none : Option Jvm.ClassFile.FieldType)) ∈ lw_all := lw_g (lw_at lw_m5 101 rfl) rfl
theorem q1146 : (Jvm.Cond.methodLink "WriteOnceDiscLaw" (89 : Nat) ({ cls := "WriteOnceDisc", name := "state", desc := "(I)I" } : Jvm.MethodName)) ∈ lw_all := lw_g (lw_at lw_m5 102 rfl) rfl
theorem q1147 : (Jvm.Cond.instanceMethod ({ cls := "WriteOnceDisc", name := "state", desc := "(I)I" } : Jvm.MethodName)) ∈ lw_all := lw_g (lw_at lw_m5 103 rfl) rfl
theorem q1148 : (Jvm.Cond.selects "WriteOnceDisc" ({ cls := "WriteOnceDisc", name := "state", desc := "(I)I" } : Jvm.MethodName) ({ cls := "WriteOnceDisc", name := "state", desc := "(I)I" } : Jvm.MethodName)) ∈ lw_all := lw_g (lw_at lw_m5 104 rfl) rfl
theorem q1149 : (Jvm.Cond.code ({ cls := "WriteOnceDisc", name := "state", desc := "(I)I" } : Jvm.MethodName) prog_1_method_22_code (2 : Nat) (Option.some Jvm.ClassFile.FieldType.int)) ∈ lw_all := lw_g (lw_at lw_m5 105 rfl) rfl
theorem q1150 : (Jvm.Cond.methodLink "WriteOnceDiscLaw" (93 : Nat) ({ cls := "WriteOnceDisc", name := "byteAt", desc := "(I)I" } : Jvm.MethodName)) ∈ lw_all := lw_g (lw_at lw_m5 106 rfl) rfl
theorem q1151 : (Jvm.Cond.instanceMethod ({ cls := "WriteOnceDisc", name := "byteAt", desc := "(I)I" } : Jvm.MethodName)) ∈ lw_all := lw_g (lw_at lw_m5 107 rfl) rfl
theorem q1152 : (Jvm.Cond.selects "WriteOnceDisc" ({ cls := "WriteOnceDisc", name := "byteAt", desc := "(I)I" } : Jvm.MethodName) ({ cls := "WriteOnceDisc", name := "byteAt", desc := "(I)I" } : Jvm.MethodName)) ∈ lw_all := lw_g (lw_at lw_m5 108 rfl) rfl
theorem q1153 : (Jvm.Cond.code ({ cls := "WriteOnceDisc", name := "byteAt", desc := "(I)I" } : Jvm.MethodName) prog_1_method_24_code (2 : Nat) (Option.some Jvm.ClassFile.FieldType.int)) ∈ lw_all := lw_g (lw_at lw_m5 109 rfl) rfl
theorem q1154 : (Jvm.Cond.methodLink "WriteOnceDisc" (261 : Nat) ({ cls := "WriteOnceDisc", name := "isIn", desc := "(I)Z" } : Jvm.MethodName)) ∈ lw_all := lw_g (lw_at lw_m5 110 rfl) rfl
theorem q1155 : (Jvm.Cond.privateMethod ({ cls := "WriteOnceDisc", name := "isIn", desc := "(I)Z" } : Jvm.MethodName)) ∈ lw_tbl := lw_at lw_m5 111 rfl
theorem q1156 : (Jvm.Cond.instanceMethod ({ cls := "WriteOnceDisc", name := "isIn", desc := "(I)Z" } : Jvm.MethodName)) ∈ lw_all := lw_g (lw_at lw_m5 112 rfl) rfl
theorem q1157 : (Jvm.Cond.code ({ cls := "WriteOnceDisc", name := "isIn", desc := "(I)Z" } : Jvm.MethodName) prog_1_method_23_code (2 : Nat) (Option.some Jvm.ClassFile.FieldType.boolean)) ∈ lw_all := lw_g (lw_at lw_m5 113 rfl) rfl
theorem q1158 : (Jvm.Cond.methodLink "WriteOnceDisc" (263 : Nat) ({ cls := "WriteOnceDisc$Medium", name := "at", desc := "(J)I" } : Jvm.MethodName)) ∈ lw_all := lw_g (lw_at lw_m5 114 rfl) rfl
theorem q1159 : (Jvm.Cond.methodLink "WriteOnceDiscLaw" (97 : Nat) ({ cls := "WriteOnceDisc", name := "spoil", desc := "(II)I" } : Jvm.MethodName)) ∈ lw_all := lw_g (lw_at lw_m5 115 rfl) rfl
theorem q1160 : (Jvm.Cond.instanceMethod ({ cls := "WriteOnceDisc", name := "spoil", desc := "(II)I" } : Jvm.MethodName)) ∈ lw_all := lw_g (lw_at lw_m5 116 rfl) rfl
theorem q1161 : (Jvm.Cond.selects "WriteOnceDisc" ({ cls := "WriteOnceDisc", name := "spoil", desc := "(II)I" } : Jvm.MethodName) ({ cls := "WriteOnceDisc", name := "spoil", desc := "(II)I" } : Jvm.MethodName)) ∈ lw_all := lw_g (lw_at lw_m5 117 rfl) rfl
theorem q1162 : (Jvm.Cond.code ({ cls := "WriteOnceDisc", name := "spoil", desc := "(II)I" } : Jvm.MethodName) prog_1_method_25_code (4 : Nat) (Option.some Jvm.ClassFile.FieldType.int)) ∈ lw_all := lw_g (lw_at lw_m5 118 rfl) rfl
theorem q1163 : (Jvm.Cond.methodLink "WriteOnceDiscLaw" (101 : Nat) ({ cls := "WriteOnceDisc", name := "writes", desc := "()I" } : Jvm.MethodName)) ∈ lw_all := lw_g (lw_at lw_m5 119 rfl) rfl
theorem q1164 : (Jvm.Cond.instanceMethod ({ cls := "WriteOnceDisc", name := "writes", desc := "()I" } : Jvm.MethodName)) ∈ lw_all := lw_g (lw_at lw_m5 120 rfl) rfl
theorem q1165 : (Jvm.Cond.selects "WriteOnceDisc" ({ cls := "WriteOnceDisc", name := "writes", desc := "()I" } : Jvm.MethodName) ({ cls := "WriteOnceDisc", name := "writes", desc := "()I" } : Jvm.MethodName)) ∈ lw_all := lw_g (lw_at lw_m5 121 rfl) rfl
theorem q1166 : (Jvm.Cond.code ({ cls := "WriteOnceDisc", name := "writes", desc := "()I" } : Jvm.MethodName) prog_1_method_26_code (1 : Nat) (Option.some Jvm.ClassFile.FieldType.int)) ∈ lw_all := lw_g (lw_at lw_m5 122 rfl) rfl
theorem q1167 : (Jvm.Cond.methodLink "WriteOnceDiscLaw" (112 : Nat) ({ cls := "WriteOnceDisc", name := "open", desc := "(I)I" } : Jvm.MethodName)) ∈ lw_all := lw_g (lw_at lw_m5 123 rfl) rfl
theorem q1168 : (Jvm.Cond.instanceMethod ({ cls := "WriteOnceDisc", name := "open", desc := "(I)I" } : Jvm.MethodName)) ∈ lw_all := lw_g (lw_at lw_m5 124 rfl) rfl
theorem q1169 : (Jvm.Cond.selects "WriteOnceDisc" ({ cls := "WriteOnceDisc", name := "open", desc := "(I)I" } : Jvm.MethodName) ({ cls := "WriteOnceDisc", name := "open", desc := "(I)I" } : Jvm.MethodName)) ∈ lw_all := lw_g (lw_at lw_m5 125 rfl) rfl
theorem q1170 : (Jvm.Cond.code ({ cls := "WriteOnceDisc", name := "open", desc := "(I)I" } : Jvm.MethodName) prog_1_method_30_code (4 : Nat) (Option.some Jvm.ClassFile.FieldType.int)) ∈ lw_all := lw_g (lw_at lw_m5 126 rfl) rfl
theorem q1171 : (Jvm.Cond.constant "WriteOnceDisc" (287 : Nat) (-1000000 : Int32)) ∈ lw_all := lw_g (lw_at lw_m5 127 rfl) rfl
theorem q1172 : (Jvm.Cond.methodLink "WriteOnceDisc" (284 : Nat) ({ cls := "WriteOnceDisc", name := "says", desc := "(LWriteOnceDisc$Reader;I)I" } : Jvm.MethodName)) ∈ lw_all := lw_g (lw_at lw_m5 128 rfl) rfl
theorem q1173 : (Jvm.Cond.static ({ cls := "WriteOnceDisc", name := "says", desc := "(LWriteOnceDisc$Reader;I)I" } : Jvm.MethodName)) ∈ lw_all := lw_g (lw_at lw_m5 129 rfl) rfl
theorem q1174 : (Jvm.Cond.code ({ cls := "WriteOnceDisc", name := "says", desc := "(LWriteOnceDisc$Reader;I)I" } : Jvm.MethodName) prog_1_method_28_code (2 : Nat) (Option.some Jvm.ClassFile.FieldType.int)) ∈ lw_all := lw_g (lw_at lw_m5 130 rfl) rfl
theorem q1175 : (Jvm.Cond.methodLink "WriteOnceDisc" (288 : Nat) ({ cls := "java/util/ArrayList", name := "clear", desc := "()V" } : Jvm.MethodName)) ∈ lw_all := lw_g (lw_at lw_m5 131 rfl) rfl
theorem q1176 : (Jvm.Cond.methodLink "WriteOnceDiscLaw" (28 : Nat) ({ cls := "WriteOnceDiscLaw", name := "cell", desc := "([II)I" } : Jvm.MethodName)) ∈ lw_all := lw_g (lw_at lw_m5 132 rfl) rfl
theorem q1177 : (Jvm.Cond.static ({ cls := "WriteOnceDiscLaw", name := "cell", desc := "([II)I" } : Jvm.MethodName)) ∈ lw_all := lw_g (lw_at lw_m5 133 rfl) rfl
theorem q1178 : (Jvm.Cond.code ({ cls := "WriteOnceDiscLaw", name := "cell", desc := "([II)I" } : Jvm.MethodName) method_2_code (2 : Nat) (Option.some Jvm.ClassFile.FieldType.int)) ∈ lw_all := lw_g (lw_at lw_m5 134 rfl) rfl
theorem q1179 : (Jvm.Cond.methodLink "WriteOnceDiscLaw" (105 : Nat) ({ cls := "WriteOnceDiscLaw", name := "mark", desc := "(LWriteOnceDisc;II[J)I" } : Jvm.MethodName)) ∈ lw_all := lw_g (lw_at lw_m5 135 rfl) rfl
theorem q1180 : (Jvm.Cond.static ({ cls := "WriteOnceDiscLaw", name := "mark", desc := "(LWriteOnceDisc;II[J)I" } : Jvm.MethodName)) ∈ lw_all := lw_g (lw_at lw_m5 136 rfl) rfl
theorem q1181 : (Jvm.Cond.codeWith ({ cls := "WriteOnceDiscLaw", name := "mark", desc := "(LWriteOnceDisc;II[J)I" } : Jvm.MethodName) method_3_code (5 : Nat) (Option.some Jvm.ClassFile.FieldType.int) [((0 : Nat), (10 : Nat), (13 : Nat), (13 : Nat))]) ∈ lw_all := lw_g (lw_at lw_m5 137 rfl) rfl
theorem q1182 : (Jvm.Cond.classLink "WriteOnceDiscLaw" (13 : Nat) "java/util/NoSuchElementException") ∈ lw_all := lw_g (lw_at lw_m5 138 rfl) rfl
theorem q1183 : (Jvm.Cond.methodLink "WriteOnceDiscLaw" (7 : Nat) ({ cls := "WriteOnceDisc", name := "mark", desc := "(II)I" } : Jvm.MethodName)) ∈ lw_all := lw_g (lw_at lw_m5 139 rfl) rfl
theorem q1184 : (Jvm.Cond.instanceMethod ({ cls := "WriteOnceDisc", name := "mark", desc := "(II)I" } : Jvm.MethodName)) ∈ lw_all := lw_g (lw_at lw_m5 140 rfl) rfl
theorem q1185 : (Jvm.Cond.selects "WriteOnceDisc" ({ cls := "WriteOnceDisc", name := "mark", desc := "(II)I" } : Jvm.MethodName) ({ cls := "WriteOnceDisc", name := "mark", desc := "(II)I" } : Jvm.MethodName)) ∈ lw_all := lw_g (lw_at lw_m5 141 rfl) rfl
theorem q1186 : (Jvm.Cond.code ({ cls := "WriteOnceDisc", name := "mark", desc := "(II)I" } : Jvm.MethodName) prog_1_method_29_code (5 : Nat) (Option.some Jvm.ClassFile.FieldType.int)) ∈ lw_all := lw_g (lw_at lw_m5 142 rfl) rfl
theorem q1187 : (Jvm.Cond.methodLink "WriteOnceDisc" (280 : Nat) ({ cls := "WriteOnceDisc", name := "need", desc := "(Z)V" } : Jvm.MethodName)) ∈ lw_all := lw_g (lw_at lw_m5 143 rfl) rfl
theorem q1188 : (Jvm.Cond.static ({ cls := "WriteOnceDisc", name := "need", desc := "(Z)V" } : Jvm.MethodName)) ∈ lw_all := lw_g (lw_at lw_m5 144 rfl) rfl
theorem q1189 : (Jvm.Cond.code ({ cls := "WriteOnceDisc", name := "need", desc := "(Z)V" } : Jvm.MethodName) prog_1_method_27_code (1 : Nat) (Option.none : Option Jvm.ClassFile.FieldType)) ∈ lw_all := lw_g (lw_at lw_m5 145 rfl) rfl
theorem q1190 : (Jvm.Cond.classLink "WriteOnceDisc" (274 : Nat) "java/util/NoSuchElementException") ∈ lw_all := lw_g (lw_at lw_m5 146 rfl) rfl
theorem q1191 : (Jvm.Cond.instantiable "java/util/NoSuchElementException" (6 : Nat)) ∈ lw_all := lw_g (lw_at lw_m5 147 rfl) rfl
theorem q1192 : (Jvm.Cond.castable "java/util/NoSuchElementException" "java/util/NoSuchElementException") ∈ lw_tbl := lw_at lw_m5 148 rfl
theorem q1193 : (Jvm.Cond.declares ({ cls := "java/lang/RuntimeException", name := "<init>", desc := "()V" } : Jvm.MethodName)) ∈ lw_tbl := lw_at lw_m5 149 rfl
theorem q1194 : (Jvm.Cond.declares ({ cls := "java/lang/RuntimeException", name := "<init>", desc := "(Ljava/lang/String;)V" } : Jvm.MethodName)) ∈ lw_tbl := lw_at lw_m5 150 rfl
theorem q1195 : (Jvm.Cond.declares ({ cls := "java/lang/Exception", name := "<init>", desc := "()V" } : Jvm.MethodName)) ∈ lw_tbl := lw_at lw_m5 151 rfl
theorem q1196 : (Jvm.Cond.declares ({ cls := "java/lang/Exception", name := "<init>", desc := "(Ljava/lang/String;)V" } : Jvm.MethodName)) ∈ lw_tbl := lw_at lw_m5 152 rfl
theorem q1197 : (Jvm.Cond.declares ({ cls := "java/lang/Throwable", name := "<init>", desc := "()V" } : Jvm.MethodName)) ∈ lw_tbl := lw_at lw_m5 153 rfl
theorem q1198 : (Jvm.Cond.declares ({ cls := "java/lang/Throwable", name := "<init>", desc := "(Ljava/lang/String;)V" } : Jvm.MethodName)) ∈ lw_tbl := lw_at lw_m5 154 rfl
theorem q1199 : (Jvm.Cond.selects "java/util/NoSuchElementException" ({ cls := "java/lang/Throwable", name := "fillInStackTrace", desc := "(I)Ljava/lang/Throwable;" } : Jvm.MethodName) ({ cls := "java/lang/Throwable", name := "fillInStackTrace", desc := "(I)Ljava/lang/Throwable;" } : Jvm.MethodName)) ∈ lw_all := lw_g (lw_at lw_m5 155 rfl) rfl
theorem q1200 : (Jvm.Cond.selects "java/util/NoSuchElementException" ({ cls := "java/lang/Throwable", name := "fillInStackTrace", desc := "()Ljava/lang/Throwable;" } : Jvm.MethodName) ({ cls := "java/lang/Throwable", name := "fillInStackTrace", desc := "()Ljava/lang/Throwable;" } : Jvm.MethodName)) ∈ lw_all := lw_g (lw_at lw_m5 156 rfl) rfl
theorem q1201 : (Jvm.Cond.lays "java/util/NoSuchElementException" "java/lang/Throwable" "cause" "Ljava/lang/Throwable;") ∈ lw_all := lw_g (lw_at lw_m5 157 rfl) rfl
theorem q1202 : (Jvm.Cond.lays "java/lang/Throwable" "java/lang/Throwable" "cause" "Ljava/lang/Throwable;") ∈ lw_all := lw_g (lw_at lw_m5 158 rfl) rfl
theorem q1203 : (Jvm.Cond.lays "java/util/NoSuchElementException" "java/lang/Throwable" "stackTrace" "[Ljava/lang/StackTraceElement;") ∈ lw_all := lw_g (lw_at lw_m5 159 rfl) rfl
theorem q1204 : (Jvm.Cond.lays "java/lang/Throwable" "java/lang/Throwable" "stackTrace" "[Ljava/lang/StackTraceElement;") ∈ lw_all := lw_g (lw_at lw_m5 160 rfl) rfl
theorem q1205 : (Jvm.Cond.lays "java/util/NoSuchElementException" "java/lang/Throwable" "suppressedExceptions" "Ljava/util/List;") ∈ lw_all := lw_g (lw_at lw_m5 161 rfl) rfl
theorem q1206 : (Jvm.Cond.lays "java/lang/Throwable" "java/lang/Throwable" "suppressedExceptions" "Ljava/util/List;") ∈ lw_all := lw_g (lw_at lw_m5 162 rfl) rfl
theorem q1207 : (Jvm.Cond.lays "java/util/NoSuchElementException" "java/lang/Throwable" "detailMessage" "Ljava/lang/String;") ∈ lw_all := lw_g (lw_at lw_m5 163 rfl) rfl
theorem q1208 : (Jvm.Cond.lays "java/lang/Throwable" "java/lang/Throwable" "detailMessage" "Ljava/lang/String;") ∈ lw_all := lw_g (lw_at lw_m5 164 rfl) rfl
theorem q1209 : (Jvm.Cond.lays "java/util/NoSuchElementException" "java/lang/Throwable" "backtrace" "Ljava/lang/Object;") ∈ lw_all := lw_g (lw_at lw_m5 165 rfl) rfl
theorem q1210 : (Jvm.Cond.lays "java/lang/Throwable" "java/lang/Throwable" "backtrace" "Ljava/lang/Object;") ∈ lw_all := lw_g (lw_at lw_m5 166 rfl) rfl
theorem q1211 : (Jvm.Cond.fieldLink "java/lang/Throwable" (198 : Nat) "java/lang/Throwable" "backtrace" "Ljava/lang/Object;") ∈ lw_all := lw_g (lw_at lw_m5 167 rfl) rfl
theorem q1212 : (Jvm.Cond.superclass "java/lang/Throwable" "java/lang/Object") ∈ lw_all := lw_g (lw_at lw_m5 168 rfl) rfl
theorem q1213 : (Jvm.Cond.instanceMethod ({ cls := "java/lang/Throwable", name := "<init>", desc := "()V" } : Jvm.MethodName)) ∈ lw_all := lw_g (lw_at lw_m5 169 rfl) rfl
theorem q1214 : (Jvm.Cond.code ({ cls := "java/lang/Throwable", name := "<init>", desc := "()V" } : Jvm.MethodName) prog_24_method_1_code (1 : Nat) (Option.none : Option Jvm.ClassFile.FieldType)) ∈ lw_all := lw_g (lw_at lw_m5 170 rfl) rfl
theorem q1215 : (Jvm.Cond.methodLink "java/lang/Throwable" (1 : Nat) ({ cls := "java/lang/Object", name := "<init>", desc := "()V" } : Jvm.MethodName)) ∈ lw_all := lw_g (lw_at lw_m5 171 rfl) rfl
theorem q1216 : (Jvm.Cond.fieldLink "java/lang/Throwable" (13 : Nat) "java/lang/Throwable" "UNASSIGNED_STACK" "[Ljava/lang/StackTraceElement;") ∈ lw_all := lw_g (lw_at lw_m5 172 rfl) rfl
theorem q1217 : (Jvm.Cond.laysStatic "java/lang/Throwable" "UNASSIGNED_STACK" "[Ljava/lang/StackTraceElement;") ∈ lw_tbl := lw_at lw_m5 173 rfl
theorem q1218 : (Jvm.Cond.fieldLink "java/lang/Throwable" (20 : Nat) "java/lang/Throwable" "SUPPRESSED_SENTINEL" "Ljava/util/List;") ∈ lw_all := lw_g (lw_at lw_m5 174 rfl) rfl
theorem q1219 : (Jvm.Cond.laysStatic "java/lang/Throwable" "SUPPRESSED_SENTINEL" "Ljava/util/List;") ∈ lw_tbl := lw_at lw_m5 175 rfl
theorem q1220 : (Jvm.Cond.methodLink "java/lang/Throwable" (27 : Nat) ({ cls := "java/lang/Throwable", name := "fillInStackTrace", desc := "()Ljava/lang/Throwable;" } : Jvm.MethodName)) ∈ lw_all := lw_g (lw_at lw_m5 176 rfl) rfl
theorem q1221 : (Jvm.Cond.instanceMethod ({ cls := "java/lang/Throwable", name := "fillInStackTrace", desc := "()Ljava/lang/Throwable;" } : Jvm.MethodName)) ∈ lw_all := lw_g (lw_at lw_m5 177 rfl) rfl
theorem q1222 : (Jvm.Cond.sameMethod "java/lang/Throwable" "java/lang/Throwable" "fillInStackTrace" "()Ljava/lang/Throwable;") ∈ lw_all := lw_g (lw_at lw_m5 178 rfl) rfl
theorem q1223 : (Jvm.Cond.codeSync ({ cls := "java/lang/Throwable", name := "fillInStackTrace", desc := "()Ljava/lang/Throwable;" } : Jvm.MethodName) prog_24_method_18_code (1 : Nat) (Option.some (Jvm.ClassFile.FieldType.object "java/lang/Throwable"))) ∈ lw_all := lw_g (lw_at lw_m5 179 rfl) rfl
theorem q1224 : (Jvm.Cond.methodLink "java/lang/Throwable" (202 : Nat) ({ cls := "java/lang/Throwable", name := "fillInStackTrace", desc := "(I)Ljava/lang/Throwable;" } : Jvm.MethodName)) ∈ lw_all := lw_g (lw_at lw_m5 180 rfl) rfl
theorem q1225 : (Jvm.Cond.privateMethod ({ cls := "java/lang/Throwable", name := "fillInStackTrace", desc := "(I)Ljava/lang/Throwable;" } : Jvm.MethodName)) ∈ lw_tbl := lw_at lw_m5 181 rfl
theorem q1226 : (Jvm.Cond.instanceMethod ({ cls := "java/lang/Throwable", name := "fillInStackTrace", desc := "(I)Ljava/lang/Throwable;" } : Jvm.MethodName)) ∈ lw_all := lw_g (lw_at lw_m5 182 rfl) rfl
theorem q1227 : (Jvm.Cond.instantiable "java/lang/Throwable" (6 : Nat)) ∈ lw_all := lw_g (lw_at lw_m5 183 rfl) rfl
theorem q1228 : (Jvm.Cond.native ({ cls := "java/lang/Throwable", name := "fillInStackTrace", desc := "(I)Ljava/lang/Throwable;" } : Jvm.MethodName)) ∈ lw_all := lw_g (lw_at lw_m5 184 rfl) rfl
theorem q1229 : (Jvm.Cond.methodLink "WriteOnceDisc" (276 : Nat) ({ cls := "java/util/NoSuchElementException", name := "<init>", desc := "()V" } : Jvm.MethodName)) ∈ lw_all := lw_g (lw_at lw_m5 185 rfl) rfl
theorem q1230 : (Jvm.Cond.instanceMethod ({ cls := "java/util/NoSuchElementException", name := "<init>", desc := "()V" } : Jvm.MethodName)) ∈ lw_all := lw_g (lw_at lw_m5 186 rfl) rfl
theorem q1231 : (Jvm.Cond.code ({ cls := "java/util/NoSuchElementException", name := "<init>", desc := "()V" } : Jvm.MethodName) prog_31_method_1_code (1 : Nat) (Option.none : Option Jvm.ClassFile.FieldType)) ∈ lw_all := lw_g (lw_at lw_m5 187 rfl) rfl
theorem q1232 : (Jvm.Cond.methodLink "java/util/NoSuchElementException" (1 : Nat) ({ cls := "java/lang/RuntimeException", name := "<init>", desc := "()V" } : Jvm.MethodName)) ∈ lw_all := lw_g (lw_at lw_m5 188 rfl) rfl
theorem q1233 : (Jvm.Cond.instanceMethod ({ cls := "java/lang/RuntimeException", name := "<init>", desc := "()V" } : Jvm.MethodName)) ∈ lw_all := lw_g (lw_at lw_m5 189 rfl) rfl
theorem q1234 : (Jvm.Cond.code ({ cls := "java/lang/RuntimeException", name := "<init>", desc := "()V" } : Jvm.MethodName) prog_18_method_1_code (1 : Nat) (Option.none : Option Jvm.ClassFile.FieldType)) ∈ lw_all := lw_g (lw_at lw_m5 190 rfl) rfl
theorem q1235 : (Jvm.Cond.methodLink "java/lang/RuntimeException" (1 : Nat) ({ cls := "java/lang/Exception", name := "<init>", desc := "()V" } : Jvm.MethodName)) ∈ lw_all := lw_g (lw_at lw_m5 191 rfl) rfl
theorem q1236 : (Jvm.Cond.instanceMethod ({ cls := "java/lang/Exception", name := "<init>", desc := "()V" } : Jvm.MethodName)) ∈ lw_all := lw_g (lw_at lw_m5 192 rfl) rfl
theorem q1237 : (Jvm.Cond.code ({ cls := "java/lang/Exception", name := "<init>", desc := "()V" } : Jvm.MethodName) prog_15_method_1_code (1 : Nat) (Option.none : Option Jvm.ClassFile.FieldType)) ∈ lw_all := lw_g (lw_at lw_m5 193 rfl) rfl
theorem q1238 : (Jvm.Cond.methodLink "java/lang/Exception" (1 : Nat) ({ cls := "java/lang/Throwable", name := "<init>", desc := "()V" } : Jvm.MethodName)) ∈ lw_all := lw_g (lw_at lw_m5 194 rfl) rfl
theorem q1239 : (Jvm.Cond.fieldLink "java/lang/Throwable" (198 : Nat) "java/lang/Throwable" "backtrace" "Ljava/lang/Object;") ∈ lw_all := lw_g (lw_at lw_m5 195 rfl) rfl
theorem q1240 : (Jvm.Cond.fieldLink "java/lang/Throwable" (7 : Nat) "java/lang/Throwable" "cause" "Ljava/lang/Throwable;") ∈ lw_all := lw_g (lw_at lw_m5 196 rfl) rfl
theorem q1241 : (Jvm.Cond.fieldLink "java/lang/Throwable" (17 : Nat) "java/lang/Throwable" "stackTrace" "[Ljava/lang/StackTraceElement;") ∈ lw_all := lw_g (lw_at lw_m5 197 rfl) rfl
theorem q1242 : (Jvm.Cond.fieldLink "java/lang/Throwable" (24 : Nat) "java/lang/Throwable" "suppressedExceptions" "Ljava/util/List;") ∈ lw_all := lw_g (lw_at lw_m5 198 rfl) rfl
theorem q1243 : (Jvm.Cond.soleField "java/lang/Throwable" "backtrace") ∈ lw_all := lw_g (lw_at lw_m5 199 rfl) rfl
theorem q1244 : (Jvm.Cond.soleField "java/lang/Throwable" "detailMessage") ∈ lw_all := lw_g (lw_at lw_m5 200 rfl) rfl
theorem q1245 : (Jvm.Cond.soleField "java/lang/Throwable" "cause") ∈ lw_all := lw_g (lw_at lw_m5 201 rfl) rfl
theorem q1246 : (Jvm.Cond.soleField "java/lang/Throwable" "stackTrace") ∈ lw_all := lw_g (lw_at lw_m5 202 rfl) rfl
theorem q1247 : (Jvm.Cond.lays "java/util/NoSuchElementException" "java/lang/Throwable" "depth" "I") ∈ lw_all := lw_g (lw_at lw_m5 203 rfl) rfl
theorem q1248 : (Jvm.Cond.soleField "java/lang/Throwable" "depth") ∈ lw_all := lw_g (lw_at lw_m5 204 rfl) rfl
theorem q1249 : (Jvm.Cond.soleField "java/lang/Throwable" "suppressedExceptions") ∈ lw_all := lw_g (lw_at lw_m5 205 rfl) rfl
theorem q1250 : (Jvm.Cond.superclass "java/util/NoSuchElementException" "java/lang/RuntimeException") ∈ lw_all := lw_g (lw_at lw_m5 206 rfl) rfl
theorem q1251 : (Jvm.Cond.methodLink "WriteOnceDiscLaw" (116 : Nat) ({ cls := "WriteOnceDiscLaw", name := "node", desc := "(LWriteOnceDisc;II[J)I" } : Jvm.MethodName)) ∈ lw_all := lw_g (lw_at lw_m5 207 rfl) rfl
theorem q1252 : (Jvm.Cond.static ({ cls := "WriteOnceDiscLaw", name := "node", desc := "(LWriteOnceDisc;II[J)I" } : Jvm.MethodName)) ∈ lw_all := lw_g (lw_at lw_m5 208 rfl) rfl
theorem q1253 : (Jvm.Cond.codeWith ({ cls := "WriteOnceDiscLaw", name := "node", desc := "(LWriteOnceDisc;II[J)I" } : Jvm.MethodName) method_4_code (5 : Nat) (Option.some Jvm.ClassFile.FieldType.int) [((0 : Nat), (10 : Nat), (13 : Nat), (13 : Nat))]) ∈ lw_all := lw_g (lw_at lw_m5 209 rfl) rfl
theorem q1254 : (Jvm.Cond.methodLink "WriteOnceDiscLaw" (15 : Nat) ({ cls := "WriteOnceDisc", name := "node", desc := "(II)I" } : Jvm.MethodName)) ∈ lw_all := lw_g (lw_at lw_m5 210 rfl) rfl
theorem q1255 : (Jvm.Cond.instanceMethod ({ cls := "WriteOnceDisc", name := "node", desc := "(II)I" } : Jvm.MethodName)) ∈ lw_all := lw_g (lw_at lw_m5 211 rfl) rfl
theorem q1256 : (Jvm.Cond.selects "WriteOnceDisc" ({ cls := "WriteOnceDisc", name := "node", desc := "(II)I" } : Jvm.MethodName) ({ cls := "WriteOnceDisc", name := "node", desc := "(II)I" } : Jvm.MethodName)) ∈ lw_all := lw_g (lw_at lw_m5 212 rfl) rfl
theorem q1257 : (Jvm.Cond.code ({ cls := "WriteOnceDisc", name := "node", desc := "(II)I" } : Jvm.MethodName) prog_1_method_32_code (4 : Nat) (Option.some Jvm.ClassFile.FieldType.int)) ∈ lw_all := lw_g (lw_at lw_m5 213 rfl) rfl
theorem q1258 : (Jvm.Cond.methodLink "WriteOnceDisc" (291 : Nat) ({ cls := "WriteOnceDisc", name := "openNode", desc := "(I)LWriteOnceDisc$Found;" } : Jvm.MethodName)) ∈ lw_all := lw_g (lw_at lw_m5 214 rfl) rfl
theorem q1259 : (Jvm.Cond.privateMethod ({ cls := "WriteOnceDisc", name := "openNode", desc := "(I)LWriteOnceDisc$Found;" } : Jvm.MethodName)) ∈ lw_tbl := lw_at lw_m5 215 rfl
theorem q1260 : (Jvm.Cond.instanceMethod ({ cls := "WriteOnceDisc", name := "openNode", desc := "(I)LWriteOnceDisc$Found;" } : Jvm.MethodName)) ∈ lw_all := lw_g (lw_at lw_m5 216 rfl) rfl
theorem q1261 : (Jvm.Cond.code ({ cls := "WriteOnceDisc", name := "openNode", desc := "(I)LWriteOnceDisc$Found;" } : Jvm.MethodName) prog_1_method_31_code (2 : Nat) (Option.some (Jvm.ClassFile.FieldType.object "WriteOnceDisc$Found"))) ∈ lw_all := lw_g (lw_at lw_m5 217 rfl) rfl
theorem q1262 : (Jvm.Cond.methodLink "WriteOnceDiscLaw" (119 : Nat) ({ cls := "WriteOnceDiscLaw", name := "name", desc := "(LWriteOnceDisc;I[J)I" } : Jvm.MethodName)) ∈ lw_all := lw_g (lw_at lw_m5 218 rfl) rfl
theorem q1263 : (Jvm.Cond.static ({ cls := "WriteOnceDiscLaw", name := "name", desc := "(LWriteOnceDisc;I[J)I" } : Jvm.MethodName)) ∈ lw_all := lw_g (lw_at lw_m5 219 rfl) rfl
theorem q1264 : (Jvm.Cond.codeWith ({ cls := "WriteOnceDiscLaw", name := "name", desc := "(LWriteOnceDisc;I[J)I" } : Jvm.MethodName) method_5_code (4 : Nat) (Option.some Jvm.ClassFile.FieldType.int) [((0 : Nat), (8 : Nat), (11 : Nat), (13 : Nat))]) ∈ lw_all := lw_g (lw_at lw_m5 220 rfl) rfl
theorem q1265 : (Jvm.Cond.methodLink "WriteOnceDiscLaw" (18 : Nat) ({ cls := "WriteOnceDisc", name := "name", desc := "(I)J" } : Jvm.MethodName)) ∈ lw_all := lw_g (lw_at lw_m5 221 rfl) rfl
theorem q1266 : (Jvm.Cond.instanceMethod ({ cls := "WriteOnceDisc", name := "name", desc := "(I)J" } : Jvm.MethodName)) ∈ lw_all := lw_g (lw_at lw_m5 222 rfl) rfl
theorem q1267 : (Jvm.Cond.selects "WriteOnceDisc" ({ cls := "WriteOnceDisc", name := "name", desc := "(I)J" } : Jvm.MethodName) ({ cls := "WriteOnceDisc", name := "name", desc := "(I)J" } : Jvm.MethodName)) ∈ lw_all := lw_g (lw_at lw_m5 223 rfl) rfl
theorem q1268 : (Jvm.Cond.code ({ cls := "WriteOnceDisc", name := "name", desc := "(I)J" } : Jvm.MethodName) prog_1_method_33_code (2 : Nat) (Option.some Jvm.ClassFile.FieldType.long)) ∈ lw_all := lw_g (lw_at lw_m5 224 rfl) rfl
theorem q1269 : (Jvm.Cond.methodLink "WriteOnceDiscLaw" (123 : Nat) ({ cls := "WriteOnceDiscLaw", name := "read", desc := "(LWriteOnceDisc;II[J)I" } : Jvm.MethodName)) ∈ lw_all := lw_g (lw_at lw_m5 225 rfl) rfl
theorem q1270 : (Jvm.Cond.static ({ cls := "WriteOnceDiscLaw", name := "read", desc := "(LWriteOnceDisc;II[J)I" } : Jvm.MethodName)) ∈ lw_all := lw_g (lw_at lw_m5 226 rfl) rfl
theorem q1271 : (Jvm.Cond.codeWith ({ cls := "WriteOnceDiscLaw", name := "read", desc := "(LWriteOnceDisc;II[J)I" } : Jvm.MethodName) method_6_code (5 : Nat) (Option.some Jvm.ClassFile.FieldType.int) [((0 : Nat), (10 : Nat), (13 : Nat), (13 : Nat))]) ∈ lw_all := lw_g (lw_at lw_m5 227 rfl) rfl
theorem q1272 : (Jvm.Cond.methodLink "WriteOnceDiscLaw" (22 : Nat) ({ cls := "WriteOnceDisc", name := "read", desc := "(II)I" } : Jvm.MethodName)) ∈ lw_all := lw_g (lw_at lw_m5 228 rfl) rfl
theorem q1273 : (Jvm.Cond.instanceMethod ({ cls := "WriteOnceDisc", name := "read", desc := "(II)I" } : Jvm.MethodName)) ∈ lw_all := lw_g (lw_at lw_m5 229 rfl) rfl
theorem q1274 : (Jvm.Cond.selects "WriteOnceDisc" ({ cls := "WriteOnceDisc", name := "read", desc := "(II)I" } : Jvm.MethodName) ({ cls := "WriteOnceDisc", name := "read", desc := "(II)I" } : Jvm.MethodName)) ∈ lw_all := lw_g (lw_at lw_m5 230 rfl) rfl
theorem q1275 : (Jvm.Cond.code ({ cls := "WriteOnceDisc", name := "read", desc := "(II)I" } : Jvm.MethodName) prog_1_method_34_code (4 : Nat) (Option.some Jvm.ClassFile.FieldType.int)) ∈ lw_all := lw_g (lw_at lw_m5 231 rfl) rfl
theorem q1276 : (Jvm.Cond.methodLink "WriteOnceDiscLaw" (126 : Nat) ({ cls := "WriteOnceDiscLaw", name := "tree", desc := "(LWriteOnceDisc;II[J)I" } : Jvm.MethodName)) ∈ lw_all := lw_g (lw_at lw_m5 232 rfl) rfl
theorem q1277 : (Jvm.Cond.static ({ cls := "WriteOnceDiscLaw", name := "tree", desc := "(LWriteOnceDisc;II[J)I" } : Jvm.MethodName)) ∈ lw_all := lw_g (lw_at lw_m5 233 rfl) rfl
theorem q1278 : (Jvm.Cond.codeWith ({ cls := "WriteOnceDiscLaw", name := "tree", desc := "(LWriteOnceDisc;II[J)I" } : Jvm.MethodName) method_7_code (5 : Nat) (Option.some Jvm.ClassFile.FieldType.int) [((0 : Nat), (10 : Nat), (13 : Nat), (13 : Nat))]) ∈ lw_all := lw_g (lw_at lw_m5 234 rfl) rfl
theorem q1279 : (Jvm.Cond.methodLink "WriteOnceDiscLaw" (25 : Nat) ({ cls := "WriteOnceDisc", name := "tree", desc := "(II)I" } : Jvm.MethodName)) ∈ lw_all := lw_g (lw_at lw_m5 235 rfl) rfl
theorem q1280 : (Jvm.Cond.instanceMethod ({ cls := "WriteOnceDisc", name := "tree", desc := "(II)I" } : Jvm.MethodName)) ∈ lw_all := lw_g (lw_at lw_m5 236 rfl) rfl
theorem q1281 : (Jvm.Cond.selects "WriteOnceDisc" ({ cls := "WriteOnceDisc", name := "tree", desc := "(II)I" } : Jvm.MethodName) ({ cls := "WriteOnceDisc", name := "tree", desc := "(II)I" } : Jvm.MethodName)) ∈ lw_all := lw_g (lw_at lw_m5 237 rfl) rfl
theorem q1282 : (Jvm.Cond.code ({ cls := "WriteOnceDisc", name := "tree", desc := "(II)I" } : Jvm.MethodName) prog_1_method_35_code (4 : Nat) (Option.some Jvm.ClassFile.FieldType.int)) ∈ lw_all := lw_g (lw_at lw_m5 238 rfl) rfl
theorem q1283 : (Jvm.Cond.classLink "WriteOnceDiscLaw" (37 : Nat) "WriteOnceDiscModel") ∈ lw_all := lw_g (lw_at lw_m5 239 rfl) rfl
theorem q1284 : (Jvm.Cond.instantiable "WriteOnceDiscModel" (41 : Nat)) ∈ lw_all := lw_g (lw_at lw_m6 0 rfl) rfl
theorem q1285 : (Jvm.Cond.methodLink "WriteOnceDiscLaw" (39 : Nat) ({ cls := "WriteOnceDiscModel", name := "<init>", desc := "(I)V" } : Jvm.MethodName)) ∈ lw_all := lw_g (lw_at lw_m6 1 rfl) rfl
theorem q1286 : (Jvm.Cond.instanceMethod ({ cls := "WriteOnceDiscModel", name := "<init>", desc := "(I)V" } : Jvm.MethodName)) ∈ lw_all := lw_g (lw_at lw_m6 2 rfl) rfl
theorem q1287 : (Jvm.Cond.code ({ cls := "WriteOnceDiscModel", name := "<init>", desc := "(I)V" } : Jvm.MethodName) prog_11_method_1_code (2 : Nat) (Option.none : Option Jvm.ClassFile.FieldType)) ∈ lw_all := lw_g (lw_at lw_m6 3 rfl) rfl
theorem q1288 : (Jvm.Cond.methodLink "WriteOnceDiscModel" (1 : Nat) ({ cls := "java/lang/Object", name := "<init>", desc := "()V" } : Jvm.MethodName)) ∈ lw_all := lw_g (lw_at lw_m6 4 rfl) rfl
theorem q1289 : (Jvm.Cond.constant "WriteOnceDiscModel" (7 : Nat) (819200 : Int32)) ∈ lw_all := lw_g (lw_at lw_m6 5 rfl) rfl
theorem q1290 : (Jvm.Cond.constant "WriteOnceDiscModel" (53 : Nat) (163840 : Int32)) ∈ lw_all := lw_g (lw_at lw_m6 6 rfl) rfl
theorem q1291 : (Jvm.Cond.methodLink "WriteOnceDiscModel" (106 : Nat) ({ cls := "WriteOnceDiscModel", name := "rootAlone", desc := "()V" } : Jvm.MethodName)) ∈ lw_all := lw_g (lw_at lw_m6 7 rfl) rfl
theorem q1292 : (Jvm.Cond.privateMethod ({ cls := "WriteOnceDiscModel", name := "rootAlone", desc := "()V" } : Jvm.MethodName)) ∈ lw_tbl := lw_at lw_m6 8 rfl
theorem q1293 : (Jvm.Cond.instanceMethod ({ cls := "WriteOnceDiscModel", name := "rootAlone", desc := "()V" } : Jvm.MethodName)) ∈ lw_all := lw_g (lw_at lw_m6 9 rfl) rfl
theorem q1294 : (Jvm.Cond.code ({ cls := "WriteOnceDiscModel", name := "rootAlone", desc := "()V" } : Jvm.MethodName) prog_11_method_3_code (1 : Nat) (Option.none : Option Jvm.ClassFile.FieldType)) ∈ lw_all := lw_g (lw_at lw_m6 10 rfl) rfl
theorem q1295 : (Jvm.Cond.fieldLink "WriteOnceDiscModel" (109 : Nat) "WriteOnceDiscModel" "thrown" "I") ∈ lw_all := lw_g (lw_at lw_m6 11 rfl) rfl
theorem q1296 : (Jvm.Cond.fieldLink "WriteOnceDiscModel" (99 : Nat) "WriteOnceDiscModel" "sectors" "I") ∈ lw_all := lw_g (lw_at lw_m6 12 rfl) rfl
theorem q1297 : (Jvm.Cond.fieldLink "WriteOnceDiscModel" (115 : Nat) "WriteOnceDiscModel" "side" "I") ∈ lw_all := lw_g (lw_at lw_m6 13 rfl) rfl
theorem q1298 : (Jvm.Cond.fieldLink "WriteOnceDiscModel" (8 : Nat) "WriteOnceDiscModel" "bytes" "[B") ∈ lw_all := lw_g (lw_at lw_m6 14 rfl) rfl
theorem q1299 : (Jvm.Cond.fieldLink "WriteOnceDiscModel" (14 : Nat) "WriteOnceDiscModel" "states" "[B") ∈ lw_all := lw_g (lw_at lw_m6 15 rfl) rfl
theorem q1300 : (Jvm.Cond.fieldLink "WriteOnceDiscModel" (17 : Nat) "WriteOnceDiscModel" "defective" "[Z") ∈ lw_all := lw_g (lw_at lw_m6 16 rfl) rfl
theorem q1301 : (Jvm.Cond.fieldLink "WriteOnceDiscModel" (125 : Nat) "WriteOnceDiscModel" "lost" "Z") ∈ lw_all := lw_g (lw_at lw_m6 17 rfl) rfl
theorem q1302 : (Jvm.Cond.fieldLink "WriteOnceDiscModel" (103 : Nat) "WriteOnceDiscModel" "left" "I") ∈ lw_all := lw_g (lw_at lw_m6 18 rfl) rfl
theorem q1303 : (Jvm.Cond.fieldLink "WriteOnceDiscModel" (122 : Nat) "WriteOnceDiscModel" "writes" "I") ∈ lw_all := lw_g (lw_at lw_m6 19 rfl) rfl
theorem q1304 : (Jvm.Cond.fieldLink "WriteOnceDiscModel" (21 : Nat) "WriteOnceDiscModel" "page" "[B") ∈ lw_all := lw_g (lw_at lw_m6 20 rfl) rfl
theorem q1305 : (Jvm.Cond.fieldLink "WriteOnceDiscModel" (112 : Nat) "WriteOnceDiscModel" "many" "I") ∈ lw_all := lw_g (lw_at lw_m6 21 rfl) rfl
theorem q1306 : (Jvm.Cond.fieldLink "WriteOnceDiscModel" (24 : Nat) "WriteOnceDiscModel" "isThere" "[Z") ∈ lw_all := lw_g (lw_at lw_m6 22 rfl) rfl
theorem q1307 : (Jvm.Cond.fieldLink "WriteOnceDiscModel" (27 : Nat) "WriteOnceDiscModel" "isDirectory" "[Z") ∈ lw_all := lw_g (lw_at lw_m6 23 rfl) rfl
theorem q1308 : (Jvm.Cond.fieldLink "WriteOnceDiscModel" (30 : Nat) "WriteOnceDiscModel" "parent" "[I") ∈ lw_all := lw_g (lw_at lw_m6 24 rfl) rfl
theorem q1309 : (Jvm.Cond.fieldLink "WriteOnceDiscModel" (34 : Nat) "WriteOnceDiscModel" "name" "[J") ∈ lw_all := lw_g (lw_at lw_m6 25 rfl) rfl
theorem q1310 : (Jvm.Cond.fieldLink "WriteOnceDiscModel" (38 : Nat) "WriteOnceDiscModel" "size" "[I") ∈ lw_all := lw_g (lw_at lw_m6 26 rfl) rfl
theorem q1311 : (Jvm.Cond.fieldLink "WriteOnceDiscModel" (41 : Nat) "WriteOnceDiscModel" "seed" "[I") ∈ lw_all := lw_g (lw_at lw_m6 27 rfl) rfl
theorem q1312 : (Jvm.Cond.fieldLink "WriteOnceDiscModel" (44 : Nat) "WriteOnceDiscModel" "isWritten" "[Z") ∈ lw_all := lw_g (lw_at lw_m6 28 rfl) rfl
theorem q1313 : (Jvm.Cond.fieldLink "WriteOnceDiscModel" (47 : Nat) "WriteOnceDiscModel" "extent" "[I") ∈ lw_all := lw_g (lw_at lw_m6 29 rfl) rfl
theorem q1314 : (Jvm.Cond.fieldLink "WriteOnceDiscModel" (50 : Nat) "WriteOnceDiscModel" "older" "[I") ∈ lw_all := lw_g (lw_at lw_m6 30 rfl) rfl
theorem q1315 : (Jvm.Cond.fieldLink "WriteOnceDiscModel" (247 : Nat) "WriteOnceDiscModel" "number" "I") ∈ lw_all := lw_g (lw_at lw_m6 31 rfl) rfl
theorem q1316 : (Jvm.Cond.fieldLink "WriteOnceDiscModel" (54 : Nat) "WriteOnceDiscModel" "plan" "[B") ∈ lw_all := lw_g (lw_at lw_m6 32 rfl) rfl
theorem q1317 : (Jvm.Cond.fieldLink "WriteOnceDiscModel" (208 : Nat) "WriteOnceDiscModel" "directories" "I") ∈ lw_all := lw_g (lw_at lw_m6 33 rfl) rfl
theorem q1318 : (Jvm.Cond.fieldLink "WriteOnceDiscModel" (57 : Nat) "WriteOnceDiscModel" "table" "[I") ∈ lw_all := lw_g (lw_at lw_m6 34 rfl) rfl
theorem q1319 : (Jvm.Cond.fieldLink "WriteOnceDiscModel" (60 : Nat) "WriteOnceDiscModel" "at" "[I") ∈ lw_all := lw_g (lw_at lw_m6 35 rfl) rfl
theorem q1320 : (Jvm.Cond.fieldLink "WriteOnceDiscModel" (63 : Nat) "WriteOnceDiscModel" "long0" "[I") ∈ lw_all := lw_g (lw_at lw_m6 36 rfl) rfl
theorem q1321 : (Jvm.Cond.fieldLink "WriteOnceDiscModel" (283 : Nat) "WriteOnceDiscModel" "seen" "I") ∈ lw_all := lw_g (lw_at lw_m6 37 rfl) rfl
theorem q1322 : (Jvm.Cond.fieldLink "WriteOnceDiscModel" (257 : Nat) "WriteOnceDiscModel" "wrong" "I") ∈ lw_all := lw_g (lw_at lw_m6 38 rfl) rfl
theorem q1323 : (Jvm.Cond.fieldLink "WriteOnceDiscModel" (66 : Nat) "WriteOnceDiscModel" "sAbove" "[I") ∈ lw_all := lw_g (lw_at lw_m6 39 rfl) rfl
theorem q1324 : (Jvm.Cond.fieldLink "WriteOnceDiscModel" (69 : Nat) "WriteOnceDiscModel" "sDirectory" "[Z") ∈ lw_all := lw_g (lw_at lw_m6 40 rfl) rfl
theorem q1325 : (Jvm.Cond.fieldLink "WriteOnceDiscModel" (72 : Nat) "WriteOnceDiscModel" "sSize" "[I") ∈ lw_all := lw_g (lw_at lw_m6 41 rfl) rfl
theorem q1326 : (Jvm.Cond.fieldLink "WriteOnceDiscModel" (75 : Nat) "WriteOnceDiscModel" "sSector" "[I") ∈ lw_all := lw_g (lw_at lw_m6 42 rfl) rfl
theorem q1327 : (Jvm.Cond.fieldLink "WriteOnceDiscModel" (78 : Nat) "WriteOnceDiscModel" "sName" "[J") ∈ lw_all := lw_g (lw_at lw_m6 43 rfl) rfl
theorem q1328 : (Jvm.Cond.fieldLink "WriteOnceDiscModel" (81 : Nat) "WriteOnceDiscModel" "sDepth" "[I") ∈ lw_all := lw_g (lw_at lw_m6 44 rfl) rfl
theorem q1329 : (Jvm.Cond.fieldLink "WriteOnceDiscModel" (254 : Nat) "WriteOnceDiscModel" "opened" "I") ∈ lw_all := lw_g (lw_at lw_m6 45 rfl) rfl
theorem q1330 : (Jvm.Cond.fieldLink "WriteOnceDiscModel" (84 : Nat) "WriteOnceDiscModel" "oAbove" "[I") ∈ lw_all := lw_g (lw_at lw_m6 46 rfl) rfl
theorem q1331 : (Jvm.Cond.fieldLink "WriteOnceDiscModel" (87 : Nat) "WriteOnceDiscModel" "oDirectory" "[Z") ∈ lw_all := lw_g (lw_at lw_m6 47 rfl) rfl
theorem q1332 : (Jvm.Cond.fieldLink "WriteOnceDiscModel" (90 : Nat) "WriteOnceDiscModel" "oSize" "[I") ∈ lw_all := lw_g (lw_at lw_m6 48 rfl) rfl
theorem q1333 : (Jvm.Cond.fieldLink "WriteOnceDiscModel" (93 : Nat) "WriteOnceDiscModel" "oSector" "[I") ∈ lw_all := lw_g (lw_at lw_m6 49 rfl) rfl
theorem q1334 : (Jvm.Cond.fieldLink "WriteOnceDiscModel" (96 : Nat) "WriteOnceDiscModel" "oName" "[J") ∈ lw_all := lw_g (lw_at lw_m6 50 rfl) rfl
theorem q1335 : (Jvm.Cond.lays "WriteOnceDiscModel" "WriteOnceDiscModel" "thrown" "I") ∈ lw_all := lw_g (lw_at lw_m6 51 rfl) rfl
theorem q1336 : (Jvm.Cond.soleField "WriteOnceDiscModel" "thrown") ∈ lw_all := lw_g (lw_at lw_m6 52 rfl) rfl
theorem q1337 : (Jvm.Cond.laysFinal "WriteOnceDiscModel" "WriteOnceDiscModel" "sectors" "I") ∈ lw_all := lw_g (lw_at lw_m6 53 rfl) rfl
theorem q1338 : (Jvm.Cond.soleField "WriteOnceDiscModel" "sectors") ∈ lw_all := lw_g (lw_at lw_m6 54 rfl) rfl
theorem q1339 : (Jvm.Cond.lays "WriteOnceDiscModel" "WriteOnceDiscModel" "side" "I") ∈ lw_all := lw_g (lw_at lw_m6 55 rfl) rfl
theorem q1340 : (Jvm.Cond.soleField "WriteOnceDiscModel" "side") ∈ lw_all := lw_g (lw_at lw_m6 56 rfl) rfl
theorem q1341 : (Jvm.Cond.laysFinal "WriteOnceDiscModel" "WriteOnceDiscModel" "bytes" "[B") ∈ lw_all := lw_g (lw_at lw_m6 57 rfl) rfl
theorem q1342 : (Jvm.Cond.soleField "WriteOnceDiscModel" "bytes") ∈ lw_all := lw_g (lw_at lw_m6 58 rfl) rfl
theorem q1343 : (Jvm.Cond.laysFinal "WriteOnceDiscModel" "WriteOnceDiscModel" "states" "[B") ∈ lw_all := lw_g (lw_at lw_m6 59 rfl) rfl
theorem q1344 : (Jvm.Cond.soleField "WriteOnceDiscModel" "states") ∈ lw_all := lw_g (lw_at lw_m6 60 rfl) rfl
theorem q1345 : (Jvm.Cond.laysFinal "WriteOnceDiscModel" "WriteOnceDiscModel" "defective" "[Z") ∈ lw_all := lw_g (lw_at lw_m6 61 rfl) rfl
theorem q1346 : (Jvm.Cond.soleField "WriteOnceDiscModel" "defective") ∈ lw_all := lw_g (lw_at lw_m6 62 rfl) rfl
theorem q1347 : (Jvm.Cond.lays "WriteOnceDiscModel" "WriteOnceDiscModel" "lost" "Z") ∈ lw_all := lw_g (lw_at lw_m6 63 rfl) rfl
theorem q1348 : (Jvm.Cond.soleField "WriteOnceDiscModel" "lost") ∈ lw_all := lw_g (lw_at lw_m6 64 rfl) rfl
theorem q1349 : (Jvm.Cond.lays "WriteOnceDiscModel" "WriteOnceDiscModel" "left" "I") ∈ lw_all := lw_g (lw_at lw_m6 65 rfl) rfl
theorem q1350 : (Jvm.Cond.soleField "WriteOnceDiscModel" "left") ∈ lw_all := lw_g (lw_at lw_m6 66 rfl) rfl
theorem q1351 : (Jvm.Cond.lays "WriteOnceDiscModel" "WriteOnceDiscModel" "writes" "I") ∈ lw_all := lw_g (lw_at lw_m6 67 rfl) rfl
theorem q1352 : (Jvm.Cond.soleField "WriteOnceDiscModel" "writes") ∈ lw_all := lw_g (lw_at lw_m6 68 rfl) rfl
theorem q1353 : (Jvm.Cond.laysFinal "WriteOnceDiscModel" "WriteOnceDiscModel" "page" "[B") ∈ lw_all := lw_g (lw_at lw_m6 69 rfl) rfl
theorem q1354 : (Jvm.Cond.soleField "WriteOnceDiscModel" "page") ∈ lw_all := lw_g (lw_at lw_m6 70 rfl) rfl
theorem q1355 : (Jvm.Cond.lays "WriteOnceDiscModel" "WriteOnceDiscModel" "many" "I") ∈ lw_all := lw_g (lw_at lw_m6 71 rfl) rfl
theorem q1356 : (Jvm.Cond.soleField "WriteOnceDiscModel" "many") ∈ lw_all := lw_g (lw_at lw_m6 72 rfl) rfl
theorem q1357 : (Jvm.Cond.laysFinal "WriteOnceDiscModel" "WriteOnceDiscModel" "isThere" "[Z") ∈ lw_all := lw_g (lw_at lw_m6 73 rfl) rfl
theorem q1358 : (Jvm.Cond.soleField "WriteOnceDiscModel" "isThere") ∈ lw_all := lw_g (lw_at lw_m6 74 rfl) rfl
theorem q1359 : (Jvm.Cond.laysFinal "WriteOnceDiscModel" "WriteOnceDiscModel" "isDirectory" "[Z") ∈ lw_all := lw_g (lw_at lw_m6 75 rfl) rfl
theorem q1360 : (Jvm.Cond.soleField "WriteOnceDiscModel" "isDirectory") ∈ lw_all := lw_g (lw_at lw_m6 76 rfl) rfl
theorem q1361 : (Jvm.Cond.laysFinal "WriteOnceDiscModel" "WriteOnceDiscModel" "parent" "[I") ∈ lw_all := lw_g (lw_at lw_m6 77 rfl) rfl
theorem q1362 : (Jvm.Cond.soleField "WriteOnceDiscModel" "parent") ∈ lw_all := lw_g (lw_at lw_m6 78 rfl) rfl
theorem q1363 : (Jvm.Cond.laysFinal "WriteOnceDiscModel" "WriteOnceDiscModel" "name" "[J") ∈ lw_all := lw_g (lw_at lw_m6 79 rfl) rfl
theorem q1364 : (Jvm.Cond.soleField "WriteOnceDiscModel" "name") ∈ lw_all := lw_g (lw_at lw_m6 80 rfl) rfl
theorem q1365 : (Jvm.Cond.laysFinal "WriteOnceDiscModel" "WriteOnceDiscModel" "size" "[I") ∈ lw_all := lw_g (lw_at lw_m6 81 rfl) rfl
theorem q1366 : (Jvm.Cond.soleField "WriteOnceDiscModel" "size") ∈ lw_all := lw_g (lw_at lw_m6 82 rfl) rfl
theorem q1367 : (Jvm.Cond.laysFinal "WriteOnceDiscModel" "WriteOnceDiscModel" "seed" "[I") ∈ lw_all := lw_g (lw_at lw_m6 83 rfl) rfl
theorem q1368 : (Jvm.Cond.soleField "WriteOnceDiscModel" "seed") ∈ lw_all := lw_g (lw_at lw_m6 84 rfl) rfl
theorem q1369 : (Jvm.Cond.laysFinal "WriteOnceDiscModel" "WriteOnceDiscModel" "isWritten" "[Z") ∈ lw_all := lw_g (lw_at lw_m6 85 rfl) rfl
theorem q1370 : (Jvm.Cond.soleField "WriteOnceDiscModel" "isWritten") ∈ lw_all := lw_g (lw_at lw_m6 86 rfl) rfl
theorem q1371 : (Jvm.Cond.laysFinal "WriteOnceDiscModel" "WriteOnceDiscModel" "extent" "[I") ∈ lw_all := lw_g (lw_at lw_m6 87 rfl) rfl
theorem q1372 : (Jvm.Cond.soleField "WriteOnceDiscModel" "extent") ∈ lw_all := lw_g (lw_at lw_m6 88 rfl) rfl
theorem q1373 : (Jvm.Cond.laysFinal "WriteOnceDiscModel" "WriteOnceDiscModel" "older" "[I") ∈ lw_all := lw_g (lw_at lw_m6 89 rfl) rfl
theorem q1374 : (Jvm.Cond.soleField "WriteOnceDiscModel" "older") ∈ lw_all := lw_g (lw_at lw_m6 90 rfl) rfl
theorem q1375 : (Jvm.Cond.lays "WriteOnceDiscModel" "WriteOnceDiscModel" "number" "I") ∈ lw_all := lw_g (lw_at lw_m6 91 rfl) rfl
theorem q1376 : (Jvm.Cond.soleField "WriteOnceDiscModel" "number") ∈ lw_all := lw_g (lw_at lw_m6 92 rfl) rfl
theorem q1377 : (Jvm.Cond.laysFinal "WriteOnceDiscModel" "WriteOnceDiscModel" "plan" "[B") ∈ lw_all := lw_g (lw_at lw_m6 93 rfl) rfl
theorem q1378 : (Jvm.Cond.soleField "WriteOnceDiscModel" "plan") ∈ lw_all := lw_g (lw_at lw_m6 94 rfl) rfl
theorem q1379 : (Jvm.Cond.lays "WriteOnceDiscModel" "WriteOnceDiscModel" "directories" "I") ∈ lw_all := lw_g (lw_at lw_m6 95 rfl) rfl
theorem q1380 : (Jvm.Cond.soleField "WriteOnceDiscModel" "directories") ∈ lw_all := lw_g (lw_at lw_m6 96 rfl) rfl
theorem q1381 : (Jvm.Cond.lays "WriteOnceDiscModel" "WriteOnceDiscModel" "planned" "I") ∈ lw_all := lw_g (lw_at lw_m6 97 rfl) rfl
theorem q1382 : (Jvm.Cond.soleField "WriteOnceDiscModel" "planned") ∈ lw_all := lw_g (lw_at lw_m6 98 rfl) rfl
theorem q1383 : (Jvm.Cond.laysFinal "WriteOnceDiscModel" "WriteOnceDiscModel" "table" "[I") ∈ lw_all := lw_g (lw_at lw_m6 99 rfl) rfl
theorem q1384 : (Jvm.Cond.soleField "WriteOnceDiscModel" "table") ∈ lw_all := lw_g (lw_at lw_m6 100 rfl) rfl
theorem q1385 : (Jvm.Cond.laysFinal "WriteOnceDiscModel" "WriteOnceDiscModel" "at" "[I") ∈ lw_all := lw_g (lw_at lw_m6 101 rfl) rfl
theorem q1386 : (Jvm.Cond.soleField "WriteOnceDiscModel" "at") ∈ lw_all := lw_g (lw_at lw_m6 102 rfl) rfl
theorem q1387 : (Jvm.Cond.laysFinal "WriteOnceDiscModel" "WriteOnceDiscModel" "long0" "[I") ∈ lw_all := lw_g (lw_at lw_m6 103 rfl) rfl
theorem q1388 : (Jvm.Cond.soleField "WriteOnceDiscModel" "long0") ∈ lw_all := lw_g (lw_at lw_m6 104 rfl) rfl
theorem q1389 : (Jvm.Cond.lays "WriteOnceDiscModel" "WriteOnceDiscModel" "seen" "I") ∈ lw_all := lw_g (lw_at lw_m6 105 rfl) rfl
theorem q1390 : (Jvm.Cond.soleField "WriteOnceDiscModel" "seen") ∈ lw_all := lw_g (lw_at lw_m6 106 rfl) rfl
theorem q1391 : (Jvm.Cond.lays "WriteOnceDiscModel" "WriteOnceDiscModel" "wrong" "I") ∈ lw_all := lw_g (lw_at lw_m6 107 rfl) rfl
theorem q1392 : (Jvm.Cond.soleField "WriteOnceDiscModel" "wrong") ∈ lw_all := lw_g (lw_at lw_m6 108 rfl) rfl
theorem q1393 : (Jvm.Cond.laysFinal "WriteOnceDiscModel" "WriteOnceDiscModel" "sAbove" "[I") ∈ lw_all := lw_g (lw_at lw_m6 109 rfl) rfl
theorem q1394 : (Jvm.Cond.soleField "WriteOnceDiscModel" "sAbove") ∈ lw_all := lw_g (lw_at lw_m6 110 rfl) rfl
theorem q1395 : (Jvm.Cond.laysFinal "WriteOnceDiscModel" "WriteOnceDiscModel" "sDirectory" "[Z") ∈ lw_all := lw_g (lw_at lw_m6 111 rfl) rfl
theorem q1396 : (Jvm.Cond.soleField "WriteOnceDiscModel" "sDirectory") ∈ lw_all := lw_g (lw_at lw_m6 112 rfl) rfl
theorem q1397 : (Jvm.Cond.laysFinal "WriteOnceDiscModel" "WriteOnceDiscModel" "sSize" "[I") ∈ lw_all := lw_g (lw_at lw_m6 113 rfl) rfl
theorem q1398 : (Jvm.Cond.soleField "WriteOnceDiscModel" "sSize") ∈ lw_all := lw_g (lw_at lw_m6 114 rfl) rfl
theorem q1399 : (Jvm.Cond.laysFinal "WriteOnceDiscModel" "WriteOnceDiscModel" "sSector" "[I") ∈ lw_all := lw_g (lw_at lw_m6 115 rfl) rfl
theorem q1400 : (Jvm.Cond.soleField "WriteOnceDiscModel" "sSector") ∈ lw_all := lw_g (lw_at lw_m6 116 rfl) rfl
theorem q1401 : (Jvm.Cond.laysFinal "WriteOnceDiscModel" "WriteOnceDiscModel" "sName" "[J") ∈ lw_all := lw_g (lw_at lw_m6 117 rfl) rfl
theorem q1402 : (Jvm.Cond.soleField "WriteOnceDiscModel" "sName") ∈ lw_all := lw_g (lw_at lw_m6 118 rfl) rfl
theorem q1403 : (Jvm.Cond.laysFinal "WriteOnceDiscModel" "WriteOnceDiscModel" "sDepth" "[I") ∈ lw_all := lw_g (lw_at lw_m6 119 rfl) rfl
theorem q1404 : (Jvm.Cond.soleField "WriteOnceDiscModel" "sDepth") ∈ lw_all := lw_g (lw_at lw_m6 120 rfl) rfl
theorem q1405 : (Jvm.Cond.lays "WriteOnceDiscModel" "WriteOnceDiscModel" "opened" "I") ∈ lw_all := lw_g (lw_at lw_m6 121 rfl) rfl
theorem q1406 : (Jvm.Cond.soleField "WriteOnceDiscModel" "opened") ∈ lw_all := lw_g (lw_at lw_m6 122 rfl) rfl
theorem q1407 : (Jvm.Cond.laysFinal "WriteOnceDiscModel" "WriteOnceDiscModel" "oAbove" "[I") ∈ lw_all := lw_g (lw_at lw_m6 123 rfl) rfl
theorem q1408 : (Jvm.Cond.soleField "WriteOnceDiscModel" "oAbove") ∈ lw_all := lw_g (lw_at lw_m6 124 rfl) rfl
theorem q1409 : (Jvm.Cond.laysFinal "WriteOnceDiscModel" "WriteOnceDiscModel" "oDirectory" "[Z") ∈ lw_all := lw_g (lw_at lw_m6 125 rfl) rfl
theorem q1410 : (Jvm.Cond.soleField "WriteOnceDiscModel" "oDirectory") ∈ lw_all := lw_g (lw_at lw_m6 126 rfl) rfl
theorem q1411 : (Jvm.Cond.laysFinal "WriteOnceDiscModel" "WriteOnceDiscModel" "oSize" "[I") ∈ lw_all := lw_g (lw_at lw_m6 127 rfl) rfl
theorem q1412 : (Jvm.Cond.soleField "WriteOnceDiscModel" "oSize") ∈ lw_all := lw_g (lw_at lw_m6 128 rfl) rfl
theorem q1413 : (Jvm.Cond.laysFinal "WriteOnceDiscModel" "WriteOnceDiscModel" "oSector" "[I") ∈ lw_all := lw_g (lw_at lw_m6 129 rfl) rfl
theorem q1414 : (Jvm.Cond.soleField "WriteOnceDiscModel" "oSector") ∈ lw_all := lw_g (lw_at lw_m6 130 rfl) rfl
theorem q1415 : (Jvm.Cond.laysFinal "WriteOnceDiscModel" "WriteOnceDiscModel" "oName" "[J") ∈ lw_all := lw_g (lw_at lw_m6 131 rfl) rfl
theorem q1416 : (Jvm.Cond.soleField "WriteOnceDiscModel" "oName") ∈ lw_all := lw_g (lw_at lw_m6 132 rfl) rfl
theorem q1417 : (Jvm.Cond.superclass "WriteOnceDiscModel" "java/lang/Object") ∈ lw_all := lw_g (lw_at lw_m6 133 rfl) rfl
theorem q1418 : (Jvm.Cond.arrayClass Jvm.ClassFile.FieldType.long) ∈ lw_all := lw_g (lw_at lw_m6 134 rfl) rfl
theorem q1419 : (Jvm.Cond.methodLink "WriteOnceDiscLaw" (109 : Nat) ({ cls := "WriteOnceDiscModel", name := "thrown", desc := "()I" } : Jvm.MethodName)) ∈ lw_all := lw_g (lw_at lw_m6 135 rfl) rfl
theorem q1420 : (Jvm.Cond.instanceMethod ({ cls := "WriteOnceDiscModel", name := "thrown", desc := "()I" } : Jvm.MethodName)) ∈ lw_all := lw_g (lw_at lw_m6 136 rfl) rfl
theorem q1421 : (Jvm.Cond.selects "WriteOnceDiscModel" ({ cls := "WriteOnceDiscModel", name := "thrown", desc := "()I" } : Jvm.MethodName) ({ cls := "WriteOnceDiscModel", name := "thrown", desc := "()I" } : Jvm.MethodName)) ∈ lw_all := lw_g (lw_at lw_m6 137 rfl) rfl
theorem q1422 : (Jvm.Cond.code ({ cls := "WriteOnceDiscModel", name := "thrown", desc := "()I" } : Jvm.MethodName) prog_11_method_2_code (1 : Nat) (Option.some Jvm.ClassFile.FieldType.int)) ∈ lw_all := lw_g (lw_at lw_m6 138 rfl) rfl
theorem q1423 : (Jvm.Cond.methodLink "WriteOnceDiscLaw" (44 : Nat) ({ cls := "WriteOnceDiscModel", name := "defect", desc := "(I)Z" } : Jvm.MethodName)) ∈ lw_all := lw_g (lw_at lw_m6 139 rfl) rfl
theorem q1424 : (Jvm.Cond.instanceMethod ({ cls := "WriteOnceDiscModel", name := "defect", desc := "(I)Z" } : Jvm.MethodName)) ∈ lw_all := lw_g (lw_at lw_m6 140 rfl) rfl
theorem q1425 : (Jvm.Cond.selects "WriteOnceDiscModel" ({ cls := "WriteOnceDiscModel", name := "defect", desc := "(I)Z" } : Jvm.MethodName) ({ cls := "WriteOnceDiscModel", name := "defect", desc := "(I)Z" } : Jvm.MethodName)) ∈ lw_all := lw_g (lw_at lw_m6 141 rfl) rfl
theorem q1426 : (Jvm.Cond.code ({ cls := "WriteOnceDiscModel", name := "defect", desc := "(I)Z" } : Jvm.MethodName) prog_11_method_9_code (2 : Nat) (Option.some Jvm.ClassFile.FieldType.boolean)) ∈ lw_all := lw_g (lw_at lw_m6 142 rfl) rfl
theorem q1427 : (Jvm.Cond.methodLink "WriteOnceDiscModel" (118 : Nat) ({ cls := "WriteOnceDiscModel", name := "in", desc := "(III)Z" } : Jvm.MethodName)) ∈ lw_all := lw_g (lw_at lw_m6 143 rfl) rfl
theorem q1428 : (Jvm.Cond.static ({ cls := "WriteOnceDiscModel", name := "in", desc := "(III)Z" } : Jvm.MethodName)) ∈ lw_all := lw_g (lw_at lw_m6 144 rfl) rfl
theorem q1429 : (Jvm.Cond.code ({ cls := "WriteOnceDiscModel", name := "in", desc := "(III)Z" } : Jvm.MethodName) prog_11_method_4_code (3 : Nat) (Option.some Jvm.ClassFile.FieldType.boolean)) ∈ lw_all := lw_g (lw_at lw_m6 145 rfl) rfl
theorem q1430 : (Jvm.Cond.methodLink "WriteOnceDiscLaw" (48 : Nat) ({ cls := "WriteOnceDiscModel", name := "power", desc := "(I)V" } : Jvm.MethodName)) ∈ lw_all := lw_g (lw_at lw_m6 146 rfl) rfl
theorem q1431 : (Jvm.Cond.instanceMethod ({ cls := "WriteOnceDiscModel", name := "power", desc := "(I)V" } : Jvm.MethodName)) ∈ lw_all := lw_g (lw_at lw_m6 147 rfl) rfl
theorem q1432 : (Jvm.Cond.selects "WriteOnceDiscModel" ({ cls := "WriteOnceDiscModel", name := "power", desc := "(I)V" } : Jvm.MethodName) ({ cls := "WriteOnceDiscModel", name := "power", desc := "(I)V" } : Jvm.MethodName)) ∈ lw_all := lw_g (lw_at lw_m6 148 rfl) rfl
theorem q1433 : (Jvm.Cond.code ({ cls := "WriteOnceDiscModel", name := "power", desc := "(I)V" } : Jvm.MethodName) prog_11_method_10_code (2 : Nat) (Option.none : Option Jvm.ClassFile.FieldType)) ∈ lw_all := lw_g (lw_at lw_m6 149 rfl) rfl
theorem q1434 : (Jvm.Cond.methodLink "WriteOnceDiscLaw" (55 : Nat) ({ cls := "WriteOnceDiscModel", name := "directory", desc := "(IJ)I" } : Jvm.MethodName)) ∈ lw_all := lw_g (lw_at lw_m6 150 rfl) rfl
theorem q1435 : (Jvm.Cond.instanceMethod ({ cls := "WriteOnceDiscModel", name := "directory", desc := "(IJ)I" } : Jvm.MethodName)) ∈ lw_all := lw_g (lw_at lw_m6 151 rfl) rfl
theorem q1436 : (Jvm.Cond.selects "WriteOnceDiscModel" ({ cls := "WriteOnceDiscModel", name := "directory", desc := "(IJ)I" } : Jvm.MethodName) ({ cls := "WriteOnceDiscModel", name := "directory", desc := "(IJ)I" } : Jvm.MethodName)) ∈ lw_all := lw_g (lw_at lw_m6 152 rfl) rfl
theorem q1437 : (Jvm.Cond.code ({ cls := "WriteOnceDiscModel", name := "directory", desc := "(IJ)I" } : Jvm.MethodName) prog_11_method_18_code (4 : Nat) (Option.some Jvm.ClassFile.FieldType.int)) ∈ lw_all := lw_g (lw_at lw_m6 153 rfl) rfl
theorem q1438 : (Jvm.Cond.methodLink "WriteOnceDiscModel" (154 : Nat) ({ cls := "WriteOnceDiscModel", name := "add", desc := "(IJZIIZ)I" } : Jvm.MethodName)) ∈ lw_all := lw_g (lw_at lw_m6 154 rfl) rfl
theorem q1439 : (Jvm.Cond.privateMethod ({ cls := "WriteOnceDiscModel", name := "add", desc := "(IJZIIZ)I" } : Jvm.MethodName)) ∈ lw_tbl := lw_at lw_m6 155 rfl
theorem q1440 : (Jvm.Cond.instanceMethod ({ cls := "WriteOnceDiscModel", name := "add", desc := "(IJZIIZ)I" } : Jvm.MethodName)) ∈ lw_all := lw_g (lw_at lw_m6 156 rfl) rfl
theorem q1441 : (Jvm.Cond.code ({ cls := "WriteOnceDiscModel", name := "add", desc := "(IJZIIZ)I" } : Jvm.MethodName) prog_11_method_17_code (11 : Nat) (Option.some Jvm.ClassFile.FieldType.int)) ∈ lw_all := lw_g (lw_at lw_m6 157 rfl) rfl
theorem q1442 : (Jvm.Cond.methodLink "WriteOnceDiscModel" (135 : Nat) ({ cls := "WriteOnceDiscModel", name := "told", desc := "(J)J" } : Jvm.MethodName)) ∈ lw_all := lw_g (lw_at lw_m6 158 rfl) rfl
theorem q1443 : (Jvm.Cond.static ({ cls := "WriteOnceDiscModel", name := "told", desc := "(J)J" } : Jvm.MethodName)) ∈ lw_all := lw_g (lw_at lw_m6 159 rfl) rfl
theorem q1444 : (Jvm.Cond.code ({ cls := "WriteOnceDiscModel", name := "told", desc := "(J)J" } : Jvm.MethodName) prog_11_method_13_code (6 : Nat) (Option.some Jvm.ClassFile.FieldType.long)) ∈ lw_all := lw_g (lw_at lw_m6 160 rfl) rfl
theorem q1445 : (Jvm.Cond.constantLong "WriteOnceDiscModel" (129 : Nat) (255 : Int64)) ∈ lw_all := lw_g (lw_at lw_m6 161 rfl) rfl
theorem q1446 : (Jvm.Cond.methodLink "WriteOnceDiscModel" (131 : Nat) ({ cls := "WriteOnceDiscModel", name := "isLetter", desc := "(I)Z" } : Jvm.MethodName)) ∈ lw_all := lw_g (lw_at lw_m6 162 rfl) rfl
theorem q1447 : (Jvm.Cond.static ({ cls := "WriteOnceDiscModel", name := "isLetter", desc := "(I)Z" } : Jvm.MethodName)) ∈ lw_all := lw_g (lw_at lw_m6 163 rfl) rfl
theorem q1448 : (Jvm.Cond.code ({ cls := "WriteOnceDiscModel", name := "isLetter", desc := "(I)Z" } : Jvm.MethodName) prog_11_method_12_code (1 : Nat) (Option.some Jvm.ClassFile.FieldType.boolean)) ∈ lw_all := lw_g (lw_at lw_m6 164 rfl) rfl
theorem q1449 : (Jvm.Cond.methodLink "WriteOnceDiscModel" (139 : Nat) ({ cls := "WriteOnceDiscModel", name := "isNode", desc := "(I)Z" } : Jvm.MethodName)) ∈ lw_all := lw_g (lw_at lw_m6 165 rfl) rfl
theorem q1450 : (Jvm.Cond.privateMethod ({ cls := "WriteOnceDiscModel", name := "isNode", desc := "(I)Z" } : Jvm.MethodName)) ∈ lw_tbl := lw_at lw_m6 166 rfl
theorem q1451 : (Jvm.Cond.instanceMethod ({ cls := "WriteOnceDiscModel", name := "isNode", desc := "(I)Z" } : Jvm.MethodName)) ∈ lw_all := lw_g (lw_at lw_m6 167 rfl) rfl
theorem q1452 : (Jvm.Cond.code ({ cls := "WriteOnceDiscModel", name := "isNode", desc := "(I)Z" } : Jvm.MethodName) prog_11_method_11_code (2 : Nat) (Option.some Jvm.ClassFile.FieldType.boolean)) ∈ lw_all := lw_g (lw_at lw_m6 168 rfl) rfl
theorem q1453 : (Jvm.Cond.methodLink "WriteOnceDiscModel" (142 : Nat) ({ cls := "WriteOnceDiscModel", name := "depthOf", desc := "(I)I" } : Jvm.MethodName)) ∈ lw_all := lw_g (lw_at lw_m6 169 rfl) rfl
theorem q1454 : (Jvm.Cond.privateMethod ({ cls := "WriteOnceDiscModel", name := "depthOf", desc := "(I)I" } : Jvm.MethodName)) ∈ lw_tbl := lw_at lw_m6 170 rfl
theorem q1455 : (Jvm.Cond.instanceMethod ({ cls := "WriteOnceDiscModel", name := "depthOf", desc := "(I)I" } : Jvm.MethodName)) ∈ lw_all := lw_g (lw_at lw_m6 171 rfl) rfl
theorem q1456 : (Jvm.Cond.code ({ cls := "WriteOnceDiscModel", name := "depthOf", desc := "(I)I" } : Jvm.MethodName) prog_11_method_15_code (4 : Nat) (Option.some Jvm.ClassFile.FieldType.int)) ∈ lw_all := lw_g (lw_at lw_m6 172 rfl) rfl
theorem q1457 : (Jvm.Cond.methodLink "WriteOnceDiscModel" (146 : Nat) ({ cls := "WriteOnceDiscModel", name := "namedIn", desc := "(IJ)I" } : Jvm.MethodName)) ∈ lw_all := lw_g (lw_at lw_m6 173 rfl) rfl
theorem q1458 : (Jvm.Cond.privateMethod ({ cls := "WriteOnceDiscModel", name := "namedIn", desc := "(IJ)I" } : Jvm.MethodName)) ∈ lw_tbl := lw_at lw_m6 174 rfl
theorem q1459 : (Jvm.Cond.instanceMethod ({ cls := "WriteOnceDiscModel", name := "namedIn", desc := "(IJ)I" } : Jvm.MethodName)) ∈ lw_all := lw_g (lw_at lw_m6 175 rfl) rfl
theorem q1460 : (Jvm.Cond.code ({ cls := "WriteOnceDiscModel", name := "namedIn", desc := "(IJ)I" } : Jvm.MethodName) prog_11_method_14_code (5 : Nat) (Option.some Jvm.ClassFile.FieldType.int)) ∈ lw_all := lw_g (lw_at lw_m6 176 rfl) rfl
theorem q1461 : (Jvm.Cond.methodLink "WriteOnceDiscModel" (150 : Nat) ({ cls := "WriteOnceDiscModel", name := "alive", desc := "()I" } : Jvm.MethodName)) ∈ lw_all := lw_g (lw_at lw_m6 177 rfl) rfl
theorem q1462 : (Jvm.Cond.privateMethod ({ cls := "WriteOnceDiscModel", name := "alive", desc := "()I" } : Jvm.MethodName)) ∈ lw_tbl := lw_at lw_m6 178 rfl
theorem q1463 : (Jvm.Cond.instanceMethod ({ cls := "WriteOnceDiscModel", name := "alive", desc := "()I" } : Jvm.MethodName)) ∈ lw_all := lw_g (lw_at lw_m6 179 rfl) rfl
theorem q1464 : (Jvm.Cond.code ({ cls := "WriteOnceDiscModel", name := "alive", desc := "()I" } : Jvm.MethodName) prog_11_method_16_code (3 : Nat) (Option.some Jvm.ClassFile.FieldType.int)) ∈ lw_all := lw_g (lw_at lw_m6 180 rfl) rfl
theorem q1465 : (Jvm.Cond.methodLink "WriteOnceDiscLaw" (60 : Nat) ({ cls := "WriteOnceDiscModel", name := "file", desc := "(IJII)I" } : Jvm.MethodName)) ∈ lw_all := lw_g (lw_at lw_m6 181 rfl) rfl
theorem q1466 : (Jvm.Cond.instanceMethod ({ cls := "WriteOnceDiscModel", name := "file", desc := "(IJII)I" } : Jvm.MethodName)) ∈ lw_all := lw_g (lw_at lw_m6 182 rfl) rfl
theorem q1467 : (Jvm.Cond.selects "WriteOnceDiscModel" ({ cls := "WriteOnceDiscModel", name := "file", desc := "(IJII)I" } : Jvm.MethodName) ({ cls := "WriteOnceDiscModel", name := "file", desc := "(IJII)I" } : Jvm.MethodName)) ∈ lw_all := lw_g (lw_at lw_m6 183 rfl) rfl
theorem q1468 : (Jvm.Cond.code ({ cls := "WriteOnceDiscModel", name := "file", desc := "(IJII)I" } : Jvm.MethodName) prog_11_method_20_code (6 : Nat) (Option.some Jvm.ClassFile.FieldType.int)) ∈ lw_all := lw_g (lw_at lw_m6 184 rfl) rfl
theorem q1469 : (Jvm.Cond.methodLink "WriteOnceDiscModel" (158 : Nat) ({ cls := "WriteOnceDiscModel", name := "isContent", desc := "(II)Z" } : Jvm.MethodName)) ∈ lw_all := lw_g (lw_at lw_m6 185 rfl) rfl
theorem q1470 : (Jvm.Cond.static ({ cls := "WriteOnceDiscModel", name := "isContent", desc := "(II)Z" } : Jvm.MethodName)) ∈ lw_all := lw_g (lw_at lw_m6 186 rfl) rfl
theorem q1471 : (Jvm.Cond.code ({ cls := "WriteOnceDiscModel", name := "isContent", desc := "(II)Z" } : Jvm.MethodName) prog_11_method_19_code (2 : Nat) (Option.some Jvm.ClassFile.FieldType.boolean)) ∈ lw_all := lw_g (lw_at lw_m6 187 rfl) rfl
theorem q1472 : (Jvm.Cond.methodLink "WriteOnceDiscLaw" (65 : Nat) ({ cls := "WriteOnceDiscModel", name := "replace", desc := "(III)I" } : Jvm.MethodName)) ∈ lw_all := lw_g (lw_at lw_m6 188 rfl) rfl
theorem q1473 : (Jvm.Cond.instanceMethod ({ cls := "WriteOnceDiscModel", name := "replace", desc := "(III)I" } : Jvm.MethodName)) ∈ lw_all := lw_g (lw_at lw_m6 189 rfl) rfl
theorem q1474 : (Jvm.Cond.selects "WriteOnceDiscModel" ({ cls := "WriteOnceDiscModel", name := "replace", desc := "(III)I" } : Jvm.MethodName) ({ cls := "WriteOnceDiscModel", name := "replace", desc := "(III)I" } : Jvm.MethodName)) ∈ lw_all := lw_g (lw_at lw_m6 190 rfl) rfl
theorem q1475 : (Jvm.Cond.code ({ cls := "WriteOnceDiscModel", name := "replace", desc := "(III)I" } : Jvm.MethodName) prog_11_method_21_code (4 : Nat) (Option.some Jvm.ClassFile.FieldType.int)) ∈ lw_all := lw_g (lw_at lw_m6 191 rfl) rfl
theorem q1476 : (Jvm.Cond.methodLink "WriteOnceDiscLaw" (70 : Nat) ({ cls := "WriteOnceDiscModel", name := "remove", desc := "(I)I" } : Jvm.MethodName)) ∈ lw_all := lw_g (lw_at lw_m6 192 rfl) rfl
theorem q1477 : (Jvm.Cond.instanceMethod ({ cls := "WriteOnceDiscModel", name := "remove", desc := "(I)I" } : Jvm.MethodName)) ∈ lw_all := lw_g (lw_at lw_m6 193 rfl) rfl
theorem q1478 : (Jvm.Cond.selects "WriteOnceDiscModel" ({ cls := "WriteOnceDiscModel", name := "remove", desc := "(I)I" } : Jvm.MethodName) ({ cls := "WriteOnceDiscModel", name := "remove", desc := "(I)I" } : Jvm.MethodName)) ∈ lw_all := lw_g (lw_at lw_m6 194 rfl) rfl
theorem q1479 : (Jvm.Cond.code ({ cls := "WriteOnceDiscModel", name := "remove", desc := "(I)I" } : Jvm.MethodName) prog_11_method_22_code (3 : Nat) (Option.some Jvm.ClassFile.FieldType.int)) ∈ lw_all := lw_g (lw_at lw_m6 195 rfl) rfl
theorem q1480 : (Jvm.Cond.methodLink "WriteOnceDiscLaw" (75 : Nat) ({ cls := "WriteOnceDiscModel", name := "rename", desc := "(IIJ)I" } : Jvm.MethodName)) ∈ lw_all := lw_g (lw_at lw_m6 196 rfl) rfl
theorem q1481 : (Jvm.Cond.instanceMethod ({ cls := "WriteOnceDiscModel", name := "rename", desc := "(IIJ)I" } : Jvm.MethodName)) ∈ lw_all := lw_g (lw_at lw_m6 197 rfl) rfl
theorem q1482 : (Jvm.Cond.selects "WriteOnceDiscModel" ({ cls := "WriteOnceDiscModel", name := "rename", desc := "(IIJ)I" } : Jvm.MethodName) ({ cls := "WriteOnceDiscModel", name := "rename", desc := "(IIJ)I" } : Jvm.MethodName)) ∈ lw_all := lw_g (lw_at lw_m6 198 rfl) rfl
theorem q1483 : (Jvm.Cond.code ({ cls := "WriteOnceDiscModel", name := "rename", desc := "(IIJ)I" } : Jvm.MethodName) prog_11_method_24_code (9 : Nat) (Option.some Jvm.ClassFile.FieldType.int)) ∈ lw_all := lw_g (lw_at lw_m6 199 rfl) rfl
theorem q1484 : (Jvm.Cond.methodLink "WriteOnceDiscModel" (162 : Nat) ({ cls := "WriteOnceDiscModel", name := "liesIn", desc := "(II)Z" } : Jvm.MethodName)) ∈ lw_all := lw_g (lw_at lw_m6 200 rfl) rfl
theorem q1485 : (Jvm.Cond.privateMethod ({ cls := "WriteOnceDiscModel", name := "liesIn", desc := "(II)Z" } : Jvm.MethodName)) ∈ lw_tbl := lw_at lw_m6 201 rfl
theorem q1486 : (Jvm.Cond.instanceMethod ({ cls := "WriteOnceDiscModel", name := "liesIn", desc := "(II)Z" } : Jvm.MethodName)) ∈ lw_all := lw_g (lw_at lw_m6 202 rfl) rfl
theorem q1487 : (Jvm.Cond.code ({ cls := "WriteOnceDiscModel", name := "liesIn", desc := "(II)Z" } : Jvm.MethodName) prog_11_method_23_code (4 : Nat) (Option.some Jvm.ClassFile.FieldType.boolean)) ∈ lw_all := lw_g (lw_at lw_m6 203 rfl) rfl
theorem q1488 : (Jvm.Cond.methodLink "WriteOnceDiscLaw" (128 : Nat) ({ cls := "WriteOnceDiscModel", name := "tree", desc := "(II)I" } : Jvm.MethodName)) ∈ lw_all := lw_g (lw_at lw_m6 204 rfl) rfl
theorem q1489 : (Jvm.Cond.instanceMethod ({ cls := "WriteOnceDiscModel", name := "tree", desc := "(II)I" } : Jvm.MethodName)) ∈ lw_all := lw_g (lw_at lw_m6 205 rfl) rfl
theorem q1490 : (Jvm.Cond.selects "WriteOnceDiscModel" ({ cls := "WriteOnceDiscModel", name := "tree", desc := "(II)I" } : Jvm.MethodName) ({ cls := "WriteOnceDiscModel", name := "tree", desc := "(II)I" } : Jvm.MethodName)) ∈ lw_all := lw_g (lw_at lw_m6 206 rfl) rfl
theorem q1491 : (Jvm.Cond.code ({ cls := "WriteOnceDiscModel", name := "tree", desc := "(II)I" } : Jvm.MethodName) prog_11_method_25_code (3 : Nat) (Option.some Jvm.ClassFile.FieldType.int)) ∈ lw_all := lw_g (lw_at lw_m6 207 rfl) rfl
theorem q1492 : (Jvm.Cond.methodLink "WriteOnceDiscLaw" (80 : Nat) ({ cls := "WriteOnceDiscModel", name := "commit", desc := "()I" } : Jvm.MethodName)) ∈ lw_all := lw_g (lw_at lw_m6 208 rfl) rfl
theorem q1493 : (Jvm.Cond.instanceMethod ({ cls := "WriteOnceDiscModel", name := "commit", desc := "()I" } : Jvm.MethodName)) ∈ lw_all := lw_g (lw_at lw_m6 209 rfl) rfl
theorem q1494 : (Jvm.Cond.selects "WriteOnceDiscModel" ({ cls := "WriteOnceDiscModel", name := "commit", desc := "()I" } : Jvm.MethodName) ({ cls := "WriteOnceDiscModel", name := "commit", desc := "()I" } : Jvm.MethodName)) ∈ lw_all := lw_g (lw_at lw_m6 210 rfl) rfl
theorem q1495 : (Jvm.Cond.code ({ cls := "WriteOnceDiscModel", name := "commit", desc := "()I" } : Jvm.MethodName) prog_11_method_47_code (3 : Nat) (Option.some Jvm.ClassFile.FieldType.int)) ∈ lw_all := lw_g (lw_at lw_m6 211 rfl) rfl
theorem q1496 : (Jvm.Cond.methodLink "WriteOnceDiscModel" (244 : Nat) ({ cls := "WriteOnceDiscModel", name := "lay", desc := "(IIZ)I" } : Jvm.MethodName)) ∈ lw_all := lw_g (lw_at lw_m6 212 rfl) rfl
theorem q1497 : (Jvm.Cond.privateMethod ({ cls := "WriteOnceDiscModel", name := "lay", desc := "(IIZ)I" } : Jvm.MethodName)) ∈ lw_tbl := lw_at lw_m6 213 rfl
theorem q1498 : (Jvm.Cond.instanceMethod ({ cls := "WriteOnceDiscModel", name := "lay", desc := "(IIZ)I" } : Jvm.MethodName)) ∈ lw_all := lw_g (lw_at lw_m6 214 rfl) rfl
theorem q1499 : (Jvm.Cond.code ({ cls := "WriteOnceDiscModel", name := "lay", desc := "(IIZ)I" } : Jvm.MethodName) prog_11_method_45_code (8 : Nat) (Option.some Jvm.ClassFile.FieldType.int)) ∈ lw_all := lw_g (lw_at lw_m6 215 rfl) rfl
theorem q1500 : (Jvm.Cond.methodLink "WriteOnceDiscModel" (228 : Nat) ({ cls := "WriteOnceDiscModel", name := "frontOf", desc := "(I)I" } : Jvm.MethodName)) ∈ lw_all := lw_g (lw_at lw_m6 216 rfl) rfl
theorem q1501 : (Jvm.Cond.privateMethod ({ cls := "WriteOnceDiscModel", name := "frontOf", desc := "(I)I" } : Jvm.MethodName)) ∈ lw_tbl := lw_at lw_m6 217 rfl
theorem q1502 : (Jvm.Cond.instanceMethod ({ cls := "WriteOnceDiscModel", name := "frontOf", desc := "(I)I" } : Jvm.MethodName)) ∈ lw_all := lw_g (lw_at lw_m6 218 rfl) rfl
theorem q1503 : (Jvm.Cond.code ({ cls := "WriteOnceDiscModel", name := "frontOf", desc := "(I)I" } : Jvm.MethodName) prog_11_method_7_code (3 : Nat) (Option.some Jvm.ClassFile.FieldType.int)) ∈ lw_all := lw_g (lw_at lw_m6 219 rfl) rfl
theorem q1504 : (Jvm.Cond.methodLink "WriteOnceDiscModel" (231 : Nat) ({ cls := "WriteOnceDiscModel", name := "fill", desc := "(IIZ)V" } : Jvm.MethodName)) ∈ lw_all := lw_g (lw_at lw_m6 220 rfl) rfl
theorem q1505 : (Jvm.Cond.privateMethod ({ cls := "WriteOnceDiscModel", name := "fill", desc := "(IIZ)V" } : Jvm.MethodName)) ∈ lw_tbl := lw_at lw_m6 221 rfl
theorem q1506 : (Jvm.Cond.instanceMethod ({ cls := "WriteOnceDiscModel", name := "fill", desc := "(IIZ)V" } : Jvm.MethodName)) ∈ lw_all := lw_g (lw_at lw_m6 222 rfl) rfl
theorem q1507 : (Jvm.Cond.code ({ cls := "WriteOnceDiscModel", name := "fill", desc := "(IIZ)V" } : Jvm.MethodName) prog_11_method_44_code (7 : Nat) (Option.none : Option Jvm.ClassFile.FieldType)) ∈ lw_all := lw_g (lw_at lw_m6 223 rfl) rfl
theorem q1508 : (Jvm.Cond.methodLink "WriteOnceDiscModel" (225 : Nat) ({ cls := "WriteOnceDiscModel", name := "get", desc := "(I)I" } : Jvm.MethodName)) ∈ lw_all := lw_g (lw_at lw_m6 224 rfl) rfl
theorem q1509 : (Jvm.Cond.privateMethod ({ cls := "WriteOnceDiscModel", name := "get", desc := "(I)I" } : Jvm.MethodName)) ∈ lw_tbl := lw_at lw_m6 225 rfl
theorem q1510 : (Jvm.Cond.instanceMethod ({ cls := "WriteOnceDiscModel", name := "get", desc := "(I)I" } : Jvm.MethodName)) ∈ lw_all := lw_g (lw_at lw_m6 226 rfl) rfl
theorem q1511 : (Jvm.Cond.code ({ cls := "WriteOnceDiscModel", name := "get", desc := "(I)I" } : Jvm.MethodName) prog_11_method_5_code (2 : Nat) (Option.some Jvm.ClassFile.FieldType.int)) ∈ lw_all := lw_g (lw_at lw_m6 227 rfl) rfl
theorem q1512 : (Jvm.Cond.methodLink "WriteOnceDiscModel" (235 : Nat) ({ cls := "WriteOnceDiscModel", name := "burn", desc := "(II)I" } : Jvm.MethodName)) ∈ lw_all := lw_g (lw_at lw_m6 228 rfl) rfl
theorem q1513 : (Jvm.Cond.privateMethod ({ cls := "WriteOnceDiscModel", name := "burn", desc := "(II)I" } : Jvm.MethodName)) ∈ lw_tbl := lw_at lw_m6 229 rfl
theorem q1514 : (Jvm.Cond.instanceMethod ({ cls := "WriteOnceDiscModel", name := "burn", desc := "(II)I" } : Jvm.MethodName)) ∈ lw_all := lw_g (lw_at lw_m6 230 rfl) rfl
theorem q1515 : (Jvm.Cond.code ({ cls := "WriteOnceDiscModel", name := "burn", desc := "(II)I" } : Jvm.MethodName) prog_11_method_8_code (4 : Nat) (Option.some Jvm.ClassFile.FieldType.int)) ∈ lw_all := lw_g (lw_at lw_m6 231 rfl) rfl
theorem q1516 : (Jvm.Cond.methodLink "WriteOnceDiscModel" (250 : Nat) ({ cls := "WriteOnceDiscModel", name := "session", desc := "(II)I" } : Jvm.MethodName)) ∈ lw_all := lw_g (lw_at lw_m6 232 rfl) rfl
theorem q1517 : (Jvm.Cond.privateMethod ({ cls := "WriteOnceDiscModel", name := "session", desc := "(II)I" } : Jvm.MethodName)) ∈ lw_tbl := lw_at lw_m6 233 rfl
theorem q1518 : (Jvm.Cond.instanceMethod ({ cls := "WriteOnceDiscModel", name := "session", desc := "(II)I" } : Jvm.MethodName)) ∈ lw_all := lw_g (lw_at lw_m6 234 rfl) rfl
theorem q1519 : (Jvm.Cond.code ({ cls := "WriteOnceDiscModel", name := "session", desc := "(II)I" } : Jvm.MethodName) prog_11_method_46_code (8 : Nat) (Option.some Jvm.ClassFile.FieldType.int)) ∈ lw_all := lw_g (lw_at lw_m6 235 rfl) rfl
theorem q1520 : (Jvm.Cond.methodLink "WriteOnceDiscModel" (238 : Nat) ({ cls := "WriteOnceDiscModel", name := "measure", desc := "(I)I" } : Jvm.MethodName)) ∈ lw_all := lw_g (lw_at lw_m6 236 rfl) rfl
theorem q1521 : (Jvm.Cond.privateMethod ({ cls := "WriteOnceDiscModel", name := "measure", desc := "(I)I" } : Jvm.MethodName)) ∈ lw_tbl := lw_at lw_m6 237 rfl
theorem q1522 : (Jvm.Cond.instanceMethod ({ cls := "WriteOnceDiscModel", name := "measure", desc := "(I)I" } : Jvm.MethodName)) ∈ lw_all := lw_g (lw_at lw_m6 238 rfl) rfl
theorem q1523 : (Jvm.Cond.code ({ cls := "WriteOnceDiscModel", name := "measure", desc := "(I)I" } : Jvm.MethodName) prog_11_method_42_code (5 : Nat) (Option.some Jvm.ClassFile.FieldType.int)) ∈ lw_all := lw_g (lw_at lw_m6 239 rfl) rfl
theorem q1524 : (Jvm.Cond.methodLink "WriteOnceDiscModel" (211 : Nat) ({ cls := "WriteOnceDiscModel", name := "tables", desc := "()V" } : Jvm.MethodName)) ∈ lw_all := lw_g (lw_at lw_m7 0 rfl) rfl
theorem q1525 : (Jvm.Cond.privateMethod ({ cls := "WriteOnceDiscModel", name := "tables", desc := "()V" } : Jvm.MethodName)) ∈ lw_tbl := lw_at lw_m7 1 rfl
theorem q1526 : (Jvm.Cond.instanceMethod ({ cls := "WriteOnceDiscModel", name := "tables", desc := "()V" } : Jvm.MethodName)) ∈ lw_all := lw_g (lw_at lw_m7 2 rfl) rfl
theorem q1527 : (Jvm.Cond.code ({ cls := "WriteOnceDiscModel", name := "tables", desc := "()V" } : Jvm.MethodName) prog_11_method_39_code (3 : Nat) (Option.none : Option Jvm.ClassFile.FieldType)) ∈ lw_all := lw_g (lw_at lw_m7 3 rfl) rfl
theorem q1528 : (Jvm.Cond.methodLink "WriteOnceDiscModel" (202 : Nat) ({ cls := "WriteOnceDiscModel", name := "next", desc := "(II)I" } : Jvm.MethodName)) ∈ lw_all := lw_g (lw_at lw_m7 4 rfl) rfl
theorem q1529 : (Jvm.Cond.privateMethod ({ cls := "WriteOnceDiscModel", name := "next", desc := "(II)I" } : Jvm.MethodName)) ∈ lw_tbl := lw_at lw_m7 5 rfl
theorem q1530 : (Jvm.Cond.instanceMethod ({ cls := "WriteOnceDiscModel", name := "next", desc := "(II)I" } : Jvm.MethodName)) ∈ lw_all := lw_g (lw_at lw_m7 6 rfl) rfl
theorem q1531 : (Jvm.Cond.code ({ cls := "WriteOnceDiscModel", name := "next", desc := "(II)I" } : Jvm.MethodName) prog_11_method_31_code (5 : Nat) (Option.some Jvm.ClassFile.FieldType.int)) ∈ lw_all := lw_g (lw_at lw_m7 7 rfl) rfl
theorem q1532 : (Jvm.Cond.methodLink "WriteOnceDiscModel" (177 : Nat) ({ cls := "WriteOnceDiscModel", name := "compare", desc := "(JZJZ)I" } : Jvm.MethodName)) ∈ lw_all := lw_g (lw_at lw_m7 8 rfl) rfl
theorem q1533 : (Jvm.Cond.static ({ cls := "WriteOnceDiscModel", name := "compare", desc := "(JZJZ)I" } : Jvm.MethodName)) ∈ lw_all := lw_g (lw_at lw_m7 9 rfl) rfl
theorem q1534 : (Jvm.Cond.code ({ cls := "WriteOnceDiscModel", name := "compare", desc := "(JZJZ)I" } : Jvm.MethodName) prog_11_method_30_code (8 : Nat) (Option.some Jvm.ClassFile.FieldType.int)) ∈ lw_all := lw_g (lw_at lw_m7 10 rfl) rfl
theorem q1535 : (Jvm.Cond.methodLink "WriteOnceDiscModel" (173 : Nat) ({ cls := "WriteOnceDiscModel", name := "idByte", desc := "(JZI)I" } : Jvm.MethodName)) ∈ lw_all := lw_g (lw_at lw_m7 11 rfl) rfl
theorem q1536 : (Jvm.Cond.static ({ cls := "WriteOnceDiscModel", name := "idByte", desc := "(JZI)I" } : Jvm.MethodName)) ∈ lw_all := lw_g (lw_at lw_m7 12 rfl) rfl
theorem q1537 : (Jvm.Cond.code ({ cls := "WriteOnceDiscModel", name := "idByte", desc := "(JZI)I" } : Jvm.MethodName) prog_11_method_29_code (5 : Nat) (Option.some Jvm.ClassFile.FieldType.int)) ∈ lw_all := lw_g (lw_at lw_m7 13 rfl) rfl
theorem q1538 : (Jvm.Cond.methodLink "WriteOnceDiscModel" (165 : Nat) ({ cls := "WriteOnceDiscModel", name := "lettersOf", desc := "(J)I" } : Jvm.MethodName)) ∈ lw_all := lw_g (lw_at lw_m7 14 rfl) rfl
theorem q1539 : (Jvm.Cond.static ({ cls := "WriteOnceDiscModel", name := "lettersOf", desc := "(J)I" } : Jvm.MethodName)) ∈ lw_all := lw_g (lw_at lw_m7 15 rfl) rfl
theorem q1540 : (Jvm.Cond.code ({ cls := "WriteOnceDiscModel", name := "lettersOf", desc := "(J)I" } : Jvm.MethodName) prog_11_method_26_code (3 : Nat) (Option.some Jvm.ClassFile.FieldType.int)) ∈ lw_all := lw_g (lw_at lw_m7 16 rfl) rfl
theorem q1541 : (Jvm.Cond.methodLink "WriteOnceDiscModel" (169 : Nat) ({ cls := "WriteOnceDiscModel", name := "letter", desc := "(JI)I" } : Jvm.MethodName)) ∈ lw_all := lw_g (lw_at lw_m7 17 rfl) rfl
theorem q1542 : (Jvm.Cond.static ({ cls := "WriteOnceDiscModel", name := "letter", desc := "(JI)I" } : Jvm.MethodName)) ∈ lw_all := lw_g (lw_at lw_m7 18 rfl) rfl
theorem q1543 : (Jvm.Cond.code ({ cls := "WriteOnceDiscModel", name := "letter", desc := "(JI)I" } : Jvm.MethodName) prog_11_method_27_code (3 : Nat) (Option.some Jvm.ClassFile.FieldType.int)) ∈ lw_all := lw_g (lw_at lw_m7 19 rfl) rfl
theorem q1544 : (Jvm.Cond.methodLink "WriteOnceDiscModel" (214 : Nat) ({ cls := "WriteOnceDiscModel", name := "along", desc := "(IIZ)I" } : Jvm.MethodName)) ∈ lw_all := lw_g (lw_at lw_m7 20 rfl) rfl
theorem q1545 : (Jvm.Cond.privateMethod ({ cls := "WriteOnceDiscModel", name := "along", desc := "(IIZ)I" } : Jvm.MethodName)) ∈ lw_tbl := lw_at lw_m7 21 rfl
theorem q1546 : (Jvm.Cond.instanceMethod ({ cls := "WriteOnceDiscModel", name := "along", desc := "(IIZ)I" } : Jvm.MethodName)) ∈ lw_all := lw_g (lw_at lw_m7 22 rfl) rfl
theorem q1547 : (Jvm.Cond.code ({ cls := "WriteOnceDiscModel", name := "along", desc := "(IIZ)I" } : Jvm.MethodName) prog_11_method_38_code (9 : Nat) (Option.some Jvm.ClassFile.FieldType.int)) ∈ lw_all := lw_g (lw_at lw_m7 23 rfl) rfl
theorem q1548 : (Jvm.Cond.methodLink "WriteOnceDiscModel" (192 : Nat) ({ cls := "WriteOnceDiscModel", name := "recordId", desc := "(II)I" } : Jvm.MethodName)) ∈ lw_all := lw_g (lw_at lw_m7 24 rfl) rfl
theorem q1549 : (Jvm.Cond.privateMethod ({ cls := "WriteOnceDiscModel", name := "recordId", desc := "(II)I" } : Jvm.MethodName)) ∈ lw_tbl := lw_at lw_m7 25 rfl
theorem q1550 : (Jvm.Cond.instanceMethod ({ cls := "WriteOnceDiscModel", name := "recordId", desc := "(II)I" } : Jvm.MethodName)) ∈ lw_all := lw_g (lw_at lw_m7 26 rfl) rfl
theorem q1551 : (Jvm.Cond.code ({ cls := "WriteOnceDiscModel", name := "recordId", desc := "(II)I" } : Jvm.MethodName) prog_11_method_36_code (3 : Nat) (Option.some Jvm.ClassFile.FieldType.int)) ∈ lw_all := lw_g (lw_at lw_m7 27 rfl) rfl
theorem q1552 : (Jvm.Cond.methodLink "WriteOnceDiscModel" (188 : Nat) ({ cls := "WriteOnceDiscModel", name := "idSize", desc := "(JZ)I" } : Jvm.MethodName)) ∈ lw_all := lw_g (lw_at lw_m7 28 rfl) rfl
theorem q1553 : (Jvm.Cond.static ({ cls := "WriteOnceDiscModel", name := "idSize", desc := "(JZ)I" } : Jvm.MethodName)) ∈ lw_all := lw_g (lw_at lw_m7 29 rfl) rfl
theorem q1554 : (Jvm.Cond.code ({ cls := "WriteOnceDiscModel", name := "idSize", desc := "(JZ)I" } : Jvm.MethodName) prog_11_method_28_code (3 : Nat) (Option.some Jvm.ClassFile.FieldType.int)) ∈ lw_all := lw_g (lw_at lw_m7 30 rfl) rfl
theorem q1555 : (Jvm.Cond.methodLink "WriteOnceDiscModel" (196 : Nat) ({ cls := "WriteOnceDiscModel", name := "even", desc := "(I)I" } : Jvm.MethodName)) ∈ lw_all := lw_g (lw_at lw_m7 31 rfl) rfl
theorem q1556 : (Jvm.Cond.static ({ cls := "WriteOnceDiscModel", name := "even", desc := "(I)I" } : Jvm.MethodName)) ∈ lw_all := lw_g (lw_at lw_m7 32 rfl) rfl
theorem q1557 : (Jvm.Cond.code ({ cls := "WriteOnceDiscModel", name := "even", desc := "(I)I" } : Jvm.MethodName) prog_11_method_35_code (1 : Nat) (Option.some Jvm.ClassFile.FieldType.int)) ∈ lw_all := lw_g (lw_at lw_m7 33 rfl) rfl
theorem q1558 : (Jvm.Cond.methodLink "WriteOnceDiscModel" (205 : Nat) ({ cls := "WriteOnceDiscModel", name := "record", desc := "(III)V" } : Jvm.MethodName)) ∈ lw_all := lw_g (lw_at lw_m7 34 rfl) rfl
theorem q1559 : (Jvm.Cond.privateMethod ({ cls := "WriteOnceDiscModel", name := "record", desc := "(III)V" } : Jvm.MethodName)) ∈ lw_tbl := lw_at lw_m7 35 rfl
theorem q1560 : (Jvm.Cond.instanceMethod ({ cls := "WriteOnceDiscModel", name := "record", desc := "(III)V" } : Jvm.MethodName)) ∈ lw_all := lw_g (lw_at lw_m7 36 rfl) rfl
theorem q1561 : (Jvm.Cond.code ({ cls := "WriteOnceDiscModel", name := "record", desc := "(III)V" } : Jvm.MethodName) prog_11_method_37_code (6 : Nat) (Option.none : Option Jvm.ClassFile.FieldType)) ∈ lw_all := lw_g (lw_at lw_m7 37 rfl) rfl
theorem q1562 : (Jvm.Cond.methodLink "WriteOnceDiscModel" (199 : Nat) ({ cls := "WriteOnceDiscModel", name := "both", desc := "(III)V" } : Jvm.MethodName)) ∈ lw_all := lw_g (lw_at lw_m7 38 rfl) rfl
theorem q1563 : (Jvm.Cond.privateMethod ({ cls := "WriteOnceDiscModel", name := "both", desc := "(III)V" } : Jvm.MethodName)) ∈ lw_tbl := lw_at lw_m7 39 rfl
theorem q1564 : (Jvm.Cond.instanceMethod ({ cls := "WriteOnceDiscModel", name := "both", desc := "(III)V" } : Jvm.MethodName)) ∈ lw_all := lw_g (lw_at lw_m7 40 rfl) rfl
theorem q1565 : (Jvm.Cond.code ({ cls := "WriteOnceDiscModel", name := "both", desc := "(III)V" } : Jvm.MethodName) prog_11_method_34_code (4 : Nat) (Option.none : Option Jvm.ClassFile.FieldType)) ∈ lw_all := lw_g (lw_at lw_m7 41 rfl) rfl
theorem q1566 : (Jvm.Cond.methodLink "WriteOnceDiscModel" (181 : Nat) ({ cls := "WriteOnceDiscModel", name := "low", desc := "(III)V" } : Jvm.MethodName)) ∈ lw_all := lw_g (lw_at lw_m7 42 rfl) rfl
theorem q1567 : (Jvm.Cond.privateMethod ({ cls := "WriteOnceDiscModel", name := "low", desc := "(III)V" } : Jvm.MethodName)) ∈ lw_tbl := lw_at lw_m7 43 rfl
theorem q1568 : (Jvm.Cond.instanceMethod ({ cls := "WriteOnceDiscModel", name := "low", desc := "(III)V" } : Jvm.MethodName)) ∈ lw_all := lw_g (lw_at lw_m7 44 rfl) rfl
theorem q1569 : (Jvm.Cond.code ({ cls := "WriteOnceDiscModel", name := "low", desc := "(III)V" } : Jvm.MethodName) prog_11_method_32_code (5 : Nat) (Option.none : Option Jvm.ClassFile.FieldType)) ∈ lw_all := lw_g (lw_at lw_m7 45 rfl) rfl
theorem q1570 : (Jvm.Cond.methodLink "WriteOnceDiscModel" (185 : Nat) ({ cls := "WriteOnceDiscModel", name := "high", desc := "(III)V" } : Jvm.MethodName)) ∈ lw_all := lw_g (lw_at lw_m7 46 rfl) rfl
theorem q1571 : (Jvm.Cond.privateMethod ({ cls := "WriteOnceDiscModel", name := "high", desc := "(III)V" } : Jvm.MethodName)) ∈ lw_tbl := lw_at lw_m7 47 rfl
theorem q1572 : (Jvm.Cond.instanceMethod ({ cls := "WriteOnceDiscModel", name := "high", desc := "(III)V" } : Jvm.MethodName)) ∈ lw_all := lw_g (lw_at lw_m7 48 rfl) rfl
theorem q1573 : (Jvm.Cond.code ({ cls := "WriteOnceDiscModel", name := "high", desc := "(III)V" } : Jvm.MethodName) prog_11_method_33_code (5 : Nat) (Option.none : Option Jvm.ClassFile.FieldType)) ∈ lw_all := lw_g (lw_at lw_m7 49 rfl) rfl
theorem q1574 : (Jvm.Cond.methodLink "WriteOnceDiscModel" (241 : Nat) ({ cls := "WriteOnceDiscModel", name := "design", desc := "(III)V" } : Jvm.MethodName)) ∈ lw_all := lw_g (lw_at lw_m7 50 rfl) rfl
theorem q1575 : (Jvm.Cond.privateMethod ({ cls := "WriteOnceDiscModel", name := "design", desc := "(III)V" } : Jvm.MethodName)) ∈ lw_tbl := lw_at lw_m7 51 rfl
theorem q1576 : (Jvm.Cond.instanceMethod ({ cls := "WriteOnceDiscModel", name := "design", desc := "(III)V" } : Jvm.MethodName)) ∈ lw_all := lw_g (lw_at lw_m7 52 rfl) rfl
theorem q1577 : (Jvm.Cond.code ({ cls := "WriteOnceDiscModel", name := "design", desc := "(III)V" } : Jvm.MethodName) prog_11_method_43_code (10 : Nat) (Option.none : Option Jvm.ClassFile.FieldType)) ∈ lw_all := lw_g (lw_at lw_m7 53 rfl) rfl
theorem q1578 : (Jvm.Cond.methodLink "WriteOnceDiscModel" (218 : Nat) ({ cls := "WriteOnceDiscModel", name := "letters", desc := "(IIIIII)V" } : Jvm.MethodName)) ∈ lw_all := lw_g (lw_at lw_m7 54 rfl) rfl
theorem q1579 : (Jvm.Cond.privateMethod ({ cls := "WriteOnceDiscModel", name := "letters", desc := "(IIIIII)V" } : Jvm.MethodName)) ∈ lw_tbl := lw_at lw_m7 55 rfl
theorem q1580 : (Jvm.Cond.instanceMethod ({ cls := "WriteOnceDiscModel", name := "letters", desc := "(IIIIII)V" } : Jvm.MethodName)) ∈ lw_all := lw_g (lw_at lw_m7 56 rfl) rfl
theorem q1581 : (Jvm.Cond.code ({ cls := "WriteOnceDiscModel", name := "letters", desc := "(IIIIII)V" } : Jvm.MethodName) prog_11_method_41_code (7 : Nat) (Option.none : Option Jvm.ClassFile.FieldType)) ∈ lw_all := lw_g (lw_at lw_m7 57 rfl) rfl
theorem q1582 : (Jvm.Cond.methodLink "WriteOnceDiscModel" (222 : Nat) ({ cls := "WriteOnceDiscModel", name := "numberOf", desc := "(I)I" } : Jvm.MethodName)) ∈ lw_all := lw_g (lw_at lw_m7 58 rfl) rfl
theorem q1583 : (Jvm.Cond.privateMethod ({ cls := "WriteOnceDiscModel", name := "numberOf", desc := "(I)I" } : Jvm.MethodName)) ∈ lw_tbl := lw_at lw_m7 59 rfl
theorem q1584 : (Jvm.Cond.instanceMethod ({ cls := "WriteOnceDiscModel", name := "numberOf", desc := "(I)I" } : Jvm.MethodName)) ∈ lw_all := lw_g (lw_at lw_m7 60 rfl) rfl
theorem q1585 : (Jvm.Cond.code ({ cls := "WriteOnceDiscModel", name := "numberOf", desc := "(I)I" } : Jvm.MethodName) prog_11_method_40_code (3 : Nat) (Option.some Jvm.ClassFile.FieldType.int)) ∈ lw_all := lw_g (lw_at lw_m7 61 rfl) rfl
theorem q1586 : (Jvm.Cond.methodLink "WriteOnceDiscLaw" (88 : Nat) ({ cls := "WriteOnceDiscModel", name := "compact", desc := "()I" } : Jvm.MethodName)) ∈ lw_all := lw_g (lw_at lw_m7 62 rfl) rfl
theorem q1587 : (Jvm.Cond.instanceMethod ({ cls := "WriteOnceDiscModel", name := "compact", desc := "()I" } : Jvm.MethodName)) ∈ lw_all := lw_g (lw_at lw_m7 63 rfl) rfl
theorem q1588 : (Jvm.Cond.selects "WriteOnceDiscModel" ({ cls := "WriteOnceDiscModel", name := "compact", desc := "()I" } : Jvm.MethodName) ({ cls := "WriteOnceDiscModel", name := "compact", desc := "()I" } : Jvm.MethodName)) ∈ lw_all := lw_g (lw_at lw_m7 64 rfl) rfl
theorem q1589 : (Jvm.Cond.code ({ cls := "WriteOnceDiscModel", name := "compact", desc := "()I" } : Jvm.MethodName) prog_11_method_48_code (4 : Nat) (Option.some Jvm.ClassFile.FieldType.int)) ∈ lw_all := lw_g (lw_at lw_m7 65 rfl) rfl
theorem q1590 : (Jvm.Cond.constant "WriteOnceDiscModel" (253 : Nat) (409600 : Int32)) ∈ lw_all := lw_g (lw_at lw_m7 66 rfl) rfl
theorem q1591 : (Jvm.Cond.methodLink "WriteOnceDiscLaw" (108 : Nat) ({ cls := "WriteOnceDiscModel", name := "mark", desc := "(II)I" } : Jvm.MethodName)) ∈ lw_all := lw_g (lw_at lw_m7 67 rfl) rfl
theorem q1592 : (Jvm.Cond.instanceMethod ({ cls := "WriteOnceDiscModel", name := "mark", desc := "(II)I" } : Jvm.MethodName)) ∈ lw_all := lw_g (lw_at lw_m7 68 rfl) rfl
theorem q1593 : (Jvm.Cond.selects "WriteOnceDiscModel" ({ cls := "WriteOnceDiscModel", name := "mark", desc := "(II)I" } : Jvm.MethodName) ({ cls := "WriteOnceDiscModel", name := "mark", desc := "(II)I" } : Jvm.MethodName)) ∈ lw_all := lw_g (lw_at lw_m7 69 rfl) rfl
theorem q1594 : (Jvm.Cond.code ({ cls := "WriteOnceDiscModel", name := "mark", desc := "(II)I" } : Jvm.MethodName) prog_11_method_65_code (4 : Nat) (Option.some Jvm.ClassFile.FieldType.int)) ∈ lw_all := lw_g (lw_at lw_m7 70 rfl) rfl
theorem q1595 : (Jvm.Cond.methodLink "WriteOnceDiscModel" (314 : Nat) ({ cls := "WriteOnceDiscModel", name := "markAt", desc := "(I)I" } : Jvm.MethodName)) ∈ lw_all := lw_g (lw_at lw_m7 71 rfl) rfl
theorem q1596 : (Jvm.Cond.privateMethod ({ cls := "WriteOnceDiscModel", name := "markAt", desc := "(I)I" } : Jvm.MethodName)) ∈ lw_tbl := lw_at lw_m7 72 rfl
theorem q1597 : (Jvm.Cond.instanceMethod ({ cls := "WriteOnceDiscModel", name := "markAt", desc := "(I)I" } : Jvm.MethodName)) ∈ lw_all := lw_g (lw_at lw_m7 73 rfl) rfl
theorem q1598 : (Jvm.Cond.code ({ cls := "WriteOnceDiscModel", name := "markAt", desc := "(I)I" } : Jvm.MethodName) prog_11_method_64_code (4 : Nat) (Option.some Jvm.ClassFile.FieldType.int)) ∈ lw_all := lw_g (lw_at lw_m7 74 rfl) rfl
theorem q1599 : (Jvm.Cond.methodLink "WriteOnceDiscModel" (311 : Nat) ({ cls := "WriteOnceDiscModel", name := "isMark", desc := "(I)Z" } : Jvm.MethodName)) ∈ lw_all := lw_g (lw_at lw_m7 75 rfl) rfl
theorem q1600 : (Jvm.Cond.privateMethod ({ cls := "WriteOnceDiscModel", name := "isMark", desc := "(I)Z" } : Jvm.MethodName)) ∈ lw_tbl := lw_at lw_m7 76 rfl
theorem q1601 : (Jvm.Cond.instanceMethod ({ cls := "WriteOnceDiscModel", name := "isMark", desc := "(I)Z" } : Jvm.MethodName)) ∈ lw_all := lw_g (lw_at lw_m7 77 rfl) rfl
theorem q1602 : (Jvm.Cond.code ({ cls := "WriteOnceDiscModel", name := "isMark", desc := "(I)Z" } : Jvm.MethodName) prog_11_method_63_code (4 : Nat) (Option.some Jvm.ClassFile.FieldType.boolean)) ∈ lw_all := lw_g (lw_at lw_m7 78 rfl) rfl
theorem q1603 : (Jvm.Cond.methodLink "WriteOnceDiscModel" (260 : Nat) ({ cls := "WriteOnceDiscModel", name := "isWrittenSector", desc := "(I)Z" } : Jvm.MethodName)) ∈ lw_all := lw_g (lw_at lw_m7 79 rfl) rfl
theorem q1604 : (Jvm.Cond.privateMethod ({ cls := "WriteOnceDiscModel", name := "isWrittenSector", desc := "(I)Z" } : Jvm.MethodName)) ∈ lw_tbl := lw_at lw_m7 80 rfl
theorem q1605 : (Jvm.Cond.instanceMethod ({ cls := "WriteOnceDiscModel", name := "isWrittenSector", desc := "(I)Z" } : Jvm.MethodName)) ∈ lw_all := lw_g (lw_at lw_m7 81 rfl) rfl
theorem q1606 : (Jvm.Cond.code ({ cls := "WriteOnceDiscModel", name := "isWrittenSector", desc := "(I)Z" } : Jvm.MethodName) prog_11_method_6_code (2 : Nat) (Option.some Jvm.ClassFile.FieldType.boolean)) ∈ lw_all := lw_g (lw_at lw_m7 82 rfl) rfl
theorem q1607 : (Jvm.Cond.methodLink "WriteOnceDiscModel" (266 : Nat) ({ cls := "WriteOnceDiscModel", name := "lowAt", desc := "(II)I" } : Jvm.MethodName)) ∈ lw_all := lw_g (lw_at lw_m7 83 rfl) rfl
theorem q1608 : (Jvm.Cond.privateMethod ({ cls := "WriteOnceDiscModel", name := "lowAt", desc := "(II)I" } : Jvm.MethodName)) ∈ lw_tbl := lw_at lw_m7 84 rfl
theorem q1609 : (Jvm.Cond.instanceMethod ({ cls := "WriteOnceDiscModel", name := "lowAt", desc := "(II)I" } : Jvm.MethodName)) ∈ lw_all := lw_g (lw_at lw_m7 85 rfl) rfl
theorem q1610 : (Jvm.Cond.code ({ cls := "WriteOnceDiscModel", name := "lowAt", desc := "(II)I" } : Jvm.MethodName) prog_11_method_49_code (5 : Nat) (Option.some Jvm.ClassFile.FieldType.int)) ∈ lw_all := lw_g (lw_at lw_m7 86 rfl) rfl
theorem q1611 : (Jvm.Cond.methodLink "WriteOnceDiscModel" (317 : Nat) ({ cls := "WriteOnceDiscModel", name := "look", desc := "(I)I" } : Jvm.MethodName)) ∈ lw_all := lw_g (lw_at lw_m7 87 rfl) rfl
theorem q1612 : (Jvm.Cond.privateMethod ({ cls := "WriteOnceDiscModel", name := "look", desc := "(I)I" } : Jvm.MethodName)) ∈ lw_tbl := lw_at lw_m7 88 rfl
theorem q1613 : (Jvm.Cond.instanceMethod ({ cls := "WriteOnceDiscModel", name := "look", desc := "(I)I" } : Jvm.MethodName)) ∈ lw_all := lw_g (lw_at lw_m7 89 rfl) rfl
theorem q1614 : (Jvm.Cond.code ({ cls := "WriteOnceDiscModel", name := "look", desc := "(I)I" } : Jvm.MethodName) prog_11_method_57_code (2 : Nat) (Option.some Jvm.ClassFile.FieldType.int)) ∈ lw_all := lw_g (lw_at lw_m7 90 rfl) rfl
theorem q1615 : (Jvm.Cond.methodLink "WriteOnceDiscModel" (286 : Nat) ({ cls := "WriteOnceDiscModel", name := "isRead", desc := "(I)Z" } : Jvm.MethodName)) ∈ lw_all := lw_g (lw_at lw_m7 91 rfl) rfl
theorem q1616 : (Jvm.Cond.privateMethod ({ cls := "WriteOnceDiscModel", name := "isRead", desc := "(I)Z" } : Jvm.MethodName)) ∈ lw_tbl := lw_at lw_m7 92 rfl
theorem q1617 : (Jvm.Cond.instanceMethod ({ cls := "WriteOnceDiscModel", name := "isRead", desc := "(I)Z" } : Jvm.MethodName)) ∈ lw_all := lw_g (lw_at lw_m7 93 rfl) rfl
theorem q1618 : (Jvm.Cond.code ({ cls := "WriteOnceDiscModel", name := "isRead", desc := "(I)Z" } : Jvm.MethodName) prog_11_method_58_code (5 : Nat) (Option.some Jvm.ClassFile.FieldType.boolean)) ∈ lw_all := lw_g (lw_at lw_m7 94 rfl) rfl
theorem q1619 : (Jvm.Cond.methodLink "WriteOnceDiscModel" (263 : Nat) ({ cls := "WriteOnceDiscModel", name := "no", desc := "(I)Z" } : Jvm.MethodName)) ∈ lw_all := lw_g (lw_at lw_m7 95 rfl) rfl
theorem q1620 : (Jvm.Cond.privateMethod ({ cls := "WriteOnceDiscModel", name := "no", desc := "(I)Z" } : Jvm.MethodName)) ∈ lw_tbl := lw_at lw_m7 96 rfl
theorem q1621 : (Jvm.Cond.instanceMethod ({ cls := "WriteOnceDiscModel", name := "no", desc := "(I)Z" } : Jvm.MethodName)) ∈ lw_all := lw_g (lw_at lw_m7 97 rfl) rfl
theorem q1622 : (Jvm.Cond.code ({ cls := "WriteOnceDiscModel", name := "no", desc := "(I)Z" } : Jvm.MethodName) prog_11_method_51_code (2 : Nat) (Option.some Jvm.ClassFile.FieldType.boolean)) ∈ lw_all := lw_g (lw_at lw_m7 98 rfl) rfl
theorem q1623 : (Jvm.Cond.methodLink "WriteOnceDiscModel" (289 : Nat) ({ cls := "WriteOnceDiscModel", name := "begins", desc := "(II)Z" } : Jvm.MethodName)) ∈ lw_all := lw_g (lw_at lw_m7 99 rfl) rfl
theorem q1624 : (Jvm.Cond.privateMethod ({ cls := "WriteOnceDiscModel", name := "begins", desc := "(II)Z" } : Jvm.MethodName)) ∈ lw_tbl := lw_at lw_m7 100 rfl
theorem q1625 : (Jvm.Cond.instanceMethod ({ cls := "WriteOnceDiscModel", name := "begins", desc := "(II)Z" } : Jvm.MethodName)) ∈ lw_all := lw_g (lw_at lw_m7 101 rfl) rfl
theorem q1626 : (Jvm.Cond.code ({ cls := "WriteOnceDiscModel", name := "begins", desc := "(II)Z" } : Jvm.MethodName) prog_11_method_52_code (4 : Nat) (Option.some Jvm.ClassFile.FieldType.boolean)) ∈ lw_all := lw_g (lw_at lw_m7 102 rfl) rfl
theorem q1627 : (Jvm.Cond.methodLink "WriteOnceDiscModel" (269 : Nat) ({ cls := "WriteOnceDiscModel", name := "highAt", desc := "(II)I" } : Jvm.MethodName)) ∈ lw_all := lw_g (lw_at lw_m7 103 rfl) rfl
theorem q1628 : (Jvm.Cond.privateMethod ({ cls := "WriteOnceDiscModel", name := "highAt", desc := "(II)I" } : Jvm.MethodName)) ∈ lw_tbl := lw_at lw_m7 104 rfl
theorem q1629 : (Jvm.Cond.instanceMethod ({ cls := "WriteOnceDiscModel", name := "highAt", desc := "(II)I" } : Jvm.MethodName)) ∈ lw_all := lw_g (lw_at lw_m7 105 rfl) rfl
theorem q1630 : (Jvm.Cond.code ({ cls := "WriteOnceDiscModel", name := "highAt", desc := "(II)I" } : Jvm.MethodName) prog_11_method_50_code (5 : Nat) (Option.some Jvm.ClassFile.FieldType.int)) ∈ lw_all := lw_g (lw_at lw_m7 106 rfl) rfl
theorem q1631 : (Jvm.Cond.methodLink "WriteOnceDiscModel" (292 : Nat) ({ cls := "WriteOnceDiscModel", name := "isRecord", desc := "(II)Z" } : Jvm.MethodName)) ∈ lw_all := lw_g (lw_at lw_m7 107 rfl) rfl
theorem q1632 : (Jvm.Cond.privateMethod ({ cls := "WriteOnceDiscModel", name := "isRecord", desc := "(II)Z" } : Jvm.MethodName)) ∈ lw_tbl := lw_at lw_m7 108 rfl
theorem q1633 : (Jvm.Cond.instanceMethod ({ cls := "WriteOnceDiscModel", name := "isRecord", desc := "(II)Z" } : Jvm.MethodName)) ∈ lw_all := lw_g (lw_at lw_m7 109 rfl) rfl
theorem q1634 : (Jvm.Cond.code ({ cls := "WriteOnceDiscModel", name := "isRecord", desc := "(II)Z" } : Jvm.MethodName) prog_11_method_55_code (11 : Nat) (Option.some Jvm.ClassFile.FieldType.boolean)) ∈ lw_all := lw_g (lw_at lw_m7 110 rfl) rfl
theorem q1635 : (Jvm.Cond.methodLink "WriteOnceDiscModel" (272 : Nat) ({ cls := "WriteOnceDiscModel", name := "isName", desc := "(II)Z" } : Jvm.MethodName)) ∈ lw_all := lw_g (lw_at lw_m7 111 rfl) rfl
theorem q1636 : (Jvm.Cond.privateMethod ({ cls := "WriteOnceDiscModel", name := "isName", desc := "(II)Z" } : Jvm.MethodName)) ∈ lw_tbl := lw_at lw_m7 112 rfl
theorem q1637 : (Jvm.Cond.instanceMethod ({ cls := "WriteOnceDiscModel", name := "isName", desc := "(II)Z" } : Jvm.MethodName)) ∈ lw_all := lw_g (lw_at lw_m7 113 rfl) rfl
theorem q1638 : (Jvm.Cond.code ({ cls := "WriteOnceDiscModel", name := "isName", desc := "(II)Z" } : Jvm.MethodName) prog_11_method_54_code (5 : Nat) (Option.some Jvm.ClassFile.FieldType.boolean)) ∈ lw_all := lw_g (lw_at lw_m7 114 rfl) rfl
theorem q1639 : (Jvm.Cond.constantLong "WriteOnceDiscModel" (275 : Nat) (2047 : Int64)) ∈ lw_all := lw_g (lw_at lw_m7 115 rfl) rfl
theorem q1640 : (Jvm.Cond.constantLong "WriteOnceDiscModel" (277 : Nat) (2048 : Int64)) ∈ lw_all := lw_g (lw_at lw_m7 116 rfl) rfl
theorem q1641 : (Jvm.Cond.methodLink "WriteOnceDiscModel" (279 : Nat) ({ cls := "WriteOnceDiscModel", name := "areWritten", desc := "(IJ)Z" } : Jvm.MethodName)) ∈ lw_all := lw_g (lw_at lw_m7 117 rfl) rfl
theorem q1642 : (Jvm.Cond.privateMethod ({ cls := "WriteOnceDiscModel", name := "areWritten", desc := "(IJ)Z" } : Jvm.MethodName)) ∈ lw_tbl := lw_at lw_m7 118 rfl
theorem q1643 : (Jvm.Cond.instanceMethod ({ cls := "WriteOnceDiscModel", name := "areWritten", desc := "(IJ)Z" } : Jvm.MethodName)) ∈ lw_all := lw_g (lw_at lw_m7 119 rfl) rfl
theorem q1644 : (Jvm.Cond.code ({ cls := "WriteOnceDiscModel", name := "areWritten", desc := "(IJ)Z" } : Jvm.MethodName) prog_11_method_53_code (5 : Nat) (Option.some Jvm.ClassFile.FieldType.boolean)) ∈ lw_all := lw_g (lw_at lw_m7 120 rfl) rfl
theorem q1645 : (Jvm.Cond.methodLink "WriteOnceDiscModel" (295 : Nat) ({ cls := "WriteOnceDiscModel", name := "begin", desc := "(IIIZ)V" } : Jvm.MethodName)) ∈ lw_all := lw_g (lw_at lw_m7 121 rfl) rfl
theorem q1646 : (Jvm.Cond.privateMethod ({ cls := "WriteOnceDiscModel", name := "begin", desc := "(IIIZ)V" } : Jvm.MethodName)) ∈ lw_tbl := lw_at lw_m7 122 rfl
theorem q1647 : (Jvm.Cond.instanceMethod ({ cls := "WriteOnceDiscModel", name := "begin", desc := "(IIIZ)V" } : Jvm.MethodName)) ∈ lw_all := lw_g (lw_at lw_m7 123 rfl) rfl
theorem q1648 : (Jvm.Cond.code ({ cls := "WriteOnceDiscModel", name := "begin", desc := "(IIIZ)V" } : Jvm.MethodName) prog_11_method_56_code (7 : Nat) (Option.none : Option Jvm.ClassFile.FieldType)) ∈ lw_all := lw_g (lw_at lw_m7 124 rfl) rfl
theorem q1649 : (Jvm.Cond.methodLink "WriteOnceDiscModel" (299 : Nat) ({ cls := "WriteOnceDiscModel", name := "isGone", desc := "(I)Z" } : Jvm.MethodName)) ∈ lw_all := lw_g (lw_at lw_m7 125 rfl) rfl
theorem q1650 : (Jvm.Cond.privateMethod ({ cls := "WriteOnceDiscModel", name := "isGone", desc := "(I)Z" } : Jvm.MethodName)) ∈ lw_tbl := lw_at lw_m7 126 rfl
theorem q1651 : (Jvm.Cond.instanceMethod ({ cls := "WriteOnceDiscModel", name := "isGone", desc := "(I)Z" } : Jvm.MethodName)) ∈ lw_all := lw_g (lw_at lw_m7 127 rfl) rfl
theorem q1652 : (Jvm.Cond.code ({ cls := "WriteOnceDiscModel", name := "isGone", desc := "(I)Z" } : Jvm.MethodName) prog_11_method_59_code (8 : Nat) (Option.some Jvm.ClassFile.FieldType.boolean)) ∈ lw_all := lw_g (lw_at lw_m7 128 rfl) rfl
theorem q1653 : (Jvm.Cond.methodLink "WriteOnceDiscModel" (305 : Nat) ({ cls := "WriteOnceDiscModel", name := "isNew", desc := "(III)Z" } : Jvm.MethodName)) ∈ lw_all := lw_g (lw_at lw_m7 129 rfl) rfl
theorem q1654 : (Jvm.Cond.privateMethod ({ cls := "WriteOnceDiscModel", name := "isNew", desc := "(III)Z" } : Jvm.MethodName)) ∈ lw_tbl := lw_at lw_m7 130 rfl
theorem q1655 : (Jvm.Cond.instanceMethod ({ cls := "WriteOnceDiscModel", name := "isNew", desc := "(III)Z" } : Jvm.MethodName)) ∈ lw_all := lw_g (lw_at lw_m7 131 rfl) rfl
theorem q1656 : (Jvm.Cond.code ({ cls := "WriteOnceDiscModel", name := "isNew", desc := "(III)Z" } : Jvm.MethodName) prog_11_method_60_code (6 : Nat) (Option.some Jvm.ClassFile.FieldType.boolean)) ∈ lw_all := lw_g (lw_at lw_m7 132 rfl) rfl
theorem q1657 : (Jvm.Cond.methodLink "WriteOnceDiscModel" (302 : Nat) ({ cls := "WriteOnceDiscModel", name := "tableIs", desc := "(I)I" } : Jvm.MethodName)) ∈ lw_all := lw_g (lw_at lw_m7 133 rfl) rfl
theorem q1658 : (Jvm.Cond.privateMethod ({ cls := "WriteOnceDiscModel", name := "tableIs", desc := "(I)I" } : Jvm.MethodName)) ∈ lw_tbl := lw_at lw_m7 134 rfl
theorem q1659 : (Jvm.Cond.instanceMethod ({ cls := "WriteOnceDiscModel", name := "tableIs", desc := "(I)I" } : Jvm.MethodName)) ∈ lw_all := lw_g (lw_at lw_m7 135 rfl) rfl
theorem q1660 : (Jvm.Cond.code ({ cls := "WriteOnceDiscModel", name := "tableIs", desc := "(I)I" } : Jvm.MethodName) prog_11_method_62_code (10 : Nat) (Option.some Jvm.ClassFile.FieldType.int)) ∈ lw_all := lw_g (lw_at lw_m7 136 rfl) rfl
theorem q1661 : (Jvm.Cond.methodLink "WriteOnceDiscModel" (308 : Nat) ({ cls := "WriteOnceDiscModel", name := "expect", desc := "(II)I" } : Jvm.MethodName)) ∈ lw_all := lw_g (lw_at lw_m7 137 rfl) rfl
theorem q1662 : (Jvm.Cond.privateMethod ({ cls := "WriteOnceDiscModel", name := "expect", desc := "(II)I" } : Jvm.MethodName)) ∈ lw_tbl := lw_at lw_m7 138 rfl
theorem q1663 : (Jvm.Cond.instanceMethod ({ cls := "WriteOnceDiscModel", name := "expect", desc := "(II)I" } : Jvm.MethodName)) ∈ lw_all := lw_g (lw_at lw_m7 139 rfl) rfl
theorem q1664 : (Jvm.Cond.code ({ cls := "WriteOnceDiscModel", name := "expect", desc := "(II)I" } : Jvm.MethodName) prog_11_method_61_code (3 : Nat) (Option.some Jvm.ClassFile.FieldType.int)) ∈ lw_all := lw_g (lw_at lw_m7 140 rfl) rfl
theorem q1665 : (Jvm.Cond.methodLink "WriteOnceDiscLaw" (84 : Nat) ({ cls := "WriteOnceDiscModel", name := "discover", desc := "()I" } : Jvm.MethodName)) ∈ lw_all := lw_g (lw_at lw_m7 141 rfl) rfl
theorem q1666 : (Jvm.Cond.instanceMethod ({ cls := "WriteOnceDiscModel", name := "discover", desc := "()I" } : Jvm.MethodName)) ∈ lw_all := lw_g (lw_at lw_m7 142 rfl) rfl
theorem q1667 : (Jvm.Cond.selects "WriteOnceDiscModel" ({ cls := "WriteOnceDiscModel", name := "discover", desc := "()I" } : Jvm.MethodName) ({ cls := "WriteOnceDiscModel", name := "discover", desc := "()I" } : Jvm.MethodName)) ∈ lw_all := lw_g (lw_at lw_m7 143 rfl) rfl
theorem q1668 : (Jvm.Cond.code ({ cls := "WriteOnceDiscModel", name := "discover", desc := "()I" } : Jvm.MethodName) prog_11_method_66_code (4 : Nat) (Option.some Jvm.ClassFile.FieldType.int)) ∈ lw_all := lw_g (lw_at lw_m7 144 rfl) rfl
theorem q1669 : (Jvm.Cond.methodLink "WriteOnceDiscLaw" (115 : Nat) ({ cls := "WriteOnceDiscModel", name := "open", desc := "(I)I" } : Jvm.MethodName)) ∈ lw_all := lw_g (lw_at lw_m7 145 rfl) rfl
theorem q1670 : (Jvm.Cond.instanceMethod ({ cls := "WriteOnceDiscModel", name := "open", desc := "(I)I" } : Jvm.MethodName)) ∈ lw_all := lw_g (lw_at lw_m7 146 rfl) rfl
theorem q1671 : (Jvm.Cond.selects "WriteOnceDiscModel" ({ cls := "WriteOnceDiscModel", name := "open", desc := "(I)I" } : Jvm.MethodName) ({ cls := "WriteOnceDiscModel", name := "open", desc := "(I)I" } : Jvm.MethodName)) ∈ lw_all := lw_g (lw_at lw_m7 147 rfl) rfl
theorem q1672 : (Jvm.Cond.code ({ cls := "WriteOnceDiscModel", name := "open", desc := "(I)I" } : Jvm.MethodName) prog_11_method_67_code (5 : Nat) (Option.some Jvm.ClassFile.FieldType.int)) ∈ lw_all := lw_g (lw_at lw_m7 148 rfl) rfl
theorem q1673 : (Jvm.Cond.constant "WriteOnceDiscModel" (320 : Nat) (-1000000 : Int32)) ∈ lw_all := lw_g (lw_at lw_m7 149 rfl) rfl
theorem q1674 : (Jvm.Cond.methodLink "WriteOnceDiscLaw" (118 : Nat) ({ cls := "WriteOnceDiscModel", name := "node", desc := "(II)I" } : Jvm.MethodName)) ∈ lw_all := lw_g (lw_at lw_m7 150 rfl) rfl
theorem q1675 : (Jvm.Cond.instanceMethod ({ cls := "WriteOnceDiscModel", name := "node", desc := "(II)I" } : Jvm.MethodName)) ∈ lw_all := lw_g (lw_at lw_m7 151 rfl) rfl
theorem q1676 : (Jvm.Cond.selects "WriteOnceDiscModel" ({ cls := "WriteOnceDiscModel", name := "node", desc := "(II)I" } : Jvm.MethodName) ({ cls := "WriteOnceDiscModel", name := "node", desc := "(II)I" } : Jvm.MethodName)) ∈ lw_all := lw_g (lw_at lw_m7 152 rfl) rfl
theorem q1677 : (Jvm.Cond.code ({ cls := "WriteOnceDiscModel", name := "node", desc := "(II)I" } : Jvm.MethodName) prog_11_method_68_code (3 : Nat) (Option.some Jvm.ClassFile.FieldType.int)) ∈ lw_all := lw_g (lw_at lw_m7 153 rfl) rfl
theorem q1678 : (Jvm.Cond.methodLink "WriteOnceDiscLaw" (122 : Nat) ({ cls := "WriteOnceDiscModel", name := "name", desc := "(I)J" } : Jvm.MethodName)) ∈ lw_all := lw_g (lw_at lw_m7 154 rfl) rfl
theorem q1679 : (Jvm.Cond.instanceMethod ({ cls := "WriteOnceDiscModel", name := "name", desc := "(I)J" } : Jvm.MethodName)) ∈ lw_all := lw_g (lw_at lw_m7 155 rfl) rfl
theorem q1680 : (Jvm.Cond.selects "WriteOnceDiscModel" ({ cls := "WriteOnceDiscModel", name := "name", desc := "(I)J" } : Jvm.MethodName) ({ cls := "WriteOnceDiscModel", name := "name", desc := "(I)J" } : Jvm.MethodName)) ∈ lw_all := lw_g (lw_at lw_m7 156 rfl) rfl
theorem q1681 : (Jvm.Cond.code ({ cls := "WriteOnceDiscModel", name := "name", desc := "(I)J" } : Jvm.MethodName) prog_11_method_69_code (2 : Nat) (Option.some Jvm.ClassFile.FieldType.long)) ∈ lw_all := lw_g (lw_at lw_m7 157 rfl) rfl
theorem q1682 : (Jvm.Cond.methodLink "WriteOnceDiscLaw" (125 : Nat) ({ cls := "WriteOnceDiscModel", name := "read", desc := "(II)I" } : Jvm.MethodName)) ∈ lw_all := lw_g (lw_at lw_m7 158 rfl) rfl
theorem q1683 : (Jvm.Cond.instanceMethod ({ cls := "WriteOnceDiscModel", name := "read", desc := "(II)I" } : Jvm.MethodName)) ∈ lw_all := lw_g (lw_at lw_m7 159 rfl) rfl
theorem q1684 : (Jvm.Cond.selects "WriteOnceDiscModel" ({ cls := "WriteOnceDiscModel", name := "read", desc := "(II)I" } : Jvm.MethodName) ({ cls := "WriteOnceDiscModel", name := "read", desc := "(II)I" } : Jvm.MethodName)) ∈ lw_all := lw_g (lw_at lw_m7 160 rfl) rfl
theorem q1685 : (Jvm.Cond.code ({ cls := "WriteOnceDiscModel", name := "read", desc := "(II)I" } : Jvm.MethodName) prog_11_method_70_code (3 : Nat) (Option.some Jvm.ClassFile.FieldType.int)) ∈ lw_all := lw_g (lw_at lw_m7 161 rfl) rfl
theorem q1686 : (Jvm.Cond.methodLink "WriteOnceDiscLaw" (92 : Nat) ({ cls := "WriteOnceDiscModel", name := "state", desc := "(I)I" } : Jvm.MethodName)) ∈ lw_all := lw_g (lw_at lw_m7 162 rfl) rfl
theorem q1687 : (Jvm.Cond.instanceMethod ({ cls := "WriteOnceDiscModel", name := "state", desc := "(I)I" } : Jvm.MethodName)) ∈ lw_all := lw_g (lw_at lw_m7 163 rfl) rfl
theorem q1688 : (Jvm.Cond.selects "WriteOnceDiscModel" ({ cls := "WriteOnceDiscModel", name := "state", desc := "(I)I" } : Jvm.MethodName) ({ cls := "WriteOnceDiscModel", name := "state", desc := "(I)I" } : Jvm.MethodName)) ∈ lw_all := lw_g (lw_at lw_m7 164 rfl) rfl
theorem q1689 : (Jvm.Cond.code ({ cls := "WriteOnceDiscModel", name := "state", desc := "(I)I" } : Jvm.MethodName) prog_11_method_71_code (2 : Nat) (Option.some Jvm.ClassFile.FieldType.int)) ∈ lw_all := lw_g (lw_at lw_m7 165 rfl) rfl
theorem q1690 : (Jvm.Cond.methodLink "WriteOnceDiscLaw" (96 : Nat) ({ cls := "WriteOnceDiscModel", name := "byteAt", desc := "(I)I" } : Jvm.MethodName)) ∈ lw_all := lw_g (lw_at lw_m7 166 rfl) rfl
theorem q1691 : (Jvm.Cond.instanceMethod ({ cls := "WriteOnceDiscModel", name := "byteAt", desc := "(I)I" } : Jvm.MethodName)) ∈ lw_all := lw_g (lw_at lw_m7 167 rfl) rfl
theorem q1692 : (Jvm.Cond.selects "WriteOnceDiscModel" ({ cls := "WriteOnceDiscModel", name := "byteAt", desc := "(I)I" } : Jvm.MethodName) ({ cls := "WriteOnceDiscModel", name := "byteAt", desc := "(I)I" } : Jvm.MethodName)) ∈ lw_all := lw_g (lw_at lw_m7 168 rfl) rfl
theorem q1693 : (Jvm.Cond.code ({ cls := "WriteOnceDiscModel", name := "byteAt", desc := "(I)I" } : Jvm.MethodName) prog_11_method_72_code (2 : Nat) (Option.some Jvm.ClassFile.FieldType.int)) ∈ lw_all := lw_g (lw_at lw_m7 169 rfl) rfl
theorem q1694 : (Jvm.Cond.methodLink "WriteOnceDiscLaw" (100 : Nat) ({ cls := "WriteOnceDiscModel", name := "spoil", desc := "(II)I" } : Jvm.MethodName)) ∈ lw_all := lw_g (lw_at lw_m7 170 rfl) rfl
theorem q1695 : (Jvm.Cond.instanceMethod ({ cls := "WriteOnceDiscModel", name := "spoil", desc := "(II)I" } : Jvm.MethodName)) ∈ lw_all := lw_g (lw_at lw_m7 171 rfl) rfl
theorem q1696 : (Jvm.Cond.selects "WriteOnceDiscModel" ({ cls := "WriteOnceDiscModel", name := "spoil", desc := "(II)I" } : Jvm.MethodName) ({ cls := "WriteOnceDiscModel", name := "spoil", desc := "(II)I" } : Jvm.MethodName)) ∈ lw_all := lw_g (lw_at lw_m7 172 rfl) rfl
theorem q1697 : (Jvm.Cond.code ({ cls := "WriteOnceDiscModel", name := "spoil", desc := "(II)I" } : Jvm.MethodName) prog_11_method_73_code (4 : Nat) (Option.some Jvm.ClassFile.FieldType.int)) ∈ lw_all := lw_g (lw_at lw_m7 173 rfl) rfl
theorem q1698 : (Jvm.Cond.methodLink "WriteOnceDiscLaw" (104 : Nat) ({ cls := "WriteOnceDiscModel", name := "writes", desc := "()I" } : Jvm.MethodName)) ∈ lw_all := lw_g (lw_at lw_m7 174 rfl) rfl
theorem q1699 : (Jvm.Cond.instanceMethod ({ cls := "WriteOnceDiscModel", name := "writes", desc := "()I" } : Jvm.MethodName)) ∈ lw_all := lw_g (lw_at lw_m7 175 rfl) rfl
theorem q1700 : (Jvm.Cond.selects "WriteOnceDiscModel" ({ cls := "WriteOnceDiscModel", name := "writes", desc := "()I" } : Jvm.MethodName) ({ cls := "WriteOnceDiscModel", name := "writes", desc := "()I" } : Jvm.MethodName)) ∈ lw_all := lw_g (lw_at lw_m7 176 rfl) rfl
theorem q1701 : (Jvm.Cond.code ({ cls := "WriteOnceDiscModel", name := "writes", desc := "()I" } : Jvm.MethodName) prog_11_method_74_code (1 : Nat) (Option.some Jvm.ClassFile.FieldType.int)) ∈ lw_all := lw_g (lw_at lw_m7 177 rfl) rfl
theorem q1702 : (Jvm.Cond.constantLong "WriteOnceDiscLaw" (49 : Nat) (4294967295 : Int64)) ∈ lw_all := lw_g (lw_at lw_m7 178 rfl) rfl
theorem q1703 : (Jvm.Cond.sameMethod "java/lang/AbstractStringBuilder" "java/lang/AbstractStringBuilder" "append" "(Ljava/lang/String;)Ljava/lang/AbstractStringBuilder;") ∈ lw_all := lw_g (lw_at lw_m7 179 rfl) rfl
theorem q1704 : (Jvm.Cond.sameMethod "java/lang/AbstractStringBuilder" "java/lang/AbstractStringBuilder" "appendNull" "()Ljava/lang/AbstractStringBuilder;") ∈ lw_all := lw_g (lw_at lw_m7 180 rfl) rfl
theorem q1705 : (Jvm.Cond.sameMethod "java/lang/AbstractStringBuilder" "java/lang/AbstractStringBuilder" "ensureCapacityInternal" "(I)V") ∈ lw_all := lw_g (lw_at lw_m7 181 rfl) rfl
theorem q1706 : (Jvm.Cond.sameMethod "java/lang/AbstractStringBuilder" "java/lang/AbstractStringBuilder" "newCapacity" "(I)I") ∈ lw_all := lw_g (lw_at lw_m7 182 rfl) rfl
theorem q1707 : (Jvm.Cond.sameMethod "java/lang/AbstractStringBuilder" "java/lang/AbstractStringBuilder" "putStringAt" "(ILjava/lang/String;)V") ∈ lw_all := lw_g (lw_at lw_m7 183 rfl) rfl
theorem q1708 : (Jvm.Cond.sameMethod "java/lang/AbstractStringBuilder" "java/lang/AbstractStringBuilder" "inflateIfNeededFor" "(Ljava/lang/String;)V") ∈ lw_all := lw_g (lw_at lw_m7 184 rfl) rfl
theorem q1709 : (Jvm.Cond.sameMethod "java/lang/AbstractStringBuilder" "java/lang/AbstractStringBuilder" "inflate" "()V") ∈ lw_all := lw_g (lw_at lw_m7 185 rfl) rfl
theorem q1710 : (Jvm.Cond.sameMethod "java/lang/AbstractStringBuilder" "java/lang/AbstractStringBuilder" "append" "(C)Ljava/lang/AbstractStringBuilder;") ∈ lw_all := lw_g (lw_at lw_m7 186 rfl) rfl
theorem q1711 : (Jvm.Cond.sameMethod "java/lang/Throwable" "java/lang/Throwable" "fillInStackTrace" "(I)Ljava/lang/Throwable;") ∈ lw_all := lw_g (lw_at lw_m7 187 rfl) rfl
theorem q1712 : (Jvm.Cond.castable "WriteOnceDisc$Found" "java/lang/Object") ∈ lw_tbl := lw_at lw_m7 188 rfl
theorem q1713 : (Jvm.Cond.sameMethod "[Ljava/lang/Object;" "java/lang/Object" "getClass" "()Ljava/lang/Class;") ∈ lw_all := lw_g (lw_at lw_m7 189 rfl) rfl
theorem q1714 : (Jvm.Cond.selects "[Ljava/lang/Object;" ({ cls := "java/lang/Object", name := "getClass", desc := "()Ljava/lang/Class;" } : Jvm.MethodName) ({ cls := "java/lang/Object", name := "getClass", desc := "()Ljava/lang/Class;" } : Jvm.MethodName)) ∈ lw_all := lw_g (lw_at lw_m7 190 rfl) rfl
theorem q1715 : (Jvm.Cond.declares ({ cls := "java/lang/Object", name := "getClass", desc := "()Ljava/lang/Class;" } : Jvm.MethodName)) ∈ lw_tbl := lw_at lw_m7 191 rfl
theorem q1716 : (Jvm.Cond.castable "WriteOnceDisc" "java/lang/Object") ∈ lw_tbl := lw_at lw_m7 192 rfl
theorem q1717 : (Jvm.Cond.castable "WriteOnceDisc$Power" "java/lang/Object") ∈ lw_tbl := lw_at lw_m7 193 rfl
theorem q1718 : (Jvm.Cond.castable "WriteOnceDisc$Burner" "java/lang/Object") ∈ lw_tbl := lw_at lw_m7 194 rfl
theorem q1719 : (Jvm.Cond.castable "java/util/ArrayList" "java/lang/Object") ∈ lw_tbl := lw_at lw_m7 195 rfl
theorem q1720 : (Jvm.Cond.castable "WriteOnceDisc$Page" "java/lang/Object") ∈ lw_tbl := lw_at lw_m7 196 rfl
theorem q1721 : (Jvm.Cond.castable "WriteOnceDisc$Tree" "java/lang/Object") ∈ lw_tbl := lw_at lw_m7 197 rfl
theorem q1722 : (Jvm.Cond.castable "WriteOnceDisc$Node" "java/lang/Object") ∈ lw_tbl := lw_at lw_m7 198 rfl
theorem q1723 : (Jvm.Cond.castable "java/lang/StringBuilder" "java/lang/Object") ∈ lw_tbl := lw_at lw_m7 199 rfl
theorem q1724 : (Jvm.Cond.castable "java/lang/String" "java/lang/Object") ∈ lw_tbl := lw_at lw_m7 200 rfl
theorem q1725 : (Jvm.Cond.castable "WriteOnceDisc$Medium" "java/lang/Object") ∈ lw_tbl := lw_at lw_m7 201 rfl
theorem q1726 : (Jvm.Cond.castable "WriteOnceDisc$Reader" "java/lang/Object") ∈ lw_tbl := lw_at lw_m7 202 rfl
theorem q1727 : (Jvm.Cond.castable "WriteOnceDiscModel" "java/lang/Object") ∈ lw_tbl := lw_at lw_m7 203 rfl
theorem q1728 : (Jvm.Cond.castable "java/util/NoSuchElementException" "java/lang/Object") ∈ lw_tbl := lw_at lw_m7 204 rfl
theorem q1729 : (Jvm.Cond.castable "java/lang/Throwable" "java/lang/Object") ∈ lw_tbl := lw_at lw_m7 205 rfl
theorem q1730 : (Jvm.Cond.castable "[B" "java/lang/Object") ∈ lw_tbl := lw_at lw_m7 206 rfl
theorem q1731 : (Jvm.Cond.castable "[Ljava/lang/Object;" "java/lang/Object") ∈ lw_tbl := lw_at lw_m7 207 rfl
theorem q1732 : (Jvm.Cond.castable "[I" "java/lang/Object") ∈ lw_tbl := lw_at lw_m7 208 rfl
theorem q1733 : (Jvm.Cond.castable "[Z" "java/lang/Object") ∈ lw_tbl := lw_at lw_m7 209 rfl
theorem q1734 : (Jvm.Cond.castable "[LWriteOnceDisc$Found;" "java/lang/Object") ∈ lw_tbl := lw_at lw_m7 210 rfl
theorem q1735 : (Jvm.Cond.castable "[J" "java/lang/Object") ∈ lw_tbl := lw_at lw_m7 211 rfl
