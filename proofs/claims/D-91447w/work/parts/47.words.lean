/-! THE WORDS of the tables that are used (printed by tools/rows.py) -/
set_option maxRecDepth 100000
theorem q112 : (Jvm.Cond.initialized "TrustDeskLaw") ∈ lw_all := lw_g (lw_at lw_m1 0 rfl) rfl
theorem q113 : (Jvm.Cond.initialized "TrustDesk") ∈ lw_all := lw_g (lw_at lw_m1 1 rfl) rfl
theorem q114 : (Jvm.Cond.initialized "java/util/AbstractCollection") ∈ lw_all := lw_g (lw_at lw_m1 2 rfl) rfl
theorem q115 : (Jvm.Cond.initialized "java/util/AbstractList") ∈ lw_all := lw_g (lw_at lw_m1 3 rfl) rfl
theorem q116 : (Jvm.Cond.initialized "java/util/ArrayList") ∈ lw_all := lw_g (lw_at lw_m1 4 rfl) rfl
theorem q117 : (Jvm.Cond.initialized "TrustDesk$Act") ∈ lw_all := lw_g (lw_at lw_m1 5 rfl) rfl
theorem q118 : (Jvm.Cond.initialized "TrustDeskModel") ∈ lw_all := lw_g (lw_at lw_m1 6 rfl) rfl
theorem q119 : (Jvm.Cond.initialized "TrustDesk$Reader") ∈ lw_all := lw_g (lw_at lw_m1 7 rfl) rfl
theorem q120 : (Jvm.Cond.initialized "java/lang/String") ∈ lw_all := lw_g (lw_at lw_m1 8 rfl) rfl
theorem q121 : (Jvm.Cond.initialized "java/lang/StringLatin1") ∈ lw_all := lw_g (lw_at lw_m1 9 rfl) rfl
theorem q122 : (Jvm.Cond.initialized "java/lang/Math") ∈ lw_all := lw_g (lw_at lw_m1 10 rfl) rfl
theorem q124 : (Jvm.Cond.initialized "jdk/internal/util/Preconditions") ∈ lw_all := lw_g (lw_at lw_m1 12 rfl) rfl
theorem q126 : (Jvm.Cond.initialized "java/util/Arrays") ∈ lw_all := lw_g (lw_at lw_m1 14 rfl) rfl
theorem q127 : (Jvm.Cond.initialized "java/lang/System") ∈ lw_all := lw_g (lw_at lw_m1 15 rfl) rfl
theorem q128 : (Jvm.Cond.initialized "java/lang/Throwable") ∈ lw_all := lw_g (lw_at lw_m1 16 rfl) rfl
theorem q129 : (Jvm.Cond.initialized "java/lang/Exception") ∈ lw_all := lw_g (lw_at lw_m1 17 rfl) rfl
theorem q130 : (Jvm.Cond.initialized "TrustDesk$Wrong") ∈ lw_all := lw_g (lw_at lw_m1 18 rfl) rfl
theorem q131 : (Jvm.Cond.initialized "TrustDesk$Bar") ∈ lw_all := lw_g (lw_at lw_m1 19 rfl) rfl
theorem q132 : (Jvm.Cond.initialized "TrustDesk$Cond") ∈ lw_all := lw_g (lw_at lw_m1 20 rfl) rfl
theorem q133 : (Jvm.Cond.initialized "TrustDesk$Some") ∈ lw_all := lw_g (lw_at lw_m1 21 rfl) rfl
theorem q134 : (Jvm.Cond.initialized "TrustDesk$Sum") ∈ lw_all := lw_g (lw_at lw_m1 22 rfl) rfl
theorem q135 : (Jvm.Cond.initialized "TrustDesk$Fact") ∈ lw_all := lw_g (lw_at lw_m1 23 rfl) rfl
theorem q136 : (Jvm.Cond.initialized "TrustDesk$Plain") ∈ lw_all := lw_g (lw_at lw_m1 24 rfl) rfl
theorem q137 : (Jvm.Cond.initialized "TrustDesk$Worked") ∈ lw_all := lw_g (lw_at lw_m1 25 rfl) rfl
theorem q138 : (Jvm.Cond.initialized "TrustDesk$Compared") ∈ lw_all := lw_g (lw_at lw_m1 26 rfl) rfl
theorem q139 : (Jvm.Cond.initialized "jdk/internal/util/ArraysSupport") ∈ lw_all := lw_g (lw_at lw_m1 27 rfl) rfl
theorem q140 : (Jvm.Cond.initialized "TrustDesk$Not") ∈ lw_all := lw_g (lw_at lw_m1 28 rfl) rfl
theorem q141 : (Jvm.Cond.initialized "java/util/Objects") ∈ lw_all := lw_g (lw_at lw_m1 29 rfl) rfl
theorem q142 : (Jvm.Cond.initialized "TrustDesk$Fund") ∈ lw_all := lw_g (lw_at lw_m1 30 rfl) rfl
theorem q143 : (Jvm.Cond.initialized "TrustDesk$Deed") ∈ lw_all := lw_g (lw_at lw_m1 31 rfl) rfl
theorem q144 : (Jvm.Cond.initialized "java/lang/AbstractStringBuilder") ∈ lw_all := lw_g (lw_at lw_m1 32 rfl) rfl
theorem q145 : (Jvm.Cond.initialized "java/lang/StringBuilder") ∈ lw_all := lw_g (lw_at lw_m1 33 rfl) rfl
theorem q146 : (Jvm.Cond.initialized "TrustDesk$Aim") ∈ lw_all := lw_g (lw_at lw_m1 34 rfl) rfl
theorem q147 : (Jvm.Cond.initialized "TrustDesk$End") ∈ lw_all := lw_g (lw_at lw_m1 35 rfl) rfl
theorem q148 : (Jvm.Cond.initialized "TrustDesk$Near") ∈ lw_all := lw_g (lw_at lw_m1 36 rfl) rfl
theorem q149 : (Jvm.Cond.initialized "java/lang/Number") ∈ lw_all := lw_g (lw_at lw_m1 37 rfl) rfl
theorem q150 : (Jvm.Cond.initialized "java/lang/Integer") ∈ lw_all := lw_g (lw_at lw_m1 38 rfl) rfl
theorem q151 : (Jvm.Cond.initialized "java/lang/Integer$IntegerCache") ∈ lw_all := lw_g (lw_at lw_m1 39 rfl) rfl
theorem q152 : (Jvm.Cond.initialized "TrustDesk$Scheme") ∈ lw_all := lw_g (lw_at lw_m1 40 rfl) rfl
theorem q153 : (Jvm.Cond.initialized "TrustDesk$Nearer") ∈ lw_all := lw_g (lw_at lw_m1 41 rfl) rfl
theorem q154 : (Jvm.Cond.initialized "TrustDesk$Join") ∈ lw_all := lw_g (lw_at lw_m1 42 rfl) rfl
theorem q155 : (Jvm.Cond.initialized "TrustDesk$Sale") ∈ lw_all := lw_g (lw_at lw_m1 43 rfl) rfl
theorem q156 : (Jvm.Cond.initialized "TrustDesk$Strike") ∈ lw_all := lw_g (lw_at lw_m1 44 rfl) rfl
theorem q158 : (Jvm.Cond.initialized "java/util/NoSuchElementException") ∈ lw_all := lw_g (lw_at lw_m1 46 rfl) rfl
theorem q159 : (Jvm.Cond.initialized "TrustDesk$Groups") ∈ lw_all := lw_g (lw_at lw_m1 47 rfl) rfl
theorem q160 : (Jvm.Cond.methodLink "TrustDeskLaw" (19 : Nat) ({ cls := "TrustDesk", name := "fact", desc := "(III)Z" } : Jvm.MethodName)) ∈ lw_all := lw_g (lw_at lw_m1 48 rfl) rfl
theorem q161 : (Jvm.Cond.instanceMethod ({ cls := "TrustDesk", name := "fact", desc := "(III)Z" } : Jvm.MethodName)) ∈ lw_all := lw_g (lw_at lw_m1 49 rfl) rfl
theorem q162 : (Jvm.Cond.selects "TrustDesk" ({ cls := "TrustDesk", name := "fact", desc := "(III)Z" } : Jvm.MethodName) ({ cls := "TrustDesk", name := "fact", desc := "(III)Z" } : Jvm.MethodName)) ∈ lw_all := lw_g (lw_at lw_m1 50 rfl) rfl
theorem q163 : (Jvm.Cond.code ({ cls := "TrustDesk", name := "fact", desc := "(III)Z" } : Jvm.MethodName) prog_1_method_5_code (4 : Nat) (Option.some Jvm.ClassFile.FieldType.boolean)) ∈ lw_all := lw_g (lw_at lw_m1 51 rfl) rfl
theorem q164 : (Jvm.Cond.methodLink "TrustDesk" (16 : Nat) ({ cls := "TrustDesk", name := "in", desc := "(III)Z" } : Jvm.MethodName)) ∈ lw_all := lw_g (lw_at lw_m1 52 rfl) rfl
theorem q165 : (Jvm.Cond.static ({ cls := "TrustDesk", name := "in", desc := "(III)Z" } : Jvm.MethodName)) ∈ lw_all := lw_g (lw_at lw_m1 53 rfl) rfl
theorem q166 : (Jvm.Cond.code ({ cls := "TrustDesk", name := "in", desc := "(III)Z" } : Jvm.MethodName) prog_1_method_1_code (3 : Nat) (Option.some Jvm.ClassFile.FieldType.boolean)) ∈ lw_all := lw_g (lw_at lw_m1 54 rfl) rfl
theorem q167 : (Jvm.Cond.methodLink "TrustDesk" (24 : Nat) ({ cls := "TrustDesk", name := "isYear", desc := "(I)Z" } : Jvm.MethodName)) ∈ lw_all := lw_g (lw_at lw_m1 55 rfl) rfl
theorem q168 : (Jvm.Cond.static ({ cls := "TrustDesk", name := "isYear", desc := "(I)Z" } : Jvm.MethodName)) ∈ lw_all := lw_g (lw_at lw_m1 56 rfl) rfl
theorem q169 : (Jvm.Cond.code ({ cls := "TrustDesk", name := "isYear", desc := "(I)Z" } : Jvm.MethodName) prog_1_method_3_code (1 : Nat) (Option.some Jvm.ClassFile.FieldType.boolean)) ∈ lw_all := lw_g (lw_at lw_m1 57 rfl) rfl
theorem q170 : (Jvm.Cond.methodLink "TrustDeskLaw" (24 : Nat) ({ cls := "TrustDesk", name := "factOf", desc := "(III)I" } : Jvm.MethodName)) ∈ lw_all := lw_g (lw_at lw_m1 58 rfl) rfl
theorem q171 : (Jvm.Cond.instanceMethod ({ cls := "TrustDesk", name := "factOf", desc := "(III)I" } : Jvm.MethodName)) ∈ lw_all := lw_g (lw_at lw_m1 59 rfl) rfl
theorem q172 : (Jvm.Cond.selects "TrustDesk" ({ cls := "TrustDesk", name := "factOf", desc := "(III)I" } : Jvm.MethodName) ({ cls := "TrustDesk", name := "factOf", desc := "(III)I" } : Jvm.MethodName)) ∈ lw_all := lw_g (lw_at lw_m1 60 rfl) rfl
theorem q173 : (Jvm.Cond.code ({ cls := "TrustDesk", name := "factOf", desc := "(III)I" } : Jvm.MethodName) prog_1_method_7_code (4 : Nat) (Option.some Jvm.ClassFile.FieldType.int)) ∈ lw_all := lw_g (lw_at lw_m1 61 rfl) rfl
theorem q174 : (Jvm.Cond.methodLink "TrustDesk" (44 : Nat) ({ cls := "TrustDesk", name := "isKnown", desc := "(I)Z" } : Jvm.MethodName)) ∈ lw_all := lw_g (lw_at lw_m1 62 rfl) rfl
theorem q176 : (Jvm.Cond.instanceMethod ({ cls := "TrustDesk", name := "isKnown", desc := "(I)Z" } : Jvm.MethodName)) ∈ lw_all := lw_g (lw_at lw_m1 64 rfl) rfl
theorem q177 : (Jvm.Cond.instantiable "TrustDesk" (24 : Nat)) ∈ lw_all := lw_g (lw_at lw_m1 65 rfl) rfl
theorem q178 : (Jvm.Cond.code ({ cls := "TrustDesk", name := "isKnown", desc := "(I)Z" } : Jvm.MethodName) prog_1_method_4_code (2 : Nat) (Option.some Jvm.ClassFile.FieldType.boolean)) ∈ lw_all := lw_g (lw_at lw_m1 66 rfl) rfl
theorem q179 : (Jvm.Cond.methodLink "TrustDesk" (47 : Nat) ({ cls := "TrustDesk", name := "factAt", desc := "(III)I" } : Jvm.MethodName)) ∈ lw_all := lw_g (lw_at lw_m1 67 rfl) rfl
theorem q181 : (Jvm.Cond.instanceMethod ({ cls := "TrustDesk", name := "factAt", desc := "(III)I" } : Jvm.MethodName)) ∈ lw_all := lw_g (lw_at lw_m1 69 rfl) rfl
theorem q182 : (Jvm.Cond.code ({ cls := "TrustDesk", name := "factAt", desc := "(III)I" } : Jvm.MethodName) prog_1_method_6_code (6 : Nat) (Option.some Jvm.ClassFile.FieldType.int)) ∈ lw_all := lw_g (lw_at lw_m1 70 rfl) rfl
theorem q183 : (Jvm.Cond.methodLink "TrustDeskLaw" (29 : Nat) ({ cls := "TrustDesk", name := "feed", desc := "(IIIII)I" } : Jvm.MethodName)) ∈ lw_all := lw_g (lw_at lw_m1 71 rfl) rfl
theorem q184 : (Jvm.Cond.instanceMethod ({ cls := "TrustDesk", name := "feed", desc := "(IIIII)I" } : Jvm.MethodName)) ∈ lw_all := lw_g (lw_at lw_m1 72 rfl) rfl
theorem q185 : (Jvm.Cond.selects "TrustDesk" ({ cls := "TrustDesk", name := "feed", desc := "(IIIII)I" } : Jvm.MethodName) ({ cls := "TrustDesk", name := "feed", desc := "(IIIII)I" } : Jvm.MethodName)) ∈ lw_all := lw_g (lw_at lw_m1 73 rfl) rfl
theorem q186 : (Jvm.Cond.code ({ cls := "TrustDesk", name := "feed", desc := "(IIIII)I" } : Jvm.MethodName) prog_1_method_8_code (8 : Nat) (Option.some Jvm.ClassFile.FieldType.int)) ∈ lw_all := lw_g (lw_at lw_m1 74 rfl) rfl
theorem q187 : (Jvm.Cond.methodLink "TrustDeskLaw" (34 : Nat) ({ cls := "TrustDesk", name := "end", desc := "(I)I" } : Jvm.MethodName)) ∈ lw_all := lw_g (lw_at lw_m1 75 rfl) rfl
theorem q188 : (Jvm.Cond.instanceMethod ({ cls := "TrustDesk", name := "end", desc := "(I)I" } : Jvm.MethodName)) ∈ lw_all := lw_g (lw_at lw_m1 76 rfl) rfl
theorem q189 : (Jvm.Cond.selects "TrustDesk" ({ cls := "TrustDesk", name := "end", desc := "(I)I" } : Jvm.MethodName) ({ cls := "TrustDesk", name := "end", desc := "(I)I" } : Jvm.MethodName)) ∈ lw_all := lw_g (lw_at lw_m1 77 rfl) rfl
theorem q190 : (Jvm.Cond.code ({ cls := "TrustDesk", name := "end", desc := "(I)I" } : Jvm.MethodName) prog_1_method_9_code (2 : Nat) (Option.some Jvm.ClassFile.FieldType.int)) ∈ lw_all := lw_g (lw_at lw_m1 78 rfl) rfl
theorem q191 : (Jvm.Cond.methodLink "TrustDeskLaw" (39 : Nat) ({ cls := "TrustDesk", name := "act", desc := "(I)I" } : Jvm.MethodName)) ∈ lw_all := lw_g (lw_at lw_m1 79 rfl) rfl
theorem q192 : (Jvm.Cond.instanceMethod ({ cls := "TrustDesk", name := "act", desc := "(I)I" } : Jvm.MethodName)) ∈ lw_all := lw_g (lw_at lw_m1 80 rfl) rfl
theorem q193 : (Jvm.Cond.selects "TrustDesk" ({ cls := "TrustDesk", name := "act", desc := "(I)I" } : Jvm.MethodName) ({ cls := "TrustDesk", name := "act", desc := "(I)I" } : Jvm.MethodName)) ∈ lw_all := lw_g (lw_at lw_m1 81 rfl) rfl
theorem q194 : (Jvm.Cond.codeWith ({ cls := "TrustDesk", name := "act", desc := "(I)I" } : Jvm.MethodName) prog_1_method_12_code (3 : Nat) (Option.some Jvm.ClassFile.FieldType.int) [((24 : Nat), (52 : Nat), (53 : Nat), (59 : Nat))]) ∈ lw_all := lw_g (lw_at lw_m1 82 rfl) rfl
theorem q195 : (Jvm.Cond.classLink "TrustDesk" (59 : Nat) "TrustDesk$Wrong") ∈ lw_all := lw_g (lw_at lw_m1 83 rfl) rfl
theorem q196 : (Jvm.Cond.constant "TrustDesk" (73 : Nat) (36000 : Int32)) ∈ lw_all := lw_g (lw_at lw_m1 84 rfl) rfl
theorem q197 : (Jvm.Cond.methodLink "TrustDesk" (78 : Nat) ({ cls := "java/util/ArrayList", name := "size", desc := "()I" } : Jvm.MethodName)) ∈ lw_all := lw_g (lw_at lw_m1 85 rfl) rfl
theorem q198 : (Jvm.Cond.instanceMethod ({ cls := "java/util/ArrayList", name := "size", desc := "()I" } : Jvm.MethodName)) ∈ lw_all := lw_g (lw_at lw_m1 86 rfl) rfl
theorem q199 : (Jvm.Cond.selects "java/util/ArrayList" ({ cls := "java/util/ArrayList", name := "size", desc := "()I" } : Jvm.MethodName) ({ cls := "java/util/ArrayList", name := "size", desc := "()I" } : Jvm.MethodName)) ∈ lw_all := lw_g (lw_at lw_m1 87 rfl) rfl
theorem q200 : (Jvm.Cond.code ({ cls := "java/util/ArrayList", name := "size", desc := "()I" } : Jvm.MethodName) prog_51_method_8_code (1 : Nat) (Option.some Jvm.ClassFile.FieldType.int)) ∈ lw_all := lw_g (lw_at lw_m1 88 rfl) rfl
theorem q201 : (Jvm.Cond.methodLink "TrustDesk" (84 : Nat) ({ cls := "TrustDesk", name := "reads", desc := "(I)LTrustDesk$Reader;" } : Jvm.MethodName)) ∈ lw_all := lw_g (lw_at lw_m1 89 rfl) rfl
theorem q203 : (Jvm.Cond.instanceMethod ({ cls := "TrustDesk", name := "reads", desc := "(I)LTrustDesk$Reader;" } : Jvm.MethodName)) ∈ lw_all := lw_g (lw_at lw_m1 91 rfl) rfl
theorem q204 : (Jvm.Cond.code ({ cls := "TrustDesk", name := "reads", desc := "(I)LTrustDesk$Reader;" } : Jvm.MethodName) prog_1_method_11_code (3 : Nat) (Option.some (Jvm.ClassFile.FieldType.object "TrustDesk$Reader"))) ∈ lw_all := lw_g (lw_at lw_m1 92 rfl) rfl
theorem q205 : (Jvm.Cond.classLink "TrustDesk" (67 : Nat) "TrustDesk$Reader") ∈ lw_all := lw_g (lw_at lw_m1 93 rfl) rfl
theorem q206 : (Jvm.Cond.instantiable "TrustDesk$Reader" (10 : Nat)) ∈ lw_all := lw_g (lw_at lw_m1 94 rfl) rfl
theorem q207 : (Jvm.Cond.methodLink "TrustDesk" (69 : Nat) ({ cls := "TrustDesk$Reader", name := "<init>", desc := "([BII)V" } : Jvm.MethodName)) ∈ lw_all := lw_g (lw_at lw_m1 95 rfl) rfl
theorem q208 : (Jvm.Cond.instanceMethod ({ cls := "TrustDesk$Reader", name := "<init>", desc := "([BII)V" } : Jvm.MethodName)) ∈ lw_all := lw_g (lw_at lw_m1 96 rfl) rfl
theorem q209 : (Jvm.Cond.code ({ cls := "TrustDesk$Reader", name := "<init>", desc := "([BII)V" } : Jvm.MethodName) prog_17_method_1_code (4 : Nat) (Option.none : Option Jvm.ClassFile.FieldType)) ∈ lw_all := lw_g (lw_at lw_m1 97 rfl) rfl
theorem q210 : (Jvm.Cond.methodLink "TrustDesk$Reader" (3 : Nat) ({ cls := "java/lang/Object", name := "<init>", desc := "()V" } : Jvm.MethodName)) ∈ lw_all := lw_g (lw_at lw_m1 98 rfl) rfl
theorem q211 : (Jvm.Cond.instanceMethod ({ cls := "java/lang/Object", name := "<init>", desc := "()V" } : Jvm.MethodName)) ∈ lw_all := lw_g (lw_at lw_m1 99 rfl) rfl
theorem q212 : (Jvm.Cond.code ({ cls := "java/lang/Object", name := "<init>", desc := "()V" } : Jvm.MethodName) object_method_1_code (1 : Nat) (Option.none : Option Jvm.ClassFile.FieldType)) ∈ lw_all := lw_g (lw_at lw_m1 100 rfl) rfl
theorem q213 : (Jvm.Cond.methodLink "TrustDesk$Reader" (22 : Nat) ({ cls := "TrustDesk$Reader", name := "cut", desc := "()V" } : Jvm.MethodName)) ∈ lw_all := lw_g (lw_at lw_m1 101 rfl) rfl
theorem q215 : (Jvm.Cond.instanceMethod ({ cls := "TrustDesk$Reader", name := "cut", desc := "()V" } : Jvm.MethodName)) ∈ lw_all := lw_g (lw_at lw_m1 103 rfl) rfl
theorem q216 : (Jvm.Cond.code ({ cls := "TrustDesk$Reader", name := "cut", desc := "()V" } : Jvm.MethodName) prog_17_method_3_code (1 : Nat) (Option.none : Option Jvm.ClassFile.FieldType)) ∈ lw_all := lw_g (lw_at lw_m1 104 rfl) rfl
theorem q217 : (Jvm.Cond.methodLink "TrustDesk$Reader" (34 : Nat) ({ cls := "TrustDesk$Reader", name := "byteAt", desc := "(I)I" } : Jvm.MethodName)) ∈ lw_all := lw_g (lw_at lw_m1 105 rfl) rfl
theorem q219 : (Jvm.Cond.instanceMethod ({ cls := "TrustDesk$Reader", name := "byteAt", desc := "(I)I" } : Jvm.MethodName)) ∈ lw_all := lw_g (lw_at lw_m1 107 rfl) rfl
theorem q220 : (Jvm.Cond.code ({ cls := "TrustDesk$Reader", name := "byteAt", desc := "(I)I" } : Jvm.MethodName) prog_17_method_2_code (2 : Nat) (Option.some Jvm.ClassFile.FieldType.int)) ∈ lw_all := lw_g (lw_at lw_m1 108 rfl) rfl
theorem q221 : (Jvm.Cond.methodLinkNest "TrustDesk$Reader" (38 : Nat) ({ cls := "TrustDesk", name := "in", desc := "(III)Z" } : Jvm.MethodName) "TrustDesk") ∈ lw_tbl := lw_at lw_m1 109 rfl
theorem q222 : (Jvm.Cond.fieldLink "TrustDesk$Reader" (9 : Nat) "TrustDesk$Reader" "text" "[B") ∈ lw_all := lw_g (lw_at lw_m1 110 rfl) rfl
theorem q223 : (Jvm.Cond.fieldLink "TrustDesk$Reader" (15 : Nat) "TrustDesk$Reader" "end" "I") ∈ lw_all := lw_g (lw_at lw_m1 111 rfl) rfl
theorem q224 : (Jvm.Cond.fieldLink "TrustDesk$Reader" (25 : Nat) "TrustDesk$Reader" "at" "I") ∈ lw_all := lw_g (lw_at lw_m1 112 rfl) rfl
theorem q225 : (Jvm.Cond.fieldLink "TrustDesk$Reader" (28 : Nat) "TrustDesk$Reader" "size" "I") ∈ lw_all := lw_g (lw_at lw_m1 113 rfl) rfl
theorem q226 : (Jvm.Cond.fieldLink "TrustDesk$Reader" (31 : Nat) "TrustDesk$Reader" "value" "I") ∈ lw_all := lw_g (lw_at lw_m1 114 rfl) rfl
theorem q227 : (Jvm.Cond.fieldLink "TrustDesk$Reader" (254 : Nat) "TrustDesk$Reader" "open" "I") ∈ lw_all := lw_g (lw_at lw_m1 115 rfl) rfl
theorem q228 : (Jvm.Cond.fieldLink "TrustDesk$Reader" (19 : Nat) "TrustDesk$Reader" "names" "I") ∈ lw_all := lw_g (lw_at lw_m1 116 rfl) rfl
theorem q229 : (Jvm.Cond.fieldLink "TrustDesk$Reader" (42 : Nat) "TrustDesk$Reader" "isWord" "Z") ∈ lw_all := lw_g (lw_at lw_m1 117 rfl) rfl
theorem q230 : (Jvm.Cond.fieldLink "TrustDesk$Reader" (46 : Nat) "TrustDesk$Reader" "isNumber" "Z") ∈ lw_all := lw_g (lw_at lw_m1 118 rfl) rfl
theorem q231 : (Jvm.Cond.fieldLink "TrustDesk$Reader" (153 : Nat) "TrustDesk$Reader" "aim" "LTrustDesk$Aim;") ∈ lw_all := lw_g (lw_at lw_m1 119 rfl) rfl
theorem q232 : (Jvm.Cond.laysFinal "TrustDesk$Reader" "TrustDesk$Reader" "text" "[B") ∈ lw_all := lw_g (lw_at lw_m1 120 rfl) rfl
theorem q234 : (Jvm.Cond.laysFinal "TrustDesk$Reader" "TrustDesk$Reader" "end" "I") ∈ lw_all := lw_g (lw_at lw_m1 122 rfl) rfl
theorem q236 : (Jvm.Cond.lays "TrustDesk$Reader" "TrustDesk$Reader" "at" "I") ∈ lw_all := lw_g (lw_at lw_m1 124 rfl) rfl
theorem q238 : (Jvm.Cond.lays "TrustDesk$Reader" "TrustDesk$Reader" "size" "I") ∈ lw_all := lw_g (lw_at lw_m1 126 rfl) rfl
theorem q240 : (Jvm.Cond.lays "TrustDesk$Reader" "TrustDesk$Reader" "value" "I") ∈ lw_all := lw_g (lw_at lw_m1 128 rfl) rfl
theorem q242 : (Jvm.Cond.lays "TrustDesk$Reader" "TrustDesk$Reader" "open" "I") ∈ lw_all := lw_g (lw_at lw_m1 130 rfl) rfl
theorem q244 : (Jvm.Cond.lays "TrustDesk$Reader" "TrustDesk$Reader" "names" "I") ∈ lw_all := lw_g (lw_at lw_m1 132 rfl) rfl
theorem q246 : (Jvm.Cond.lays "TrustDesk$Reader" "TrustDesk$Reader" "isWord" "Z") ∈ lw_all := lw_g (lw_at lw_m1 134 rfl) rfl
theorem q248 : (Jvm.Cond.lays "TrustDesk$Reader" "TrustDesk$Reader" "isNumber" "Z") ∈ lw_all := lw_g (lw_at lw_m1 136 rfl) rfl
theorem q250 : (Jvm.Cond.lays "TrustDesk$Reader" "TrustDesk$Reader" "aim" "LTrustDesk$Aim;") ∈ lw_all := lw_g (lw_at lw_m1 138 rfl) rfl
theorem q253 : (Jvm.Cond.methodLink "TrustDesk" (88 : Nat) ({ cls := "TrustDesk$Reader", name := "act", desc := "()LTrustDesk$Act;" } : Jvm.MethodName)) ∈ lw_all := lw_g (lw_at lw_m1 141 rfl) rfl
theorem q254 : (Jvm.Cond.instanceMethod ({ cls := "TrustDesk$Reader", name := "act", desc := "()LTrustDesk$Act;" } : Jvm.MethodName)) ∈ lw_all := lw_g (lw_at lw_m1 142 rfl) rfl
theorem q255 : (Jvm.Cond.selects "TrustDesk$Reader" ({ cls := "TrustDesk$Reader", name := "act", desc := "()LTrustDesk$Act;" } : Jvm.MethodName) ({ cls := "TrustDesk$Reader", name := "act", desc := "()LTrustDesk$Act;" } : Jvm.MethodName)) ∈ lw_all := lw_g (lw_at lw_m1 143 rfl) rfl
theorem q256 : (Jvm.Cond.code ({ cls := "TrustDesk$Reader", name := "act", desc := "()LTrustDesk$Act;" } : Jvm.MethodName) prog_17_method_12_code (4 : Nat) (Option.some (Jvm.ClassFile.FieldType.object "TrustDesk$Act"))) ∈ lw_all := lw_g (lw_at lw_m1 144 rfl) rfl
theorem q257 : (Jvm.Cond.classLink "TrustDesk$Reader" (168 : Nat) "TrustDesk$Act") ∈ lw_all := lw_g (lw_at lw_m1 145 rfl) rfl
theorem q258 : (Jvm.Cond.instantiable "TrustDesk$Act" (4 : Nat)) ∈ lw_all := lw_g (lw_at lw_m1 146 rfl) rfl
theorem q259 : (Jvm.Cond.methodLinkNest "TrustDesk$Reader" (170 : Nat) ({ cls := "TrustDesk$Act", name := "<init>", desc := "()V" } : Jvm.MethodName) "TrustDesk") ∈ lw_tbl := lw_at lw_m1 147 rfl
theorem q260 : (Jvm.Cond.instanceMethod ({ cls := "TrustDesk$Act", name := "<init>", desc := "()V" } : Jvm.MethodName)) ∈ lw_all := lw_g (lw_at lw_m1 148 rfl) rfl
theorem q261 : (Jvm.Cond.code ({ cls := "TrustDesk$Act", name := "<init>", desc := "()V" } : Jvm.MethodName) prog_2_method_1_code (1 : Nat) (Option.none : Option Jvm.ClassFile.FieldType)) ∈ lw_all := lw_g (lw_at lw_m1 149 rfl) rfl
theorem q262 : (Jvm.Cond.methodLink "TrustDesk$Act" (1 : Nat) ({ cls := "java/lang/Object", name := "<init>", desc := "()V" } : Jvm.MethodName)) ∈ lw_all := lw_g (lw_at lw_m1 150 rfl) rfl
theorem q263 : (Jvm.Cond.classLink "TrustDesk$Act" (7 : Nat) "java/util/ArrayList") ∈ lw_all := lw_g (lw_at lw_m1 151 rfl) rfl
theorem q264 : (Jvm.Cond.instantiable "java/util/ArrayList" (3 : Nat)) ∈ lw_all := lw_g (lw_at lw_m1 152 rfl) rfl
theorem q265 : (Jvm.Cond.methodLink "TrustDesk$Act" (9 : Nat) ({ cls := "java/util/ArrayList", name := "<init>", desc := "(I)V" } : Jvm.MethodName)) ∈ lw_all := lw_g (lw_at lw_m1 153 rfl) rfl
theorem q266 : (Jvm.Cond.instanceMethod ({ cls := "java/util/ArrayList", name := "<init>", desc := "(I)V" } : Jvm.MethodName)) ∈ lw_all := lw_g (lw_at lw_m1 154 rfl) rfl
theorem q267 : (Jvm.Cond.code ({ cls := "java/util/ArrayList", name := "<init>", desc := "(I)V" } : Jvm.MethodName) prog_51_method_1_code (2 : Nat) (Option.none : Option Jvm.ClassFile.FieldType)) ∈ lw_all := lw_g (lw_at lw_m1 155 rfl) rfl
theorem q268 : (Jvm.Cond.methodLink "java/util/ArrayList" (1 : Nat) ({ cls := "java/util/AbstractList", name := "<init>", desc := "()V" } : Jvm.MethodName)) ∈ lw_all := lw_g (lw_at lw_m1 156 rfl) rfl
theorem q269 : (Jvm.Cond.instanceMethod ({ cls := "java/util/AbstractList", name := "<init>", desc := "()V" } : Jvm.MethodName)) ∈ lw_all := lw_g (lw_at lw_m1 157 rfl) rfl
theorem q270 : (Jvm.Cond.code ({ cls := "java/util/AbstractList", name := "<init>", desc := "()V" } : Jvm.MethodName) prog_50_method_1_code (1 : Nat) (Option.none : Option Jvm.ClassFile.FieldType)) ∈ lw_all := lw_g (lw_at lw_m1 158 rfl) rfl
theorem q271 : (Jvm.Cond.methodLink "java/util/AbstractList" (1 : Nat) ({ cls := "java/util/AbstractCollection", name := "<init>", desc := "()V" } : Jvm.MethodName)) ∈ lw_all := lw_g (lw_at lw_m1 159 rfl) rfl
theorem q272 : (Jvm.Cond.instanceMethod ({ cls := "java/util/AbstractCollection", name := "<init>", desc := "()V" } : Jvm.MethodName)) ∈ lw_all := lw_g (lw_at lw_m1 160 rfl) rfl
theorem q273 : (Jvm.Cond.code ({ cls := "java/util/AbstractCollection", name := "<init>", desc := "()V" } : Jvm.MethodName) prog_49_method_1_code (1 : Nat) (Option.none : Option Jvm.ClassFile.FieldType)) ∈ lw_all := lw_g (lw_at lw_m1 161 rfl) rfl
theorem q274 : (Jvm.Cond.methodLink "java/util/AbstractCollection" (1 : Nat) ({ cls := "java/lang/Object", name := "<init>", desc := "()V" } : Jvm.MethodName)) ∈ lw_all := lw_g (lw_at lw_m1 162 rfl) rfl
theorem q275 : (Jvm.Cond.classLink "java/util/ArrayList" (7 : Nat) "java/lang/Object") ∈ lw_all := lw_g (lw_at lw_m1 163 rfl) rfl
theorem q276 : (Jvm.Cond.arrayOver (Jvm.ClassFile.FieldType.object "java/lang/Object")) ∈ lw_tbl := lw_at lw_m1 164 rfl
theorem q277 : (Jvm.Cond.fieldLink "java/util/ArrayList" (15 : Nat) "java/util/ArrayList" "EMPTY_ELEMENTDATA" "[Ljava/lang/Object;") ∈ lw_all := lw_g (lw_at lw_m1 165 rfl) rfl
theorem q278 : (Jvm.Cond.laysStatic "java/util/ArrayList" "EMPTY_ELEMENTDATA" "[Ljava/lang/Object;") ∈ lw_tbl := lw_at lw_m1 166 rfl
theorem q279 : (Jvm.Cond.fieldLink "java/util/ArrayList" (9 : Nat) "java/util/ArrayList" "elementData" "[Ljava/lang/Object;") ∈ lw_all := lw_g (lw_at lw_m1 167 rfl) rfl
theorem q280 : (Jvm.Cond.fieldLink "java/util/ArrayList" (48 : Nat) "java/util/ArrayList" "size" "I") ∈ lw_all := lw_g (lw_at lw_m1 168 rfl) rfl
theorem q281 : (Jvm.Cond.fieldLink "java/util/AbstractList" (7 : Nat) "java/util/AbstractList" "modCount" "I") ∈ lw_all := lw_g (lw_at lw_m1 169 rfl) rfl
theorem q282 : (Jvm.Cond.fieldLink "java/util/ArrayList" (63 : Nat) "java/util/ArrayList" "modCount" "I") ∈ lw_all := lw_g (lw_at lw_m1 170 rfl) rfl
theorem q283 : (Jvm.Cond.sameField "java/util/ArrayList" "java/util/AbstractList" "modCount" "I") ∈ lw_all := lw_g (lw_at lw_m1 171 rfl) rfl
theorem q284 : (Jvm.Cond.lays "java/util/ArrayList" "java/util/ArrayList" "elementData" "[Ljava/lang/Object;") ∈ lw_all := lw_g (lw_at lw_m1 172 rfl) rfl
theorem q286 : (Jvm.Cond.lays "java/util/ArrayList" "java/util/ArrayList" "size" "I") ∈ lw_all := lw_g (lw_at lw_m1 174 rfl) rfl
theorem q288 : (Jvm.Cond.lays "java/util/ArrayList" "java/util/AbstractList" "modCount" "I") ∈ lw_all := lw_g (lw_at lw_m1 176 rfl) rfl
theorem q291 : (Jvm.Cond.fieldLink "TrustDesk$Act" (12 : Nat) "TrustDesk$Act" "bars" "Ljava/util/ArrayList;") ∈ lw_all := lw_g (lw_at lw_m1 179 rfl) rfl
theorem q292 : (Jvm.Cond.fieldLinkNest "TrustDesk$Reader" (184 : Nat) "TrustDesk$Act" "bars" "Ljava/util/ArrayList;" "TrustDesk") ∈ lw_tbl := lw_at lw_m1 180 rfl
theorem q293 : (Jvm.Cond.fieldLink "TrustDesk$Act" (18 : Nat) "TrustDesk$Act" "holds" "[I") ∈ lw_all := lw_g (lw_at lw_m1 181 rfl) rfl
theorem q294 : (Jvm.Cond.fieldLinkNest "TrustDesk$Scheme" (45 : Nat) "TrustDesk$Act" "holds" "[I" "TrustDesk") ∈ lw_tbl := lw_at lw_m1 182 rfl
theorem q295 : (Jvm.Cond.fieldLinkNest "TrustDesk$Groups" (49 : Nat) "TrustDesk$Act" "holds" "[I" "TrustDesk") ∈ lw_tbl := lw_at lw_m1 183 rfl
theorem q296 : (Jvm.Cond.fieldLinkNest "TrustDesk$Sale" (47 : Nat) "TrustDesk$Act" "holds" "[I" "TrustDesk") ∈ lw_tbl := lw_at lw_m1 184 rfl
theorem q297 : (Jvm.Cond.fieldLinkNest "TrustDesk$Reader" (192 : Nat) "TrustDesk$Act" "holds" "[I" "TrustDesk") ∈ lw_tbl := lw_at lw_m1 185 rfl
theorem q298 : (Jvm.Cond.fieldLinkNest "TrustDesk" (120 : Nat) "TrustDesk$Act" "holds" "[I" "TrustDesk") ∈ lw_tbl := lw_at lw_m1 186 rfl
theorem q299 : (Jvm.Cond.fieldLinkNest "TrustDesk" (92 : Nat) "TrustDesk$Act" "from" "I" "TrustDesk") ∈ lw_tbl := lw_at lw_m1 187 rfl
theorem q300 : (Jvm.Cond.fieldLinkNest "TrustDesk" (101 : Nat) "TrustDesk$Act" "rules" "I" "TrustDesk") ∈ lw_tbl := lw_at lw_m1 188 rfl
theorem q301 : (Jvm.Cond.fieldLinkNest "TrustDesk$Reader" (179 : Nat) "TrustDesk$Act" "rules" "I" "TrustDesk") ∈ lw_tbl := lw_at lw_m1 189 rfl
theorem q302 : (Jvm.Cond.laysFinal "TrustDesk$Act" "TrustDesk$Act" "bars" "Ljava/util/ArrayList;") ∈ lw_all := lw_g (lw_at lw_m1 190 rfl) rfl
theorem q304 : (Jvm.Cond.laysFinal "TrustDesk$Act" "TrustDesk$Act" "holds" "[I") ∈ lw_all := lw_g (lw_at lw_m1 192 rfl) rfl
theorem q306 : (Jvm.Cond.lays "TrustDesk$Act" "TrustDesk$Act" "from" "I") ∈ lw_all := lw_g (lw_at lw_m1 194 rfl) rfl
theorem q308 : (Jvm.Cond.lays "TrustDesk$Act" "TrustDesk$Act" "rules" "I") ∈ lw_all := lw_g (lw_at lw_m1 196 rfl) rfl
theorem q311 : (Jvm.Cond.arrayClass Jvm.ClassFile.FieldType.int) ∈ lw_all := lw_g (lw_at lw_m1 199 rfl) rfl
theorem q312 : (Jvm.Cond.stringRef "TrustDesk$Reader" (171 : Nat) " fail keep days late gain sell ") ∈ lw_tbl := lw_at lw_m1 200 rfl
theorem q313 : (Jvm.Cond.methodLink "TrustDesk$Reader" (173 : Nat) ({ cls := "TrustDesk$Reader", name := "wordOf", desc := "(Ljava/lang/String;I)I" } : Jvm.MethodName)) ∈ lw_all := lw_g (lw_at lw_m1 201 rfl) rfl
theorem q315 : (Jvm.Cond.instanceMethod ({ cls := "TrustDesk$Reader", name := "wordOf", desc := "(Ljava/lang/String;I)I" } : Jvm.MethodName)) ∈ lw_all := lw_g (lw_at lw_m1 203 rfl) rfl
theorem q316 : (Jvm.Cond.code ({ cls := "TrustDesk$Reader", name := "wordOf", desc := "(Ljava/lang/String;I)I" } : Jvm.MethodName) prog_17_method_8_code (6 : Nat) (Option.some Jvm.ClassFile.FieldType.int)) ∈ lw_all := lw_g (lw_at lw_m1 204 rfl) rfl
theorem q317 : (Jvm.Cond.methodLink "TrustDesk$Reader" (49 : Nat) ({ cls := "java/lang/String", name := "length", desc := "()I" } : Jvm.MethodName)) ∈ lw_all := lw_g (lw_at lw_m1 205 rfl) rfl
theorem q318 : (Jvm.Cond.instanceMethod ({ cls := "java/lang/String", name := "length", desc := "()I" } : Jvm.MethodName)) ∈ lw_all := lw_g (lw_at lw_m1 206 rfl) rfl
theorem q319 : (Jvm.Cond.selects "java/lang/String" ({ cls := "java/lang/String", name := "length", desc := "()I" } : Jvm.MethodName) ({ cls := "java/lang/String", name := "length", desc := "()I" } : Jvm.MethodName)) ∈ lw_all := lw_g (lw_at lw_m1 207 rfl) rfl
theorem q320 : (Jvm.Cond.code ({ cls := "java/lang/String", name := "length", desc := "()I" } : Jvm.MethodName) prog_41_method_54_code (1 : Nat) (Option.some Jvm.ClassFile.FieldType.int)) ∈ lw_all := lw_g (lw_at lw_m1 208 rfl) rfl
theorem q321 : (Jvm.Cond.methodLink "java/lang/String" (335 : Nat) ({ cls := "java/lang/String", name := "coder", desc := "()B" } : Jvm.MethodName)) ∈ lw_all := lw_g (lw_at lw_m1 209 rfl) rfl
theorem q322 : (Jvm.Cond.instanceMethod ({ cls := "java/lang/String", name := "coder", desc := "()B" } : Jvm.MethodName)) ∈ lw_all := lw_g (lw_at lw_m1 210 rfl) rfl
theorem q323 : (Jvm.Cond.selects "java/lang/String" ({ cls := "java/lang/String", name := "coder", desc := "()B" } : Jvm.MethodName) ({ cls := "java/lang/String", name := "coder", desc := "()B" } : Jvm.MethodName)) ∈ lw_all := lw_g (lw_at lw_m1 211 rfl) rfl
theorem q324 : (Jvm.Cond.code ({ cls := "java/lang/String", name := "coder", desc := "()B" } : Jvm.MethodName) prog_41_method_152_code (1 : Nat) (Option.some Jvm.ClassFile.FieldType.byte)) ∈ lw_all := lw_g (lw_at lw_m1 212 rfl) rfl
theorem q325 : (Jvm.Cond.fieldLink "java/lang/String" (38 : Nat) "java/lang/String" "COMPACT_STRINGS" "Z") ∈ lw_all := lw_g (lw_at lw_m1 213 rfl) rfl
theorem q326 : (Jvm.Cond.laysStatic "java/lang/String" "COMPACT_STRINGS" "Z") ∈ lw_tbl := lw_at lw_m1 214 rfl
theorem q327 : (Jvm.Cond.methodLink "TrustDesk$Reader" (72 : Nat) ({ cls := "java/lang/String", name := "indexOf", desc := "(II)I" } : Jvm.MethodName)) ∈ lw_all := lw_g (lw_at lw_m1 215 rfl) rfl
theorem q328 : (Jvm.Cond.instanceMethod ({ cls := "java/lang/String", name := "indexOf", desc := "(II)I" } : Jvm.MethodName)) ∈ lw_all := lw_g (lw_at lw_m1 216 rfl) rfl
theorem q329 : (Jvm.Cond.selects "java/lang/String" ({ cls := "java/lang/String", name := "indexOf", desc := "(II)I" } : Jvm.MethodName) ({ cls := "java/lang/String", name := "indexOf", desc := "(II)I" } : Jvm.MethodName)) ∈ lw_all := lw_g (lw_at lw_m1 217 rfl) rfl
theorem q330 : (Jvm.Cond.code ({ cls := "java/lang/String", name := "indexOf", desc := "(II)I" } : Jvm.MethodName) prog_41_method_80_code (3 : Nat) (Option.some Jvm.ClassFile.FieldType.int)) ∈ lw_all := lw_g (lw_at lw_m1 218 rfl) rfl
theorem q331 : (Jvm.Cond.methodLink "java/lang/String" (492 : Nat) ({ cls := "java/lang/String", name := "isLatin1", desc := "()Z" } : Jvm.MethodName)) ∈ lw_all := lw_g (lw_at lw_m1 219 rfl) rfl
theorem q332 : (Jvm.Cond.instanceMethod ({ cls := "java/lang/String", name := "isLatin1", desc := "()Z" } : Jvm.MethodName)) ∈ lw_all := lw_g (lw_at lw_m1 220 rfl) rfl
theorem q333 : (Jvm.Cond.selects "java/lang/String" ({ cls := "java/lang/String", name := "isLatin1", desc := "()Z" } : Jvm.MethodName) ({ cls := "java/lang/String", name := "isLatin1", desc := "()Z" } : Jvm.MethodName)) ∈ lw_all := lw_g (lw_at lw_m1 221 rfl) rfl
theorem q334 : (Jvm.Cond.code ({ cls := "java/lang/String", name := "isLatin1", desc := "()Z" } : Jvm.MethodName) prog_41_method_154_code (1 : Nat) (Option.some Jvm.ClassFile.FieldType.boolean)) ∈ lw_all := lw_g (lw_at lw_m1 222 rfl) rfl
theorem q335 : (Jvm.Cond.methodLink "java/lang/String" (505 : Nat) ({ cls := "java/lang/String", name := "length", desc := "()I" } : Jvm.MethodName)) ∈ lw_all := lw_g (lw_at lw_m1 223 rfl) rfl
theorem q336 : (Jvm.Cond.methodLink "java/lang/String" (637 : Nat) ({ cls := "java/lang/StringLatin1", name := "indexOf", desc := "([BIII)I" } : Jvm.MethodName)) ∈ lw_all := lw_g (lw_at lw_m1 224 rfl) rfl
theorem q337 : (Jvm.Cond.static ({ cls := "java/lang/StringLatin1", name := "indexOf", desc := "([BIII)I" } : Jvm.MethodName)) ∈ lw_all := lw_g (lw_at lw_m1 225 rfl) rfl
theorem q338 : (Jvm.Cond.code ({ cls := "java/lang/StringLatin1", name := "indexOf", desc := "([BIII)I" } : Jvm.MethodName) prog_43_method_22_code (4 : Nat) (Option.some Jvm.ClassFile.FieldType.int)) ∈ lw_all := lw_g (lw_at lw_m1 226 rfl) rfl
theorem q339 : (Jvm.Cond.methodLink "java/lang/StringLatin1" (88 : Nat) ({ cls := "java/lang/StringLatin1", name := "canEncode", desc := "(I)Z" } : Jvm.MethodName)) ∈ lw_all := lw_g (lw_at lw_m1 227 rfl) rfl
theorem q340 : (Jvm.Cond.static ({ cls := "java/lang/StringLatin1", name := "canEncode", desc := "(I)Z" } : Jvm.MethodName)) ∈ lw_all := lw_g (lw_at lw_m1 228 rfl) rfl
theorem q341 : (Jvm.Cond.code ({ cls := "java/lang/StringLatin1", name := "canEncode", desc := "(I)Z" } : Jvm.MethodName) prog_43_method_4_code (1 : Nat) (Option.some Jvm.ClassFile.FieldType.boolean)) ∈ lw_all := lw_g (lw_at lw_m1 229 rfl) rfl
theorem q342 : (Jvm.Cond.methodLink "java/lang/StringLatin1" (92 : Nat) ({ cls := "java/lang/Math", name := "max", desc := "(II)I" } : Jvm.MethodName)) ∈ lw_all := lw_g (lw_at lw_m1 230 rfl) rfl
theorem q343 : (Jvm.Cond.static ({ cls := "java/lang/Math", name := "max", desc := "(II)I" } : Jvm.MethodName)) ∈ lw_all := lw_g (lw_at lw_m1 231 rfl) rfl
theorem q344 : (Jvm.Cond.code ({ cls := "java/lang/Math", name := "max", desc := "(II)I" } : Jvm.MethodName) prog_38_method_65_code (2 : Nat) (Option.some Jvm.ClassFile.FieldType.int)) ∈ lw_all := lw_g (lw_at lw_m1 232 rfl) rfl
theorem q345 : (Jvm.Cond.methodLink "java/lang/StringLatin1" (38 : Nat) ({ cls := "java/lang/Math", name := "min", desc := "(II)I" } : Jvm.MethodName)) ∈ lw_all := lw_g (lw_at lw_m1 233 rfl) rfl
theorem q346 : (Jvm.Cond.static ({ cls := "java/lang/Math", name := "min", desc := "(II)I" } : Jvm.MethodName)) ∈ lw_all := lw_g (lw_at lw_m1 234 rfl) rfl
theorem q347 : (Jvm.Cond.code ({ cls := "java/lang/Math", name := "min", desc := "(II)I" } : Jvm.MethodName) prog_38_method_69_code (2 : Nat) (Option.some Jvm.ClassFile.FieldType.int)) ∈ lw_all := lw_g (lw_at lw_m1 235 rfl) rfl
theorem q348 : (Jvm.Cond.methodLink "java/lang/StringLatin1" (95 : Nat) ({ cls := "java/lang/StringLatin1", name := "indexOfChar", desc := "([BIII)I" } : Jvm.MethodName)) ∈ lw_all := lw_g (lw_at lw_m1 236 rfl) rfl
theorem q349 : (Jvm.Cond.static ({ cls := "java/lang/StringLatin1", name := "indexOfChar", desc := "([BIII)I" } : Jvm.MethodName)) ∈ lw_all := lw_g (lw_at lw_m1 237 rfl) rfl
theorem q350 : (Jvm.Cond.code ({ cls := "java/lang/StringLatin1", name := "indexOfChar", desc := "([BIII)I" } : Jvm.MethodName) prog_43_method_23_code (6 : Nat) (Option.some Jvm.ClassFile.FieldType.int)) ∈ lw_all := lw_g (lw_at lw_m1 238 rfl) rfl
theorem q367 : (Jvm.Cond.static ({ cls := "java/lang/String", name := "checkBoundsBeginEnd", desc := "(III)V" } : Jvm.MethodName)) ∈ lw_all := lw_g (lw_at lw_m2 15 rfl) rfl
theorem q368 : (Jvm.Cond.code ({ cls := "java/lang/String", name := "checkBoundsBeginEnd", desc := "(III)V" } : Jvm.MethodName) prog_41_method_158_code (3 : Nat) (Option.none : Option Jvm.ClassFile.FieldType)) ∈ lw_all := lw_g (lw_at lw_m2 16 rfl) rfl
theorem q369 : (Jvm.Cond.fieldLink "java/lang/String" (1053 : Nat) "jdk/internal/util/Preconditions" "SIOOBE_FORMATTER" "Ljava/util/function/BiFunction;") ∈ lw_all := lw_g (lw_at lw_m2 17 rfl) rfl
theorem q370 : (Jvm.Cond.laysStatic "jdk/internal/util/Preconditions" "SIOOBE_FORMATTER" "Ljava/util/function/BiFunction;") ∈ lw_tbl := lw_at lw_m2 18 rfl
theorem q371 : (Jvm.Cond.methodLink "java/lang/String" (1062 : Nat) ({ cls := "jdk/internal/util/Preconditions", name := "checkFromToIndex", desc := "(IIILjava/util/function/BiFunction;)I" } : Jvm.MethodName)) ∈ lw_all := lw_g (lw_at lw_m2 19 rfl) rfl
theorem q372 : (Jvm.Cond.static ({ cls := "jdk/internal/util/Preconditions", name := "checkFromToIndex", desc := "(IIILjava/util/function/BiFunction;)I" } : Jvm.MethodName)) ∈ lw_all := lw_g (lw_at lw_m2 20 rfl) rfl
theorem q373 : (Jvm.Cond.code ({ cls := "jdk/internal/util/Preconditions", name := "checkFromToIndex", desc := "(IIILjava/util/function/BiFunction;)I" } : Jvm.MethodName) prog_60_method_12_code (4 : Nat) (Option.some Jvm.ClassFile.FieldType.int)) ∈ lw_all := lw_g (lw_at lw_m2 21 rfl) rfl
theorem q400 : (Jvm.Cond.methodLink "TrustDesk$Reader" (76 : Nat) ({ cls := "java/lang/String", name := "substring", desc := "(II)Ljava/lang/String;" } : Jvm.MethodName)) ∈ lw_all := lw_g (lw_at lw_m2 48 rfl) rfl
theorem q401 : (Jvm.Cond.instanceMethod ({ cls := "java/lang/String", name := "substring", desc := "(II)Ljava/lang/String;" } : Jvm.MethodName)) ∈ lw_all := lw_g (lw_at lw_m2 49 rfl) rfl
theorem q402 : (Jvm.Cond.selects "java/lang/String" ({ cls := "java/lang/String", name := "substring", desc := "(II)Ljava/lang/String;" } : Jvm.MethodName) ({ cls := "java/lang/String", name := "substring", desc := "(II)Ljava/lang/String;" } : Jvm.MethodName)) ∈ lw_all := lw_g (lw_at lw_m2 50 rfl) rfl
theorem q403 : (Jvm.Cond.code ({ cls := "java/lang/String", name := "substring", desc := "(II)Ljava/lang/String;" } : Jvm.MethodName) prog_41_method_92_code (5 : Nat) (Option.some (Jvm.ClassFile.FieldType.object "java/lang/String"))) ∈ lw_all := lw_g (lw_at lw_m2 51 rfl) rfl
theorem q404 : (Jvm.Cond.methodLink "java/lang/String" (521 : Nat) ({ cls := "java/lang/String", name := "checkBoundsBeginEnd", desc := "(III)V" } : Jvm.MethodName)) ∈ lw_all := lw_g (lw_at lw_m2 52 rfl) rfl
theorem q405 : (Jvm.Cond.methodLink "java/lang/String" (685 : Nat) ({ cls := "java/lang/StringLatin1", name := "newString", desc := "([BII)Ljava/lang/String;" } : Jvm.MethodName)) ∈ lw_all := lw_g (lw_at lw_m2 53 rfl) rfl
theorem q406 : (Jvm.Cond.static ({ cls := "java/lang/StringLatin1", name := "newString", desc := "([BII)Ljava/lang/String;" } : Jvm.MethodName)) ∈ lw_all := lw_g (lw_at lw_m2 54 rfl) rfl
theorem q407 : (Jvm.Cond.code ({ cls := "java/lang/StringLatin1", name := "newString", desc := "([BII)Ljava/lang/String;" } : Jvm.MethodName) prog_43_method_47_code (3 : Nat) (Option.some (Jvm.ClassFile.FieldType.object "java/lang/String"))) ∈ lw_all := lw_g (lw_at lw_m2 55 rfl) rfl
theorem q408 : (Jvm.Cond.stringRef "java/lang/StringLatin1" (151 : Nat) "") ∈ lw_tbl := lw_at lw_m2 56 rfl
theorem q409 : (Jvm.Cond.classLink "java/lang/StringLatin1" (1 : Nat) "java/lang/String") ∈ lw_all := lw_g (lw_at lw_m2 57 rfl) rfl
theorem q410 : (Jvm.Cond.instantiable "java/lang/String" (4 : Nat)) ∈ lw_all := lw_g (lw_at lw_m2 58 rfl) rfl
theorem q411 : (Jvm.Cond.methodLink "java/lang/StringLatin1" (232 : Nat) ({ cls := "java/util/Arrays", name := "copyOfRange", desc := "([BII)[B" } : Jvm.MethodName)) ∈ lw_all := lw_g (lw_at lw_m2 59 rfl) rfl
theorem q412 : (Jvm.Cond.static ({ cls := "java/util/Arrays", name := "copyOfRange", desc := "([BII)[B" } : Jvm.MethodName)) ∈ lw_all := lw_g (lw_at lw_m2 60 rfl) rfl
theorem q413 : (Jvm.Cond.code ({ cls := "java/util/Arrays", name := "copyOfRange", desc := "([BII)[B" } : Jvm.MethodName) prog_52_method_132_code (3 : Nat) (Option.some (Jvm.ClassFile.FieldType.array Jvm.ClassFile.FieldType.byte))) ∈ lw_all := lw_g (lw_at lw_m2 61 rfl) rfl
theorem q414 : (Jvm.Cond.methodLink "java/util/Arrays" (339 : Nat) ({ cls := "java/util/Arrays", name := "copyOfRangeByte", desc := "([BII)[B" } : Jvm.MethodName)) ∈ lw_all := lw_g (lw_at lw_m2 62 rfl) rfl
theorem q415 : (Jvm.Cond.static ({ cls := "java/util/Arrays", name := "copyOfRangeByte", desc := "([BII)[B" } : Jvm.MethodName)) ∈ lw_all := lw_g (lw_at lw_m2 63 rfl) rfl
theorem q416 : (Jvm.Cond.code ({ cls := "java/util/Arrays", name := "copyOfRangeByte", desc := "([BII)[B" } : Jvm.MethodName) prog_52_method_133_code (5 : Nat) (Option.some (Jvm.ClassFile.FieldType.array Jvm.ClassFile.FieldType.byte))) ∈ lw_all := lw_g (lw_at lw_m2 64 rfl) rfl
theorem q417 : (Jvm.Cond.methodLink "java/util/Arrays" (343 : Nat) ({ cls := "java/util/Arrays", name := "checkLength", desc := "(II)V" } : Jvm.MethodName)) ∈ lw_all := lw_g (lw_at lw_m2 65 rfl) rfl
theorem q418 : (Jvm.Cond.static ({ cls := "java/util/Arrays", name := "checkLength", desc := "(II)V" } : Jvm.MethodName)) ∈ lw_all := lw_g (lw_at lw_m2 66 rfl) rfl
theorem q419 : (Jvm.Cond.code ({ cls := "java/util/Arrays", name := "checkLength", desc := "(II)V" } : Jvm.MethodName) prog_52_method_131_code (2 : Nat) (Option.none : Option Jvm.ClassFile.FieldType)) ∈ lw_all := lw_g (lw_at lw_m2 67 rfl) rfl
theorem q420 : (Jvm.Cond.methodLink "java/util/Arrays" (304 : Nat) ({ cls := "java/lang/Math", name := "min", desc := "(II)I" } : Jvm.MethodName)) ∈ lw_all := lw_g (lw_at lw_m2 68 rfl) rfl
theorem q421 : (Jvm.Cond.methodLink "java/util/Arrays" (150 : Nat) ({ cls := "java/lang/System", name := "arraycopy", desc := "(Ljava/lang/Object;ILjava/lang/Object;II)V" } : Jvm.MethodName)) ∈ lw_all := lw_g (lw_at lw_m2 69 rfl) rfl
theorem q422 : (Jvm.Cond.static ({ cls := "java/lang/System", name := "arraycopy", desc := "(Ljava/lang/Object;ILjava/lang/Object;II)V" } : Jvm.MethodName)) ∈ lw_all := lw_g (lw_at lw_m2 70 rfl) rfl
theorem q423 : (Jvm.Cond.native ({ cls := "java/lang/System", name := "arraycopy", desc := "(Ljava/lang/Object;ILjava/lang/Object;II)V" } : Jvm.MethodName)) ∈ lw_all := lw_g (lw_at lw_m2 71 rfl) rfl
theorem q424 : (Jvm.Cond.methodLink "java/util/Arrays" (310 : Nat) ({ cls := "[B", name := "clone", desc := "()Ljava/lang/Object;" } : Jvm.MethodName)) ∈ lw_all := lw_g (lw_at lw_m2 72 rfl) rfl
theorem q425 : (Jvm.Cond.sameMethod "[B" "java/lang/Object" "clone" "()Ljava/lang/Object;") ∈ lw_all := lw_g (lw_at lw_m2 73 rfl) rfl
theorem q426 : (Jvm.Cond.native ({ cls := "java/lang/Object", name := "clone", desc := "()Ljava/lang/Object;" } : Jvm.MethodName)) ∈ lw_all := lw_g (lw_at lw_m2 74 rfl) rfl
theorem q427 : (Jvm.Cond.instanceMethod ({ cls := "java/lang/Object", name := "clone", desc := "()Ljava/lang/Object;" } : Jvm.MethodName)) ∈ lw_all := lw_g (lw_at lw_m2 75 rfl) rfl
theorem q428 : (Jvm.Cond.selects "[B" ({ cls := "[B", name := "clone", desc := "()Ljava/lang/Object;" } : Jvm.MethodName) ({ cls := "java/lang/Object", name := "clone", desc := "()Ljava/lang/Object;" } : Jvm.MethodName)) ∈ lw_all := lw_g (lw_at lw_m2 76 rfl) rfl
theorem q429 : (Jvm.Cond.castable "[B" "java/lang/Cloneable") ∈ lw_tbl := lw_at lw_m2 77 rfl
theorem q430 : (Jvm.Cond.classLink "java/util/Arrays" (311 : Nat) "[B") ∈ lw_all := lw_g (lw_at lw_m2 78 rfl) rfl
theorem q431 : (Jvm.Cond.methodLink "java/lang/StringLatin1" (112 : Nat) ({ cls := "java/lang/String", name := "<init>", desc := "([BB)V" } : Jvm.MethodName)) ∈ lw_all := lw_g (lw_at lw_m2 79 rfl) rfl
theorem q432 : (Jvm.Cond.instanceMethod ({ cls := "java/lang/String", name := "<init>", desc := "([BB)V" } : Jvm.MethodName)) ∈ lw_all := lw_g (lw_at lw_m2 80 rfl) rfl
theorem q433 : (Jvm.Cond.code ({ cls := "java/lang/String", name := "<init>", desc := "([BB)V" } : Jvm.MethodName) prog_41_method_151_code (3 : Nat) (Option.none : Option Jvm.ClassFile.FieldType)) ∈ lw_all := lw_g (lw_at lw_m2 81 rfl) rfl
theorem q434 : (Jvm.Cond.methodLink "java/lang/String" (1 : Nat) ({ cls := "java/lang/Object", name := "<init>", desc := "()V" } : Jvm.MethodName)) ∈ lw_all := lw_g (lw_at lw_m2 82 rfl) rfl
theorem q435 : (Jvm.Cond.fieldLink "java/lang/String" (9 : Nat) "java/lang/String" "value" "[B") ∈ lw_all := lw_g (lw_at lw_m2 83 rfl) rfl
theorem q436 : (Jvm.Cond.fieldLink "java/lang/String" (15 : Nat) "java/lang/String" "coder" "B") ∈ lw_all := lw_g (lw_at lw_m2 84 rfl) rfl
theorem q437 : (Jvm.Cond.laysFinal "java/lang/String" "java/lang/String" "value" "[B") ∈ lw_all := lw_g (lw_at lw_m2 85 rfl) rfl
theorem q439 : (Jvm.Cond.laysFinal "java/lang/String" "java/lang/String" "coder" "B") ∈ lw_all := lw_g (lw_at lw_m2 87 rfl) rfl
theorem q441 : (Jvm.Cond.lays "java/lang/String" "java/lang/String" "hash" "I") ∈ lw_all := lw_g (lw_at lw_m2 89 rfl) rfl
theorem q443 : (Jvm.Cond.lays "java/lang/String" "java/lang/String" "hashIsZero" "Z") ∈ lw_all := lw_g (lw_at lw_m2 91 rfl) rfl
theorem q446 : (Jvm.Cond.arrayClass Jvm.ClassFile.FieldType.byte) ∈ lw_all := lw_g (lw_at lw_m2 94 rfl) rfl
theorem q450 : (Jvm.Cond.stringRef "java/lang/StringUTF16" (295 : Nat) "") ∈ lw_tbl := lw_at lw_m2 98 rfl
theorem q477 : (Jvm.Cond.methodLink "TrustDesk$Reader" (64 : Nat) ({ cls := "TrustDesk$Reader", name := "is", desc := "(Ljava/lang/String;)Z" } : Jvm.MethodName)) ∈ lw_all := lw_g (lw_at lw_m2 125 rfl) rfl
theorem q479 : (Jvm.Cond.instanceMethod ({ cls := "TrustDesk$Reader", name := "is", desc := "(Ljava/lang/String;)Z" } : Jvm.MethodName)) ∈ lw_all := lw_g (lw_at lw_m2 127 rfl) rfl
theorem q480 : (Jvm.Cond.code ({ cls := "TrustDesk$Reader", name := "is", desc := "(Ljava/lang/String;)Z" } : Jvm.MethodName) prog_17_method_4_code (3 : Nat) (Option.some Jvm.ClassFile.FieldType.boolean)) ∈ lw_all := lw_g (lw_at lw_m2 128 rfl) rfl
theorem q481 : (Jvm.Cond.methodLink "TrustDesk$Reader" (55 : Nat) ({ cls := "java/lang/String", name := "charAt", desc := "(I)C" } : Jvm.MethodName)) ∈ lw_all := lw_g (lw_at lw_m2 129 rfl) rfl
theorem q482 : (Jvm.Cond.instanceMethod ({ cls := "java/lang/String", name := "charAt", desc := "(I)C" } : Jvm.MethodName)) ∈ lw_all := lw_g (lw_at lw_m2 130 rfl) rfl
theorem q483 : (Jvm.Cond.selects "java/lang/String" ({ cls := "java/lang/String", name := "charAt", desc := "(I)C" } : Jvm.MethodName) ({ cls := "java/lang/String", name := "charAt", desc := "(I)C" } : Jvm.MethodName)) ∈ lw_all := lw_g (lw_at lw_m2 131 rfl) rfl
theorem q484 : (Jvm.Cond.code ({ cls := "java/lang/String", name := "charAt", desc := "(I)C" } : Jvm.MethodName) prog_41_method_56_code (2 : Nat) (Option.some Jvm.ClassFile.FieldType.char)) ∈ lw_all := lw_g (lw_at lw_m2 132 rfl) rfl
theorem q485 : (Jvm.Cond.methodLink "java/lang/String" (495 : Nat) ({ cls := "java/lang/StringLatin1", name := "charAt", desc := "([BI)C" } : Jvm.MethodName)) ∈ lw_all := lw_g (lw_at lw_m2 133 rfl) rfl
theorem q486 : (Jvm.Cond.static ({ cls := "java/lang/StringLatin1", name := "charAt", desc := "([BI)C" } : Jvm.MethodName)) ∈ lw_all := lw_g (lw_at lw_m2 134 rfl) rfl
theorem q487 : (Jvm.Cond.code ({ cls := "java/lang/StringLatin1", name := "charAt", desc := "([BI)C" } : Jvm.MethodName) prog_43_method_2_code (2 : Nat) (Option.some Jvm.ClassFile.FieldType.char)) ∈ lw_all := lw_g (lw_at lw_m2 135 rfl) rfl
theorem q488 : (Jvm.Cond.methodLink "java/lang/StringLatin1" (9 : Nat) ({ cls := "java/lang/String", name := "checkIndex", desc := "(II)V" } : Jvm.MethodName)) ∈ lw_all := lw_g (lw_at lw_m2 136 rfl) rfl
theorem q489 : (Jvm.Cond.static ({ cls := "java/lang/String", name := "checkIndex", desc := "(II)V" } : Jvm.MethodName)) ∈ lw_all := lw_g (lw_at lw_m2 137 rfl) rfl
theorem q490 : (Jvm.Cond.code ({ cls := "java/lang/String", name := "checkIndex", desc := "(II)V" } : Jvm.MethodName) prog_41_method_155_code (2 : Nat) (Option.none : Option Jvm.ClassFile.FieldType)) ∈ lw_all := lw_g (lw_at lw_m2 138 rfl) rfl
theorem q491 : (Jvm.Cond.methodLink "java/lang/String" (1059 : Nat) ({ cls := "jdk/internal/util/Preconditions", name := "checkIndex", desc := "(IILjava/util/function/BiFunction;)I" } : Jvm.MethodName)) ∈ lw_all := lw_g (lw_at lw_m2 139 rfl) rfl
theorem q492 : (Jvm.Cond.static ({ cls := "jdk/internal/util/Preconditions", name := "checkIndex", desc := "(IILjava/util/function/BiFunction;)I" } : Jvm.MethodName)) ∈ lw_all := lw_g (lw_at lw_m2 140 rfl) rfl
theorem q493 : (Jvm.Cond.code ({ cls := "jdk/internal/util/Preconditions", name := "checkIndex", desc := "(IILjava/util/function/BiFunction;)I" } : Jvm.MethodName) prog_60_method_11_code (3 : Nat) (Option.some Jvm.ClassFile.FieldType.int)) ∈ lw_all := lw_g (lw_at lw_m2 141 rfl) rfl
theorem q501 : (Jvm.Cond.stringRef "TrustDesk$Reader" (177 : Nat) "bar") ∈ lw_tbl := lw_at lw_m2 149 rfl
theorem q502 : (Jvm.Cond.methodLink "TrustDesk$Reader" (68 : Nat) ({ cls := "TrustDesk$Reader", name := "need", desc := "(ZI)V" } : Jvm.MethodName)) ∈ lw_all := lw_g (lw_at lw_m2 150 rfl) rfl
theorem q504 : (Jvm.Cond.instanceMethod ({ cls := "TrustDesk$Reader", name := "need", desc := "(ZI)V" } : Jvm.MethodName)) ∈ lw_all := lw_g (lw_at lw_m2 152 rfl) rfl
theorem q505 : (Jvm.Cond.code ({ cls := "TrustDesk$Reader", name := "need", desc := "(ZI)V" } : Jvm.MethodName) prog_17_method_5_code (3 : Nat) (Option.none : Option Jvm.ClassFile.FieldType)) ∈ lw_all := lw_g (lw_at lw_m2 153 rfl) rfl
theorem q506 : (Jvm.Cond.classLink "TrustDesk$Reader" (59 : Nat) "TrustDesk$Wrong") ∈ lw_all := lw_g (lw_at lw_m2 154 rfl) rfl
theorem q507 : (Jvm.Cond.instantiable "TrustDesk$Wrong" (8 : Nat)) ∈ lw_all := lw_g (lw_at lw_m2 155 rfl) rfl
theorem q508 : (Jvm.Cond.castable "TrustDesk$Wrong" "TrustDesk$Wrong") ∈ lw_tbl := lw_at lw_m2 156 rfl
theorem q509 : (Jvm.Cond.declares ({ cls := "java/lang/Exception", name := "<init>", desc := "()V" } : Jvm.MethodName)) ∈ lw_tbl := lw_at lw_m2 157 rfl
theorem q511 : (Jvm.Cond.declares ({ cls := "java/lang/Throwable", name := "<init>", desc := "()V" } : Jvm.MethodName)) ∈ lw_tbl := lw_at lw_m2 159 rfl
theorem q515 : (Jvm.Cond.lays "TrustDesk$Wrong" "java/lang/Throwable" "cause" "Ljava/lang/Throwable;") ∈ lw_all := lw_g (lw_at lw_m2 163 rfl) rfl
theorem q516 : (Jvm.Cond.lays "java/lang/Throwable" "java/lang/Throwable" "cause" "Ljava/lang/Throwable;") ∈ lw_all := lw_g (lw_at lw_m2 164 rfl) rfl
theorem q517 : (Jvm.Cond.lays "TrustDesk$Wrong" "java/lang/Throwable" "stackTrace" "[Ljava/lang/StackTraceElement;") ∈ lw_all := lw_g (lw_at lw_m2 165 rfl) rfl
theorem q518 : (Jvm.Cond.lays "java/lang/Throwable" "java/lang/Throwable" "stackTrace" "[Ljava/lang/StackTraceElement;") ∈ lw_all := lw_g (lw_at lw_m2 166 rfl) rfl
theorem q519 : (Jvm.Cond.lays "TrustDesk$Wrong" "java/lang/Throwable" "suppressedExceptions" "Ljava/util/List;") ∈ lw_all := lw_g (lw_at lw_m2 167 rfl) rfl
theorem q520 : (Jvm.Cond.lays "java/lang/Throwable" "java/lang/Throwable" "suppressedExceptions" "Ljava/util/List;") ∈ lw_all := lw_g (lw_at lw_m2 168 rfl) rfl
theorem q521 : (Jvm.Cond.lays "TrustDesk$Wrong" "java/lang/Throwable" "detailMessage" "Ljava/lang/String;") ∈ lw_all := lw_g (lw_at lw_m2 169 rfl) rfl
theorem q522 : (Jvm.Cond.lays "java/lang/Throwable" "java/lang/Throwable" "detailMessage" "Ljava/lang/String;") ∈ lw_all := lw_g (lw_at lw_m2 170 rfl) rfl
theorem q523 : (Jvm.Cond.lays "TrustDesk$Wrong" "java/lang/Throwable" "backtrace" "Ljava/lang/Object;") ∈ lw_all := lw_g (lw_at lw_m2 171 rfl) rfl
theorem q524 : (Jvm.Cond.lays "java/lang/Throwable" "java/lang/Throwable" "backtrace" "Ljava/lang/Object;") ∈ lw_all := lw_g (lw_at lw_m2 172 rfl) rfl
theorem q526 : (Jvm.Cond.superclass "java/lang/Throwable" "java/lang/Object") ∈ lw_all := lw_g (lw_at lw_m2 174 rfl) rfl
theorem q527 : (Jvm.Cond.instanceMethod ({ cls := "java/lang/Throwable", name := "<init>", desc := "()V" } : Jvm.MethodName)) ∈ lw_all := lw_g (lw_at lw_m2 175 rfl) rfl
theorem q528 : (Jvm.Cond.code ({ cls := "java/lang/Throwable", name := "<init>", desc := "()V" } : Jvm.MethodName) prog_46_method_1_code (1 : Nat) (Option.none : Option Jvm.ClassFile.FieldType)) ∈ lw_all := lw_g (lw_at lw_m2 176 rfl) rfl
theorem q529 : (Jvm.Cond.methodLink "java/lang/Throwable" (1 : Nat) ({ cls := "java/lang/Object", name := "<init>", desc := "()V" } : Jvm.MethodName)) ∈ lw_all := lw_g (lw_at lw_m2 177 rfl) rfl
theorem q530 : (Jvm.Cond.fieldLink "java/lang/Throwable" (13 : Nat) "java/lang/Throwable" "UNASSIGNED_STACK" "[Ljava/lang/StackTraceElement;") ∈ lw_all := lw_g (lw_at lw_m2 178 rfl) rfl
theorem q531 : (Jvm.Cond.laysStatic "java/lang/Throwable" "UNASSIGNED_STACK" "[Ljava/lang/StackTraceElement;") ∈ lw_tbl := lw_at lw_m2 179 rfl
theorem q532 : (Jvm.Cond.fieldLink "java/lang/Throwable" (20 : Nat) "java/lang/Throwable" "SUPPRESSED_SENTINEL" "Ljava/util/List;") ∈ lw_all := lw_g (lw_at lw_m2 180 rfl) rfl
theorem q533 : (Jvm.Cond.laysStatic "java/lang/Throwable" "SUPPRESSED_SENTINEL" "Ljava/util/List;") ∈ lw_tbl := lw_at lw_m2 181 rfl
theorem q534 : (Jvm.Cond.methodLink "java/lang/Throwable" (27 : Nat) ({ cls := "java/lang/Throwable", name := "fillInStackTrace", desc := "()Ljava/lang/Throwable;" } : Jvm.MethodName)) ∈ lw_all := lw_g (lw_at lw_m2 182 rfl) rfl
theorem q535 : (Jvm.Cond.instanceMethod ({ cls := "java/lang/Throwable", name := "fillInStackTrace", desc := "()Ljava/lang/Throwable;" } : Jvm.MethodName)) ∈ lw_all := lw_g (lw_at lw_m2 183 rfl) rfl
theorem q537 : (Jvm.Cond.selects "java/util/NoSuchElementException" ({ cls := "java/lang/Throwable", name := "fillInStackTrace", desc := "()Ljava/lang/Throwable;" } : Jvm.MethodName) ({ cls := "java/lang/Throwable", name := "fillInStackTrace", desc := "()Ljava/lang/Throwable;" } : Jvm.MethodName)) ∈ lw_all := lw_g (lw_at lw_m2 185 rfl) rfl
theorem q538 : (Jvm.Cond.codeSync ({ cls := "java/lang/Throwable", name := "fillInStackTrace", desc := "()Ljava/lang/Throwable;" } : Jvm.MethodName) prog_46_method_18_code (1 : Nat) (Option.some (Jvm.ClassFile.FieldType.object "java/lang/Throwable"))) ∈ lw_all := lw_g (lw_at lw_m2 186 rfl) rfl
theorem q539 : (Jvm.Cond.methodLink "java/lang/Throwable" (202 : Nat) ({ cls := "java/lang/Throwable", name := "fillInStackTrace", desc := "(I)Ljava/lang/Throwable;" } : Jvm.MethodName)) ∈ lw_all := lw_g (lw_at lw_m2 187 rfl) rfl
theorem q541 : (Jvm.Cond.instanceMethod ({ cls := "java/lang/Throwable", name := "fillInStackTrace", desc := "(I)Ljava/lang/Throwable;" } : Jvm.MethodName)) ∈ lw_all := lw_g (lw_at lw_m2 189 rfl) rfl
theorem q543 : (Jvm.Cond.native ({ cls := "java/lang/Throwable", name := "fillInStackTrace", desc := "(I)Ljava/lang/Throwable;" } : Jvm.MethodName)) ∈ lw_all := lw_g (lw_at lw_m2 191 rfl) rfl
theorem q544 : (Jvm.Cond.methodLink "TrustDesk$Reader" (61 : Nat) ({ cls := "TrustDesk$Wrong", name := "<init>", desc := "(II)V" } : Jvm.MethodName)) ∈ lw_all := lw_g (lw_at lw_m2 192 rfl) rfl
theorem q545 : (Jvm.Cond.instanceMethod ({ cls := "TrustDesk$Wrong", name := "<init>", desc := "(II)V" } : Jvm.MethodName)) ∈ lw_all := lw_g (lw_at lw_m2 193 rfl) rfl
theorem q546 : (Jvm.Cond.code ({ cls := "TrustDesk$Wrong", name := "<init>", desc := "(II)V" } : Jvm.MethodName) prog_24_method_1_code (3 : Nat) (Option.none : Option Jvm.ClassFile.FieldType)) ∈ lw_all := lw_g (lw_at lw_m2 194 rfl) rfl
theorem q547 : (Jvm.Cond.methodLink "TrustDesk$Wrong" (1 : Nat) ({ cls := "java/lang/Exception", name := "<init>", desc := "(Ljava/lang/String;Ljava/lang/Throwable;ZZ)V" } : Jvm.MethodName)) ∈ lw_all := lw_g (lw_at lw_m2 195 rfl) rfl
theorem q548 : (Jvm.Cond.instanceMethod ({ cls := "java/lang/Exception", name := "<init>", desc := "(Ljava/lang/String;Ljava/lang/Throwable;ZZ)V" } : Jvm.MethodName)) ∈ lw_all := lw_g (lw_at lw_m2 196 rfl) rfl
theorem q549 : (Jvm.Cond.code ({ cls := "java/lang/Exception", name := "<init>", desc := "(Ljava/lang/String;Ljava/lang/Throwable;ZZ)V" } : Jvm.MethodName) prog_34_method_5_code (5 : Nat) (Option.none : Option Jvm.ClassFile.FieldType)) ∈ lw_all := lw_g (lw_at lw_m2 197 rfl) rfl
theorem q550 : (Jvm.Cond.methodLink "java/lang/Exception" (16 : Nat) ({ cls := "java/lang/Throwable", name := "<init>", desc := "(Ljava/lang/String;Ljava/lang/Throwable;ZZ)V" } : Jvm.MethodName)) ∈ lw_all := lw_g (lw_at lw_m2 198 rfl) rfl
theorem q551 : (Jvm.Cond.instanceMethod ({ cls := "java/lang/Throwable", name := "<init>", desc := "(Ljava/lang/String;Ljava/lang/Throwable;ZZ)V" } : Jvm.MethodName)) ∈ lw_all := lw_g (lw_at lw_m2 199 rfl) rfl
theorem q552 : (Jvm.Cond.code ({ cls := "java/lang/Throwable", name := "<init>", desc := "(Ljava/lang/String;Ljava/lang/Throwable;ZZ)V" } : Jvm.MethodName) prog_46_method_5_code (5 : Nat) (Option.none : Option Jvm.ClassFile.FieldType)) ∈ lw_all := lw_g (lw_at lw_m2 200 rfl) rfl
theorem q553 : (Jvm.Cond.fieldLink "TrustDesk$Wrong" (7 : Nat) "TrustDesk$Wrong" "kind" "I") ∈ lw_all := lw_g (lw_at lw_m2 201 rfl) rfl
theorem q554 : (Jvm.Cond.fieldLinkNest "TrustDesk" (64 : Nat) "TrustDesk$Wrong" "kind" "I" "TrustDesk") ∈ lw_tbl := lw_at lw_m2 202 rfl
theorem q555 : (Jvm.Cond.fieldLink "TrustDesk$Wrong" (13 : Nat) "TrustDesk$Wrong" "place" "I") ∈ lw_all := lw_g (lw_at lw_m2 203 rfl) rfl
theorem q556 : (Jvm.Cond.fieldLinkNest "TrustDesk" (58 : Nat) "TrustDesk$Wrong" "place" "I" "TrustDesk") ∈ lw_tbl := lw_at lw_m2 204 rfl
theorem q557 : (Jvm.Cond.fieldLink "java/lang/Throwable" (198 : Nat) "java/lang/Throwable" "backtrace" "Ljava/lang/Object;") ∈ lw_all := lw_g (lw_at lw_m2 205 rfl) rfl
theorem q558 : (Jvm.Cond.fieldLink "java/lang/Throwable" (31 : Nat) "java/lang/Throwable" "detailMessage" "Ljava/lang/String;") ∈ lw_all := lw_g (lw_at lw_m2 206 rfl) rfl
theorem q559 : (Jvm.Cond.fieldLink "java/lang/Throwable" (7 : Nat) "java/lang/Throwable" "cause" "Ljava/lang/Throwable;") ∈ lw_all := lw_g (lw_at lw_m2 207 rfl) rfl
theorem q560 : (Jvm.Cond.fieldLink "java/lang/Throwable" (17 : Nat) "java/lang/Throwable" "stackTrace" "[Ljava/lang/StackTraceElement;") ∈ lw_all := lw_g (lw_at lw_m2 208 rfl) rfl
theorem q561 : (Jvm.Cond.fieldLink "java/lang/Throwable" (24 : Nat) "java/lang/Throwable" "suppressedExceptions" "Ljava/util/List;") ∈ lw_all := lw_g (lw_at lw_m2 209 rfl) rfl
theorem q562 : (Jvm.Cond.laysFinal "TrustDesk$Wrong" "TrustDesk$Wrong" "kind" "I") ∈ lw_all := lw_g (lw_at lw_m2 210 rfl) rfl
theorem q564 : (Jvm.Cond.laysFinal "TrustDesk$Wrong" "TrustDesk$Wrong" "place" "I") ∈ lw_all := lw_g (lw_at lw_m2 212 rfl) rfl
theorem q570 : (Jvm.Cond.lays "TrustDesk$Wrong" "java/lang/Throwable" "depth" "I") ∈ lw_all := lw_g (lw_at lw_m2 218 rfl) rfl
theorem q574 : (Jvm.Cond.stringRef "TrustDesk$Reader" (182 : Nat) " near join sale strike ") ∈ lw_tbl := lw_at lw_m2 222 rfl
theorem q575 : (Jvm.Cond.stringRef "TrustDesk$Reader" (151 : Nat) "if") ∈ lw_tbl := lw_at lw_m2 223 rfl
theorem q576 : (Jvm.Cond.methodLink "TrustDesk$Reader" (118 : Nat) ({ cls := "TrustDesk$Reader", name := "takes", desc := "(Ljava/lang/String;)V" } : Jvm.MethodName)) ∈ lw_all := lw_g (lw_at lw_m2 224 rfl) rfl
theorem q578 : (Jvm.Cond.instanceMethod ({ cls := "TrustDesk$Reader", name := "takes", desc := "(Ljava/lang/String;)V" } : Jvm.MethodName)) ∈ lw_all := lw_g (lw_at lw_m2 226 rfl) rfl
theorem q579 : (Jvm.Cond.code ({ cls := "TrustDesk$Reader", name := "takes", desc := "(Ljava/lang/String;)V" } : Jvm.MethodName) prog_17_method_6_code (2 : Nat) (Option.none : Option Jvm.ClassFile.FieldType)) ∈ lw_all := lw_g (lw_at lw_m2 227 rfl) rfl
theorem q580 : (Jvm.Cond.classLink "TrustDesk$Reader" (187 : Nat) "TrustDesk$Bar") ∈ lw_all := lw_g (lw_at lw_m2 228 rfl) rfl
theorem q581 : (Jvm.Cond.instantiable "TrustDesk$Bar" (2 : Nat)) ∈ lw_all := lw_g (lw_at lw_m2 229 rfl) rfl
theorem q582 : (Jvm.Cond.methodLink "TrustDesk$Reader" (156 : Nat) ({ cls := "TrustDesk$Reader", name := "cond", desc := "()LTrustDesk$Cond;" } : Jvm.MethodName)) ∈ lw_all := lw_g (lw_at lw_m2 230 rfl) rfl
theorem q584 : (Jvm.Cond.instanceMethod ({ cls := "TrustDesk$Reader", name := "cond", desc := "()LTrustDesk$Cond;" } : Jvm.MethodName)) ∈ lw_all := lw_g (lw_at lw_m2 232 rfl) rfl
theorem q585 : (Jvm.Cond.code ({ cls := "TrustDesk$Reader", name := "cond", desc := "()LTrustDesk$Cond;" } : Jvm.MethodName) prog_17_method_15_code (2 : Nat) (Option.some (Jvm.ClassFile.FieldType.object "TrustDesk$Cond"))) ∈ lw_all := lw_g (lw_at lw_m2 233 rfl) rfl
theorem q586 : (Jvm.Cond.classLink "TrustDesk$Reader" (202 : Nat) "TrustDesk$Some") ∈ lw_all := lw_g (lw_at lw_m2 234 rfl) rfl
theorem q587 : (Jvm.Cond.instantiable "TrustDesk$Some" (2 : Nat)) ∈ lw_all := lw_g (lw_at lw_m2 235 rfl) rfl
theorem q588 : (Jvm.Cond.methodLink "TrustDesk$Reader" (204 : Nat) ({ cls := "TrustDesk$Some", name := "<init>", desc := "(Z)V" } : Jvm.MethodName)) ∈ lw_all := lw_g (lw_at lw_m2 236 rfl) rfl
theorem q589 : (Jvm.Cond.instanceMethod ({ cls := "TrustDesk$Some", name := "<init>", desc := "(Z)V" } : Jvm.MethodName)) ∈ lw_all := lw_g (lw_at lw_m2 237 rfl) rfl
theorem q590 : (Jvm.Cond.code ({ cls := "TrustDesk$Some", name := "<init>", desc := "(Z)V" } : Jvm.MethodName) prog_20_method_1_code (2 : Nat) (Option.none : Option Jvm.ClassFile.FieldType)) ∈ lw_all := lw_g (lw_at lw_m2 238 rfl) rfl
theorem q591 : (Jvm.Cond.methodLinkNest "TrustDesk$Some" (1 : Nat) ({ cls := "TrustDesk$Cond", name := "<init>", desc := "()V" } : Jvm.MethodName) "TrustDesk") ∈ lw_tbl := lw_at lw_m2 239 rfl
theorem q592 : (Jvm.Cond.instanceMethod ({ cls := "TrustDesk$Cond", name := "<init>", desc := "()V" } : Jvm.MethodName)) ∈ lw_all := lw_g (lw_at lw_m3 0 rfl) rfl
theorem q593 : (Jvm.Cond.code ({ cls := "TrustDesk$Cond", name := "<init>", desc := "()V" } : Jvm.MethodName) prog_6_method_1_code (1 : Nat) (Option.none : Option Jvm.ClassFile.FieldType)) ∈ lw_all := lw_g (lw_at lw_m3 1 rfl) rfl
theorem q594 : (Jvm.Cond.methodLink "TrustDesk$Cond" (1 : Nat) ({ cls := "java/lang/Object", name := "<init>", desc := "()V" } : Jvm.MethodName)) ∈ lw_all := lw_g (lw_at lw_m3 2 rfl) rfl
theorem q595 : (Jvm.Cond.classLink "TrustDesk$Some" (7 : Nat) "java/util/ArrayList") ∈ lw_all := lw_g (lw_at lw_m3 3 rfl) rfl
theorem q596 : (Jvm.Cond.methodLink "TrustDesk$Some" (9 : Nat) ({ cls := "java/util/ArrayList", name := "<init>", desc := "(I)V" } : Jvm.MethodName)) ∈ lw_all := lw_g (lw_at lw_m3 4 rfl) rfl
theorem q597 : (Jvm.Cond.fieldLink "TrustDesk$Some" (18 : Nat) "TrustDesk$Some" "all" "Z") ∈ lw_all := lw_g (lw_at lw_m3 5 rfl) rfl
theorem q598 : (Jvm.Cond.fieldLink "TrustDesk$Some" (12 : Nat) "TrustDesk$Some" "parts" "Ljava/util/ArrayList;") ∈ lw_all := lw_g (lw_at lw_m3 6 rfl) rfl
theorem q599 : (Jvm.Cond.fieldLinkNest "TrustDesk$Reader" (207 : Nat) "TrustDesk$Some" "parts" "Ljava/util/ArrayList;" "TrustDesk") ∈ lw_tbl := lw_at lw_m3 7 rfl
theorem q600 : (Jvm.Cond.laysFinal "TrustDesk$Some" "TrustDesk$Some" "all" "Z") ∈ lw_all := lw_g (lw_at lw_m3 8 rfl) rfl
theorem q602 : (Jvm.Cond.laysFinal "TrustDesk$Some" "TrustDesk$Some" "parts" "Ljava/util/ArrayList;") ∈ lw_all := lw_g (lw_at lw_m3 10 rfl) rfl
theorem q605 : (Jvm.Cond.methodLink "TrustDesk$Reader" (210 : Nat) ({ cls := "TrustDesk$Reader", name := "both", desc := "()LTrustDesk$Cond;" } : Jvm.MethodName)) ∈ lw_all := lw_g (lw_at lw_m3 13 rfl) rfl
theorem q607 : (Jvm.Cond.instanceMethod ({ cls := "TrustDesk$Reader", name := "both", desc := "()LTrustDesk$Cond;" } : Jvm.MethodName)) ∈ lw_all := lw_g (lw_at lw_m3 15 rfl) rfl
theorem q608 : (Jvm.Cond.code ({ cls := "TrustDesk$Reader", name := "both", desc := "()LTrustDesk$Cond;" } : Jvm.MethodName) prog_17_method_16_code (2 : Nat) (Option.some (Jvm.ClassFile.FieldType.object "TrustDesk$Cond"))) ∈ lw_all := lw_g (lw_at lw_m3 16 rfl) rfl
theorem q609 : (Jvm.Cond.methodLink "TrustDesk$Reader" (215 : Nat) ({ cls := "TrustDesk$Reader", name := "part", desc := "()LTrustDesk$Cond;" } : Jvm.MethodName)) ∈ lw_all := lw_g (lw_at lw_m3 17 rfl) rfl
theorem q611 : (Jvm.Cond.instanceMethod ({ cls := "TrustDesk$Reader", name := "part", desc := "()LTrustDesk$Cond;" } : Jvm.MethodName)) ∈ lw_all := lw_g (lw_at lw_m3 19 rfl) rfl
theorem q612 : (Jvm.Cond.code ({ cls := "TrustDesk$Reader", name := "part", desc := "()LTrustDesk$Cond;" } : Jvm.MethodName) prog_17_method_17_code (3 : Nat) (Option.some (Jvm.ClassFile.FieldType.object "TrustDesk$Cond"))) ∈ lw_all := lw_g (lw_at lw_m3 20 rfl) rfl
theorem q613 : (Jvm.Cond.stringRef "TrustDesk$Reader" (219 : Nat) "not") ∈ lw_tbl := lw_at lw_m3 21 rfl
theorem q614 : (Jvm.Cond.stringRef "TrustDesk$Reader" (221 : Nat) "[") ∈ lw_tbl := lw_at lw_m3 22 rfl
theorem q615 : (Jvm.Cond.methodLink "TrustDesk$Reader" (223 : Nat) ({ cls := "TrustDesk$Reader", name := "opens", desc := "()V" } : Jvm.MethodName)) ∈ lw_all := lw_g (lw_at lw_m3 23 rfl) rfl
theorem q617 : (Jvm.Cond.instanceMethod ({ cls := "TrustDesk$Reader", name := "opens", desc := "()V" } : Jvm.MethodName)) ∈ lw_all := lw_g (lw_at lw_m3 25 rfl) rfl
theorem q618 : (Jvm.Cond.code ({ cls := "TrustDesk$Reader", name := "opens", desc := "()V" } : Jvm.MethodName) prog_17_method_19_code (1 : Nat) (Option.none : Option Jvm.ClassFile.FieldType)) ∈ lw_all := lw_g (lw_at lw_m3 26 rfl) rfl
theorem q619 : (Jvm.Cond.stringRef "TrustDesk$Reader" (226 : Nat) "]") ∈ lw_tbl := lw_at lw_m3 27 rfl
theorem q620 : (Jvm.Cond.methodLink "TrustDesk$Reader" (228 : Nat) ({ cls := "TrustDesk$Reader", name := "closes", desc := "(Ljava/lang/String;)V" } : Jvm.MethodName)) ∈ lw_all := lw_g (lw_at lw_m3 28 rfl) rfl
theorem q622 : (Jvm.Cond.instanceMethod ({ cls := "TrustDesk$Reader", name := "closes", desc := "(Ljava/lang/String;)V" } : Jvm.MethodName)) ∈ lw_all := lw_g (lw_at lw_m3 30 rfl) rfl
theorem q623 : (Jvm.Cond.code ({ cls := "TrustDesk$Reader", name := "closes", desc := "(Ljava/lang/String;)V" } : Jvm.MethodName) prog_17_method_20_code (2 : Nat) (Option.none : Option Jvm.ClassFile.FieldType)) ∈ lw_all := lw_g (lw_at lw_m3 31 rfl) rfl
theorem q624 : (Jvm.Cond.methodLink "TrustDesk$Reader" (231 : Nat) ({ cls := "TrustDesk$Reader", name := "compared", desc := "()LTrustDesk$Compared;" } : Jvm.MethodName)) ∈ lw_all := lw_g (lw_at lw_m3 32 rfl) rfl
theorem q626 : (Jvm.Cond.instanceMethod ({ cls := "TrustDesk$Reader", name := "compared", desc := "()LTrustDesk$Compared;" } : Jvm.MethodName)) ∈ lw_all := lw_g (lw_at lw_m3 34 rfl) rfl
theorem q627 : (Jvm.Cond.code ({ cls := "TrustDesk$Reader", name := "compared", desc := "()LTrustDesk$Compared;" } : Jvm.MethodName) prog_17_method_18_code (4 : Nat) (Option.some (Jvm.ClassFile.FieldType.object "TrustDesk$Compared"))) ∈ lw_all := lw_g (lw_at lw_m3 35 rfl) rfl
theorem q628 : (Jvm.Cond.methodLink "TrustDesk$Reader" (144 : Nat) ({ cls := "TrustDesk$Reader", name := "sum", desc := "()LTrustDesk$Sum;" } : Jvm.MethodName)) ∈ lw_all := lw_g (lw_at lw_m3 36 rfl) rfl
theorem q630 : (Jvm.Cond.instanceMethod ({ cls := "TrustDesk$Reader", name := "sum", desc := "()LTrustDesk$Sum;" } : Jvm.MethodName)) ∈ lw_all := lw_g (lw_at lw_m3 38 rfl) rfl
theorem q631 : (Jvm.Cond.code ({ cls := "TrustDesk$Reader", name := "sum", desc := "()LTrustDesk$Sum;" } : Jvm.MethodName) prog_17_method_21_code (3 : Nat) (Option.some (Jvm.ClassFile.FieldType.object "TrustDesk$Sum"))) ∈ lw_all := lw_g (lw_at lw_m3 39 rfl) rfl
theorem q632 : (Jvm.Cond.methodLink "TrustDesk$Reader" (257 : Nat) ({ cls := "TrustDesk$Reader", name := "product", desc := "()LTrustDesk$Sum;" } : Jvm.MethodName)) ∈ lw_all := lw_g (lw_at lw_m3 40 rfl) rfl
theorem q634 : (Jvm.Cond.instanceMethod ({ cls := "TrustDesk$Reader", name := "product", desc := "()LTrustDesk$Sum;" } : Jvm.MethodName)) ∈ lw_all := lw_g (lw_at lw_m3 42 rfl) rfl
theorem q635 : (Jvm.Cond.code ({ cls := "TrustDesk$Reader", name := "product", desc := "()LTrustDesk$Sum;" } : Jvm.MethodName) prog_17_method_22_code (2 : Nat) (Option.some (Jvm.ClassFile.FieldType.object "TrustDesk$Sum"))) ∈ lw_all := lw_g (lw_at lw_m3 43 rfl) rfl
theorem q636 : (Jvm.Cond.methodLink "TrustDesk$Reader" (267 : Nat) ({ cls := "TrustDesk$Reader", name := "factor", desc := "()LTrustDesk$Sum;" } : Jvm.MethodName)) ∈ lw_all := lw_g (lw_at lw_m3 44 rfl) rfl
theorem q638 : (Jvm.Cond.instanceMethod ({ cls := "TrustDesk$Reader", name := "factor", desc := "()LTrustDesk$Sum;" } : Jvm.MethodName)) ∈ lw_all := lw_g (lw_at lw_m3 46 rfl) rfl
theorem q639 : (Jvm.Cond.code ({ cls := "TrustDesk$Reader", name := "factor", desc := "()LTrustDesk$Sum;" } : Jvm.MethodName) prog_17_method_23_code (2 : Nat) (Option.some (Jvm.ClassFile.FieldType.object "TrustDesk$Sum"))) ∈ lw_all := lw_g (lw_at lw_m3 47 rfl) rfl
theorem q640 : (Jvm.Cond.stringRef "TrustDesk$Reader" (272 : Nat) "(") ∈ lw_tbl := lw_at lw_m3 48 rfl
theorem q641 : (Jvm.Cond.stringRef "TrustDesk$Reader" (274 : Nat) ")") ∈ lw_tbl := lw_at lw_m3 49 rfl
theorem q642 : (Jvm.Cond.stringRef "TrustDesk$Reader" (276 : Nat) " poor maids boys sick bread coal rent lake income coin living dead marks ") ∈ lw_tbl := lw_at lw_m3 50 rfl
theorem q643 : (Jvm.Cond.classLink "TrustDesk$Reader" (278 : Nat) "TrustDesk$Fact") ∈ lw_all := lw_g (lw_at lw_m3 51 rfl) rfl
theorem q644 : (Jvm.Cond.instantiable "TrustDesk$Fact" (1 : Nat)) ∈ lw_all := lw_g (lw_at lw_m3 52 rfl) rfl
theorem q645 : (Jvm.Cond.methodLink "TrustDesk$Reader" (280 : Nat) ({ cls := "TrustDesk$Fact", name := "<init>", desc := "(I)V" } : Jvm.MethodName)) ∈ lw_all := lw_g (lw_at lw_m3 53 rfl) rfl
theorem q646 : (Jvm.Cond.instanceMethod ({ cls := "TrustDesk$Fact", name := "<init>", desc := "(I)V" } : Jvm.MethodName)) ∈ lw_all := lw_g (lw_at lw_m3 54 rfl) rfl
theorem q647 : (Jvm.Cond.code ({ cls := "TrustDesk$Fact", name := "<init>", desc := "(I)V" } : Jvm.MethodName) prog_9_method_1_code (2 : Nat) (Option.none : Option Jvm.ClassFile.FieldType)) ∈ lw_all := lw_g (lw_at lw_m3 55 rfl) rfl
theorem q648 : (Jvm.Cond.methodLinkNest "TrustDesk$Fact" (1 : Nat) ({ cls := "TrustDesk$Sum", name := "<init>", desc := "()V" } : Jvm.MethodName) "TrustDesk") ∈ lw_tbl := lw_at lw_m3 56 rfl
theorem q649 : (Jvm.Cond.instanceMethod ({ cls := "TrustDesk$Sum", name := "<init>", desc := "()V" } : Jvm.MethodName)) ∈ lw_all := lw_g (lw_at lw_m3 57 rfl) rfl
theorem q650 : (Jvm.Cond.code ({ cls := "TrustDesk$Sum", name := "<init>", desc := "()V" } : Jvm.MethodName) prog_22_method_1_code (1 : Nat) (Option.none : Option Jvm.ClassFile.FieldType)) ∈ lw_all := lw_g (lw_at lw_m3 58 rfl) rfl
theorem q651 : (Jvm.Cond.methodLink "TrustDesk$Sum" (1 : Nat) ({ cls := "java/lang/Object", name := "<init>", desc := "()V" } : Jvm.MethodName)) ∈ lw_all := lw_g (lw_at lw_m3 59 rfl) rfl
theorem q652 : (Jvm.Cond.fieldLink "TrustDesk$Fact" (7 : Nat) "TrustDesk$Fact" "which" "I") ∈ lw_all := lw_g (lw_at lw_m3 60 rfl) rfl
theorem q653 : (Jvm.Cond.laysFinal "TrustDesk$Fact" "TrustDesk$Fact" "which" "I") ∈ lw_all := lw_g (lw_at lw_m3 61 rfl) rfl
theorem q656 : (Jvm.Cond.classLink "TrustDesk$Reader" (281 : Nat) "TrustDesk$Plain") ∈ lw_all := lw_g (lw_at lw_m3 64 rfl) rfl
theorem q657 : (Jvm.Cond.instantiable "TrustDesk$Plain" (1 : Nat)) ∈ lw_all := lw_g (lw_at lw_m3 65 rfl) rfl
theorem q658 : (Jvm.Cond.methodLink "TrustDesk$Reader" (107 : Nat) ({ cls := "TrustDesk$Reader", name := "number", desc := "(II)I" } : Jvm.MethodName)) ∈ lw_all := lw_g (lw_at lw_m3 66 rfl) rfl
theorem q660 : (Jvm.Cond.instanceMethod ({ cls := "TrustDesk$Reader", name := "number", desc := "(II)I" } : Jvm.MethodName)) ∈ lw_all := lw_g (lw_at lw_m3 68 rfl) rfl
theorem q661 : (Jvm.Cond.code ({ cls := "TrustDesk$Reader", name := "number", desc := "(II)I" } : Jvm.MethodName) prog_17_method_7_code (4 : Nat) (Option.some Jvm.ClassFile.FieldType.int)) ∈ lw_all := lw_g (lw_at lw_m3 69 rfl) rfl
theorem q662 : (Jvm.Cond.methodLink "TrustDesk$Reader" (283 : Nat) ({ cls := "TrustDesk$Plain", name := "<init>", desc := "(J)V" } : Jvm.MethodName)) ∈ lw_all := lw_g (lw_at lw_m3 70 rfl) rfl
theorem q663 : (Jvm.Cond.instanceMethod ({ cls := "TrustDesk$Plain", name := "<init>", desc := "(J)V" } : Jvm.MethodName)) ∈ lw_all := lw_g (lw_at lw_m3 71 rfl) rfl
theorem q664 : (Jvm.Cond.code ({ cls := "TrustDesk$Plain", name := "<init>", desc := "(J)V" } : Jvm.MethodName) prog_16_method_1_code (3 : Nat) (Option.none : Option Jvm.ClassFile.FieldType)) ∈ lw_all := lw_g (lw_at lw_m3 72 rfl) rfl
theorem q665 : (Jvm.Cond.methodLinkNest "TrustDesk$Plain" (1 : Nat) ({ cls := "TrustDesk$Sum", name := "<init>", desc := "()V" } : Jvm.MethodName) "TrustDesk") ∈ lw_tbl := lw_at lw_m3 73 rfl
theorem q666 : (Jvm.Cond.fieldLink "TrustDesk$Plain" (7 : Nat) "TrustDesk$Plain" "v" "J") ∈ lw_all := lw_g (lw_at lw_m3 74 rfl) rfl
theorem q667 : (Jvm.Cond.laysFinal "TrustDesk$Plain" "TrustDesk$Plain" "v" "J") ∈ lw_all := lw_g (lw_at lw_m3 75 rfl) rfl
theorem q670 : (Jvm.Cond.stringRef "TrustDesk$Reader" (270 : Nat) "*") ∈ lw_tbl := lw_at lw_m3 78 rfl
theorem q671 : (Jvm.Cond.classLink "TrustDesk$Reader" (264 : Nat) "TrustDesk$Worked") ∈ lw_all := lw_g (lw_at lw_m3 79 rfl) rfl
theorem q672 : (Jvm.Cond.instantiable "TrustDesk$Worked" (3 : Nat)) ∈ lw_all := lw_g (lw_at lw_m3 80 rfl) rfl
theorem q673 : (Jvm.Cond.methodLink "TrustDesk$Reader" (266 : Nat) ({ cls := "TrustDesk$Worked", name := "<init>", desc := "(CLTrustDesk$Sum;LTrustDesk$Sum;)V" } : Jvm.MethodName)) ∈ lw_all := lw_g (lw_at lw_m3 81 rfl) rfl
theorem q674 : (Jvm.Cond.instanceMethod ({ cls := "TrustDesk$Worked", name := "<init>", desc := "(CLTrustDesk$Sum;LTrustDesk$Sum;)V" } : Jvm.MethodName)) ∈ lw_all := lw_g (lw_at lw_m3 82 rfl) rfl
theorem q675 : (Jvm.Cond.code ({ cls := "TrustDesk$Worked", name := "<init>", desc := "(CLTrustDesk$Sum;LTrustDesk$Sum;)V" } : Jvm.MethodName) prog_23_method_1_code (4 : Nat) (Option.none : Option Jvm.ClassFile.FieldType)) ∈ lw_all := lw_g (lw_at lw_m3 83 rfl) rfl
theorem q676 : (Jvm.Cond.methodLinkNest "TrustDesk$Worked" (1 : Nat) ({ cls := "TrustDesk$Sum", name := "<init>", desc := "()V" } : Jvm.MethodName) "TrustDesk") ∈ lw_tbl := lw_at lw_m3 84 rfl
theorem q677 : (Jvm.Cond.fieldLink "TrustDesk$Worked" (7 : Nat) "TrustDesk$Worked" "sign" "C") ∈ lw_all := lw_g (lw_at lw_m3 85 rfl) rfl
theorem q678 : (Jvm.Cond.fieldLink "TrustDesk$Worked" (13 : Nat) "TrustDesk$Worked" "a" "LTrustDesk$Sum;") ∈ lw_all := lw_g (lw_at lw_m3 86 rfl) rfl
theorem q679 : (Jvm.Cond.fieldLink "TrustDesk$Worked" (17 : Nat) "TrustDesk$Worked" "b" "LTrustDesk$Sum;") ∈ lw_all := lw_g (lw_at lw_m3 87 rfl) rfl
theorem q680 : (Jvm.Cond.laysFinal "TrustDesk$Worked" "TrustDesk$Worked" "sign" "C") ∈ lw_all := lw_g (lw_at lw_m3 88 rfl) rfl
theorem q682 : (Jvm.Cond.laysFinal "TrustDesk$Worked" "TrustDesk$Worked" "a" "LTrustDesk$Sum;") ∈ lw_all := lw_g (lw_at lw_m3 90 rfl) rfl
theorem q684 : (Jvm.Cond.laysFinal "TrustDesk$Worked" "TrustDesk$Worked" "b" "LTrustDesk$Sum;") ∈ lw_all := lw_g (lw_at lw_m3 92 rfl) rfl
theorem q687 : (Jvm.Cond.stringRef "TrustDesk$Reader" (260 : Nat) "+") ∈ lw_tbl := lw_at lw_m3 95 rfl
theorem q688 : (Jvm.Cond.stringRef "TrustDesk$Reader" (262 : Nat) "-") ∈ lw_tbl := lw_at lw_m3 96 rfl
theorem q689 : (Jvm.Cond.stringRef "TrustDesk$Reader" (240 : Nat) "<") ∈ lw_tbl := lw_at lw_m3 97 rfl
theorem q690 : (Jvm.Cond.stringRef "TrustDesk$Reader" (242 : Nat) ">") ∈ lw_tbl := lw_at lw_m3 98 rfl
theorem q691 : (Jvm.Cond.stringRef "TrustDesk$Reader" (244 : Nat) "=") ∈ lw_tbl := lw_at lw_m3 99 rfl
theorem q692 : (Jvm.Cond.classLink "TrustDesk$Reader" (246 : Nat) "TrustDesk$Compared") ∈ lw_all := lw_g (lw_at lw_m3 100 rfl) rfl
theorem q693 : (Jvm.Cond.instantiable "TrustDesk$Compared" (3 : Nat)) ∈ lw_all := lw_g (lw_at lw_m3 101 rfl) rfl
theorem q694 : (Jvm.Cond.methodLink "TrustDesk$Reader" (248 : Nat) ({ cls := "TrustDesk$Compared", name := "<init>", desc := "(CLTrustDesk$Sum;LTrustDesk$Sum;)V" } : Jvm.MethodName)) ∈ lw_all := lw_g (lw_at lw_m3 102 rfl) rfl
theorem q695 : (Jvm.Cond.instanceMethod ({ cls := "TrustDesk$Compared", name := "<init>", desc := "(CLTrustDesk$Sum;LTrustDesk$Sum;)V" } : Jvm.MethodName)) ∈ lw_all := lw_g (lw_at lw_m3 103 rfl) rfl
theorem q696 : (Jvm.Cond.code ({ cls := "TrustDesk$Compared", name := "<init>", desc := "(CLTrustDesk$Sum;LTrustDesk$Sum;)V" } : Jvm.MethodName) prog_5_method_1_code (4 : Nat) (Option.none : Option Jvm.ClassFile.FieldType)) ∈ lw_all := lw_g (lw_at lw_m3 104 rfl) rfl
theorem q697 : (Jvm.Cond.methodLinkNest "TrustDesk$Compared" (1 : Nat) ({ cls := "TrustDesk$Cond", name := "<init>", desc := "()V" } : Jvm.MethodName) "TrustDesk") ∈ lw_tbl := lw_at lw_m3 105 rfl
theorem q698 : (Jvm.Cond.fieldLink "TrustDesk$Compared" (7 : Nat) "TrustDesk$Compared" "sign" "C") ∈ lw_all := lw_g (lw_at lw_m3 106 rfl) rfl
theorem q699 : (Jvm.Cond.fieldLink "TrustDesk$Compared" (13 : Nat) "TrustDesk$Compared" "a" "LTrustDesk$Sum;") ∈ lw_all := lw_g (lw_at lw_m3 107 rfl) rfl
theorem q700 : (Jvm.Cond.fieldLink "TrustDesk$Compared" (17 : Nat) "TrustDesk$Compared" "b" "LTrustDesk$Sum;") ∈ lw_all := lw_g (lw_at lw_m3 108 rfl) rfl
theorem q701 : (Jvm.Cond.laysFinal "TrustDesk$Compared" "TrustDesk$Compared" "sign" "C") ∈ lw_all := lw_g (lw_at lw_m3 109 rfl) rfl
theorem q703 : (Jvm.Cond.laysFinal "TrustDesk$Compared" "TrustDesk$Compared" "a" "LTrustDesk$Sum;") ∈ lw_all := lw_g (lw_at lw_m3 111 rfl) rfl
theorem q705 : (Jvm.Cond.laysFinal "TrustDesk$Compared" "TrustDesk$Compared" "b" "LTrustDesk$Sum;") ∈ lw_all := lw_g (lw_at lw_m3 113 rfl) rfl
theorem q708 : (Jvm.Cond.methodLink "TrustDesk$Reader" (100 : Nat) ({ cls := "java/util/ArrayList", name := "add", desc := "(Ljava/lang/Object;)Z" } : Jvm.MethodName)) ∈ lw_all := lw_g (lw_at lw_m3 116 rfl) rfl
theorem q709 : (Jvm.Cond.instanceMethod ({ cls := "java/util/ArrayList", name := "add", desc := "(Ljava/lang/Object;)Z" } : Jvm.MethodName)) ∈ lw_all := lw_g (lw_at lw_m3 117 rfl) rfl
theorem q710 : (Jvm.Cond.selects "java/util/ArrayList" ({ cls := "java/util/ArrayList", name := "add", desc := "(Ljava/lang/Object;)Z" } : Jvm.MethodName) ({ cls := "java/util/ArrayList", name := "add", desc := "(Ljava/lang/Object;)Z" } : Jvm.MethodName)) ∈ lw_all := lw_g (lw_at lw_m3 118 rfl) rfl
theorem q711 : (Jvm.Cond.code ({ cls := "java/util/ArrayList", name := "add", desc := "(Ljava/lang/Object;)Z" } : Jvm.MethodName) prog_51_method_25_code (2 : Nat) (Option.some Jvm.ClassFile.FieldType.boolean)) ∈ lw_all := lw_g (lw_at lw_m3 119 rfl) rfl
theorem q712 : (Jvm.Cond.methodLink "java/util/ArrayList" (131 : Nat) ({ cls := "java/util/ArrayList", name := "add", desc := "(Ljava/lang/Object;[Ljava/lang/Object;I)V" } : Jvm.MethodName)) ∈ lw_all := lw_g (lw_at lw_m3 120 rfl) rfl
theorem q714 : (Jvm.Cond.instanceMethod ({ cls := "java/util/ArrayList", name := "add", desc := "(Ljava/lang/Object;[Ljava/lang/Object;I)V" } : Jvm.MethodName)) ∈ lw_all := lw_g (lw_at lw_m3 122 rfl) rfl
theorem q715 : (Jvm.Cond.code ({ cls := "java/util/ArrayList", name := "add", desc := "(Ljava/lang/Object;[Ljava/lang/Object;I)V" } : Jvm.MethodName) prog_51_method_24_code (4 : Nat) (Option.none : Option Jvm.ClassFile.FieldType)) ∈ lw_all := lw_g (lw_at lw_m3 123 rfl) rfl
theorem q716 : (Jvm.Cond.methodLink "java/util/ArrayList" (129 : Nat) ({ cls := "java/util/ArrayList", name := "grow", desc := "()[Ljava/lang/Object;" } : Jvm.MethodName)) ∈ lw_all := lw_g (lw_at lw_m3 124 rfl) rfl
theorem q718 : (Jvm.Cond.instanceMethod ({ cls := "java/util/ArrayList", name := "grow", desc := "()[Ljava/lang/Object;" } : Jvm.MethodName)) ∈ lw_all := lw_g (lw_at lw_m3 126 rfl) rfl
theorem q719 : (Jvm.Cond.code ({ cls := "java/util/ArrayList", name := "grow", desc := "()[Ljava/lang/Object;" } : Jvm.MethodName) prog_51_method_7_code (1 : Nat) (Option.some (Jvm.ClassFile.FieldType.array (Jvm.ClassFile.FieldType.object "java/lang/Object")))) ∈ lw_all := lw_g (lw_at lw_m3 127 rfl) rfl
theorem q720 : (Jvm.Cond.methodLink "java/util/ArrayList" (69 : Nat) ({ cls := "java/util/ArrayList", name := "grow", desc := "(I)[Ljava/lang/Object;" } : Jvm.MethodName)) ∈ lw_all := lw_g (lw_at lw_m3 128 rfl) rfl
theorem q722 : (Jvm.Cond.instanceMethod ({ cls := "java/util/ArrayList", name := "grow", desc := "(I)[Ljava/lang/Object;" } : Jvm.MethodName)) ∈ lw_all := lw_g (lw_at lw_m3 130 rfl) rfl
theorem q723 : (Jvm.Cond.code ({ cls := "java/util/ArrayList", name := "grow", desc := "(I)[Ljava/lang/Object;" } : Jvm.MethodName) prog_51_method_6_code (4 : Nat) (Option.some (Jvm.ClassFile.FieldType.array (Jvm.ClassFile.FieldType.object "java/lang/Object")))) ∈ lw_all := lw_g (lw_at lw_m3 131 rfl) rfl
theorem q724 : (Jvm.Cond.fieldLink "java/util/ArrayList" (39 : Nat) "java/util/ArrayList" "DEFAULTCAPACITY_EMPTY_ELEMENTDATA" "[Ljava/lang/Object;") ∈ lw_all := lw_g (lw_at lw_m3 132 rfl) rfl
theorem q725 : (Jvm.Cond.laysStatic "java/util/ArrayList" "DEFAULTCAPACITY_EMPTY_ELEMENTDATA" "[Ljava/lang/Object;") ∈ lw_tbl := lw_at lw_m3 133 rfl
theorem q726 : (Jvm.Cond.methodLink "java/util/ArrayList" (73 : Nat) ({ cls := "jdk/internal/util/ArraysSupport", name := "newLength", desc := "(III)I" } : Jvm.MethodName)) ∈ lw_all := lw_g (lw_at lw_m3 134 rfl) rfl
theorem q727 : (Jvm.Cond.static ({ cls := "jdk/internal/util/ArraysSupport", name := "newLength", desc := "(III)I" } : Jvm.MethodName)) ∈ lw_all := lw_g (lw_at lw_m3 135 rfl) rfl
theorem q728 : (Jvm.Cond.code ({ cls := "jdk/internal/util/ArraysSupport", name := "newLength", desc := "(III)I" } : Jvm.MethodName) prog_59_method_27_code (4 : Nat) (Option.some Jvm.ClassFile.FieldType.int)) ∈ lw_all := lw_g (lw_at lw_m3 136 rfl) rfl
theorem q729 : (Jvm.Cond.methodLink "jdk/internal/util/ArraysSupport" (194 : Nat) ({ cls := "java/lang/Math", name := "max", desc := "(II)I" } : Jvm.MethodName)) ∈ lw_all := lw_g (lw_at lw_m3 137 rfl) rfl
theorem q730 : (Jvm.Cond.constant "jdk/internal/util/ArraysSupport" (200 : Nat) (2147483639 : Int32)) ∈ lw_all := lw_g (lw_at lw_m3 138 rfl) rfl
theorem q734 : (Jvm.Cond.methodLink "java/util/ArrayList" (66 : Nat) ({ cls := "java/util/Arrays", name := "copyOf", desc := "([Ljava/lang/Object;I)[Ljava/lang/Object;" } : Jvm.MethodName)) ∈ lw_all := lw_g (lw_at lw_m3 142 rfl) rfl
theorem q735 : (Jvm.Cond.static ({ cls := "java/util/Arrays", name := "copyOf", desc := "([Ljava/lang/Object;I)[Ljava/lang/Object;" } : Jvm.MethodName)) ∈ lw_all := lw_g (lw_at lw_m3 143 rfl) rfl
theorem q736 : (Jvm.Cond.code ({ cls := "java/util/Arrays", name := "copyOf", desc := "([Ljava/lang/Object;I)[Ljava/lang/Object;" } : Jvm.MethodName) prog_52_method_119_code (2 : Nat) (Option.some (Jvm.ClassFile.FieldType.array (Jvm.ClassFile.FieldType.object "java/lang/Object")))) ∈ lw_all := lw_g (lw_at lw_m3 144 rfl) rfl
theorem q737 : (Jvm.Cond.methodLink "java/util/Arrays" (86 : Nat) ({ cls := "java/lang/Object", name := "getClass", desc := "()Ljava/lang/Class;" } : Jvm.MethodName)) ∈ lw_all := lw_g (lw_at lw_m3 145 rfl) rfl
theorem q738 : (Jvm.Cond.instanceMethod ({ cls := "java/lang/Object", name := "getClass", desc := "()Ljava/lang/Class;" } : Jvm.MethodName)) ∈ lw_all := lw_g (lw_at lw_m3 146 rfl) rfl
theorem q767 : (Jvm.Cond.native ({ cls := "java/lang/Object", name := "getClass", desc := "()Ljava/lang/Class;" } : Jvm.MethodName)) ∈ lw_all := lw_g (lw_at lw_m3 175 rfl) rfl
theorem q768 : (Jvm.Cond.methodLink "java/util/Arrays" (300 : Nat) ({ cls := "java/util/Arrays", name := "copyOf", desc := "([Ljava/lang/Object;ILjava/lang/Class;)[Ljava/lang/Object;" } : Jvm.MethodName)) ∈ lw_all := lw_g (lw_at lw_m3 176 rfl) rfl
theorem q769 : (Jvm.Cond.static ({ cls := "java/util/Arrays", name := "copyOf", desc := "([Ljava/lang/Object;ILjava/lang/Class;)[Ljava/lang/Object;" } : Jvm.MethodName)) ∈ lw_all := lw_g (lw_at lw_m3 177 rfl) rfl
theorem q770 : (Jvm.Cond.code ({ cls := "java/util/Arrays", name := "copyOf", desc := "([Ljava/lang/Object;ILjava/lang/Class;)[Ljava/lang/Object;" } : Jvm.MethodName) prog_52_method_120_code (4 : Nat) (Option.some (Jvm.ClassFile.FieldType.array (Jvm.ClassFile.FieldType.object "java/lang/Object")))) ∈ lw_all := lw_g (lw_at lw_m3 178 rfl) rfl
theorem q771 : (Jvm.Cond.classLink "java/util/Arrays" (110 : Nat) "[Ljava/lang/Object;") ∈ lw_all := lw_g (lw_at lw_m3 179 rfl) rfl
theorem q772 : (Jvm.Cond.classLink "java/util/Arrays" (2 : Nat) "java/lang/Object") ∈ lw_all := lw_g (lw_at lw_m3 180 rfl) rfl
theorem q773 : (Jvm.Cond.methodLink "java/util/ArrayList" (79 : Nat) ({ cls := "java/lang/Math", name := "max", desc := "(II)I" } : Jvm.MethodName)) ∈ lw_all := lw_g (lw_at lw_m3 181 rfl) rfl
theorem q774 : (Jvm.Cond.classLink "TrustDesk$Reader" (235 : Nat) "TrustDesk$Not") ∈ lw_all := lw_g (lw_at lw_m3 182 rfl) rfl
theorem q775 : (Jvm.Cond.instantiable "TrustDesk$Not" (1 : Nat)) ∈ lw_all := lw_g (lw_at lw_m3 183 rfl) rfl
theorem q776 : (Jvm.Cond.methodLink "TrustDesk$Reader" (237 : Nat) ({ cls := "TrustDesk$Not", name := "<init>", desc := "(LTrustDesk$Cond;)V" } : Jvm.MethodName)) ∈ lw_all := lw_g (lw_at lw_m3 184 rfl) rfl
theorem q777 : (Jvm.Cond.instanceMethod ({ cls := "TrustDesk$Not", name := "<init>", desc := "(LTrustDesk$Cond;)V" } : Jvm.MethodName)) ∈ lw_all := lw_g (lw_at lw_m3 185 rfl) rfl
theorem q778 : (Jvm.Cond.code ({ cls := "TrustDesk$Not", name := "<init>", desc := "(LTrustDesk$Cond;)V" } : Jvm.MethodName) prog_15_method_1_code (2 : Nat) (Option.none : Option Jvm.ClassFile.FieldType)) ∈ lw_all := lw_g (lw_at lw_m3 186 rfl) rfl
theorem q779 : (Jvm.Cond.methodLinkNest "TrustDesk$Not" (1 : Nat) ({ cls := "TrustDesk$Cond", name := "<init>", desc := "()V" } : Jvm.MethodName) "TrustDesk") ∈ lw_tbl := lw_at lw_m3 187 rfl
theorem q780 : (Jvm.Cond.fieldLink "TrustDesk$Not" (7 : Nat) "TrustDesk$Not" "c" "LTrustDesk$Cond;") ∈ lw_all := lw_g (lw_at lw_m3 188 rfl) rfl
theorem q781 : (Jvm.Cond.laysFinal "TrustDesk$Not" "TrustDesk$Not" "c" "LTrustDesk$Cond;") ∈ lw_all := lw_g (lw_at lw_m3 189 rfl) rfl
theorem q784 : (Jvm.Cond.stringRef "TrustDesk$Reader" (217 : Nat) "and") ∈ lw_tbl := lw_at lw_m3 192 rfl
theorem q785 : (Jvm.Cond.stringRef "TrustDesk$Reader" (213 : Nat) "or") ∈ lw_tbl := lw_at lw_m3 193 rfl
theorem q786 : (Jvm.Cond.methodLink "TrustDesk$Reader" (189 : Nat) ({ cls := "TrustDesk$Bar", name := "<init>", desc := "(ILTrustDesk$Cond;)V" } : Jvm.MethodName)) ∈ lw_all := lw_g (lw_at lw_m3 194 rfl) rfl
theorem q787 : (Jvm.Cond.instanceMethod ({ cls := "TrustDesk$Bar", name := "<init>", desc := "(ILTrustDesk$Cond;)V" } : Jvm.MethodName)) ∈ lw_all := lw_g (lw_at lw_m3 195 rfl) rfl
theorem q788 : (Jvm.Cond.code ({ cls := "TrustDesk$Bar", name := "<init>", desc := "(ILTrustDesk$Cond;)V" } : Jvm.MethodName) prog_4_method_1_code (3 : Nat) (Option.none : Option Jvm.ClassFile.FieldType)) ∈ lw_all := lw_g (lw_at lw_m3 196 rfl) rfl
theorem q789 : (Jvm.Cond.methodLink "TrustDesk$Bar" (1 : Nat) ({ cls := "java/lang/Object", name := "<init>", desc := "()V" } : Jvm.MethodName)) ∈ lw_all := lw_g (lw_at lw_m3 197 rfl) rfl
theorem q790 : (Jvm.Cond.fieldLink "TrustDesk$Bar" (7 : Nat) "TrustDesk$Bar" "kind" "I") ∈ lw_all := lw_g (lw_at lw_m3 198 rfl) rfl
theorem q791 : (Jvm.Cond.fieldLinkNest "TrustDesk$Act" (32 : Nat) "TrustDesk$Bar" "kind" "I" "TrustDesk") ∈ lw_tbl := lw_at lw_m3 199 rfl
theorem q792 : (Jvm.Cond.fieldLink "TrustDesk$Bar" (13 : Nat) "TrustDesk$Bar" "cond" "LTrustDesk$Cond;") ∈ lw_all := lw_g (lw_at lw_m3 200 rfl) rfl
theorem q793 : (Jvm.Cond.fieldLinkNest "TrustDesk$Act" (36 : Nat) "TrustDesk$Bar" "cond" "LTrustDesk$Cond;" "TrustDesk") ∈ lw_tbl := lw_at lw_m3 201 rfl
theorem q794 : (Jvm.Cond.laysFinal "TrustDesk$Bar" "TrustDesk$Bar" "kind" "I") ∈ lw_all := lw_g (lw_at lw_m3 202 rfl) rfl
theorem q796 : (Jvm.Cond.laysFinal "TrustDesk$Bar" "TrustDesk$Bar" "cond" "LTrustDesk$Cond;") ∈ lw_all := lw_g (lw_at lw_m3 204 rfl) rfl
theorem q799 : (Jvm.Cond.methodLink "TrustDesk$Reader" (196 : Nat) ({ cls := "TrustDesk$Reader", name := "lowest", desc := "(I)I" } : Jvm.MethodName)) ∈ lw_all := lw_g (lw_at lw_m3 207 rfl) rfl
theorem q800 : (Jvm.Cond.static ({ cls := "TrustDesk$Reader", name := "lowest", desc := "(I)I" } : Jvm.MethodName)) ∈ lw_all := lw_g (lw_at lw_m3 208 rfl) rfl
theorem q801 : (Jvm.Cond.code ({ cls := "TrustDesk$Reader", name := "lowest", desc := "(I)I" } : Jvm.MethodName) prog_17_method_13_code (1 : Nat) (Option.some Jvm.ClassFile.FieldType.int)) ∈ lw_all := lw_g (lw_at lw_m3 209 rfl) rfl
theorem q802 : (Jvm.Cond.methodLink "TrustDesk$Reader" (199 : Nat) ({ cls := "TrustDesk$Reader", name := "highest", desc := "(I)I" } : Jvm.MethodName)) ∈ lw_all := lw_g (lw_at lw_m3 210 rfl) rfl
theorem q803 : (Jvm.Cond.static ({ cls := "TrustDesk$Reader", name := "highest", desc := "(I)I" } : Jvm.MethodName)) ∈ lw_all := lw_g (lw_at lw_m3 211 rfl) rfl
theorem q804 : (Jvm.Cond.code ({ cls := "TrustDesk$Reader", name := "highest", desc := "(I)I" } : Jvm.MethodName) prog_17_method_14_code (1 : Nat) (Option.some Jvm.ClassFile.FieldType.int)) ∈ lw_all := lw_g (lw_at lw_m3 212 rfl) rfl
theorem q805 : (Jvm.Cond.stringRef "TrustDesk$Reader" (116 : Nat) ";") ∈ lw_tbl := lw_at lw_m3 213 rfl
theorem q806 : (Jvm.Cond.methodLink "TrustDesk" (97 : Nat) ({ cls := "java/util/ArrayList", name := "add", desc := "(Ljava/lang/Object;)Z" } : Jvm.MethodName)) ∈ lw_all := lw_g (lw_at lw_m3 214 rfl) rfl
theorem q807 : (Jvm.Cond.methodLink "TrustDesk" (104 : Nat) ({ cls := "TrustDesk", name := "wrong", desc := "(LTrustDesk$Wrong;)I" } : Jvm.MethodName)) ∈ lw_all := lw_g (lw_at lw_m3 215 rfl) rfl
theorem q809 : (Jvm.Cond.instanceMethod ({ cls := "TrustDesk", name := "wrong", desc := "(LTrustDesk$Wrong;)I" } : Jvm.MethodName)) ∈ lw_all := lw_g (lw_at lw_m3 217 rfl) rfl
theorem q810 : (Jvm.Cond.code ({ cls := "TrustDesk", name := "wrong", desc := "(LTrustDesk$Wrong;)I" } : Jvm.MethodName) prog_1_method_10_code (2 : Nat) (Option.some Jvm.ClassFile.FieldType.int)) ∈ lw_all := lw_g (lw_at lw_m3 218 rfl) rfl
theorem q811 : (Jvm.Cond.methodLink "TrustDeskLaw" (43 : Nat) ({ cls := "TrustDesk", name := "holds", desc := "(II)I" } : Jvm.MethodName)) ∈ lw_all := lw_g (lw_at lw_m3 219 rfl) rfl
theorem q812 : (Jvm.Cond.instanceMethod ({ cls := "TrustDesk", name := "holds", desc := "(II)I" } : Jvm.MethodName)) ∈ lw_all := lw_g (lw_at lw_m3 220 rfl) rfl
theorem q813 : (Jvm.Cond.selects "TrustDesk" ({ cls := "TrustDesk", name := "holds", desc := "(II)I" } : Jvm.MethodName) ({ cls := "TrustDesk", name := "holds", desc := "(II)I" } : Jvm.MethodName)) ∈ lw_all := lw_g (lw_at lw_m3 221 rfl) rfl
theorem q814 : (Jvm.Cond.code ({ cls := "TrustDesk", name := "holds", desc := "(II)I" } : Jvm.MethodName) prog_1_method_14_code (3 : Nat) (Option.some Jvm.ClassFile.FieldType.int)) ∈ lw_all := lw_g (lw_at lw_m3 222 rfl) rfl
theorem q815 : (Jvm.Cond.methodLink "TrustDesk" (116 : Nat) ({ cls := "TrustDesk", name := "actOn", desc := "(I)LTrustDesk$Act;" } : Jvm.MethodName)) ∈ lw_all := lw_g (lw_at lw_m3 223 rfl) rfl
theorem q817 : (Jvm.Cond.instanceMethod ({ cls := "TrustDesk", name := "actOn", desc := "(I)LTrustDesk$Act;" } : Jvm.MethodName)) ∈ lw_all := lw_g (lw_at lw_m3 225 rfl) rfl
theorem q818 : (Jvm.Cond.code ({ cls := "TrustDesk", name := "actOn", desc := "(I)LTrustDesk$Act;" } : Jvm.MethodName) prog_1_method_13_code (5 : Nat) (Option.some (Jvm.ClassFile.FieldType.object "TrustDesk$Act"))) ∈ lw_all := lw_g (lw_at lw_m3 226 rfl) rfl
theorem q819 : (Jvm.Cond.methodLink "TrustDesk" (112 : Nat) ({ cls := "java/util/ArrayList", name := "get", desc := "(I)Ljava/lang/Object;" } : Jvm.MethodName)) ∈ lw_all := lw_g (lw_at lw_m3 227 rfl) rfl
theorem q820 : (Jvm.Cond.instanceMethod ({ cls := "java/util/ArrayList", name := "get", desc := "(I)Ljava/lang/Object;" } : Jvm.MethodName)) ∈ lw_all := lw_g (lw_at lw_m3 228 rfl) rfl
theorem q821 : (Jvm.Cond.selects "java/util/ArrayList" ({ cls := "java/util/ArrayList", name := "get", desc := "(I)Ljava/lang/Object;" } : Jvm.MethodName) ({ cls := "java/util/ArrayList", name := "get", desc := "(I)Ljava/lang/Object;" } : Jvm.MethodName)) ∈ lw_all := lw_g (lw_at lw_m3 229 rfl) rfl
theorem q822 : (Jvm.Cond.code ({ cls := "java/util/ArrayList", name := "get", desc := "(I)Ljava/lang/Object;" } : Jvm.MethodName) prog_51_method_20_code (2 : Nat) (Option.some (Jvm.ClassFile.FieldType.object "java/lang/Object"))) ∈ lw_all := lw_g (lw_at lw_m3 230 rfl) rfl
theorem q823 : (Jvm.Cond.methodLink "java/util/ArrayList" (118 : Nat) ({ cls := "java/util/Objects", name := "checkIndex", desc := "(II)I" } : Jvm.MethodName)) ∈ lw_all := lw_g (lw_at lw_m3 231 rfl) rfl
theorem q824 : (Jvm.Cond.static ({ cls := "java/util/Objects", name := "checkIndex", desc := "(II)I" } : Jvm.MethodName)) ∈ lw_all := lw_g (lw_at lw_m3 232 rfl) rfl
theorem q825 : (Jvm.Cond.code ({ cls := "java/util/Objects", name := "checkIndex", desc := "(II)I" } : Jvm.MethodName) prog_56_method_17_code (2 : Nat) (Option.some Jvm.ClassFile.FieldType.int)) ∈ lw_all := lw_g (lw_at lw_m3 233 rfl) rfl
theorem q826 : (Jvm.Cond.methodLink "java/util/Objects" (105 : Nat) ({ cls := "jdk/internal/util/Preconditions", name := "checkIndex", desc := "(IILjava/util/function/BiFunction;)I" } : Jvm.MethodName)) ∈ lw_all := lw_g (lw_at lw_m3 234 rfl) rfl
theorem q827 : (Jvm.Cond.methodLink "java/util/ArrayList" (123 : Nat) ({ cls := "java/util/ArrayList", name := "elementData", desc := "(I)Ljava/lang/Object;" } : Jvm.MethodName)) ∈ lw_all := lw_g (lw_at lw_m3 235 rfl) rfl
theorem q828 : (Jvm.Cond.instanceMethod ({ cls := "java/util/ArrayList", name := "elementData", desc := "(I)Ljava/lang/Object;" } : Jvm.MethodName)) ∈ lw_all := lw_g (lw_at lw_m3 236 rfl) rfl
theorem q829 : (Jvm.Cond.selects "java/util/ArrayList" ({ cls := "java/util/ArrayList", name := "elementData", desc := "(I)Ljava/lang/Object;" } : Jvm.MethodName) ({ cls := "java/util/ArrayList", name := "elementData", desc := "(I)Ljava/lang/Object;" } : Jvm.MethodName)) ∈ lw_all := lw_g (lw_at lw_m3 237 rfl) rfl
theorem q830 : (Jvm.Cond.code ({ cls := "java/util/ArrayList", name := "elementData", desc := "(I)Ljava/lang/Object;" } : Jvm.MethodName) prog_51_method_18_code (2 : Nat) (Option.some (Jvm.ClassFile.FieldType.object "java/lang/Object"))) ∈ lw_all := lw_g (lw_at lw_m3 238 rfl) rfl
theorem q831 : (Jvm.Cond.classLink "TrustDesk" (93 : Nat) "TrustDesk$Act") ∈ lw_all := lw_g (lw_at lw_m3 239 rfl) rfl
theorem q832 : (Jvm.Cond.classLink "TrustDeskLaw" (8 : Nat) "TrustDesk") ∈ lw_all := lw_g (lw_at lw_m4 0 rfl) rfl
theorem q833 : (Jvm.Cond.methodLink "TrustDeskLaw" (15 : Nat) ({ cls := "TrustDesk", name := "<init>", desc := "()V" } : Jvm.MethodName)) ∈ lw_all := lw_g (lw_at lw_m4 1 rfl) rfl
theorem q834 : (Jvm.Cond.instanceMethod ({ cls := "TrustDesk", name := "<init>", desc := "()V" } : Jvm.MethodName)) ∈ lw_all := lw_g (lw_at lw_m4 2 rfl) rfl
theorem q835 : (Jvm.Cond.code ({ cls := "TrustDesk", name := "<init>", desc := "()V" } : Jvm.MethodName) prog_1_method_15_code (1 : Nat) (Option.none : Option Jvm.ClassFile.FieldType)) ∈ lw_all := lw_g (lw_at lw_m4 3 rfl) rfl
theorem q836 : (Jvm.Cond.methodLink "TrustDesk" (123 : Nat) ({ cls := "java/lang/Object", name := "<init>", desc := "()V" } : Jvm.MethodName)) ∈ lw_all := lw_g (lw_at lw_m4 4 rfl) rfl
theorem q837 : (Jvm.Cond.classLink "TrustDesk" (79 : Nat) "java/util/ArrayList") ∈ lw_all := lw_g (lw_at lw_m4 5 rfl) rfl
theorem q838 : (Jvm.Cond.methodLink "TrustDesk" (128 : Nat) ({ cls := "java/util/ArrayList", name := "<init>", desc := "(I)V" } : Jvm.MethodName)) ∈ lw_all := lw_g (lw_at lw_m4 6 rfl) rfl
theorem q839 : (Jvm.Cond.methodLinkNest "TrustDesk" (131 : Nat) ({ cls := "TrustDesk$Act", name := "<init>", desc := "()V" } : Jvm.MethodName) "TrustDesk") ∈ lw_tbl := lw_at lw_m4 7 rfl
theorem q840 : (Jvm.Cond.fieldLink "TrustDesk" (31 : Nat) "TrustDesk" "factWhich" "[I") ∈ lw_all := lw_g (lw_at lw_m4 8 rfl) rfl
theorem q841 : (Jvm.Cond.fieldLink "TrustDesk" (35 : Nat) "TrustDesk" "factYear" "[I") ∈ lw_all := lw_g (lw_at lw_m4 9 rfl) rfl
theorem q842 : (Jvm.Cond.fieldLink "TrustDesk" (38 : Nat) "TrustDesk" "factDay" "[I") ∈ lw_all := lw_g (lw_at lw_m4 10 rfl) rfl
theorem q843 : (Jvm.Cond.fieldLink "TrustDesk" (41 : Nat) "TrustDesk" "factValue" "[I") ∈ lw_all := lw_g (lw_at lw_m4 11 rfl) rfl
theorem q844 : (Jvm.Cond.fieldLink "TrustDesk" (28 : Nat) "TrustDesk" "facts" "I") ∈ lw_all := lw_g (lw_at lw_m4 12 rfl) rfl
theorem q845 : (Jvm.Cond.fieldLinkNest "TrustDesk$Scheme" (35 : Nat) "TrustDesk" "now" "I" "TrustDesk") ∈ lw_tbl := lw_at lw_m4 13 rfl
theorem q846 : (Jvm.Cond.fieldLinkNest "TrustDesk$Groups" (41 : Nat) "TrustDesk" "now" "I" "TrustDesk") ∈ lw_tbl := lw_at lw_m4 14 rfl
theorem q847 : (Jvm.Cond.fieldLink "TrustDesk" (20 : Nat) "TrustDesk" "now" "I") ∈ lw_all := lw_g (lw_at lw_m4 15 rfl) rfl
theorem q848 : (Jvm.Cond.fieldLinkNest "TrustDesk$Sale" (36 : Nat) "TrustDesk" "now" "I" "TrustDesk") ∈ lw_tbl := lw_at lw_m4 16 rfl
theorem q849 : (Jvm.Cond.fieldLinkNest "TrustDesk$Join" (81 : Nat) "TrustDesk" "now" "I" "TrustDesk") ∈ lw_tbl := lw_at lw_m4 17 rfl
theorem q850 : (Jvm.Cond.fieldLink "TrustDesk" (54 : Nat) "TrustDesk" "tape" "[B") ∈ lw_all := lw_g (lw_at lw_m4 18 rfl) rfl
theorem q851 : (Jvm.Cond.fieldLink "TrustDesk" (51 : Nat) "TrustDesk" "taped" "I") ∈ lw_all := lw_g (lw_at lw_m4 19 rfl) rfl
theorem q852 : (Jvm.Cond.fieldLink "TrustDesk" (63 : Nat) "TrustDesk" "place" "I") ∈ lw_all := lw_g (lw_at lw_m4 20 rfl) rfl
theorem q853 : (Jvm.Cond.fieldLink "TrustDesk" (74 : Nat) "TrustDesk" "acts" "Ljava/util/ArrayList;") ∈ lw_all := lw_g (lw_at lw_m4 21 rfl) rfl
theorem q854 : (Jvm.Cond.fieldLink "TrustDesk" (108 : Nat) "TrustDesk" "none" "LTrustDesk$Act;") ∈ lw_all := lw_g (lw_at lw_m4 22 rfl) rfl
theorem q855 : (Jvm.Cond.fieldLinkNest "TrustDesk$Join" (15 : Nat) "TrustDesk" "funds" "Ljava/util/ArrayList;" "TrustDesk") ∈ lw_tbl := lw_at lw_m4 23 rfl
theorem q856 : (Jvm.Cond.fieldLinkNest "TrustDesk$Groups" (63 : Nat) "TrustDesk" "funds" "Ljava/util/ArrayList;" "TrustDesk") ∈ lw_tbl := lw_at lw_m4 24 rfl
theorem q857 : (Jvm.Cond.fieldLink "TrustDesk" (132 : Nat) "TrustDesk" "funds" "Ljava/util/ArrayList;") ∈ lw_all := lw_g (lw_at lw_m4 25 rfl) rfl
theorem q858 : (Jvm.Cond.fieldLinkNest "TrustDesk$Nearer" (31 : Nat) "TrustDesk" "nears" "Ljava/util/ArrayList;" "TrustDesk") ∈ lw_tbl := lw_at lw_m4 26 rfl
theorem q859 : (Jvm.Cond.fieldLink "TrustDesk" (135 : Nat) "TrustDesk" "nears" "Ljava/util/ArrayList;") ∈ lw_all := lw_g (lw_at lw_m4 27 rfl) rfl
theorem q860 : (Jvm.Cond.fieldLink "TrustDesk" (138 : Nat) "TrustDesk" "paidTo" "[J") ∈ lw_all := lw_g (lw_at lw_m4 28 rfl) rfl
theorem q861 : (Jvm.Cond.fieldLink "TrustDesk" (142 : Nat) "TrustDesk" "entryYear" "[I") ∈ lw_all := lw_g (lw_at lw_m4 29 rfl) rfl
theorem q862 : (Jvm.Cond.fieldLink "TrustDesk" (145 : Nat) "TrustDesk" "entryFund" "[I") ∈ lw_all := lw_g (lw_at lw_m4 30 rfl) rfl
theorem q863 : (Jvm.Cond.fieldLink "TrustDesk" (148 : Nat) "TrustDesk" "entryEnd" "[I") ∈ lw_all := lw_g (lw_at lw_m4 31 rfl) rfl
theorem q864 : (Jvm.Cond.fieldLink "TrustDesk" (151 : Nat) "TrustDesk" "entryPaid" "[I") ∈ lw_all := lw_g (lw_at lw_m4 32 rfl) rfl
theorem q865 : (Jvm.Cond.fieldLink "TrustDesk" (275 : Nat) "TrustDesk" "entries" "I") ∈ lw_all := lw_g (lw_at lw_m4 33 rfl) rfl
theorem q866 : (Jvm.Cond.fieldLink "TrustDesk" (154 : Nat) "TrustDesk" "known" "[J") ∈ lw_all := lw_g (lw_at lw_m4 34 rfl) rfl
theorem q867 : (Jvm.Cond.fieldLink "TrustDesk" (157 : Nat) "TrustDesk" "schemes" "Ljava/util/ArrayList;") ∈ lw_all := lw_g (lw_at lw_m4 35 rfl) rfl
theorem q868 : (Jvm.Cond.fieldLink "TrustDesk" (160 : Nat) "TrustDesk" "accountFund" "[I") ∈ lw_all := lw_g (lw_at lw_m4 36 rfl) rfl
theorem q869 : (Jvm.Cond.fieldLink "TrustDesk" (163 : Nat) "TrustDesk" "accountYear" "[I") ∈ lw_all := lw_g (lw_at lw_m4 37 rfl) rfl
theorem q870 : (Jvm.Cond.fieldLink "TrustDesk" (425 : Nat) "TrustDesk" "accounts" "I") ∈ lw_all := lw_g (lw_at lw_m4 38 rfl) rfl
theorem q871 : (Jvm.Cond.laysFinal "TrustDesk" "TrustDesk" "factWhich" "[I") ∈ lw_all := lw_g (lw_at lw_m4 39 rfl) rfl
theorem q873 : (Jvm.Cond.laysFinal "TrustDesk" "TrustDesk" "factYear" "[I") ∈ lw_all := lw_g (lw_at lw_m4 41 rfl) rfl
theorem q875 : (Jvm.Cond.laysFinal "TrustDesk" "TrustDesk" "factDay" "[I") ∈ lw_all := lw_g (lw_at lw_m4 43 rfl) rfl
theorem q877 : (Jvm.Cond.laysFinal "TrustDesk" "TrustDesk" "factValue" "[I") ∈ lw_all := lw_g (lw_at lw_m4 45 rfl) rfl
theorem q879 : (Jvm.Cond.lays "TrustDesk" "TrustDesk" "facts" "I") ∈ lw_all := lw_g (lw_at lw_m4 47 rfl) rfl
theorem q881 : (Jvm.Cond.lays "TrustDesk" "TrustDesk" "now" "I") ∈ lw_all := lw_g (lw_at lw_m4 49 rfl) rfl
theorem q883 : (Jvm.Cond.laysFinal "TrustDesk" "TrustDesk" "tape" "[B") ∈ lw_all := lw_g (lw_at lw_m4 51 rfl) rfl
theorem q885 : (Jvm.Cond.lays "TrustDesk" "TrustDesk" "taped" "I") ∈ lw_all := lw_g (lw_at lw_m4 53 rfl) rfl
theorem q887 : (Jvm.Cond.lays "TrustDesk" "TrustDesk" "place" "I") ∈ lw_all := lw_g (lw_at lw_m4 55 rfl) rfl
theorem q889 : (Jvm.Cond.laysFinal "TrustDesk" "TrustDesk" "acts" "Ljava/util/ArrayList;") ∈ lw_all := lw_g (lw_at lw_m4 57 rfl) rfl
theorem q891 : (Jvm.Cond.laysFinal "TrustDesk" "TrustDesk" "none" "LTrustDesk$Act;") ∈ lw_all := lw_g (lw_at lw_m4 59 rfl) rfl
theorem q893 : (Jvm.Cond.laysFinal "TrustDesk" "TrustDesk" "funds" "Ljava/util/ArrayList;") ∈ lw_all := lw_g (lw_at lw_m4 61 rfl) rfl
theorem q895 : (Jvm.Cond.laysFinal "TrustDesk" "TrustDesk" "nears" "Ljava/util/ArrayList;") ∈ lw_all := lw_g (lw_at lw_m4 63 rfl) rfl
theorem q897 : (Jvm.Cond.laysFinal "TrustDesk" "TrustDesk" "paidTo" "[J") ∈ lw_all := lw_g (lw_at lw_m4 65 rfl) rfl
theorem q899 : (Jvm.Cond.laysFinal "TrustDesk" "TrustDesk" "entryYear" "[I") ∈ lw_all := lw_g (lw_at lw_m4 67 rfl) rfl
theorem q901 : (Jvm.Cond.laysFinal "TrustDesk" "TrustDesk" "entryFund" "[I") ∈ lw_all := lw_g (lw_at lw_m4 69 rfl) rfl
theorem q903 : (Jvm.Cond.laysFinal "TrustDesk" "TrustDesk" "entryEnd" "[I") ∈ lw_all := lw_g (lw_at lw_m4 71 rfl) rfl
theorem q905 : (Jvm.Cond.laysFinal "TrustDesk" "TrustDesk" "entryPaid" "[I") ∈ lw_all := lw_g (lw_at lw_m4 73 rfl) rfl
theorem q907 : (Jvm.Cond.lays "TrustDesk" "TrustDesk" "entries" "I") ∈ lw_all := lw_g (lw_at lw_m4 75 rfl) rfl
theorem q909 : (Jvm.Cond.laysFinal "TrustDesk" "TrustDesk" "known" "[J") ∈ lw_all := lw_g (lw_at lw_m4 77 rfl) rfl
theorem q911 : (Jvm.Cond.laysFinal "TrustDesk" "TrustDesk" "schemes" "Ljava/util/ArrayList;") ∈ lw_all := lw_g (lw_at lw_m4 79 rfl) rfl
theorem q913 : (Jvm.Cond.laysFinal "TrustDesk" "TrustDesk" "accountFund" "[I") ∈ lw_all := lw_g (lw_at lw_m4 81 rfl) rfl
theorem q915 : (Jvm.Cond.laysFinal "TrustDesk" "TrustDesk" "accountYear" "[I") ∈ lw_all := lw_g (lw_at lw_m4 83 rfl) rfl
theorem q917 : (Jvm.Cond.lays "TrustDesk" "TrustDesk" "accounts" "I") ∈ lw_all := lw_g (lw_at lw_m4 85 rfl) rfl
theorem q920 : (Jvm.Cond.arrayClass Jvm.ClassFile.FieldType.long) ∈ lw_all := lw_g (lw_at lw_m4 88 rfl) rfl
theorem q921 : (Jvm.Cond.methodLink "TrustDeskLaw" (47 : Nat) ({ cls := "TrustDesk", name := "fund", desc := "(II)I" } : Jvm.MethodName)) ∈ lw_all := lw_g (lw_at lw_m4 89 rfl) rfl
theorem q922 : (Jvm.Cond.instanceMethod ({ cls := "TrustDesk", name := "fund", desc := "(II)I" } : Jvm.MethodName)) ∈ lw_all := lw_g (lw_at lw_m4 90 rfl) rfl
theorem q923 : (Jvm.Cond.selects "TrustDesk" ({ cls := "TrustDesk", name := "fund", desc := "(II)I" } : Jvm.MethodName) ({ cls := "TrustDesk", name := "fund", desc := "(II)I" } : Jvm.MethodName)) ∈ lw_all := lw_g (lw_at lw_m4 91 rfl) rfl
theorem q924 : (Jvm.Cond.codeWith ({ cls := "TrustDesk", name := "fund", desc := "(II)I" } : Jvm.MethodName) prog_1_method_18_code (4 : Nat) (Option.some Jvm.ClassFile.FieldType.int) [((35 : Nat), (77 : Nat), (78 : Nat), (59 : Nat))]) ∈ lw_all := lw_g (lw_at lw_m4 92 rfl) rfl
theorem q925 : (Jvm.Cond.constant "TrustDesk" (176 : Nat) (99999 : Int32)) ∈ lw_all := lw_g (lw_at lw_m4 93 rfl) rfl
theorem q926 : (Jvm.Cond.classLink "TrustDesk" (166 : Nat) "TrustDesk$Fund") ∈ lw_all := lw_g (lw_at lw_m4 94 rfl) rfl
theorem q927 : (Jvm.Cond.instantiable "TrustDesk$Fund" (12 : Nat)) ∈ lw_all := lw_g (lw_at lw_m4 95 rfl) rfl
theorem q928 : (Jvm.Cond.methodLink "TrustDesk" (177 : Nat) ({ cls := "TrustDesk$Reader", name := "deed", desc := "()LTrustDesk$Deed;" } : Jvm.MethodName)) ∈ lw_all := lw_g (lw_at lw_m4 96 rfl) rfl
theorem q929 : (Jvm.Cond.instanceMethod ({ cls := "TrustDesk$Reader", name := "deed", desc := "()LTrustDesk$Deed;" } : Jvm.MethodName)) ∈ lw_all := lw_g (lw_at lw_m4 97 rfl) rfl
theorem q930 : (Jvm.Cond.selects "TrustDesk$Reader" ({ cls := "TrustDesk$Reader", name := "deed", desc := "()LTrustDesk$Deed;" } : Jvm.MethodName) ({ cls := "TrustDesk$Reader", name := "deed", desc := "()LTrustDesk$Deed;" } : Jvm.MethodName)) ∈ lw_all := lw_g (lw_at lw_m4 98 rfl) rfl
theorem q931 : (Jvm.Cond.code ({ cls := "TrustDesk$Reader", name := "deed", desc := "()LTrustDesk$Deed;" } : Jvm.MethodName) prog_17_method_9_code (3 : Nat) (Option.some (Jvm.ClassFile.FieldType.object "TrustDesk$Deed"))) ∈ lw_all := lw_g (lw_at lw_m4 99 rfl) rfl
theorem q932 : (Jvm.Cond.classLink "TrustDesk$Reader" (80 : Nat) "TrustDesk$Deed") ∈ lw_all := lw_g (lw_at lw_m4 100 rfl) rfl
theorem q933 : (Jvm.Cond.instantiable "TrustDesk$Deed" (4 : Nat)) ∈ lw_all := lw_g (lw_at lw_m4 101 rfl) rfl
theorem q934 : (Jvm.Cond.methodLinkNest "TrustDesk$Reader" (82 : Nat) ({ cls := "TrustDesk$Deed", name := "<init>", desc := "()V" } : Jvm.MethodName) "TrustDesk") ∈ lw_tbl := lw_at lw_m4 102 rfl
theorem q935 : (Jvm.Cond.instanceMethod ({ cls := "TrustDesk$Deed", name := "<init>", desc := "()V" } : Jvm.MethodName)) ∈ lw_all := lw_g (lw_at lw_m4 103 rfl) rfl
theorem q936 : (Jvm.Cond.code ({ cls := "TrustDesk$Deed", name := "<init>", desc := "()V" } : Jvm.MethodName) prog_7_method_1_code (1 : Nat) (Option.none : Option Jvm.ClassFile.FieldType)) ∈ lw_all := lw_g (lw_at lw_m4 104 rfl) rfl
theorem q937 : (Jvm.Cond.methodLink "TrustDesk$Deed" (1 : Nat) ({ cls := "java/lang/Object", name := "<init>", desc := "()V" } : Jvm.MethodName)) ∈ lw_all := lw_g (lw_at lw_m4 105 rfl) rfl
theorem q938 : (Jvm.Cond.classLink "TrustDesk$Deed" (7 : Nat) "java/util/ArrayList") ∈ lw_all := lw_g (lw_at lw_m4 106 rfl) rfl
theorem q939 : (Jvm.Cond.methodLink "TrustDesk$Deed" (9 : Nat) ({ cls := "java/util/ArrayList", name := "<init>", desc := "(I)V" } : Jvm.MethodName)) ∈ lw_all := lw_g (lw_at lw_m4 107 rfl) rfl
theorem q940 : (Jvm.Cond.fieldLink "TrustDesk$Deed" (12 : Nat) "TrustDesk$Deed" "aims" "Ljava/util/ArrayList;") ∈ lw_all := lw_g (lw_at lw_m4 108 rfl) rfl
theorem q941 : (Jvm.Cond.fieldLinkNest "TrustDesk$Fund" (52 : Nat) "TrustDesk$Deed" "aims" "Ljava/util/ArrayList;" "TrustDesk") ∈ lw_tbl := lw_at lw_m4 109 rfl
theorem q942 : (Jvm.Cond.fieldLinkNest "TrustDesk$Reader" (88 : Nat) "TrustDesk$Deed" "aims" "Ljava/util/ArrayList;" "TrustDesk") ∈ lw_tbl := lw_at lw_m4 110 rfl
theorem q943 : (Jvm.Cond.fieldLinkNest "TrustDesk$Fund" (47 : Nat) "TrustDesk$Deed" "marks" "I" "TrustDesk") ∈ lw_tbl := lw_at lw_m4 111 rfl
theorem q944 : (Jvm.Cond.fieldLinkNest "TrustDesk$Reader" (104 : Nat) "TrustDesk$Deed" "marks" "I" "TrustDesk") ∈ lw_tbl := lw_at lw_m4 112 rfl
theorem q945 : (Jvm.Cond.fieldLink "TrustDesk$Deed" (18 : Nat) "TrustDesk$Deed" "most" "I") ∈ lw_all := lw_g (lw_at lw_m4 113 rfl) rfl
theorem q946 : (Jvm.Cond.fieldLinkNest "TrustDesk$Fund" (37 : Nat) "TrustDesk$Deed" "most" "I" "TrustDesk") ∈ lw_tbl := lw_at lw_m4 114 rfl
theorem q947 : (Jvm.Cond.fieldLinkNest "TrustDesk$Reader" (110 : Nat) "TrustDesk$Deed" "most" "I" "TrustDesk") ∈ lw_tbl := lw_at lw_m4 115 rfl
theorem q948 : (Jvm.Cond.fieldLink "TrustDesk$Deed" (22 : Nat) "TrustDesk$Deed" "yes" "I") ∈ lw_all := lw_g (lw_at lw_m4 116 rfl) rfl
theorem q949 : (Jvm.Cond.fieldLinkNest "TrustDesk$Fund" (43 : Nat) "TrustDesk$Deed" "yes" "I" "TrustDesk") ∈ lw_tbl := lw_at lw_m4 117 rfl
theorem q950 : (Jvm.Cond.fieldLinkNest "TrustDesk$Reader" (113 : Nat) "TrustDesk$Deed" "yes" "I" "TrustDesk") ∈ lw_tbl := lw_at lw_m4 118 rfl
theorem q951 : (Jvm.Cond.laysFinal "TrustDesk$Deed" "TrustDesk$Deed" "aims" "Ljava/util/ArrayList;") ∈ lw_all := lw_g (lw_at lw_m4 119 rfl) rfl
theorem q953 : (Jvm.Cond.lays "TrustDesk$Deed" "TrustDesk$Deed" "marks" "I") ∈ lw_all := lw_g (lw_at lw_m4 121 rfl) rfl
theorem q955 : (Jvm.Cond.lays "TrustDesk$Deed" "TrustDesk$Deed" "most" "I") ∈ lw_all := lw_g (lw_at lw_m4 123 rfl) rfl
theorem q957 : (Jvm.Cond.lays "TrustDesk$Deed" "TrustDesk$Deed" "yes" "I") ∈ lw_all := lw_g (lw_at lw_m4 125 rfl) rfl
theorem q960 : (Jvm.Cond.stringRef "TrustDesk$Reader" (83 : Nat) "mark") ∈ lw_tbl := lw_at lw_m4 128 rfl
theorem q961 : (Jvm.Cond.stringRef "TrustDesk$Reader" (85 : Nat) "end") ∈ lw_tbl := lw_at lw_m4 129 rfl
theorem q962 : (Jvm.Cond.stringRef "TrustDesk$Reader" (86 : Nat) "trust") ∈ lw_tbl := lw_at lw_m4 130 rfl
theorem q963 : (Jvm.Cond.methodLink "TrustDesk$Reader" (92 : Nat) ({ cls := "java/util/ArrayList", name := "size", desc := "()I" } : Jvm.MethodName)) ∈ lw_all := lw_g (lw_at lw_m4 131 rfl) rfl
theorem q964 : (Jvm.Cond.methodLink "TrustDesk$Reader" (96 : Nat) ({ cls := "TrustDesk$Reader", name := "aim", desc := "(LTrustDesk$Deed;)LTrustDesk$Aim;" } : Jvm.MethodName)) ∈ lw_all := lw_g (lw_at lw_m4 132 rfl) rfl
theorem q966 : (Jvm.Cond.instanceMethod ({ cls := "TrustDesk$Reader", name := "aim", desc := "(LTrustDesk$Deed;)LTrustDesk$Aim;" } : Jvm.MethodName)) ∈ lw_all := lw_g (lw_at lw_m4 134 rfl) rfl
theorem q967 : (Jvm.Cond.code ({ cls := "TrustDesk$Reader", name := "aim", desc := "(LTrustDesk$Deed;)LTrustDesk$Aim;" } : Jvm.MethodName) prog_17_method_11_code (5 : Nat) (Option.some (Jvm.ClassFile.FieldType.object "TrustDesk$Aim"))) ∈ lw_all := lw_g (lw_at lw_m4 135 rfl) rfl
theorem q968 : (Jvm.Cond.classLink "TrustDesk$Reader" (122 : Nat) "java/lang/StringBuilder") ∈ lw_all := lw_g (lw_at lw_m4 136 rfl) rfl
theorem q969 : (Jvm.Cond.instantiable "java/lang/StringBuilder" (4 : Nat)) ∈ lw_all := lw_g (lw_at lw_m4 137 rfl) rfl
theorem q970 : (Jvm.Cond.methodLink "TrustDesk$Reader" (124 : Nat) ({ cls := "java/lang/StringBuilder", name := "<init>", desc := "(I)V" } : Jvm.MethodName)) ∈ lw_all := lw_g (lw_at lw_m4 138 rfl) rfl
theorem q971 : (Jvm.Cond.instanceMethod ({ cls := "java/lang/StringBuilder", name := "<init>", desc := "(I)V" } : Jvm.MethodName)) ∈ lw_all := lw_g (lw_at lw_m4 139 rfl) rfl
theorem q972 : (Jvm.Cond.code ({ cls := "java/lang/StringBuilder", name := "<init>", desc := "(I)V" } : Jvm.MethodName) prog_42_method_2_code (2 : Nat) (Option.none : Option Jvm.ClassFile.FieldType)) ∈ lw_all := lw_g (lw_at lw_m4 140 rfl) rfl
theorem q973 : (Jvm.Cond.methodLink "java/lang/StringBuilder" (1 : Nat) ({ cls := "java/lang/AbstractStringBuilder", name := "<init>", desc := "(I)V" } : Jvm.MethodName)) ∈ lw_all := lw_g (lw_at lw_m4 141 rfl) rfl
theorem q974 : (Jvm.Cond.instanceMethod ({ cls := "java/lang/AbstractStringBuilder", name := "<init>", desc := "(I)V" } : Jvm.MethodName)) ∈ lw_all := lw_g (lw_at lw_m4 142 rfl) rfl
theorem q975 : (Jvm.Cond.code ({ cls := "java/lang/AbstractStringBuilder", name := "<init>", desc := "(I)V" } : Jvm.MethodName) prog_28_method_2_code (2 : Nat) (Option.none : Option Jvm.ClassFile.FieldType)) ∈ lw_all := lw_g (lw_at lw_m4 143 rfl) rfl
theorem q976 : (Jvm.Cond.methodLink "java/lang/AbstractStringBuilder" (3 : Nat) ({ cls := "java/lang/Object", name := "<init>", desc := "()V" } : Jvm.MethodName)) ∈ lw_all := lw_g (lw_at lw_m4 144 rfl) rfl
theorem q977 : (Jvm.Cond.fieldLink "java/lang/AbstractStringBuilder" (18 : Nat) "java/lang/String" "COMPACT_STRINGS" "Z") ∈ lw_all := lw_g (lw_at lw_m4 145 rfl) rfl
theorem q981 : (Jvm.Cond.fieldLink "java/lang/AbstractStringBuilder" (15 : Nat) "java/lang/AbstractStringBuilder" "value" "[B") ∈ lw_all := lw_g (lw_at lw_m4 149 rfl) rfl
theorem q982 : (Jvm.Cond.fieldLink "java/lang/AbstractStringBuilder" (22 : Nat) "java/lang/AbstractStringBuilder" "coder" "B") ∈ lw_all := lw_g (lw_at lw_m4 150 rfl) rfl
theorem q983 : (Jvm.Cond.fieldLink "java/lang/String" (1048 : Nat) "java/lang/AbstractStringBuilder" "maybeLatin1" "Z") ∈ lw_all := lw_g (lw_at lw_m4 151 rfl) rfl
theorem q984 : (Jvm.Cond.fieldLink "java/lang/AbstractStringBuilder" (79 : Nat) "java/lang/AbstractStringBuilder" "count" "I") ∈ lw_all := lw_g (lw_at lw_m4 152 rfl) rfl
theorem q985 : (Jvm.Cond.lays "java/lang/StringBuilder" "java/lang/AbstractStringBuilder" "value" "[B") ∈ lw_all := lw_g (lw_at lw_m4 153 rfl) rfl
theorem q987 : (Jvm.Cond.lays "java/lang/StringBuilder" "java/lang/AbstractStringBuilder" "coder" "B") ∈ lw_all := lw_g (lw_at lw_m4 155 rfl) rfl
theorem q989 : (Jvm.Cond.lays "java/lang/StringBuilder" "java/lang/AbstractStringBuilder" "maybeLatin1" "Z") ∈ lw_all := lw_g (lw_at lw_m4 157 rfl) rfl
theorem q991 : (Jvm.Cond.lays "java/lang/StringBuilder" "java/lang/AbstractStringBuilder" "count" "I") ∈ lw_all := lw_g (lw_at lw_m4 159 rfl) rfl
theorem q993 : (Jvm.Cond.superclass "java/lang/StringBuilder" "java/lang/AbstractStringBuilder") ∈ lw_all := lw_g (lw_at lw_m4 161 rfl) rfl
theorem q994 : (Jvm.Cond.methodLink "TrustDesk$Reader" (127 : Nat) ({ cls := "java/lang/StringBuilder", name := "append", desc := "(C)Ljava/lang/StringBuilder;" } : Jvm.MethodName)) ∈ lw_all := lw_g (lw_at lw_m4 162 rfl) rfl
theorem q995 : (Jvm.Cond.instanceMethod ({ cls := "java/lang/StringBuilder", name := "append", desc := "(C)Ljava/lang/StringBuilder;" } : Jvm.MethodName)) ∈ lw_all := lw_g (lw_at lw_m4 163 rfl) rfl
theorem q996 : (Jvm.Cond.selects "java/lang/StringBuilder" ({ cls := "java/lang/StringBuilder", name := "append", desc := "(C)Ljava/lang/StringBuilder;" } : Jvm.MethodName) ({ cls := "java/lang/StringBuilder", name := "append", desc := "(C)Ljava/lang/StringBuilder;" } : Jvm.MethodName)) ∈ lw_all := lw_g (lw_at lw_m4 164 rfl) rfl
theorem q997 : (Jvm.Cond.code ({ cls := "java/lang/StringBuilder", name := "append", desc := "(C)Ljava/lang/StringBuilder;" } : Jvm.MethodName) prog_42_method_14_code (2 : Nat) (Option.some (Jvm.ClassFile.FieldType.object "java/lang/StringBuilder"))) ∈ lw_all := lw_g (lw_at lw_m4 165 rfl) rfl
theorem q998 : (Jvm.Cond.methodLink "java/lang/StringBuilder" (50 : Nat) ({ cls := "java/lang/AbstractStringBuilder", name := "append", desc := "(C)Ljava/lang/AbstractStringBuilder;" } : Jvm.MethodName)) ∈ lw_all := lw_g (lw_at lw_m4 166 rfl) rfl
theorem q999 : (Jvm.Cond.instanceMethod ({ cls := "java/lang/AbstractStringBuilder", name := "append", desc := "(C)Ljava/lang/AbstractStringBuilder;" } : Jvm.MethodName)) ∈ lw_all := lw_g (lw_at lw_m4 167 rfl) rfl
theorem q1000 : (Jvm.Cond.code ({ cls := "java/lang/AbstractStringBuilder", name := "append", desc := "(C)Ljava/lang/AbstractStringBuilder;" } : Jvm.MethodName) prog_28_method_31_code (2 : Nat) (Option.some (Jvm.ClassFile.FieldType.object "java/lang/AbstractStringBuilder"))) ∈ lw_all := lw_g (lw_at lw_m4 168 rfl) rfl
theorem q1001 : (Jvm.Cond.methodLink "java/lang/AbstractStringBuilder" (100 : Nat) ({ cls := "java/lang/AbstractStringBuilder", name := "ensureCapacityInternal", desc := "(I)V" } : Jvm.MethodName)) ∈ lw_all := lw_g (lw_at lw_m4 169 rfl) rfl
theorem q1003 : (Jvm.Cond.instanceMethod ({ cls := "java/lang/AbstractStringBuilder", name := "ensureCapacityInternal", desc := "(I)V" } : Jvm.MethodName)) ∈ lw_all := lw_g (lw_at lw_m4 171 rfl) rfl
theorem q1004 : (Jvm.Cond.code ({ cls := "java/lang/AbstractStringBuilder", name := "ensureCapacityInternal", desc := "(I)V" } : Jvm.MethodName) prog_28_method_9_code (3 : Nat) (Option.none : Option Jvm.ClassFile.FieldType)) ∈ lw_all := lw_g (lw_at lw_m4 172 rfl) rfl
theorem q1005 : (Jvm.Cond.methodLink "java/lang/AbstractStringBuilder" (104 : Nat) ({ cls := "java/lang/AbstractStringBuilder", name := "newCapacity", desc := "(I)I" } : Jvm.MethodName)) ∈ lw_all := lw_g (lw_at lw_m4 173 rfl) rfl
theorem q1007 : (Jvm.Cond.instanceMethod ({ cls := "java/lang/AbstractStringBuilder", name := "newCapacity", desc := "(I)I" } : Jvm.MethodName)) ∈ lw_all := lw_g (lw_at lw_m4 175 rfl) rfl
theorem q1008 : (Jvm.Cond.code ({ cls := "java/lang/AbstractStringBuilder", name := "newCapacity", desc := "(I)I" } : Jvm.MethodName) prog_28_method_10_code (6 : Nat) (Option.some Jvm.ClassFile.FieldType.int)) ∈ lw_all := lw_g (lw_at lw_m4 176 rfl) rfl
theorem q1009 : (Jvm.Cond.methodLink "java/lang/AbstractStringBuilder" (114 : Nat) ({ cls := "jdk/internal/util/ArraysSupport", name := "newLength", desc := "(III)I" } : Jvm.MethodName)) ∈ lw_all := lw_g (lw_at lw_m4 177 rfl) rfl
theorem q1010 : (Jvm.Cond.constant "java/lang/AbstractStringBuilder" (39 : Nat) (2147483647 : Int32)) ∈ lw_all := lw_g (lw_at lw_m4 178 rfl) rfl
theorem q1011 : (Jvm.Cond.methodLink "java/lang/AbstractStringBuilder" (108 : Nat) ({ cls := "java/util/Arrays", name := "copyOf", desc := "([BI)[B" } : Jvm.MethodName)) ∈ lw_all := lw_g (lw_at lw_m4 179 rfl) rfl
theorem q1012 : (Jvm.Cond.static ({ cls := "java/util/Arrays", name := "copyOf", desc := "([BI)[B" } : Jvm.MethodName)) ∈ lw_all := lw_g (lw_at lw_m4 180 rfl) rfl
theorem q1013 : (Jvm.Cond.code ({ cls := "java/util/Arrays", name := "copyOf", desc := "([BI)[B" } : Jvm.MethodName) prog_52_method_121_code (3 : Nat) (Option.some (Jvm.ClassFile.FieldType.array Jvm.ClassFile.FieldType.byte))) ∈ lw_all := lw_g (lw_at lw_m4 181 rfl) rfl
theorem q1014 : (Jvm.Cond.methodLink "java/lang/AbstractStringBuilder" (83 : Nat) ({ cls := "java/lang/AbstractStringBuilder", name := "isLatin1", desc := "()Z" } : Jvm.MethodName)) ∈ lw_all := lw_g (lw_at lw_m4 182 rfl) rfl
theorem q1015 : (Jvm.Cond.instanceMethod ({ cls := "java/lang/AbstractStringBuilder", name := "isLatin1", desc := "()Z" } : Jvm.MethodName)) ∈ lw_all := lw_g (lw_at lw_m4 183 rfl) rfl
theorem q1017 : (Jvm.Cond.selects "java/lang/StringBuilder" ({ cls := "java/lang/AbstractStringBuilder", name := "isLatin1", desc := "()Z" } : Jvm.MethodName) ({ cls := "java/lang/AbstractStringBuilder", name := "isLatin1", desc := "()Z" } : Jvm.MethodName)) ∈ lw_all := lw_g (lw_at lw_m4 185 rfl) rfl
theorem q1018 : (Jvm.Cond.code ({ cls := "java/lang/AbstractStringBuilder", name := "isLatin1", desc := "()Z" } : Jvm.MethodName) prog_28_method_68_code (1 : Nat) (Option.some Jvm.ClassFile.FieldType.boolean)) ∈ lw_all := lw_g (lw_at lw_m4 186 rfl) rfl
theorem q1019 : (Jvm.Cond.methodLink "java/lang/AbstractStringBuilder" (191 : Nat) ({ cls := "java/lang/StringLatin1", name := "canEncode", desc := "(C)Z" } : Jvm.MethodName)) ∈ lw_all := lw_g (lw_at lw_m4 187 rfl) rfl
theorem q1020 : (Jvm.Cond.static ({ cls := "java/lang/StringLatin1", name := "canEncode", desc := "(C)Z" } : Jvm.MethodName)) ∈ lw_all := lw_g (lw_at lw_m4 188 rfl) rfl
theorem q1021 : (Jvm.Cond.code ({ cls := "java/lang/StringLatin1", name := "canEncode", desc := "(C)Z" } : Jvm.MethodName) prog_43_method_3_code (1 : Nat) (Option.some Jvm.ClassFile.FieldType.boolean)) ∈ lw_all := lw_g (lw_at lw_m4 189 rfl) rfl
theorem q1038 : (Jvm.Cond.methodLink "TrustDesk$Reader" (131 : Nat) ({ cls := "java/lang/StringBuilder", name := "toString", desc := "()Ljava/lang/String;" } : Jvm.MethodName)) ∈ lw_all := lw_g (lw_at lw_m4 206 rfl) rfl
theorem q1039 : (Jvm.Cond.instanceMethod ({ cls := "java/lang/StringBuilder", name := "toString", desc := "()Ljava/lang/String;" } : Jvm.MethodName)) ∈ lw_all := lw_g (lw_at lw_m4 207 rfl) rfl
theorem q1040 : (Jvm.Cond.selects "java/lang/StringBuilder" ({ cls := "java/lang/StringBuilder", name := "toString", desc := "()Ljava/lang/String;" } : Jvm.MethodName) ({ cls := "java/lang/StringBuilder", name := "toString", desc := "()Ljava/lang/String;" } : Jvm.MethodName)) ∈ lw_all := lw_g (lw_at lw_m4 208 rfl) rfl
theorem q1041 : (Jvm.Cond.code ({ cls := "java/lang/StringBuilder", name := "toString", desc := "()Ljava/lang/String;" } : Jvm.MethodName) prog_42_method_42_code (1 : Nat) (Option.some (Jvm.ClassFile.FieldType.object "java/lang/String"))) ∈ lw_all := lw_g (lw_at lw_m4 209 rfl) rfl
theorem q1042 : (Jvm.Cond.classLink "java/lang/StringBuilder" (18 : Nat) "java/lang/String") ∈ lw_all := lw_g (lw_at lw_m4 210 rfl) rfl
theorem q1043 : (Jvm.Cond.methodLink "java/lang/StringBuilder" (137 : Nat) ({ cls := "java/lang/String", name := "<init>", desc := "(Ljava/lang/StringBuilder;)V" } : Jvm.MethodName)) ∈ lw_all := lw_g (lw_at lw_m4 211 rfl) rfl
theorem q1044 : (Jvm.Cond.instanceMethod ({ cls := "java/lang/String", name := "<init>", desc := "(Ljava/lang/StringBuilder;)V" } : Jvm.MethodName)) ∈ lw_all := lw_g (lw_at lw_m4 212 rfl) rfl
theorem q1045 : (Jvm.Cond.code ({ cls := "java/lang/String", name := "<init>", desc := "(Ljava/lang/StringBuilder;)V" } : Jvm.MethodName) prog_41_method_53_code (2 : Nat) (Option.none : Option Jvm.ClassFile.FieldType)) ∈ lw_all := lw_g (lw_at lw_m4 213 rfl) rfl
theorem q1046 : (Jvm.Cond.methodLink "java/lang/String" (489 : Nat) ({ cls := "java/lang/String", name := "<init>", desc := "(Ljava/lang/AbstractStringBuilder;Ljava/lang/Void;)V" } : Jvm.MethodName)) ∈ lw_all := lw_g (lw_at lw_m4 214 rfl) rfl
theorem q1047 : (Jvm.Cond.instanceMethod ({ cls := "java/lang/String", name := "<init>", desc := "(Ljava/lang/AbstractStringBuilder;Ljava/lang/Void;)V" } : Jvm.MethodName)) ∈ lw_all := lw_g (lw_at lw_m4 215 rfl) rfl
theorem q1048 : (Jvm.Cond.code ({ cls := "java/lang/String", name := "<init>", desc := "(Ljava/lang/AbstractStringBuilder;Ljava/lang/Void;)V" } : Jvm.MethodName) prog_41_method_150_code (5 : Nat) (Option.none : Option Jvm.ClassFile.FieldType)) ∈ lw_all := lw_g (lw_at lw_m4 216 rfl) rfl
theorem q1049 : (Jvm.Cond.methodLink "java/lang/String" (552 : Nat) ({ cls := "java/lang/AbstractStringBuilder", name := "getValue", desc := "()[B" } : Jvm.MethodName)) ∈ lw_all := lw_g (lw_at lw_m4 217 rfl) rfl
theorem q1050 : (Jvm.Cond.instanceMethod ({ cls := "java/lang/AbstractStringBuilder", name := "getValue", desc := "()[B" } : Jvm.MethodName)) ∈ lw_all := lw_g (lw_at lw_m4 218 rfl) rfl
theorem q1052 : (Jvm.Cond.selects "java/lang/StringBuilder" ({ cls := "java/lang/AbstractStringBuilder", name := "getValue", desc := "()[B" } : Jvm.MethodName) ({ cls := "java/lang/AbstractStringBuilder", name := "getValue", desc := "()[B" } : Jvm.MethodName)) ∈ lw_all := lw_g (lw_at lw_m4 220 rfl) rfl
theorem q1053 : (Jvm.Cond.code ({ cls := "java/lang/AbstractStringBuilder", name := "getValue", desc := "()[B" } : Jvm.MethodName) prog_28_method_64_code (1 : Nat) (Option.some (Jvm.ClassFile.FieldType.array Jvm.ClassFile.FieldType.byte))) ∈ lw_all := lw_g (lw_at lw_m4 221 rfl) rfl
theorem q1054 : (Jvm.Cond.methodLink "java/lang/String" (549 : Nat) ({ cls := "java/lang/AbstractStringBuilder", name := "length", desc := "()I" } : Jvm.MethodName)) ∈ lw_all := lw_g (lw_at lw_m4 222 rfl) rfl
theorem q1055 : (Jvm.Cond.instanceMethod ({ cls := "java/lang/AbstractStringBuilder", name := "length", desc := "()I" } : Jvm.MethodName)) ∈ lw_all := lw_g (lw_at lw_m4 223 rfl) rfl
theorem q1056 : (Jvm.Cond.sameMethod "java/lang/AbstractStringBuilder" "java/lang/AbstractStringBuilder" "length" "()I") ∈ lw_all := lw_g (lw_at lw_m4 224 rfl) rfl
theorem q1057 : (Jvm.Cond.selects "java/lang/StringBuilder" ({ cls := "java/lang/AbstractStringBuilder", name := "length", desc := "()I" } : Jvm.MethodName) ({ cls := "java/lang/StringBuilder", name := "length", desc := "()I" } : Jvm.MethodName)) ∈ lw_all := lw_g (lw_at lw_m4 225 rfl) rfl
theorem q1058 : (Jvm.Cond.instanceMethod ({ cls := "java/lang/StringBuilder", name := "length", desc := "()I" } : Jvm.MethodName)) ∈ lw_all := lw_g (lw_at lw_m4 226 rfl) rfl
theorem q1059 : (Jvm.Cond.code ({ cls := "java/lang/StringBuilder", name := "length", desc := "()I" } : Jvm.MethodName) prog_42_method_93_code (1 : Nat) (Option.some Jvm.ClassFile.FieldType.int)) ∈ lw_all := lw_g (lw_at lw_m4 227 rfl) rfl
theorem q1060 : (Jvm.Cond.methodLink "java/lang/StringBuilder" (343 : Nat) ({ cls := "java/lang/AbstractStringBuilder", name := "length", desc := "()I" } : Jvm.MethodName)) ∈ lw_all := lw_g (lw_at lw_m4 228 rfl) rfl
theorem q1061 : (Jvm.Cond.code ({ cls := "java/lang/AbstractStringBuilder", name := "length", desc := "()I" } : Jvm.MethodName) prog_28_method_6_code (1 : Nat) (Option.some Jvm.ClassFile.FieldType.int)) ∈ lw_all := lw_g (lw_at lw_m4 229 rfl) rfl
theorem q1062 : (Jvm.Cond.methodLink "java/lang/String" (1047 : Nat) ({ cls := "java/lang/AbstractStringBuilder", name := "isLatin1", desc := "()Z" } : Jvm.MethodName)) ∈ lw_all := lw_g (lw_at lw_m4 230 rfl) rfl
theorem q1063 : (Jvm.Cond.methodLink "java/lang/String" (54 : Nat) ({ cls := "java/util/Arrays", name := "copyOfRange", desc := "([BII)[B" } : Jvm.MethodName)) ∈ lw_all := lw_g (lw_at lw_m4 231 rfl) rfl
theorem q1066 : (Jvm.Cond.methodLink "TrustDesk$Reader" (135 : Nat) ({ cls := "TrustDesk$Deed", name := "has", desc := "(Ljava/lang/String;)Z" } : Jvm.MethodName)) ∈ lw_all := lw_g (lw_at lw_m4 234 rfl) rfl
theorem q1067 : (Jvm.Cond.instanceMethod ({ cls := "TrustDesk$Deed", name := "has", desc := "(Ljava/lang/String;)Z" } : Jvm.MethodName)) ∈ lw_all := lw_g (lw_at lw_m4 235 rfl) rfl
theorem q1068 : (Jvm.Cond.selects "TrustDesk$Deed" ({ cls := "TrustDesk$Deed", name := "has", desc := "(Ljava/lang/String;)Z" } : Jvm.MethodName) ({ cls := "TrustDesk$Deed", name := "has", desc := "(Ljava/lang/String;)Z" } : Jvm.MethodName)) ∈ lw_all := lw_g (lw_at lw_m4 236 rfl) rfl
theorem q1069 : (Jvm.Cond.code ({ cls := "TrustDesk$Deed", name := "has", desc := "(Ljava/lang/String;)Z" } : Jvm.MethodName) prog_7_method_2_code (3 : Nat) (Option.some Jvm.ClassFile.FieldType.boolean)) ∈ lw_all := lw_g (lw_at lw_m4 237 rfl) rfl
theorem q1070 : (Jvm.Cond.methodLink "TrustDesk$Deed" (25 : Nat) ({ cls := "java/util/ArrayList", name := "size", desc := "()I" } : Jvm.MethodName)) ∈ lw_all := lw_g (lw_at lw_m4 238 rfl) rfl
theorem q1071 : (Jvm.Cond.methodLink "TrustDesk$Deed" (29 : Nat) ({ cls := "java/util/ArrayList", name := "get", desc := "(I)Ljava/lang/Object;" } : Jvm.MethodName)) ∈ lw_all := lw_g (lw_at lw_m4 239 rfl) rfl
theorem q1072 : (Jvm.Cond.classLink "TrustDesk$Deed" (33 : Nat) "TrustDesk$Aim") ∈ lw_all := lw_g (lw_at lw_m5 0 rfl) rfl
theorem q1073 : (Jvm.Cond.methodLink "TrustDesk$Deed" (39 : Nat) ({ cls := "java/lang/String", name := "equals", desc := "(Ljava/lang/Object;)Z" } : Jvm.MethodName)) ∈ lw_all := lw_g (lw_at lw_m5 1 rfl) rfl
theorem q1074 : (Jvm.Cond.instanceMethod ({ cls := "java/lang/String", name := "equals", desc := "(Ljava/lang/Object;)Z" } : Jvm.MethodName)) ∈ lw_all := lw_g (lw_at lw_m5 2 rfl) rfl
theorem q1075 : (Jvm.Cond.selects "java/lang/String" ({ cls := "java/lang/String", name := "equals", desc := "(Ljava/lang/Object;)Z" } : Jvm.MethodName) ({ cls := "java/lang/String", name := "equals", desc := "(Ljava/lang/Object;)Z" } : Jvm.MethodName)) ∈ lw_all := lw_g (lw_at lw_m5 3 rfl) rfl
theorem q1076 : (Jvm.Cond.code ({ cls := "java/lang/String", name := "equals", desc := "(Ljava/lang/Object;)Z" } : Jvm.MethodName) prog_41_method_66_code (3 : Nat) (Option.some Jvm.ClassFile.FieldType.boolean)) ∈ lw_all := lw_g (lw_at lw_m5 4 rfl) rfl
theorem q1077 : (Jvm.Cond.classLink "java/lang/String" (10 : Nat) "java/lang/String") ∈ lw_all := lw_g (lw_at lw_m5 5 rfl) rfl
theorem q1078 : (Jvm.Cond.methodLink "java/lang/String" (541 : Nat) ({ cls := "java/lang/StringLatin1", name := "equals", desc := "([B[B)Z" } : Jvm.MethodName)) ∈ lw_all := lw_g (lw_at lw_m5 6 rfl) rfl
theorem q1079 : (Jvm.Cond.static ({ cls := "java/lang/StringLatin1", name := "equals", desc := "([B[B)Z" } : Jvm.MethodName)) ∈ lw_all := lw_g (lw_at lw_m5 7 rfl) rfl
theorem q1080 : (Jvm.Cond.code ({ cls := "java/lang/StringLatin1", name := "equals", desc := "([B[B)Z" } : Jvm.MethodName) prog_43_method_13_code (3 : Nat) (Option.some Jvm.ClassFile.FieldType.boolean)) ∈ lw_all := lw_g (lw_at lw_m5 8 rfl) rfl
theorem q1081 : (Jvm.Cond.classLink "TrustDesk$Reader" (138 : Nat) "TrustDesk$Aim") ∈ lw_all := lw_g (lw_at lw_m5 9 rfl) rfl
theorem q1082 : (Jvm.Cond.instantiable "TrustDesk$Aim" (5 : Nat)) ∈ lw_all := lw_g (lw_at lw_m5 10 rfl) rfl
theorem q1083 : (Jvm.Cond.methodLink "TrustDesk$Reader" (140 : Nat) ({ cls := "TrustDesk$Aim", name := "<init>", desc := "(Ljava/lang/String;)V" } : Jvm.MethodName)) ∈ lw_all := lw_g (lw_at lw_m5 11 rfl) rfl
theorem q1084 : (Jvm.Cond.instanceMethod ({ cls := "TrustDesk$Aim", name := "<init>", desc := "(Ljava/lang/String;)V" } : Jvm.MethodName)) ∈ lw_all := lw_g (lw_at lw_m5 12 rfl) rfl
theorem q1085 : (Jvm.Cond.code ({ cls := "TrustDesk$Aim", name := "<init>", desc := "(Ljava/lang/String;)V" } : Jvm.MethodName) prog_3_method_1_code (2 : Nat) (Option.none : Option Jvm.ClassFile.FieldType)) ∈ lw_all := lw_g (lw_at lw_m5 13 rfl) rfl
theorem q1086 : (Jvm.Cond.methodLink "TrustDesk$Aim" (3 : Nat) ({ cls := "java/lang/Object", name := "<init>", desc := "()V" } : Jvm.MethodName)) ∈ lw_all := lw_g (lw_at lw_m5 14 rfl) rfl
theorem q1087 : (Jvm.Cond.classLink "TrustDesk$Aim" (9 : Nat) "java/util/ArrayList") ∈ lw_all := lw_g (lw_at lw_m5 15 rfl) rfl
theorem q1088 : (Jvm.Cond.methodLink "TrustDesk$Aim" (11 : Nat) ({ cls := "java/util/ArrayList", name := "<init>", desc := "(I)V" } : Jvm.MethodName)) ∈ lw_all := lw_g (lw_at lw_m5 16 rfl) rfl
theorem q1089 : (Jvm.Cond.fieldLink "TrustDesk$Aim" (20 : Nat) "TrustDesk$Aim" "name" "Ljava/lang/String;") ∈ lw_all := lw_g (lw_at lw_m5 17 rfl) rfl
theorem q1090 : (Jvm.Cond.fieldLinkNest "TrustDesk$Deed" (35 : Nat) "TrustDesk$Aim" "name" "Ljava/lang/String;" "TrustDesk") ∈ lw_tbl := lw_at lw_m5 18 rfl
theorem q1091 : (Jvm.Cond.fieldLinkNest "TrustDesk" (383 : Nat) "TrustDesk$Aim" "name" "Ljava/lang/String;" "TrustDesk") ∈ lw_tbl := lw_at lw_m5 19 rfl
theorem q1092 : (Jvm.Cond.fieldLink "TrustDesk$Aim" (24 : Nat) "TrustDesk$Aim" "sum" "LTrustDesk$Sum;") ∈ lw_all := lw_g (lw_at lw_m5 20 rfl) rfl
theorem q1093 : (Jvm.Cond.fieldLinkNest "TrustDesk$Reader" (148 : Nat) "TrustDesk$Aim" "sum" "LTrustDesk$Sum;" "TrustDesk") ∈ lw_tbl := lw_at lw_m5 21 rfl
theorem q1094 : (Jvm.Cond.fieldLinkNest "TrustDesk$Groups" (106 : Nat) "TrustDesk$Aim" "cond" "LTrustDesk$Cond;" "TrustDesk") ∈ lw_tbl := lw_at lw_m5 22 rfl
theorem q1095 : (Jvm.Cond.fieldLinkNest "TrustDesk$Reader" (160 : Nat) "TrustDesk$Aim" "cond" "LTrustDesk$Cond;" "TrustDesk") ∈ lw_tbl := lw_at lw_m5 23 rfl
theorem q1096 : (Jvm.Cond.fieldLinkNest "TrustDesk" (248 : Nat) "TrustDesk$Aim" "cond" "LTrustDesk$Cond;" "TrustDesk") ∈ lw_tbl := lw_at lw_m5 24 rfl
theorem q1097 : (Jvm.Cond.fieldLinkNest "TrustDesk$Reader" (165 : Nat) "TrustDesk$Aim" "inPart" "Z" "TrustDesk") ∈ lw_tbl := lw_at lw_m5 25 rfl
theorem q1098 : (Jvm.Cond.fieldLinkNest "TrustDesk" (263 : Nat) "TrustDesk$Aim" "inPart" "Z" "TrustDesk") ∈ lw_tbl := lw_at lw_m5 26 rfl
theorem q1099 : (Jvm.Cond.fieldLink "TrustDesk$Aim" (14 : Nat) "TrustDesk$Aim" "tests" "Ljava/util/ArrayList;") ∈ lw_all := lw_g (lw_at lw_m5 27 rfl) rfl
theorem q1100 : (Jvm.Cond.fieldLinkNest "TrustDesk$Reader" (251 : Nat) "TrustDesk$Aim" "tests" "Ljava/util/ArrayList;" "TrustDesk") ∈ lw_tbl := lw_at lw_m5 28 rfl
theorem q1101 : (Jvm.Cond.laysFinal "TrustDesk$Aim" "TrustDesk$Aim" "name" "Ljava/lang/String;") ∈ lw_all := lw_g (lw_at lw_m5 29 rfl) rfl
theorem q1103 : (Jvm.Cond.lays "TrustDesk$Aim" "TrustDesk$Aim" "sum" "LTrustDesk$Sum;") ∈ lw_all := lw_g (lw_at lw_m5 31 rfl) rfl
theorem q1105 : (Jvm.Cond.lays "TrustDesk$Aim" "TrustDesk$Aim" "cond" "LTrustDesk$Cond;") ∈ lw_all := lw_g (lw_at lw_m5 33 rfl) rfl
theorem q1107 : (Jvm.Cond.lays "TrustDesk$Aim" "TrustDesk$Aim" "inPart" "Z") ∈ lw_all := lw_g (lw_at lw_m5 35 rfl) rfl
theorem q1109 : (Jvm.Cond.laysFinal "TrustDesk$Aim" "TrustDesk$Aim" "tests" "Ljava/util/ArrayList;") ∈ lw_all := lw_g (lw_at lw_m5 37 rfl) rfl
theorem q1112 : (Jvm.Cond.stringRef "TrustDesk$Reader" (142 : Nat) "pays") ∈ lw_tbl := lw_at lw_m5 40 rfl
theorem q1113 : (Jvm.Cond.stringRef "TrustDesk$Reader" (163 : Nat) "part") ∈ lw_tbl := lw_at lw_m5 41 rfl
theorem q1114 : (Jvm.Cond.methodLink "TrustDesk" (181 : Nat) ({ cls := "TrustDesk$Fund", name := "<init>", desc := "(ILTrustDesk$Deed;II)V" } : Jvm.MethodName)) ∈ lw_all := lw_g (lw_at lw_m5 42 rfl) rfl
theorem q1115 : (Jvm.Cond.instanceMethod ({ cls := "TrustDesk$Fund", name := "<init>", desc := "(ILTrustDesk$Deed;II)V" } : Jvm.MethodName)) ∈ lw_all := lw_g (lw_at lw_m5 43 rfl) rfl
theorem q1116 : (Jvm.Cond.code ({ cls := "TrustDesk$Fund", name := "<init>", desc := "(ILTrustDesk$Deed;II)V" } : Jvm.MethodName) prog_10_method_1_code (6 : Nat) (Option.none : Option Jvm.ClassFile.FieldType)) ∈ lw_all := lw_g (lw_at lw_m5 44 rfl) rfl
theorem q1117 : (Jvm.Cond.methodLink "TrustDesk$Fund" (3 : Nat) ({ cls := "java/lang/Object", name := "<init>", desc := "()V" } : Jvm.MethodName)) ∈ lw_all := lw_g (lw_at lw_m5 45 rfl) rfl
theorem q1118 : (Jvm.Cond.classLink "TrustDesk$Fund" (9 : Nat) "java/util/ArrayList") ∈ lw_all := lw_g (lw_at lw_m5 46 rfl) rfl
theorem q1119 : (Jvm.Cond.methodLink "TrustDesk$Fund" (11 : Nat) ({ cls := "java/util/ArrayList", name := "<init>", desc := "(I)V" } : Jvm.MethodName)) ∈ lw_all := lw_g (lw_at lw_m5 47 rfl) rfl
theorem q1120 : (Jvm.Cond.constant "TrustDesk$Fund" (51 : Nat) (1000000 : Int32)) ∈ lw_all := lw_g (lw_at lw_m5 48 rfl) rfl
theorem q1121 : (Jvm.Cond.methodLink "TrustDesk$Fund" (55 : Nat) ({ cls := "java/util/ArrayList", name := "size", desc := "()I" } : Jvm.MethodName)) ∈ lw_all := lw_g (lw_at lw_m5 49 rfl) rfl
theorem q1122 : (Jvm.Cond.classLink "TrustDesk$Fund" (59 : Nat) "TrustDesk$End") ∈ lw_all := lw_g (lw_at lw_m5 50 rfl) rfl
theorem q1123 : (Jvm.Cond.instantiable "TrustDesk$End" (4 : Nat)) ∈ lw_all := lw_g (lw_at lw_m5 51 rfl) rfl
theorem q1124 : (Jvm.Cond.methodLink "TrustDesk$Fund" (61 : Nat) ({ cls := "java/util/ArrayList", name := "get", desc := "(I)Ljava/lang/Object;" } : Jvm.MethodName)) ∈ lw_all := lw_g (lw_at lw_m5 52 rfl) rfl
theorem q1125 : (Jvm.Cond.classLink "TrustDesk$Fund" (65 : Nat) "TrustDesk$Aim") ∈ lw_all := lw_g (lw_at lw_m5 53 rfl) rfl
theorem q1126 : (Jvm.Cond.methodLink "TrustDesk$Fund" (67 : Nat) ({ cls := "TrustDesk$End", name := "<init>", desc := "(LTrustDesk$Aim;)V" } : Jvm.MethodName)) ∈ lw_all := lw_g (lw_at lw_m5 54 rfl) rfl
theorem q1127 : (Jvm.Cond.instanceMethod ({ cls := "TrustDesk$End", name := "<init>", desc := "(LTrustDesk$Aim;)V" } : Jvm.MethodName)) ∈ lw_all := lw_g (lw_at lw_m5 55 rfl) rfl
theorem q1128 : (Jvm.Cond.code ({ cls := "TrustDesk$End", name := "<init>", desc := "(LTrustDesk$Aim;)V" } : Jvm.MethodName) prog_8_method_1_code (2 : Nat) (Option.none : Option Jvm.ClassFile.FieldType)) ∈ lw_all := lw_g (lw_at lw_m5 56 rfl) rfl
theorem q1129 : (Jvm.Cond.methodLink "TrustDesk$End" (3 : Nat) ({ cls := "java/lang/Object", name := "<init>", desc := "()V" } : Jvm.MethodName)) ∈ lw_all := lw_g (lw_at lw_m5 57 rfl) rfl
theorem q1130 : (Jvm.Cond.fieldLink "TrustDesk$End" (15 : Nat) "TrustDesk$End" "aim" "LTrustDesk$Aim;") ∈ lw_all := lw_g (lw_at lw_m5 58 rfl) rfl
theorem q1131 : (Jvm.Cond.fieldLinkNest "TrustDesk$Groups" (102 : Nat) "TrustDesk$End" "aim" "LTrustDesk$Aim;" "TrustDesk") ∈ lw_tbl := lw_at lw_m5 59 rfl
theorem q1132 : (Jvm.Cond.fieldLinkNest "TrustDesk$Fund" (110 : Nat) "TrustDesk$End" "aim" "LTrustDesk$Aim;" "TrustDesk") ∈ lw_tbl := lw_at lw_m5 60 rfl
theorem q1133 : (Jvm.Cond.fieldLinkNest "TrustDesk" (244 : Nat) "TrustDesk$End" "aim" "LTrustDesk$Aim;" "TrustDesk") ∈ lw_tbl := lw_at lw_m5 61 rfl
theorem q1134 : (Jvm.Cond.fieldLink "TrustDesk$End" (19 : Nat) "TrustDesk$End" "state" "I") ∈ lw_all := lw_g (lw_at lw_m5 62 rfl) rfl
theorem q1135 : (Jvm.Cond.fieldLinkNest "TrustDesk$Groups" (99 : Nat) "TrustDesk$End" "state" "I" "TrustDesk") ∈ lw_tbl := lw_at lw_m5 63 rfl
theorem q1136 : (Jvm.Cond.fieldLinkNest "TrustDesk$Strike" (45 : Nat) "TrustDesk$End" "state" "I" "TrustDesk") ∈ lw_tbl := lw_at lw_m5 64 rfl
theorem q1137 : (Jvm.Cond.fieldLinkNest "TrustDesk$Fund" (90 : Nat) "TrustDesk$End" "state" "I" "TrustDesk") ∈ lw_tbl := lw_at lw_m5 65 rfl
theorem q1138 : (Jvm.Cond.fieldLinkNest "TrustDesk" (233 : Nat) "TrustDesk$End" "state" "I" "TrustDesk") ∈ lw_tbl := lw_at lw_m5 66 rfl
theorem q1139 : (Jvm.Cond.fieldLink "TrustDesk$End" (22 : Nat) "TrustDesk$End" "failed" "I") ∈ lw_all := lw_g (lw_at lw_m5 67 rfl) rfl
theorem q1140 : (Jvm.Cond.fieldLinkNest "TrustDesk$Fund" (114 : Nat) "TrustDesk$End" "failed" "I" "TrustDesk") ∈ lw_tbl := lw_at lw_m5 68 rfl
theorem q1141 : (Jvm.Cond.fieldLinkNest "TrustDesk" (377 : Nat) "TrustDesk$End" "failed" "I" "TrustDesk") ∈ lw_tbl := lw_at lw_m5 69 rfl
theorem q1142 : (Jvm.Cond.fieldLink "TrustDesk$End" (9 : Nat) "TrustDesk$End" "diedIn" "I") ∈ lw_all := lw_g (lw_at lw_m5 70 rfl) rfl
theorem q1143 : (Jvm.Cond.fieldLinkNest "TrustDesk$Fund" (117 : Nat) "TrustDesk$End" "diedIn" "I" "TrustDesk") ∈ lw_tbl := lw_at lw_m5 71 rfl
theorem q1144 : (Jvm.Cond.fieldLinkNest "TrustDesk" (380 : Nat) "TrustDesk$End" "diedIn" "I" "TrustDesk") ∈ lw_tbl := lw_at lw_m5 72 rfl
theorem q1145 : (Jvm.Cond.lays "TrustDesk$End" "TrustDesk$End" "aim" "LTrustDesk$Aim;") ∈ lw_all := lw_g (lw_at lw_m5 73 rfl) rfl
theorem q1147 : (Jvm.Cond.lays "TrustDesk$End" "TrustDesk$End" "state" "I") ∈ lw_all := lw_g (lw_at lw_m5 75 rfl) rfl
theorem q1149 : (Jvm.Cond.lays "TrustDesk$End" "TrustDesk$End" "failed" "I") ∈ lw_all := lw_g (lw_at lw_m5 77 rfl) rfl
theorem q1151 : (Jvm.Cond.lays "TrustDesk$End" "TrustDesk$End" "diedIn" "I") ∈ lw_all := lw_g (lw_at lw_m5 79 rfl) rfl
theorem q1154 : (Jvm.Cond.methodLink "TrustDesk$Fund" (70 : Nat) ({ cls := "java/util/ArrayList", name := "add", desc := "(Ljava/lang/Object;)Z" } : Jvm.MethodName)) ∈ lw_all := lw_g (lw_at lw_m5 82 rfl) rfl
theorem q1155 : (Jvm.Cond.fieldLink "TrustDesk$Fund" (27 : Nat) "TrustDesk$Fund" "number" "I") ∈ lw_all := lw_g (lw_at lw_m5 83 rfl) rfl
theorem q1156 : (Jvm.Cond.fieldLinkNest "TrustDesk$Groups" (171 : Nat) "TrustDesk$Fund" "number" "I" "TrustDesk") ∈ lw_tbl := lw_at lw_m5 84 rfl
theorem q1157 : (Jvm.Cond.fieldLinkNest "TrustDesk$Scheme" (133 : Nat) "TrustDesk$Fund" "number" "I" "TrustDesk") ∈ lw_tbl := lw_at lw_m5 85 rfl
theorem q1158 : (Jvm.Cond.fieldLinkNest "TrustDesk" (278 : Nat) "TrustDesk$Fund" "number" "I" "TrustDesk") ∈ lw_tbl := lw_at lw_m5 86 rfl
theorem q1159 : (Jvm.Cond.fieldLink "TrustDesk$Fund" (42 : Nat) "TrustDesk$Fund" "most" "I") ∈ lw_all := lw_g (lw_at lw_m5 87 rfl) rfl
theorem q1160 : (Jvm.Cond.fieldLinkNest "TrustDesk" (300 : Nat) "TrustDesk$Fund" "most" "I" "TrustDesk") ∈ lw_tbl := lw_at lw_m5 88 rfl
theorem q1161 : (Jvm.Cond.fieldLink "TrustDesk$Fund" (46 : Nat) "TrustDesk$Fund" "yes" "I") ∈ lw_all := lw_g (lw_at lw_m5 89 rfl) rfl
theorem q1162 : (Jvm.Cond.fieldLinkNest "TrustDesk$Join" (67 : Nat) "TrustDesk$Fund" "yes" "I" "TrustDesk") ∈ lw_tbl := lw_at lw_m5 90 rfl
theorem q1163 : (Jvm.Cond.fieldLinkNest "TrustDesk$Scheme" (64 : Nat) "TrustDesk$Fund" "yes" "I" "TrustDesk") ∈ lw_tbl := lw_at lw_m5 91 rfl
theorem q1164 : (Jvm.Cond.fieldLinkNest "TrustDesk" (368 : Nat) "TrustDesk$Fund" "yes" "I" "TrustDesk") ∈ lw_tbl := lw_at lw_m5 92 rfl
theorem q1165 : (Jvm.Cond.fieldLink "TrustDesk$Fund" (14 : Nat) "TrustDesk$Fund" "ends" "Ljava/util/ArrayList;") ∈ lw_all := lw_g (lw_at lw_m5 93 rfl) rfl
theorem q1166 : (Jvm.Cond.fieldLinkNest "TrustDesk$Groups" (94 : Nat) "TrustDesk$Fund" "ends" "Ljava/util/ArrayList;" "TrustDesk") ∈ lw_tbl := lw_at lw_m5 94 rfl
theorem q1167 : (Jvm.Cond.fieldLinkNest "TrustDesk$Strike" (29 : Nat) "TrustDesk$Fund" "ends" "Ljava/util/ArrayList;" "TrustDesk") ∈ lw_tbl := lw_at lw_m5 95 rfl
theorem q1168 : (Jvm.Cond.fieldLinkNest "TrustDesk$Join" (38 : Nat) "TrustDesk$Fund" "ends" "Ljava/util/ArrayList;" "TrustDesk") ∈ lw_tbl := lw_at lw_m5 96 rfl
theorem q1169 : (Jvm.Cond.fieldLinkNest "TrustDesk" (228 : Nat) "TrustDesk$Fund" "ends" "Ljava/util/ArrayList;" "TrustDesk") ∈ lw_tbl := lw_at lw_m5 97 rfl
theorem q1170 : (Jvm.Cond.fieldLink "TrustDesk$Fund" (20 : Nat) "TrustDesk$Fund" "trustees" "Ljava/util/ArrayList;") ∈ lw_all := lw_g (lw_at lw_m5 98 rfl) rfl
theorem q1171 : (Jvm.Cond.fieldLinkNest "TrustDesk" (297 : Nat) "TrustDesk$Fund" "trustees" "Ljava/util/ArrayList;" "TrustDesk") ∈ lw_tbl := lw_at lw_m5 99 rfl
theorem q1172 : (Jvm.Cond.fieldLink "TrustDesk$Fund" (23 : Nat) "TrustDesk$Fund" "parts" "[I") ∈ lw_all := lw_g (lw_at lw_m5 100 rfl) rfl
theorem q1173 : (Jvm.Cond.fieldLinkNest "TrustDesk" (281 : Nat) "TrustDesk$Fund" "parts" "[I" "TrustDesk") ∈ lw_tbl := lw_at lw_m5 101 rfl
theorem q1174 : (Jvm.Cond.fieldLink "TrustDesk$Fund" (31 : Nat) "TrustDesk$Fund" "acres" "I") ∈ lw_all := lw_g (lw_at lw_m5 102 rfl) rfl
theorem q1175 : (Jvm.Cond.fieldLinkNest "TrustDesk$Sale" (25 : Nat) "TrustDesk$Fund" "acres" "I" "TrustDesk") ∈ lw_tbl := lw_at lw_m5 103 rfl
theorem q1176 : (Jvm.Cond.fieldLinkNest "TrustDesk" (193 : Nat) "TrustDesk$Fund" "acres" "I" "TrustDesk") ∈ lw_tbl := lw_at lw_m5 104 rfl
theorem q1177 : (Jvm.Cond.fieldLink "TrustDesk$Fund" (34 : Nat) "TrustDesk$Fund" "stock" "I") ∈ lw_all := lw_g (lw_at lw_m5 105 rfl) rfl
theorem q1178 : (Jvm.Cond.fieldLinkNest "TrustDesk" (196 : Nat) "TrustDesk$Fund" "stock" "I" "TrustDesk") ∈ lw_tbl := lw_at lw_m5 106 rfl
theorem q1179 : (Jvm.Cond.fieldLink "TrustDesk$Fund" (50 : Nat) "TrustDesk$Fund" "marks" "I") ∈ lw_all := lw_g (lw_at lw_m5 107 rfl) rfl
theorem q1180 : (Jvm.Cond.fieldLinkNest "TrustDesk$Groups" (121 : Nat) "TrustDesk$Fund" "marks" "I" "TrustDesk") ∈ lw_tbl := lw_at lw_m5 108 rfl
theorem q1181 : (Jvm.Cond.fieldLinkNest "TrustDesk$Join" (49 : Nat) "TrustDesk$Fund" "marks" "I" "TrustDesk") ∈ lw_tbl := lw_at lw_m5 109 rfl
theorem q1182 : (Jvm.Cond.fieldLinkNest "TrustDesk$Nearer" (27 : Nat) "TrustDesk$Fund" "marks" "I" "TrustDesk") ∈ lw_tbl := lw_at lw_m5 110 rfl
theorem q1183 : (Jvm.Cond.fieldLinkNest "TrustDesk" (211 : Nat) "TrustDesk$Fund" "marks" "I" "TrustDesk") ∈ lw_tbl := lw_at lw_m5 111 rfl
theorem q1184 : (Jvm.Cond.fieldLinkNest "TrustDesk$Groups" (166 : Nat) "TrustDesk$Fund" "group" "I" "TrustDesk") ∈ lw_tbl := lw_at lw_m5 112 rfl
theorem q1185 : (Jvm.Cond.fieldLinkNest "TrustDesk" (418 : Nat) "TrustDesk$Fund" "group" "I" "TrustDesk") ∈ lw_tbl := lw_at lw_m5 113 rfl
theorem q1186 : (Jvm.Cond.fieldLink "TrustDesk$Fund" (80 : Nat) "TrustDesk$Fund" "coin" "J") ∈ lw_all := lw_g (lw_at lw_m5 114 rfl) rfl
theorem q1187 : (Jvm.Cond.fieldLinkNest "TrustDesk$Join" (72 : Nat) "TrustDesk$Fund" "coin" "J" "TrustDesk") ∈ lw_tbl := lw_at lw_m5 115 rfl
theorem q1188 : (Jvm.Cond.fieldLinkNest "TrustDesk" (203 : Nat) "TrustDesk$Fund" "coin" "J" "TrustDesk") ∈ lw_tbl := lw_at lw_m5 116 rfl
theorem q1189 : (Jvm.Cond.fieldLink "TrustDesk$Fund" (74 : Nat) "TrustDesk$Fund" "joined" "LTrustDesk$Fund;") ∈ lw_all := lw_g (lw_at lw_m5 117 rfl) rfl
theorem q1190 : (Jvm.Cond.fieldLinkNest "TrustDesk" (364 : Nat) "TrustDesk$Fund" "joined" "LTrustDesk$Fund;" "TrustDesk") ∈ lw_tbl := lw_at lw_m5 118 rfl
theorem q1191 : (Jvm.Cond.laysFinal "TrustDesk$Fund" "TrustDesk$Fund" "number" "I") ∈ lw_all := lw_g (lw_at lw_m5 119 rfl) rfl
theorem q1193 : (Jvm.Cond.laysFinal "TrustDesk$Fund" "TrustDesk$Fund" "most" "I") ∈ lw_all := lw_g (lw_at lw_m5 121 rfl) rfl
theorem q1195 : (Jvm.Cond.laysFinal "TrustDesk$Fund" "TrustDesk$Fund" "yes" "I") ∈ lw_all := lw_g (lw_at lw_m5 123 rfl) rfl
theorem q1197 : (Jvm.Cond.laysFinal "TrustDesk$Fund" "TrustDesk$Fund" "ends" "Ljava/util/ArrayList;") ∈ lw_all := lw_g (lw_at lw_m5 125 rfl) rfl
theorem q1199 : (Jvm.Cond.laysFinal "TrustDesk$Fund" "TrustDesk$Fund" "trustees" "Ljava/util/ArrayList;") ∈ lw_all := lw_g (lw_at lw_m5 127 rfl) rfl
theorem q1201 : (Jvm.Cond.laysFinal "TrustDesk$Fund" "TrustDesk$Fund" "parts" "[I") ∈ lw_all := lw_g (lw_at lw_m5 129 rfl) rfl
theorem q1203 : (Jvm.Cond.lays "TrustDesk$Fund" "TrustDesk$Fund" "acres" "I") ∈ lw_all := lw_g (lw_at lw_m5 131 rfl) rfl
theorem q1205 : (Jvm.Cond.lays "TrustDesk$Fund" "TrustDesk$Fund" "stock" "I") ∈ lw_all := lw_g (lw_at lw_m5 133 rfl) rfl
theorem q1207 : (Jvm.Cond.lays "TrustDesk$Fund" "TrustDesk$Fund" "marks" "I") ∈ lw_all := lw_g (lw_at lw_m5 135 rfl) rfl
theorem q1209 : (Jvm.Cond.lays "TrustDesk$Fund" "TrustDesk$Fund" "group" "I") ∈ lw_all := lw_g (lw_at lw_m5 137 rfl) rfl
theorem q1211 : (Jvm.Cond.lays "TrustDesk$Fund" "TrustDesk$Fund" "coin" "J") ∈ lw_all := lw_g (lw_at lw_m5 139 rfl) rfl
theorem q1213 : (Jvm.Cond.lays "TrustDesk$Fund" "TrustDesk$Fund" "joined" "LTrustDesk$Fund;") ∈ lw_all := lw_g (lw_at lw_m5 141 rfl) rfl
theorem q1216 : (Jvm.Cond.methodLink "TrustDeskLaw" (51 : Nat) ({ cls := "TrustDesk", name := "near", desc := "(I)I" } : Jvm.MethodName)) ∈ lw_all := lw_g (lw_at lw_m5 144 rfl) rfl
theorem q1217 : (Jvm.Cond.instanceMethod ({ cls := "TrustDesk", name := "near", desc := "(I)I" } : Jvm.MethodName)) ∈ lw_all := lw_g (lw_at lw_m5 145 rfl) rfl
theorem q1218 : (Jvm.Cond.selects "TrustDesk" ({ cls := "TrustDesk", name := "near", desc := "(I)I" } : Jvm.MethodName) ({ cls := "TrustDesk", name := "near", desc := "(I)I" } : Jvm.MethodName)) ∈ lw_all := lw_g (lw_at lw_m5 146 rfl) rfl
theorem q1219 : (Jvm.Cond.codeWith ({ cls := "TrustDesk", name := "near", desc := "(I)I" } : Jvm.MethodName) prog_1_method_19_code (3 : Nat) (Option.some Jvm.ClassFile.FieldType.int) [((25 : Nat), (59 : Nat), (60 : Nat), (59 : Nat))]) ∈ lw_all := lw_g (lw_at lw_m5 147 rfl) rfl
theorem q1220 : (Jvm.Cond.classLink "TrustDesk" (184 : Nat) "TrustDesk$Near") ∈ lw_all := lw_g (lw_at lw_m5 148 rfl) rfl
theorem q1221 : (Jvm.Cond.instantiable "TrustDesk$Near" (2 : Nat)) ∈ lw_all := lw_g (lw_at lw_m5 149 rfl) rfl
theorem q1222 : (Jvm.Cond.methodLink "TrustDesk" (186 : Nat) ({ cls := "TrustDesk$Reader", name := "alone", desc := "()LTrustDesk$Aim;" } : Jvm.MethodName)) ∈ lw_all := lw_g (lw_at lw_m5 150 rfl) rfl
theorem q1223 : (Jvm.Cond.instanceMethod ({ cls := "TrustDesk$Reader", name := "alone", desc := "()LTrustDesk$Aim;" } : Jvm.MethodName)) ∈ lw_all := lw_g (lw_at lw_m5 151 rfl) rfl
theorem q1224 : (Jvm.Cond.selects "TrustDesk$Reader" ({ cls := "TrustDesk$Reader", name := "alone", desc := "()LTrustDesk$Aim;" } : Jvm.MethodName) ({ cls := "TrustDesk$Reader", name := "alone", desc := "()LTrustDesk$Aim;" } : Jvm.MethodName)) ∈ lw_all := lw_g (lw_at lw_m5 152 rfl) rfl
theorem q1225 : (Jvm.Cond.code ({ cls := "TrustDesk$Reader", name := "alone", desc := "()LTrustDesk$Aim;" } : Jvm.MethodName) prog_17_method_10_code (2 : Nat) (Option.some (Jvm.ClassFile.FieldType.object "TrustDesk$Aim"))) ∈ lw_all := lw_g (lw_at lw_m5 153 rfl) rfl
theorem q1226 : (Jvm.Cond.methodLink "TrustDesk" (190 : Nat) ({ cls := "TrustDesk$Near", name := "<init>", desc := "(LTrustDesk$Aim;I)V" } : Jvm.MethodName)) ∈ lw_all := lw_g (lw_at lw_m5 154 rfl) rfl
theorem q1227 : (Jvm.Cond.instanceMethod ({ cls := "TrustDesk$Near", name := "<init>", desc := "(LTrustDesk$Aim;I)V" } : Jvm.MethodName)) ∈ lw_all := lw_g (lw_at lw_m5 155 rfl) rfl
theorem q1228 : (Jvm.Cond.code ({ cls := "TrustDesk$Near", name := "<init>", desc := "(LTrustDesk$Aim;I)V" } : Jvm.MethodName) prog_13_method_1_code (3 : Nat) (Option.none : Option Jvm.ClassFile.FieldType)) ∈ lw_all := lw_g (lw_at lw_m5 156 rfl) rfl
theorem q1229 : (Jvm.Cond.methodLink "TrustDesk$Near" (1 : Nat) ({ cls := "java/lang/Object", name := "<init>", desc := "()V" } : Jvm.MethodName)) ∈ lw_all := lw_g (lw_at lw_m5 157 rfl) rfl
theorem q1230 : (Jvm.Cond.fieldLink "TrustDesk$Near" (7 : Nat) "TrustDesk$Near" "aim" "LTrustDesk$Aim;") ∈ lw_all := lw_g (lw_at lw_m5 158 rfl) rfl
theorem q1231 : (Jvm.Cond.fieldLinkNest "TrustDesk$Nearer" (49 : Nat) "TrustDesk$Near" "aim" "LTrustDesk$Aim;" "TrustDesk") ∈ lw_tbl := lw_at lw_m5 159 rfl
theorem q1232 : (Jvm.Cond.fieldLink "TrustDesk$Near" (13 : Nat) "TrustDesk$Near" "marks" "I") ∈ lw_all := lw_g (lw_at lw_m5 160 rfl) rfl
theorem q1233 : (Jvm.Cond.fieldLinkNest "TrustDesk$Nearer" (48 : Nat) "TrustDesk$Near" "marks" "I" "TrustDesk") ∈ lw_tbl := lw_at lw_m5 161 rfl
theorem q1234 : (Jvm.Cond.fieldLinkNest "TrustDesk" (395 : Nat) "TrustDesk$Near" "marks" "I" "TrustDesk") ∈ lw_tbl := lw_at lw_m5 162 rfl
theorem q1235 : (Jvm.Cond.laysFinal "TrustDesk$Near" "TrustDesk$Near" "aim" "LTrustDesk$Aim;") ∈ lw_all := lw_g (lw_at lw_m5 163 rfl) rfl
theorem q1237 : (Jvm.Cond.laysFinal "TrustDesk$Near" "TrustDesk$Near" "marks" "I") ∈ lw_all := lw_g (lw_at lw_m5 165 rfl) rfl
theorem q1240 : (Jvm.Cond.methodLink "TrustDeskLaw" (55 : Nat) ({ cls := "TrustDesk", name := "place", desc := "()I" } : Jvm.MethodName)) ∈ lw_all := lw_g (lw_at lw_m5 168 rfl) rfl
theorem q1241 : (Jvm.Cond.instanceMethod ({ cls := "TrustDesk", name := "place", desc := "()I" } : Jvm.MethodName)) ∈ lw_all := lw_g (lw_at lw_m5 169 rfl) rfl
theorem q1242 : (Jvm.Cond.selects "TrustDesk" ({ cls := "TrustDesk", name := "place", desc := "()I" } : Jvm.MethodName) ({ cls := "TrustDesk", name := "place", desc := "()I" } : Jvm.MethodName)) ∈ lw_all := lw_g (lw_at lw_m5 170 rfl) rfl
theorem q1243 : (Jvm.Cond.code ({ cls := "TrustDesk", name := "place", desc := "()I" } : Jvm.MethodName) prog_1_method_20_code (1 : Nat) (Option.some Jvm.ClassFile.FieldType.int)) ∈ lw_all := lw_g (lw_at lw_m5 171 rfl) rfl
theorem q1244 : (Jvm.Cond.methodLink "TrustDeskLaw" (60 : Nat) ({ cls := "TrustDesk", name := "days", desc := "(I)I" } : Jvm.MethodName)) ∈ lw_all := lw_g (lw_at lw_m5 172 rfl) rfl
theorem q1245 : (Jvm.Cond.instanceMethod ({ cls := "TrustDesk", name := "days", desc := "(I)I" } : Jvm.MethodName)) ∈ lw_all := lw_g (lw_at lw_m5 173 rfl) rfl
theorem q1246 : (Jvm.Cond.selects "TrustDesk" ({ cls := "TrustDesk", name := "days", desc := "(I)I" } : Jvm.MethodName) ({ cls := "TrustDesk", name := "days", desc := "(I)I" } : Jvm.MethodName)) ∈ lw_all := lw_g (lw_at lw_m5 174 rfl) rfl
theorem q1247 : (Jvm.Cond.code ({ cls := "TrustDesk", name := "days", desc := "(I)I" } : Jvm.MethodName) prog_1_method_28_code (3 : Nat) (Option.some Jvm.ClassFile.FieldType.int)) ∈ lw_all := lw_g (lw_at lw_m5 175 rfl) rfl
theorem q1248 : (Jvm.Cond.methodLink "TrustDesk" (286 : Nat) ({ cls := "TrustDesk", name := "yearNow", desc := "()I" } : Jvm.MethodName)) ∈ lw_all := lw_g (lw_at lw_m5 176 rfl) rfl
theorem q1250 : (Jvm.Cond.instanceMethod ({ cls := "TrustDesk", name := "yearNow", desc := "()I" } : Jvm.MethodName)) ∈ lw_all := lw_g (lw_at lw_m5 178 rfl) rfl
theorem q1251 : (Jvm.Cond.code ({ cls := "TrustDesk", name := "yearNow", desc := "()I" } : Jvm.MethodName) prog_1_method_23_code (1 : Nat) (Option.some Jvm.ClassFile.FieldType.int)) ∈ lw_all := lw_g (lw_at lw_m5 179 rfl) rfl
theorem q1252 : (Jvm.Cond.methodLink "TrustDesk" (289 : Nat) ({ cls := "TrustDesk", name := "closes", desc := "(I)V" } : Jvm.MethodName)) ∈ lw_all := lw_g (lw_at lw_m5 180 rfl) rfl
theorem q1254 : (Jvm.Cond.instanceMethod ({ cls := "TrustDesk", name := "closes", desc := "(I)V" } : Jvm.MethodName)) ∈ lw_all := lw_g (lw_at lw_m5 182 rfl) rfl
theorem q1255 : (Jvm.Cond.code ({ cls := "TrustDesk", name := "closes", desc := "(I)V" } : Jvm.MethodName) prog_1_method_25_code (6 : Nat) (Option.none : Option Jvm.ClassFile.FieldType)) ∈ lw_all := lw_g (lw_at lw_m5 183 rfl) rfl
theorem q1256 : (Jvm.Cond.methodLink "TrustDesk" (219 : Nat) ({ cls := "TrustDesk", name := "lastDay", desc := "(I)I" } : Jvm.MethodName)) ∈ lw_all := lw_g (lw_at lw_m5 184 rfl) rfl
theorem q1257 : (Jvm.Cond.static ({ cls := "TrustDesk", name := "lastDay", desc := "(I)I" } : Jvm.MethodName)) ∈ lw_all := lw_g (lw_at lw_m5 185 rfl) rfl
theorem q1258 : (Jvm.Cond.code ({ cls := "TrustDesk", name := "lastDay", desc := "(I)I" } : Jvm.MethodName) prog_1_method_24_code (1 : Nat) (Option.some Jvm.ClassFile.FieldType.int)) ∈ lw_all := lw_g (lw_at lw_m5 186 rfl) rfl
theorem q1259 : (Jvm.Cond.methodLink "TrustDesk" (172 : Nat) ({ cls := "TrustDesk$Fund", name := "isThere", desc := "()Z" } : Jvm.MethodName)) ∈ lw_all := lw_g (lw_at lw_m5 187 rfl) rfl
theorem q1260 : (Jvm.Cond.instanceMethod ({ cls := "TrustDesk$Fund", name := "isThere", desc := "()Z" } : Jvm.MethodName)) ∈ lw_all := lw_g (lw_at lw_m5 188 rfl) rfl
theorem q1261 : (Jvm.Cond.selects "TrustDesk$Fund" ({ cls := "TrustDesk$Fund", name := "isThere", desc := "()Z" } : Jvm.MethodName) ({ cls := "TrustDesk$Fund", name := "isThere", desc := "()Z" } : Jvm.MethodName)) ∈ lw_all := lw_g (lw_at lw_m5 189 rfl) rfl
theorem q1262 : (Jvm.Cond.code ({ cls := "TrustDesk$Fund", name := "isThere", desc := "()Z" } : Jvm.MethodName) prog_10_method_2_code (1 : Nat) (Option.some Jvm.ClassFile.FieldType.boolean)) ∈ lw_all := lw_g (lw_at lw_m5 190 rfl) rfl
theorem q1263 : (Jvm.Cond.constantLong "TrustDesk" (222 : Nat) (100 : Int64)) ∈ lw_all := lw_g (lw_at lw_m5 191 rfl) rfl
theorem q1264 : (Jvm.Cond.methodLink "TrustDesk" (224 : Nat) ({ cls := "TrustDesk$Fund", name := "gets", desc := "(J)V" } : Jvm.MethodName)) ∈ lw_all := lw_g (lw_at lw_m5 192 rfl) rfl
theorem q1265 : (Jvm.Cond.instanceMethod ({ cls := "TrustDesk$Fund", name := "gets", desc := "(J)V" } : Jvm.MethodName)) ∈ lw_all := lw_g (lw_at lw_m5 193 rfl) rfl
theorem q1266 : (Jvm.Cond.selects "TrustDesk$Fund" ({ cls := "TrustDesk$Fund", name := "gets", desc := "(J)V" } : Jvm.MethodName) ({ cls := "TrustDesk$Fund", name := "gets", desc := "(J)V" } : Jvm.MethodName)) ∈ lw_all := lw_g (lw_at lw_m5 194 rfl) rfl
theorem q1267 : (Jvm.Cond.code ({ cls := "TrustDesk$Fund", name := "gets", desc := "(J)V" } : Jvm.MethodName) prog_10_method_3_code (3 : Nat) (Option.none : Option Jvm.ClassFile.FieldType)) ∈ lw_all := lw_g (lw_at lw_m5 195 rfl) rfl
theorem q1268 : (Jvm.Cond.constantLong "TrustDesk$Fund" (78 : Nat) (1000000000000000 : Int64)) ∈ lw_all := lw_g (lw_at lw_m5 196 rfl) rfl
theorem q1269 : (Jvm.Cond.methodLink "TrustDesk$Fund" (84 : Nat) ({ cls := "java/lang/Math", name := "min", desc := "(JJ)J" } : Jvm.MethodName)) ∈ lw_all := lw_g (lw_at lw_m5 197 rfl) rfl
theorem q1270 : (Jvm.Cond.static ({ cls := "java/lang/Math", name := "min", desc := "(JJ)J" } : Jvm.MethodName)) ∈ lw_all := lw_g (lw_at lw_m5 198 rfl) rfl
theorem q1271 : (Jvm.Cond.code ({ cls := "java/lang/Math", name := "min", desc := "(JJ)J" } : Jvm.MethodName) prog_38_method_70_code (4 : Nat) (Option.some Jvm.ClassFile.FieldType.long)) ∈ lw_all := lw_g (lw_at lw_m5 199 rfl) rfl
theorem q1272 : (Jvm.Cond.methodLink "TrustDesk" (199 : Nat) ({ cls := "TrustDesk", name := "incomeOf", desc := "(LTrustDesk$Fund;II)I" } : Jvm.MethodName)) ∈ lw_all := lw_g (lw_at lw_m5 200 rfl) rfl
theorem q1274 : (Jvm.Cond.instanceMethod ({ cls := "TrustDesk", name := "incomeOf", desc := "(LTrustDesk$Fund;II)I" } : Jvm.MethodName)) ∈ lw_all := lw_g (lw_at lw_m5 202 rfl) rfl
theorem q1275 : (Jvm.Cond.code ({ cls := "TrustDesk", name := "incomeOf", desc := "(LTrustDesk$Fund;II)I" } : Jvm.MethodName) prog_1_method_21_code (4 : Nat) (Option.some Jvm.ClassFile.FieldType.int)) ∈ lw_all := lw_g (lw_at lw_m5 203 rfl) rfl
theorem q1276 : (Jvm.Cond.classLink "TrustDesk" (231 : Nat) "TrustDesk$End") ∈ lw_all := lw_g (lw_at lw_m5 204 rfl) rfl
theorem q1277 : (Jvm.Cond.methodLink "TrustDesk" (236 : Nat) ({ cls := "TrustDesk", name := "serves", desc := "(LTrustDesk$Fund;III)V" } : Jvm.MethodName)) ∈ lw_all := lw_g (lw_at lw_m5 205 rfl) rfl
theorem q1279 : (Jvm.Cond.instanceMethod ({ cls := "TrustDesk", name := "serves", desc := "(LTrustDesk$Fund;III)V" } : Jvm.MethodName)) ∈ lw_all := lw_g (lw_at lw_m5 207 rfl) rfl
theorem q1280 : (Jvm.Cond.code ({ cls := "TrustDesk", name := "serves", desc := "(LTrustDesk$Fund;III)V" } : Jvm.MethodName) prog_1_method_26_code (10 : Nat) (Option.none : Option Jvm.ClassFile.FieldType)) ∈ lw_all := lw_g (lw_at lw_m5 208 rfl) rfl
theorem q1281 : (Jvm.Cond.methodLink "TrustDesk" (240 : Nat) ({ cls := "TrustDesk", name := "learns", desc := "(LTrustDesk$Fund;II)[J" } : Jvm.MethodName)) ∈ lw_all := lw_g (lw_at lw_m5 209 rfl) rfl
theorem q1283 : (Jvm.Cond.instanceMethod ({ cls := "TrustDesk", name := "learns", desc := "(LTrustDesk$Fund;II)[J" } : Jvm.MethodName)) ∈ lw_all := lw_g (lw_at lw_m5 211 rfl) rfl
theorem q1284 : (Jvm.Cond.code ({ cls := "TrustDesk", name := "learns", desc := "(LTrustDesk$Fund;II)[J" } : Jvm.MethodName) prog_1_method_22_code (5 : Nat) (Option.some (Jvm.ClassFile.FieldType.array Jvm.ClassFile.FieldType.long))) ∈ lw_all := lw_g (lw_at lw_m5 212 rfl) rfl
theorem q1285 : (Jvm.Cond.constantLong "TrustDesk" (5 : Nat) (1000000000 : Int64)) ∈ lw_all := lw_g (lw_at lw_m5 213 rfl) rfl
theorem q1286 : (Jvm.Cond.methodLink "TrustDesk" (7 : Nat) ({ cls := "java/lang/Math", name := "min", desc := "(JJ)J" } : Jvm.MethodName)) ∈ lw_all := lw_g (lw_at lw_m5 214 rfl) rfl
theorem q1287 : (Jvm.Cond.methodLink "TrustDesk" (207 : Nat) ({ cls := "TrustDesk$Fund", name := "many", desc := "(I)I" } : Jvm.MethodName)) ∈ lw_all := lw_g (lw_at lw_m5 215 rfl) rfl
theorem q1288 : (Jvm.Cond.instanceMethod ({ cls := "TrustDesk$Fund", name := "many", desc := "(I)I" } : Jvm.MethodName)) ∈ lw_all := lw_g (lw_at lw_m5 216 rfl) rfl
theorem q1289 : (Jvm.Cond.selects "TrustDesk$Fund" ({ cls := "TrustDesk$Fund", name := "many", desc := "(I)I" } : Jvm.MethodName) ({ cls := "TrustDesk$Fund", name := "many", desc := "(I)I" } : Jvm.MethodName)) ∈ lw_all := lw_g (lw_at lw_m5 217 rfl) rfl
theorem q1290 : (Jvm.Cond.code ({ cls := "TrustDesk$Fund", name := "many", desc := "(I)I" } : Jvm.MethodName) prog_10_method_4_code (4 : Nat) (Option.some Jvm.ClassFile.FieldType.int)) ∈ lw_all := lw_g (lw_at lw_m5 218 rfl) rfl
theorem q1291 : (Jvm.Cond.methodLink "TrustDesk" (214 : Nat) ({ cls := "java/lang/Integer", name := "bitCount", desc := "(I)I" } : Jvm.MethodName)) ∈ lw_all := lw_g (lw_at lw_m5 219 rfl) rfl
theorem q1292 : (Jvm.Cond.static ({ cls := "java/lang/Integer", name := "bitCount", desc := "(I)I" } : Jvm.MethodName)) ∈ lw_all := lw_g (lw_at lw_m5 220 rfl) rfl
theorem q1293 : (Jvm.Cond.code ({ cls := "java/lang/Integer", name := "bitCount", desc := "(I)I" } : Jvm.MethodName) prog_35_method_49_code (1 : Nat) (Option.some Jvm.ClassFile.FieldType.int)) ∈ lw_all := lw_g (lw_at lw_m5 221 rfl) rfl
theorem q1294 : (Jvm.Cond.constant "java/lang/Integer" (265 : Nat) (1431655765 : Int32)) ∈ lw_all := lw_g (lw_at lw_m5 222 rfl) rfl
theorem q1295 : (Jvm.Cond.constant "java/lang/Integer" (266 : Nat) (858993459 : Int32)) ∈ lw_all := lw_g (lw_at lw_m5 223 rfl) rfl
theorem q1296 : (Jvm.Cond.constant "java/lang/Integer" (267 : Nat) (252645135 : Int32)) ∈ lw_all := lw_g (lw_at lw_m5 224 rfl) rfl
theorem q1297 : (Jvm.Cond.methodLink "TrustDesk" (254 : Nat) ({ cls := "TrustDesk$Cond", name := "holds", desc := "([J)Z" } : Jvm.MethodName)) ∈ lw_all := lw_g (lw_at lw_m5 225 rfl) rfl
theorem q1298 : (Jvm.Cond.declares ({ cls := "TrustDesk$Cond", name := "holds", desc := "([J)Z" } : Jvm.MethodName)) ∈ lw_tbl := lw_at lw_m5 226 rfl
theorem q1299 : (Jvm.Cond.sameMethod "TrustDesk$Cond" "TrustDesk$Cond" "holds" "([J)Z") ∈ lw_all := lw_g (lw_at lw_m5 227 rfl) rfl
theorem q1300 : (Jvm.Cond.selects "TrustDesk$Compared" ({ cls := "TrustDesk$Cond", name := "holds", desc := "([J)Z" } : Jvm.MethodName) ({ cls := "TrustDesk$Compared", name := "holds", desc := "([J)Z" } : Jvm.MethodName)) ∈ lw_all := lw_g (lw_at lw_m5 228 rfl) rfl
theorem q1301 : (Jvm.Cond.instanceMethod ({ cls := "TrustDesk$Compared", name := "holds", desc := "([J)Z" } : Jvm.MethodName)) ∈ lw_all := lw_g (lw_at lw_m5 229 rfl) rfl
theorem q1302 : (Jvm.Cond.code ({ cls := "TrustDesk$Compared", name := "holds", desc := "([J)Z" } : Jvm.MethodName) prog_5_method_2_code (6 : Nat) (Option.some Jvm.ClassFile.FieldType.boolean)) ∈ lw_all := lw_g (lw_at lw_m5 230 rfl) rfl
theorem q1303 : (Jvm.Cond.methodLink "TrustDesk$Compared" (20 : Nat) ({ cls := "TrustDesk$Sum", name := "of", desc := "([J)J" } : Jvm.MethodName)) ∈ lw_all := lw_g (lw_at lw_m5 231 rfl) rfl
theorem q1304 : (Jvm.Cond.declares ({ cls := "TrustDesk$Sum", name := "of", desc := "([J)J" } : Jvm.MethodName)) ∈ lw_tbl := lw_at lw_m5 232 rfl
theorem q1305 : (Jvm.Cond.sameMethod "TrustDesk$Sum" "TrustDesk$Sum" "of" "([J)J") ∈ lw_all := lw_g (lw_at lw_m5 233 rfl) rfl
theorem q1306 : (Jvm.Cond.selects "TrustDesk$Fact" ({ cls := "TrustDesk$Sum", name := "of", desc := "([J)J" } : Jvm.MethodName) ({ cls := "TrustDesk$Fact", name := "of", desc := "([J)J" } : Jvm.MethodName)) ∈ lw_all := lw_g (lw_at lw_m5 234 rfl) rfl
theorem q1307 : (Jvm.Cond.instanceMethod ({ cls := "TrustDesk$Fact", name := "of", desc := "([J)J" } : Jvm.MethodName)) ∈ lw_all := lw_g (lw_at lw_m5 235 rfl) rfl
theorem q1308 : (Jvm.Cond.code ({ cls := "TrustDesk$Fact", name := "of", desc := "([J)J" } : Jvm.MethodName) prog_9_method_2_code (2 : Nat) (Option.some Jvm.ClassFile.FieldType.long)) ∈ lw_all := lw_g (lw_at lw_m5 236 rfl) rfl
theorem q1309 : (Jvm.Cond.selects "TrustDesk$Plain" ({ cls := "TrustDesk$Sum", name := "of", desc := "([J)J" } : Jvm.MethodName) ({ cls := "TrustDesk$Plain", name := "of", desc := "([J)J" } : Jvm.MethodName)) ∈ lw_all := lw_g (lw_at lw_m5 237 rfl) rfl
theorem q1310 : (Jvm.Cond.instanceMethod ({ cls := "TrustDesk$Plain", name := "of", desc := "([J)J" } : Jvm.MethodName)) ∈ lw_all := lw_g (lw_at lw_m5 238 rfl) rfl
theorem q1311 : (Jvm.Cond.code ({ cls := "TrustDesk$Plain", name := "of", desc := "([J)J" } : Jvm.MethodName) prog_16_method_2_code (2 : Nat) (Option.some Jvm.ClassFile.FieldType.long)) ∈ lw_all := lw_g (lw_at lw_m5 239 rfl) rfl
theorem q1312 : (Jvm.Cond.selects "TrustDesk$Worked" ({ cls := "TrustDesk$Sum", name := "of", desc := "([J)J" } : Jvm.MethodName) ({ cls := "TrustDesk$Worked", name := "of", desc := "([J)J" } : Jvm.MethodName)) ∈ lw_all := lw_g (lw_at lw_m6 0 rfl) rfl
theorem q1313 : (Jvm.Cond.instanceMethod ({ cls := "TrustDesk$Worked", name := "of", desc := "([J)J" } : Jvm.MethodName)) ∈ lw_all := lw_g (lw_at lw_m6 1 rfl) rfl
theorem q1314 : (Jvm.Cond.code ({ cls := "TrustDesk$Worked", name := "of", desc := "([J)J" } : Jvm.MethodName) prog_23_method_2_code (6 : Nat) (Option.some Jvm.ClassFile.FieldType.long)) ∈ lw_all := lw_g (lw_at lw_m6 2 rfl) rfl
theorem q1315 : (Jvm.Cond.methodLink "TrustDesk$Worked" (20 : Nat) ({ cls := "TrustDesk$Sum", name := "of", desc := "([J)J" } : Jvm.MethodName)) ∈ lw_all := lw_g (lw_at lw_m6 3 rfl) rfl
theorem q1316 : (Jvm.Cond.methodLinkNest "TrustDesk$Worked" (24 : Nat) ({ cls := "TrustDesk", name := "held", desc := "(J)J" } : Jvm.MethodName) "TrustDesk") ∈ lw_tbl := lw_at lw_m6 4 rfl
theorem q1317 : (Jvm.Cond.static ({ cls := "TrustDesk", name := "held", desc := "(J)J" } : Jvm.MethodName)) ∈ lw_all := lw_g (lw_at lw_m6 5 rfl) rfl
theorem q1318 : (Jvm.Cond.code ({ cls := "TrustDesk", name := "held", desc := "(J)J" } : Jvm.MethodName) prog_1_method_2_code (2 : Nat) (Option.some Jvm.ClassFile.FieldType.long)) ∈ lw_all := lw_g (lw_at lw_m6 6 rfl) rfl
theorem q1319 : (Jvm.Cond.constantLong "TrustDesk" (3 : Nat) (-1000000000 : Int64)) ∈ lw_all := lw_g (lw_at lw_m6 7 rfl) rfl
theorem q1320 : (Jvm.Cond.methodLink "TrustDesk" (13 : Nat) ({ cls := "java/lang/Math", name := "max", desc := "(JJ)J" } : Jvm.MethodName)) ∈ lw_all := lw_g (lw_at lw_m6 8 rfl) rfl
theorem q1321 : (Jvm.Cond.static ({ cls := "java/lang/Math", name := "max", desc := "(JJ)J" } : Jvm.MethodName)) ∈ lw_all := lw_g (lw_at lw_m6 9 rfl) rfl
theorem q1322 : (Jvm.Cond.code ({ cls := "java/lang/Math", name := "max", desc := "(JJ)J" } : Jvm.MethodName) prog_38_method_66_code (4 : Nat) (Option.some Jvm.ClassFile.FieldType.long)) ∈ lw_all := lw_g (lw_at lw_m6 10 rfl) rfl
theorem q1323 : (Jvm.Cond.selects "TrustDesk$Not" ({ cls := "TrustDesk$Cond", name := "holds", desc := "([J)Z" } : Jvm.MethodName) ({ cls := "TrustDesk$Not", name := "holds", desc := "([J)Z" } : Jvm.MethodName)) ∈ lw_all := lw_g (lw_at lw_m6 11 rfl) rfl
theorem q1324 : (Jvm.Cond.instanceMethod ({ cls := "TrustDesk$Not", name := "holds", desc := "([J)Z" } : Jvm.MethodName)) ∈ lw_all := lw_g (lw_at lw_m6 12 rfl) rfl
theorem q1325 : (Jvm.Cond.code ({ cls := "TrustDesk$Not", name := "holds", desc := "([J)Z" } : Jvm.MethodName) prog_15_method_2_code (2 : Nat) (Option.some Jvm.ClassFile.FieldType.boolean)) ∈ lw_all := lw_g (lw_at lw_m6 13 rfl) rfl
theorem q1326 : (Jvm.Cond.methodLink "TrustDesk$Not" (13 : Nat) ({ cls := "TrustDesk$Cond", name := "holds", desc := "([J)Z" } : Jvm.MethodName)) ∈ lw_all := lw_g (lw_at lw_m6 14 rfl) rfl
theorem q1327 : (Jvm.Cond.instanceMethod ({ cls := "TrustDesk$Some", name := "holds", desc := "([J)Z" } : Jvm.MethodName)) ∈ lw_all := lw_g (lw_at lw_m6 15 rfl) rfl
theorem q1328 : (Jvm.Cond.code ({ cls := "TrustDesk$Some", name := "holds", desc := "([J)Z" } : Jvm.MethodName) prog_20_method_2_code (3 : Nat) (Option.some Jvm.ClassFile.FieldType.boolean)) ∈ lw_all := lw_g (lw_at lw_m6 16 rfl) rfl
theorem q1329 : (Jvm.Cond.methodLink "TrustDesk$Some" (22 : Nat) ({ cls := "java/util/ArrayList", name := "size", desc := "()I" } : Jvm.MethodName)) ∈ lw_all := lw_g (lw_at lw_m6 17 rfl) rfl
theorem q1330 : (Jvm.Cond.methodLink "TrustDesk$Some" (26 : Nat) ({ cls := "java/util/ArrayList", name := "get", desc := "(I)Ljava/lang/Object;" } : Jvm.MethodName)) ∈ lw_all := lw_g (lw_at lw_m6 18 rfl) rfl
theorem q1331 : (Jvm.Cond.classLink "TrustDesk$Some" (2 : Nat) "TrustDesk$Cond") ∈ lw_all := lw_g (lw_at lw_m6 19 rfl) rfl
theorem q1332 : (Jvm.Cond.methodLink "TrustDesk$Some" (30 : Nat) ({ cls := "TrustDesk$Cond", name := "holds", desc := "([J)Z" } : Jvm.MethodName)) ∈ lw_all := lw_g (lw_at lw_m6 20 rfl) rfl
theorem q1333 : (Jvm.Cond.selects "TrustDesk$Some" ({ cls := "TrustDesk$Cond", name := "holds", desc := "([J)Z" } : Jvm.MethodName) ({ cls := "TrustDesk$Some", name := "holds", desc := "([J)Z" } : Jvm.MethodName)) ∈ lw_all := lw_g (lw_at lw_m6 21 rfl) rfl
theorem q1334 : (Jvm.Cond.methodLink "TrustDesk" (259 : Nat) ({ cls := "TrustDesk$Aim", name := "asks", desc := "([J)I" } : Jvm.MethodName)) ∈ lw_all := lw_g (lw_at lw_m6 22 rfl) rfl
theorem q1335 : (Jvm.Cond.instanceMethod ({ cls := "TrustDesk$Aim", name := "asks", desc := "([J)I" } : Jvm.MethodName)) ∈ lw_all := lw_g (lw_at lw_m6 23 rfl) rfl
theorem q1336 : (Jvm.Cond.selects "TrustDesk$Aim" ({ cls := "TrustDesk$Aim", name := "asks", desc := "([J)I" } : Jvm.MethodName) ({ cls := "TrustDesk$Aim", name := "asks", desc := "([J)I" } : Jvm.MethodName)) ∈ lw_all := lw_g (lw_at lw_m6 24 rfl) rfl
theorem q1337 : (Jvm.Cond.code ({ cls := "TrustDesk$Aim", name := "asks", desc := "([J)I" } : Jvm.MethodName) prog_3_method_2_code (2 : Nat) (Option.some Jvm.ClassFile.FieldType.int)) ∈ lw_all := lw_g (lw_at lw_m6 25 rfl) rfl
theorem q1338 : (Jvm.Cond.methodLink "TrustDesk$Aim" (28 : Nat) ({ cls := "TrustDesk$Sum", name := "of", desc := "([J)J" } : Jvm.MethodName)) ∈ lw_all := lw_g (lw_at lw_m6 26 rfl) rfl
theorem q1339 : (Jvm.Cond.methodLink "TrustDesk$Aim" (34 : Nat) ({ cls := "java/lang/Math", name := "max", desc := "(JJ)J" } : Jvm.MethodName)) ∈ lw_all := lw_g (lw_at lw_m6 27 rfl) rfl
theorem q1340 : (Jvm.Cond.methodLink "TrustDesk" (267 : Nat) ({ cls := "TrustDesk$End", name := "closes", desc := "(ZII)V" } : Jvm.MethodName)) ∈ lw_all := lw_g (lw_at lw_m6 28 rfl) rfl
theorem q1341 : (Jvm.Cond.instanceMethod ({ cls := "TrustDesk$End", name := "closes", desc := "(ZII)V" } : Jvm.MethodName)) ∈ lw_all := lw_g (lw_at lw_m6 29 rfl) rfl
theorem q1342 : (Jvm.Cond.selects "TrustDesk$End" ({ cls := "TrustDesk$End", name := "closes", desc := "(ZII)V" } : Jvm.MethodName) ({ cls := "TrustDesk$End", name := "closes", desc := "(ZII)V" } : Jvm.MethodName)) ∈ lw_all := lw_g (lw_at lw_m6 30 rfl) rfl
theorem q1343 : (Jvm.Cond.code ({ cls := "TrustDesk$End", name := "closes", desc := "(ZII)V" } : Jvm.MethodName) prog_8_method_3_code (4 : Nat) (Option.none : Option Jvm.ClassFile.FieldType)) ∈ lw_all := lw_g (lw_at lw_m6 31 rfl) rfl
theorem q1344 : (Jvm.Cond.methodLink "TrustDesk" (271 : Nat) ({ cls := "TrustDesk", name := "leads", desc := "(LTrustDesk$Fund;I)V" } : Jvm.MethodName)) ∈ lw_all := lw_g (lw_at lw_m6 32 rfl) rfl
theorem q1346 : (Jvm.Cond.instanceMethod ({ cls := "TrustDesk", name := "leads", desc := "(LTrustDesk$Fund;I)V" } : Jvm.MethodName)) ∈ lw_all := lw_g (lw_at lw_m6 34 rfl) rfl
theorem q1347 : (Jvm.Cond.code ({ cls := "TrustDesk", name := "leads", desc := "(LTrustDesk$Fund;I)V" } : Jvm.MethodName) prog_1_method_27_code (8 : Nat) (Option.none : Option Jvm.ClassFile.FieldType)) ∈ lw_all := lw_g (lw_at lw_m6 35 rfl) rfl
theorem q1348 : (Jvm.Cond.constantLong "TrustDesk" (284 : Nat) (1000000 : Int64)) ∈ lw_all := lw_g (lw_at lw_m6 36 rfl) rfl
theorem q1349 : (Jvm.Cond.methodLink "TrustDeskLaw" (64 : Nat) ({ cls := "TrustDesk", name := "trustee", desc := "(II)Z" } : Jvm.MethodName)) ∈ lw_all := lw_g (lw_at lw_m6 37 rfl) rfl
theorem q1350 : (Jvm.Cond.instanceMethod ({ cls := "TrustDesk", name := "trustee", desc := "(II)Z" } : Jvm.MethodName)) ∈ lw_all := lw_g (lw_at lw_m6 38 rfl) rfl
theorem q1351 : (Jvm.Cond.selects "TrustDesk" ({ cls := "TrustDesk", name := "trustee", desc := "(II)Z" } : Jvm.MethodName) ({ cls := "TrustDesk", name := "trustee", desc := "(II)Z" } : Jvm.MethodName)) ∈ lw_all := lw_g (lw_at lw_m6 39 rfl) rfl
theorem q1352 : (Jvm.Cond.code ({ cls := "TrustDesk", name := "trustee", desc := "(II)Z" } : Jvm.MethodName) prog_1_method_29_code (4 : Nat) (Option.some Jvm.ClassFile.FieldType.boolean)) ∈ lw_all := lw_g (lw_at lw_m6 40 rfl) rfl
theorem q1353 : (Jvm.Cond.methodLink "TrustDesk" (291 : Nat) ({ cls := "TrustDesk", name := "thereAt", desc := "(I)LTrustDesk$Fund;" } : Jvm.MethodName)) ∈ lw_all := lw_g (lw_at lw_m6 41 rfl) rfl
theorem q1355 : (Jvm.Cond.instanceMethod ({ cls := "TrustDesk", name := "thereAt", desc := "(I)LTrustDesk$Fund;" } : Jvm.MethodName)) ∈ lw_all := lw_g (lw_at lw_m6 43 rfl) rfl
theorem q1356 : (Jvm.Cond.code ({ cls := "TrustDesk", name := "thereAt", desc := "(I)LTrustDesk$Fund;" } : Jvm.MethodName) prog_1_method_17_code (2 : Nat) (Option.some (Jvm.ClassFile.FieldType.object "TrustDesk$Fund"))) ∈ lw_all := lw_g (lw_at lw_m6 44 rfl) rfl
theorem q1357 : (Jvm.Cond.methodLink "TrustDesk" (168 : Nat) ({ cls := "TrustDesk", name := "fundAt", desc := "(I)LTrustDesk$Fund;" } : Jvm.MethodName)) ∈ lw_all := lw_g (lw_at lw_m6 45 rfl) rfl
theorem q1359 : (Jvm.Cond.instanceMethod ({ cls := "TrustDesk", name := "fundAt", desc := "(I)LTrustDesk$Fund;" } : Jvm.MethodName)) ∈ lw_all := lw_g (lw_at lw_m6 47 rfl) rfl
theorem q1360 : (Jvm.Cond.code ({ cls := "TrustDesk", name := "fundAt", desc := "(I)LTrustDesk$Fund;" } : Jvm.MethodName) prog_1_method_16_code (2 : Nat) (Option.some (Jvm.ClassFile.FieldType.object "TrustDesk$Fund"))) ∈ lw_all := lw_g (lw_at lw_m6 48 rfl) rfl
theorem q1361 : (Jvm.Cond.methodLink "TrustDesk" (294 : Nat) ({ cls := "TrustDesk$Fund", name := "hasTrustee", desc := "(I)Z" } : Jvm.MethodName)) ∈ lw_all := lw_g (lw_at lw_m6 49 rfl) rfl
theorem q1362 : (Jvm.Cond.instanceMethod ({ cls := "TrustDesk$Fund", name := "hasTrustee", desc := "(I)Z" } : Jvm.MethodName)) ∈ lw_all := lw_g (lw_at lw_m6 50 rfl) rfl
theorem q1363 : (Jvm.Cond.selects "TrustDesk$Fund" ({ cls := "TrustDesk$Fund", name := "hasTrustee", desc := "(I)Z" } : Jvm.MethodName) ({ cls := "TrustDesk$Fund", name := "hasTrustee", desc := "(I)Z" } : Jvm.MethodName)) ∈ lw_all := lw_g (lw_at lw_m6 51 rfl) rfl
theorem q1364 : (Jvm.Cond.code ({ cls := "TrustDesk$Fund", name := "hasTrustee", desc := "(I)Z" } : Jvm.MethodName) prog_10_method_6_code (2 : Nat) (Option.some Jvm.ClassFile.FieldType.boolean)) ∈ lw_all := lw_g (lw_at lw_m6 52 rfl) rfl
theorem q1365 : (Jvm.Cond.methodLink "TrustDesk$Fund" (93 : Nat) ({ cls := "java/lang/Integer", name := "valueOf", desc := "(I)Ljava/lang/Integer;" } : Jvm.MethodName)) ∈ lw_all := lw_g (lw_at lw_m6 53 rfl) rfl
theorem q1366 : (Jvm.Cond.static ({ cls := "java/lang/Integer", name := "valueOf", desc := "(I)Ljava/lang/Integer;" } : Jvm.MethodName)) ∈ lw_all := lw_g (lw_at lw_m6 54 rfl) rfl
theorem q1367 : (Jvm.Cond.code ({ cls := "java/lang/Integer", name := "valueOf", desc := "(I)Ljava/lang/Integer;" } : Jvm.MethodName) prog_35_method_22_code (1 : Nat) (Option.some (Jvm.ClassFile.FieldType.object "java/lang/Integer"))) ∈ lw_all := lw_g (lw_at lw_m6 55 rfl) rfl
theorem q1368 : (Jvm.Cond.fieldLink "java/lang/Integer" (191 : Nat) "java/lang/Integer$IntegerCache" "high" "I") ∈ lw_all := lw_g (lw_at lw_m6 56 rfl) rfl
theorem q1369 : (Jvm.Cond.laysStatic "java/lang/Integer$IntegerCache" "high" "I") ∈ lw_tbl := lw_at lw_m6 57 rfl
theorem q1370 : (Jvm.Cond.fieldLink "java/lang/Integer" (195 : Nat) "java/lang/Integer$IntegerCache" "cache" "[Ljava/lang/Integer;") ∈ lw_all := lw_g (lw_at lw_m6 58 rfl) rfl
theorem q1371 : (Jvm.Cond.laysStatic "java/lang/Integer$IntegerCache" "cache" "[Ljava/lang/Integer;") ∈ lw_tbl := lw_at lw_m6 59 rfl
theorem q1372 : (Jvm.Cond.classLink "java/lang/Integer" (1 : Nat) "java/lang/Integer") ∈ lw_all := lw_g (lw_at lw_m6 60 rfl) rfl
theorem q1373 : (Jvm.Cond.instantiable "java/lang/Integer" (1 : Nat)) ∈ lw_all := lw_g (lw_at lw_m6 61 rfl) rfl
theorem q1374 : (Jvm.Cond.methodLink "java/lang/Integer" (199 : Nat) ({ cls := "java/lang/Integer", name := "<init>", desc := "(I)V" } : Jvm.MethodName)) ∈ lw_all := lw_g (lw_at lw_m6 62 rfl) rfl
theorem q1375 : (Jvm.Cond.instanceMethod ({ cls := "java/lang/Integer", name := "<init>", desc := "(I)V" } : Jvm.MethodName)) ∈ lw_all := lw_g (lw_at lw_m6 63 rfl) rfl
theorem q1376 : (Jvm.Cond.code ({ cls := "java/lang/Integer", name := "<init>", desc := "(I)V" } : Jvm.MethodName) prog_35_method_23_code (2 : Nat) (Option.none : Option Jvm.ClassFile.FieldType)) ∈ lw_all := lw_g (lw_at lw_m6 64 rfl) rfl
theorem q1377 : (Jvm.Cond.methodLink "java/lang/Integer" (202 : Nat) ({ cls := "java/lang/Number", name := "<init>", desc := "()V" } : Jvm.MethodName)) ∈ lw_all := lw_g (lw_at lw_m6 65 rfl) rfl
theorem q1378 : (Jvm.Cond.instanceMethod ({ cls := "java/lang/Number", name := "<init>", desc := "()V" } : Jvm.MethodName)) ∈ lw_all := lw_g (lw_at lw_m6 66 rfl) rfl
theorem q1379 : (Jvm.Cond.code ({ cls := "java/lang/Number", name := "<init>", desc := "()V" } : Jvm.MethodName) prog_39_method_1_code (1 : Nat) (Option.none : Option Jvm.ClassFile.FieldType)) ∈ lw_all := lw_g (lw_at lw_m6 67 rfl) rfl
theorem q1380 : (Jvm.Cond.methodLink "java/lang/Number" (1 : Nat) ({ cls := "java/lang/Object", name := "<init>", desc := "()V" } : Jvm.MethodName)) ∈ lw_all := lw_g (lw_at lw_m6 68 rfl) rfl
theorem q1381 : (Jvm.Cond.fieldLink "java/lang/Integer" (205 : Nat) "java/lang/Integer" "value" "I") ∈ lw_all := lw_g (lw_at lw_m6 69 rfl) rfl
theorem q1382 : (Jvm.Cond.laysFinal "java/lang/Integer" "java/lang/Integer" "value" "I") ∈ lw_all := lw_g (lw_at lw_m6 70 rfl) rfl
theorem q1385 : (Jvm.Cond.methodLink "TrustDesk$Fund" (99 : Nat) ({ cls := "java/util/ArrayList", name := "contains", desc := "(Ljava/lang/Object;)Z" } : Jvm.MethodName)) ∈ lw_all := lw_g (lw_at lw_m6 73 rfl) rfl
theorem q1386 : (Jvm.Cond.instanceMethod ({ cls := "java/util/ArrayList", name := "contains", desc := "(Ljava/lang/Object;)Z" } : Jvm.MethodName)) ∈ lw_all := lw_g (lw_at lw_m6 74 rfl) rfl
theorem q1387 : (Jvm.Cond.selects "java/util/ArrayList" ({ cls := "java/util/ArrayList", name := "contains", desc := "(Ljava/lang/Object;)Z" } : Jvm.MethodName) ({ cls := "java/util/ArrayList", name := "contains", desc := "(Ljava/lang/Object;)Z" } : Jvm.MethodName)) ∈ lw_all := lw_g (lw_at lw_m6 75 rfl) rfl
theorem q1388 : (Jvm.Cond.code ({ cls := "java/util/ArrayList", name := "contains", desc := "(Ljava/lang/Object;)Z" } : Jvm.MethodName) prog_51_method_10_code (2 : Nat) (Option.some Jvm.ClassFile.FieldType.boolean)) ∈ lw_all := lw_g (lw_at lw_m6 76 rfl) rfl
theorem q1389 : (Jvm.Cond.methodLink "java/util/ArrayList" (85 : Nat) ({ cls := "java/util/ArrayList", name := "indexOf", desc := "(Ljava/lang/Object;)I" } : Jvm.MethodName)) ∈ lw_all := lw_g (lw_at lw_m6 77 rfl) rfl
theorem q1390 : (Jvm.Cond.instanceMethod ({ cls := "java/util/ArrayList", name := "indexOf", desc := "(Ljava/lang/Object;)I" } : Jvm.MethodName)) ∈ lw_all := lw_g (lw_at lw_m6 78 rfl) rfl
theorem q1391 : (Jvm.Cond.selects "java/util/ArrayList" ({ cls := "java/util/ArrayList", name := "indexOf", desc := "(Ljava/lang/Object;)I" } : Jvm.MethodName) ({ cls := "java/util/ArrayList", name := "indexOf", desc := "(Ljava/lang/Object;)I" } : Jvm.MethodName)) ∈ lw_all := lw_g (lw_at lw_m6 79 rfl) rfl
theorem q1392 : (Jvm.Cond.code ({ cls := "java/util/ArrayList", name := "indexOf", desc := "(Ljava/lang/Object;)I" } : Jvm.MethodName) prog_51_method_11_code (2 : Nat) (Option.some Jvm.ClassFile.FieldType.int)) ∈ lw_all := lw_g (lw_at lw_m6 80 rfl) rfl
theorem q1393 : (Jvm.Cond.methodLink "java/util/ArrayList" (89 : Nat) ({ cls := "java/util/ArrayList", name := "indexOfRange", desc := "(Ljava/lang/Object;II)I" } : Jvm.MethodName)) ∈ lw_all := lw_g (lw_at lw_m6 81 rfl) rfl
theorem q1394 : (Jvm.Cond.instanceMethod ({ cls := "java/util/ArrayList", name := "indexOfRange", desc := "(Ljava/lang/Object;II)I" } : Jvm.MethodName)) ∈ lw_all := lw_g (lw_at lw_m6 82 rfl) rfl
theorem q1395 : (Jvm.Cond.selects "java/util/ArrayList" ({ cls := "java/util/ArrayList", name := "indexOfRange", desc := "(Ljava/lang/Object;II)I" } : Jvm.MethodName) ({ cls := "java/util/ArrayList", name := "indexOfRange", desc := "(Ljava/lang/Object;II)I" } : Jvm.MethodName)) ∈ lw_all := lw_g (lw_at lw_m6 83 rfl) rfl
theorem q1396 : (Jvm.Cond.code ({ cls := "java/util/ArrayList", name := "indexOfRange", desc := "(Ljava/lang/Object;II)I" } : Jvm.MethodName) prog_51_method_12_code (6 : Nat) (Option.some Jvm.ClassFile.FieldType.int)) ∈ lw_all := lw_g (lw_at lw_m6 84 rfl) rfl
theorem q1397 : (Jvm.Cond.declares ({ cls := "java/lang/Object", name := "equals", desc := "(Ljava/lang/Object;)Z" } : Jvm.MethodName)) ∈ lw_tbl := lw_at lw_m6 85 rfl
theorem q1398 : (Jvm.Cond.methodLink "java/util/ArrayList" (93 : Nat) ({ cls := "java/lang/Object", name := "equals", desc := "(Ljava/lang/Object;)Z" } : Jvm.MethodName)) ∈ lw_all := lw_g (lw_at lw_m6 86 rfl) rfl
theorem q1400 : (Jvm.Cond.sameMethod "java/lang/Object" "java/lang/Object" "equals" "(Ljava/lang/Object;)Z") ∈ lw_all := lw_g (lw_at lw_m6 88 rfl) rfl
theorem q1423 : (Jvm.Cond.selects "java/lang/Integer" ({ cls := "java/lang/Object", name := "equals", desc := "(Ljava/lang/Object;)Z" } : Jvm.MethodName) ({ cls := "java/lang/Integer", name := "equals", desc := "(Ljava/lang/Object;)Z" } : Jvm.MethodName)) ∈ lw_all := lw_g (lw_at lw_m6 111 rfl) rfl
theorem q1424 : (Jvm.Cond.instanceMethod ({ cls := "java/lang/Integer", name := "equals", desc := "(Ljava/lang/Object;)Z" } : Jvm.MethodName)) ∈ lw_all := lw_g (lw_at lw_m6 112 rfl) rfl
theorem q1425 : (Jvm.Cond.code ({ cls := "java/lang/Integer", name := "equals", desc := "(Ljava/lang/Object;)Z" } : Jvm.MethodName) prog_35_method_34_code (2 : Nat) (Option.some Jvm.ClassFile.FieldType.boolean)) ∈ lw_all := lw_g (lw_at lw_m6 113 rfl) rfl
theorem q1426 : (Jvm.Cond.methodLink "java/lang/Integer" (211 : Nat) ({ cls := "java/lang/Integer", name := "intValue", desc := "()I" } : Jvm.MethodName)) ∈ lw_all := lw_g (lw_at lw_m6 114 rfl) rfl
theorem q1427 : (Jvm.Cond.instanceMethod ({ cls := "java/lang/Integer", name := "intValue", desc := "()I" } : Jvm.MethodName)) ∈ lw_all := lw_g (lw_at lw_m6 115 rfl) rfl
theorem q1428 : (Jvm.Cond.selects "java/lang/Integer" ({ cls := "java/lang/Integer", name := "intValue", desc := "()I" } : Jvm.MethodName) ({ cls := "java/lang/Integer", name := "intValue", desc := "()I" } : Jvm.MethodName)) ∈ lw_all := lw_g (lw_at lw_m6 116 rfl) rfl
theorem q1429 : (Jvm.Cond.code ({ cls := "java/lang/Integer", name := "intValue", desc := "()I" } : Jvm.MethodName) prog_35_method_27_code (1 : Nat) (Option.some Jvm.ClassFile.FieldType.int)) ∈ lw_all := lw_g (lw_at lw_m6 117 rfl) rfl
theorem q1433 : (Jvm.Cond.methodLink "TrustDesk" (303 : Nat) ({ cls := "java/lang/Integer", name := "valueOf", desc := "(I)Ljava/lang/Integer;" } : Jvm.MethodName)) ∈ lw_all := lw_g (lw_at lw_m6 121 rfl) rfl
theorem q1434 : (Jvm.Cond.methodLink "TrustDeskLaw" (69 : Nat) ({ cls := "TrustDesk", name := "propose", desc := "(III)I" } : Jvm.MethodName)) ∈ lw_all := lw_g (lw_at lw_m6 122 rfl) rfl
theorem q1435 : (Jvm.Cond.instanceMethod ({ cls := "TrustDesk", name := "propose", desc := "(III)I" } : Jvm.MethodName)) ∈ lw_all := lw_g (lw_at lw_m6 123 rfl) rfl
theorem q1436 : (Jvm.Cond.selects "TrustDesk" ({ cls := "TrustDesk", name := "propose", desc := "(III)I" } : Jvm.MethodName) ({ cls := "TrustDesk", name := "propose", desc := "(III)I" } : Jvm.MethodName)) ∈ lw_all := lw_g (lw_at lw_m6 124 rfl) rfl
theorem q1437 : (Jvm.Cond.code ({ cls := "TrustDesk", name := "propose", desc := "(III)I" } : Jvm.MethodName) prog_1_method_31_code (5 : Nat) (Option.some Jvm.ClassFile.FieldType.int)) ∈ lw_all := lw_g (lw_at lw_m6 125 rfl) rfl
theorem q1438 : (Jvm.Cond.methodLink "TrustDesk" (321 : Nat) ({ cls := "TrustDesk", name := "made", desc := "(ILTrustDesk$Fund;I)LTrustDesk$Scheme;" } : Jvm.MethodName)) ∈ lw_all := lw_g (lw_at lw_m6 126 rfl) rfl
theorem q1440 : (Jvm.Cond.instanceMethod ({ cls := "TrustDesk", name := "made", desc := "(ILTrustDesk$Fund;I)LTrustDesk$Scheme;" } : Jvm.MethodName)) ∈ lw_all := lw_g (lw_at lw_m6 128 rfl) rfl
theorem q1441 : (Jvm.Cond.code ({ cls := "TrustDesk", name := "made", desc := "(ILTrustDesk$Fund;I)LTrustDesk$Scheme;" } : Jvm.MethodName) prog_1_method_30_code (4 : Nat) (Option.some (Jvm.ClassFile.FieldType.object "TrustDesk$Scheme"))) ∈ lw_all := lw_g (lw_at lw_m6 129 rfl) rfl
theorem q1442 : (Jvm.Cond.classLink "TrustDesk" (307 : Nat) "TrustDesk$Nearer") ∈ lw_all := lw_g (lw_at lw_m6 130 rfl) rfl
theorem q1443 : (Jvm.Cond.instantiable "TrustDesk$Nearer" (11 : Nat)) ∈ lw_all := lw_g (lw_at lw_m6 131 rfl) rfl
theorem q1444 : (Jvm.Cond.methodLink "TrustDesk" (309 : Nat) ({ cls := "TrustDesk$Nearer", name := "<init>", desc := "(LTrustDesk;LTrustDesk$Fund;I)V" } : Jvm.MethodName)) ∈ lw_all := lw_g (lw_at lw_m6 132 rfl) rfl
theorem q1445 : (Jvm.Cond.instanceMethod ({ cls := "TrustDesk$Nearer", name := "<init>", desc := "(LTrustDesk;LTrustDesk$Fund;I)V" } : Jvm.MethodName)) ∈ lw_all := lw_g (lw_at lw_m6 133 rfl) rfl
theorem q1446 : (Jvm.Cond.code ({ cls := "TrustDesk$Nearer", name := "<init>", desc := "(LTrustDesk;LTrustDesk$Fund;I)V" } : Jvm.MethodName) prog_14_method_1_code (4 : Nat) (Option.none : Option Jvm.ClassFile.FieldType)) ∈ lw_all := lw_g (lw_at lw_m6 134 rfl) rfl
theorem q1447 : (Jvm.Cond.methodLink "TrustDesk$Nearer" (7 : Nat) ({ cls := "TrustDesk$Scheme", name := "<init>", desc := "(LTrustDesk;LTrustDesk$Fund;I)V" } : Jvm.MethodName)) ∈ lw_all := lw_g (lw_at lw_m6 135 rfl) rfl
theorem q1448 : (Jvm.Cond.instanceMethod ({ cls := "TrustDesk$Scheme", name := "<init>", desc := "(LTrustDesk;LTrustDesk$Fund;I)V" } : Jvm.MethodName)) ∈ lw_all := lw_g (lw_at lw_m6 136 rfl) rfl
theorem q1449 : (Jvm.Cond.code ({ cls := "TrustDesk$Scheme", name := "<init>", desc := "(LTrustDesk;LTrustDesk$Fund;I)V" } : Jvm.MethodName) prog_19_method_1_code (4 : Nat) (Option.none : Option Jvm.ClassFile.FieldType)) ∈ lw_all := lw_g (lw_at lw_m6 137 rfl) rfl
theorem q1450 : (Jvm.Cond.methodLink "TrustDesk$Scheme" (9 : Nat) ({ cls := "java/lang/Object", name := "<init>", desc := "()V" } : Jvm.MethodName)) ∈ lw_all := lw_g (lw_at lw_m6 138 rfl) rfl
theorem q1451 : (Jvm.Cond.classLink "TrustDesk$Scheme" (15 : Nat) "java/util/ArrayList") ∈ lw_all := lw_g (lw_at lw_m6 139 rfl) rfl
theorem q1452 : (Jvm.Cond.methodLink "TrustDesk$Scheme" (17 : Nat) ({ cls := "java/util/ArrayList", name := "<init>", desc := "(I)V" } : Jvm.MethodName)) ∈ lw_all := lw_g (lw_at lw_m6 140 rfl) rfl
theorem q1453 : (Jvm.Cond.methodLinkNest "TrustDesk$Scheme" (41 : Nat) ({ cls := "TrustDesk", name := "actOn", desc := "(I)LTrustDesk$Act;" } : Jvm.MethodName) "TrustDesk") ∈ lw_tbl := lw_at lw_m6 141 rfl
theorem q1454 : (Jvm.Cond.fieldLink "TrustDesk$Nearer" (1 : Nat) "TrustDesk$Nearer" "this$0" "LTrustDesk;") ∈ lw_all := lw_g (lw_at lw_m6 142 rfl) rfl
theorem q1455 : (Jvm.Cond.fieldLink "TrustDesk$Scheme" (27 : Nat) "TrustDesk$Scheme" "fund" "LTrustDesk$Fund;") ∈ lw_all := lw_g (lw_at lw_m6 143 rfl) rfl
theorem q1456 : (Jvm.Cond.fieldLink "TrustDesk$Join" (31 : Nat) "TrustDesk$Join" "fund" "LTrustDesk$Fund;") ∈ lw_all := lw_g (lw_at lw_m6 144 rfl) rfl
theorem q1457 : (Jvm.Cond.sameField "TrustDesk$Join" "TrustDesk$Scheme" "fund" "LTrustDesk$Fund;") ∈ lw_all := lw_g (lw_at lw_m6 145 rfl) rfl
theorem q1458 : (Jvm.Cond.fieldLink "TrustDesk$Nearer" (13 : Nat) "TrustDesk$Nearer" "fund" "LTrustDesk$Fund;") ∈ lw_all := lw_g (lw_at lw_m6 146 rfl) rfl
theorem q1459 : (Jvm.Cond.sameField "TrustDesk$Nearer" "TrustDesk$Scheme" "fund" "LTrustDesk$Fund;") ∈ lw_all := lw_g (lw_at lw_m6 147 rfl) rfl
theorem q1460 : (Jvm.Cond.fieldLink "TrustDesk$Sale" (15 : Nat) "TrustDesk$Sale" "fund" "LTrustDesk$Fund;") ∈ lw_all := lw_g (lw_at lw_m6 148 rfl) rfl
theorem q1461 : (Jvm.Cond.sameField "TrustDesk$Sale" "TrustDesk$Scheme" "fund" "LTrustDesk$Fund;") ∈ lw_all := lw_g (lw_at lw_m6 149 rfl) rfl
theorem q1462 : (Jvm.Cond.fieldLink "TrustDesk$Strike" (15 : Nat) "TrustDesk$Strike" "fund" "LTrustDesk$Fund;") ∈ lw_all := lw_g (lw_at lw_m6 150 rfl) rfl
theorem q1463 : (Jvm.Cond.sameField "TrustDesk$Strike" "TrustDesk$Scheme" "fund" "LTrustDesk$Fund;") ∈ lw_all := lw_g (lw_at lw_m6 151 rfl) rfl
theorem q1464 : (Jvm.Cond.fieldLink "TrustDesk$Scheme" (31 : Nat) "TrustDesk$Scheme" "x" "I") ∈ lw_all := lw_g (lw_at lw_m6 152 rfl) rfl
theorem q1465 : (Jvm.Cond.fieldLink "TrustDesk$Strike" (25 : Nat) "TrustDesk$Strike" "x" "I") ∈ lw_all := lw_g (lw_at lw_m6 153 rfl) rfl
theorem q1466 : (Jvm.Cond.sameField "TrustDesk$Strike" "TrustDesk$Scheme" "x" "I") ∈ lw_all := lw_g (lw_at lw_m6 154 rfl) rfl
theorem q1467 : (Jvm.Cond.fieldLink "TrustDesk$Sale" (29 : Nat) "TrustDesk$Sale" "x" "I") ∈ lw_all := lw_g (lw_at lw_m6 155 rfl) rfl
theorem q1468 : (Jvm.Cond.sameField "TrustDesk$Sale" "TrustDesk$Scheme" "x" "I") ∈ lw_all := lw_g (lw_at lw_m6 156 rfl) rfl
theorem q1469 : (Jvm.Cond.fieldLink "TrustDesk$Nearer" (37 : Nat) "TrustDesk$Nearer" "x" "I") ∈ lw_all := lw_g (lw_at lw_m6 157 rfl) rfl
theorem q1470 : (Jvm.Cond.sameField "TrustDesk$Nearer" "TrustDesk$Scheme" "x" "I") ∈ lw_all := lw_g (lw_at lw_m6 158 rfl) rfl
theorem q1471 : (Jvm.Cond.fieldLink "TrustDesk$Scheme" (38 : Nat) "TrustDesk$Scheme" "proposed" "I") ∈ lw_all := lw_g (lw_at lw_m6 159 rfl) rfl
theorem q1472 : (Jvm.Cond.fieldLink "TrustDesk$Scheme" (51 : Nat) "TrustDesk$Scheme" "last" "I") ∈ lw_all := lw_g (lw_at lw_m6 160 rfl) rfl
theorem q1473 : (Jvm.Cond.fieldLink "TrustDesk" (332 : Nat) "TrustDesk$Scheme" "last" "I") ∈ lw_all := lw_g (lw_at lw_m6 161 rfl) rfl
theorem q1474 : (Jvm.Cond.fieldLink "TrustDesk$Scheme" (20 : Nat) "TrustDesk$Scheme" "objectors" "Ljava/util/ArrayList;") ∈ lw_all := lw_g (lw_at lw_m6 162 rfl) rfl
theorem q1475 : (Jvm.Cond.fieldLinkNest "TrustDesk" (335 : Nat) "TrustDesk$Scheme" "objectors" "Ljava/util/ArrayList;" "TrustDesk") ∈ lw_tbl := lw_at lw_m6 163 rfl
theorem q1476 : (Jvm.Cond.fieldLink "TrustDesk$Scheme" (24 : Nat) "TrustDesk$Scheme" "said" "Ljava/util/ArrayList;") ∈ lw_all := lw_g (lw_at lw_m6 164 rfl) rfl
theorem q1477 : (Jvm.Cond.fieldLink "TrustDesk$Scheme" (71 : Nat) "TrustDesk$Scheme" "yes" "I") ∈ lw_all := lw_g (lw_at lw_m6 165 rfl) rfl
theorem q1478 : (Jvm.Cond.fieldLink "TrustDesk$Scheme" (127 : Nat) "TrustDesk$Scheme" "state" "I") ∈ lw_all := lw_g (lw_at lw_m6 166 rfl) rfl
theorem q1479 : (Jvm.Cond.fieldLinkNest "TrustDesk" (327 : Nat) "TrustDesk$Scheme" "state" "I" "TrustDesk") ∈ lw_tbl := lw_at lw_m6 167 rfl
theorem q1480 : (Jvm.Cond.fieldLink "TrustDesk$Scheme" (124 : Nat) "TrustDesk$Scheme" "failedBy" "I") ∈ lw_all := lw_g (lw_at lw_m6 168 rfl) rfl
theorem q1481 : (Jvm.Cond.fieldLink "TrustDesk$Scheme" (3 : Nat) "TrustDesk$Scheme" "this$0" "LTrustDesk;") ∈ lw_all := lw_g (lw_at lw_m6 169 rfl) rfl
theorem q1482 : (Jvm.Cond.laysFinal "TrustDesk$Nearer" "TrustDesk$Nearer" "this$0" "LTrustDesk;") ∈ lw_all := lw_g (lw_at lw_m6 170 rfl) rfl
theorem q1484 : (Jvm.Cond.laysFinal "TrustDesk$Nearer" "TrustDesk$Scheme" "fund" "LTrustDesk$Fund;") ∈ lw_all := lw_g (lw_at lw_m6 172 rfl) rfl
theorem q1486 : (Jvm.Cond.laysFinal "TrustDesk$Nearer" "TrustDesk$Scheme" "x" "I") ∈ lw_all := lw_g (lw_at lw_m6 174 rfl) rfl
theorem q1488 : (Jvm.Cond.laysFinal "TrustDesk$Nearer" "TrustDesk$Scheme" "proposed" "I") ∈ lw_all := lw_g (lw_at lw_m6 176 rfl) rfl
theorem q1490 : (Jvm.Cond.laysFinal "TrustDesk$Nearer" "TrustDesk$Scheme" "last" "I") ∈ lw_all := lw_g (lw_at lw_m6 178 rfl) rfl
theorem q1492 : (Jvm.Cond.laysFinal "TrustDesk$Nearer" "TrustDesk$Scheme" "objectors" "Ljava/util/ArrayList;") ∈ lw_all := lw_g (lw_at lw_m6 180 rfl) rfl
theorem q1494 : (Jvm.Cond.laysFinal "TrustDesk$Nearer" "TrustDesk$Scheme" "said" "Ljava/util/ArrayList;") ∈ lw_all := lw_g (lw_at lw_m6 182 rfl) rfl
theorem q1496 : (Jvm.Cond.lays "TrustDesk$Nearer" "TrustDesk$Scheme" "yes" "I") ∈ lw_all := lw_g (lw_at lw_m6 184 rfl) rfl
theorem q1498 : (Jvm.Cond.lays "TrustDesk$Nearer" "TrustDesk$Scheme" "state" "I") ∈ lw_all := lw_g (lw_at lw_m6 186 rfl) rfl
theorem q1500 : (Jvm.Cond.lays "TrustDesk$Nearer" "TrustDesk$Scheme" "failedBy" "I") ∈ lw_all := lw_g (lw_at lw_m6 188 rfl) rfl
theorem q1502 : (Jvm.Cond.laysFinal "TrustDesk$Nearer" "TrustDesk$Scheme" "this$0" "LTrustDesk;") ∈ lw_all := lw_g (lw_at lw_m6 190 rfl) rfl
theorem q1505 : (Jvm.Cond.classLink "TrustDesk" (312 : Nat) "TrustDesk$Join") ∈ lw_all := lw_g (lw_at lw_m6 193 rfl) rfl
theorem q1506 : (Jvm.Cond.instantiable "TrustDesk$Join" (12 : Nat)) ∈ lw_all := lw_g (lw_at lw_m6 194 rfl) rfl
theorem q1507 : (Jvm.Cond.methodLink "TrustDesk" (314 : Nat) ({ cls := "TrustDesk$Join", name := "<init>", desc := "(LTrustDesk;LTrustDesk$Fund;I)V" } : Jvm.MethodName)) ∈ lw_all := lw_g (lw_at lw_m6 195 rfl) rfl
theorem q1508 : (Jvm.Cond.instanceMethod ({ cls := "TrustDesk$Join", name := "<init>", desc := "(LTrustDesk;LTrustDesk$Fund;I)V" } : Jvm.MethodName)) ∈ lw_all := lw_g (lw_at lw_m6 196 rfl) rfl
theorem q1509 : (Jvm.Cond.code ({ cls := "TrustDesk$Join", name := "<init>", desc := "(LTrustDesk;LTrustDesk$Fund;I)V" } : Jvm.MethodName) prog_12_method_1_code (4 : Nat) (Option.none : Option Jvm.ClassFile.FieldType)) ∈ lw_all := lw_g (lw_at lw_m6 197 rfl) rfl
theorem q1510 : (Jvm.Cond.methodLink "TrustDesk$Join" (9 : Nat) ({ cls := "TrustDesk$Scheme", name := "<init>", desc := "(LTrustDesk;LTrustDesk$Fund;I)V" } : Jvm.MethodName)) ∈ lw_all := lw_g (lw_at lw_m6 198 rfl) rfl
theorem q1511 : (Jvm.Cond.methodLink "TrustDesk$Join" (19 : Nat) ({ cls := "java/util/ArrayList", name := "get", desc := "(I)Ljava/lang/Object;" } : Jvm.MethodName)) ∈ lw_all := lw_g (lw_at lw_m6 199 rfl) rfl
theorem q1512 : (Jvm.Cond.classLink "TrustDesk$Join" (25 : Nat) "TrustDesk$Fund") ∈ lw_all := lw_g (lw_at lw_m6 200 rfl) rfl
theorem q1513 : (Jvm.Cond.fieldLink "TrustDesk$Join" (27 : Nat) "TrustDesk$Join" "other" "LTrustDesk$Fund;") ∈ lw_all := lw_g (lw_at lw_m6 201 rfl) rfl
theorem q1514 : (Jvm.Cond.fieldLink "TrustDesk$Join" (3 : Nat) "TrustDesk$Join" "this$0" "LTrustDesk;") ∈ lw_all := lw_g (lw_at lw_m6 202 rfl) rfl
theorem q1515 : (Jvm.Cond.laysFinal "TrustDesk$Join" "TrustDesk$Join" "other" "LTrustDesk$Fund;") ∈ lw_all := lw_g (lw_at lw_m6 203 rfl) rfl
theorem q1517 : (Jvm.Cond.laysFinal "TrustDesk$Join" "TrustDesk$Join" "this$0" "LTrustDesk;") ∈ lw_all := lw_g (lw_at lw_m6 205 rfl) rfl
theorem q1519 : (Jvm.Cond.laysFinal "TrustDesk$Join" "TrustDesk$Scheme" "fund" "LTrustDesk$Fund;") ∈ lw_all := lw_g (lw_at lw_m6 207 rfl) rfl
theorem q1520 : (Jvm.Cond.laysFinal "TrustDesk$Join" "TrustDesk$Scheme" "x" "I") ∈ lw_all := lw_g (lw_at lw_m6 208 rfl) rfl
theorem q1521 : (Jvm.Cond.laysFinal "TrustDesk$Join" "TrustDesk$Scheme" "proposed" "I") ∈ lw_all := lw_g (lw_at lw_m6 209 rfl) rfl
theorem q1522 : (Jvm.Cond.laysFinal "TrustDesk$Join" "TrustDesk$Scheme" "last" "I") ∈ lw_all := lw_g (lw_at lw_m6 210 rfl) rfl
theorem q1523 : (Jvm.Cond.laysFinal "TrustDesk$Join" "TrustDesk$Scheme" "objectors" "Ljava/util/ArrayList;") ∈ lw_all := lw_g (lw_at lw_m6 211 rfl) rfl
theorem q1524 : (Jvm.Cond.laysFinal "TrustDesk$Join" "TrustDesk$Scheme" "said" "Ljava/util/ArrayList;") ∈ lw_all := lw_g (lw_at lw_m6 212 rfl) rfl
theorem q1525 : (Jvm.Cond.lays "TrustDesk$Join" "TrustDesk$Scheme" "yes" "I") ∈ lw_all := lw_g (lw_at lw_m6 213 rfl) rfl
theorem q1526 : (Jvm.Cond.lays "TrustDesk$Join" "TrustDesk$Scheme" "state" "I") ∈ lw_all := lw_g (lw_at lw_m6 214 rfl) rfl
theorem q1527 : (Jvm.Cond.lays "TrustDesk$Join" "TrustDesk$Scheme" "failedBy" "I") ∈ lw_all := lw_g (lw_at lw_m6 215 rfl) rfl
theorem q1528 : (Jvm.Cond.laysFinal "TrustDesk$Join" "TrustDesk$Scheme" "this$0" "LTrustDesk;") ∈ lw_all := lw_g (lw_at lw_m6 216 rfl) rfl
theorem q1529 : (Jvm.Cond.superclass "TrustDesk$Join" "TrustDesk$Scheme") ∈ lw_all := lw_g (lw_at lw_m6 217 rfl) rfl
theorem q1530 : (Jvm.Cond.classLink "TrustDesk" (315 : Nat) "TrustDesk$Sale") ∈ lw_all := lw_g (lw_at lw_m6 218 rfl) rfl
theorem q1531 : (Jvm.Cond.instantiable "TrustDesk$Sale" (11 : Nat)) ∈ lw_all := lw_g (lw_at lw_m6 219 rfl) rfl
theorem q1532 : (Jvm.Cond.methodLink "TrustDesk" (317 : Nat) ({ cls := "TrustDesk$Sale", name := "<init>", desc := "(LTrustDesk;LTrustDesk$Fund;I)V" } : Jvm.MethodName)) ∈ lw_all := lw_g (lw_at lw_m6 220 rfl) rfl
theorem q1533 : (Jvm.Cond.instanceMethod ({ cls := "TrustDesk$Sale", name := "<init>", desc := "(LTrustDesk;LTrustDesk$Fund;I)V" } : Jvm.MethodName)) ∈ lw_all := lw_g (lw_at lw_m6 221 rfl) rfl
theorem q1534 : (Jvm.Cond.code ({ cls := "TrustDesk$Sale", name := "<init>", desc := "(LTrustDesk;LTrustDesk$Fund;I)V" } : Jvm.MethodName) prog_18_method_1_code (4 : Nat) (Option.none : Option Jvm.ClassFile.FieldType)) ∈ lw_all := lw_g (lw_at lw_m6 222 rfl) rfl
theorem q1535 : (Jvm.Cond.methodLink "TrustDesk$Sale" (9 : Nat) ({ cls := "TrustDesk$Scheme", name := "<init>", desc := "(LTrustDesk;LTrustDesk$Fund;I)V" } : Jvm.MethodName)) ∈ lw_all := lw_g (lw_at lw_m6 223 rfl) rfl
theorem q1536 : (Jvm.Cond.fieldLink "TrustDesk$Sale" (3 : Nat) "TrustDesk$Sale" "this$0" "LTrustDesk;") ∈ lw_all := lw_g (lw_at lw_m6 224 rfl) rfl
theorem q1537 : (Jvm.Cond.laysFinal "TrustDesk$Sale" "TrustDesk$Sale" "this$0" "LTrustDesk;") ∈ lw_all := lw_g (lw_at lw_m6 225 rfl) rfl
theorem q1539 : (Jvm.Cond.laysFinal "TrustDesk$Sale" "TrustDesk$Scheme" "fund" "LTrustDesk$Fund;") ∈ lw_all := lw_g (lw_at lw_m6 227 rfl) rfl
theorem q1540 : (Jvm.Cond.laysFinal "TrustDesk$Sale" "TrustDesk$Scheme" "x" "I") ∈ lw_all := lw_g (lw_at lw_m6 228 rfl) rfl
theorem q1541 : (Jvm.Cond.laysFinal "TrustDesk$Sale" "TrustDesk$Scheme" "proposed" "I") ∈ lw_all := lw_g (lw_at lw_m6 229 rfl) rfl
theorem q1542 : (Jvm.Cond.laysFinal "TrustDesk$Sale" "TrustDesk$Scheme" "last" "I") ∈ lw_all := lw_g (lw_at lw_m6 230 rfl) rfl
theorem q1543 : (Jvm.Cond.laysFinal "TrustDesk$Sale" "TrustDesk$Scheme" "objectors" "Ljava/util/ArrayList;") ∈ lw_all := lw_g (lw_at lw_m6 231 rfl) rfl
theorem q1544 : (Jvm.Cond.laysFinal "TrustDesk$Sale" "TrustDesk$Scheme" "said" "Ljava/util/ArrayList;") ∈ lw_all := lw_g (lw_at lw_m6 232 rfl) rfl
theorem q1545 : (Jvm.Cond.lays "TrustDesk$Sale" "TrustDesk$Scheme" "yes" "I") ∈ lw_all := lw_g (lw_at lw_m6 233 rfl) rfl
theorem q1546 : (Jvm.Cond.lays "TrustDesk$Sale" "TrustDesk$Scheme" "state" "I") ∈ lw_all := lw_g (lw_at lw_m6 234 rfl) rfl
theorem q1547 : (Jvm.Cond.lays "TrustDesk$Sale" "TrustDesk$Scheme" "failedBy" "I") ∈ lw_all := lw_g (lw_at lw_m6 235 rfl) rfl
theorem q1548 : (Jvm.Cond.laysFinal "TrustDesk$Sale" "TrustDesk$Scheme" "this$0" "LTrustDesk;") ∈ lw_all := lw_g (lw_at lw_m6 236 rfl) rfl
theorem q1550 : (Jvm.Cond.classLink "TrustDesk" (318 : Nat) "TrustDesk$Strike") ∈ lw_all := lw_g (lw_at lw_m6 238 rfl) rfl
theorem q1551 : (Jvm.Cond.instantiable "TrustDesk$Strike" (11 : Nat)) ∈ lw_all := lw_g (lw_at lw_m6 239 rfl) rfl
theorem q1552 : (Jvm.Cond.methodLink "TrustDesk" (320 : Nat) ({ cls := "TrustDesk$Strike", name := "<init>", desc := "(LTrustDesk;LTrustDesk$Fund;I)V" } : Jvm.MethodName)) ∈ lw_all := lw_g (lw_at lw_m7 0 rfl) rfl
theorem q1553 : (Jvm.Cond.instanceMethod ({ cls := "TrustDesk$Strike", name := "<init>", desc := "(LTrustDesk;LTrustDesk$Fund;I)V" } : Jvm.MethodName)) ∈ lw_all := lw_g (lw_at lw_m7 1 rfl) rfl
theorem q1554 : (Jvm.Cond.code ({ cls := "TrustDesk$Strike", name := "<init>", desc := "(LTrustDesk;LTrustDesk$Fund;I)V" } : Jvm.MethodName) prog_21_method_1_code (4 : Nat) (Option.none : Option Jvm.ClassFile.FieldType)) ∈ lw_all := lw_g (lw_at lw_m7 2 rfl) rfl
theorem q1555 : (Jvm.Cond.methodLink "TrustDesk$Strike" (9 : Nat) ({ cls := "TrustDesk$Scheme", name := "<init>", desc := "(LTrustDesk;LTrustDesk$Fund;I)V" } : Jvm.MethodName)) ∈ lw_all := lw_g (lw_at lw_m7 3 rfl) rfl
theorem q1556 : (Jvm.Cond.fieldLink "TrustDesk$Strike" (3 : Nat) "TrustDesk$Strike" "this$0" "LTrustDesk;") ∈ lw_all := lw_g (lw_at lw_m7 4 rfl) rfl
theorem q1557 : (Jvm.Cond.laysFinal "TrustDesk$Strike" "TrustDesk$Strike" "this$0" "LTrustDesk;") ∈ lw_all := lw_g (lw_at lw_m7 5 rfl) rfl
theorem q1559 : (Jvm.Cond.laysFinal "TrustDesk$Strike" "TrustDesk$Scheme" "fund" "LTrustDesk$Fund;") ∈ lw_all := lw_g (lw_at lw_m7 7 rfl) rfl
theorem q1560 : (Jvm.Cond.laysFinal "TrustDesk$Strike" "TrustDesk$Scheme" "x" "I") ∈ lw_all := lw_g (lw_at lw_m7 8 rfl) rfl
theorem q1561 : (Jvm.Cond.laysFinal "TrustDesk$Strike" "TrustDesk$Scheme" "proposed" "I") ∈ lw_all := lw_g (lw_at lw_m7 9 rfl) rfl
theorem q1562 : (Jvm.Cond.laysFinal "TrustDesk$Strike" "TrustDesk$Scheme" "last" "I") ∈ lw_all := lw_g (lw_at lw_m7 10 rfl) rfl
theorem q1563 : (Jvm.Cond.laysFinal "TrustDesk$Strike" "TrustDesk$Scheme" "objectors" "Ljava/util/ArrayList;") ∈ lw_all := lw_g (lw_at lw_m7 11 rfl) rfl
theorem q1564 : (Jvm.Cond.laysFinal "TrustDesk$Strike" "TrustDesk$Scheme" "said" "Ljava/util/ArrayList;") ∈ lw_all := lw_g (lw_at lw_m7 12 rfl) rfl
theorem q1565 : (Jvm.Cond.lays "TrustDesk$Strike" "TrustDesk$Scheme" "yes" "I") ∈ lw_all := lw_g (lw_at lw_m7 13 rfl) rfl
theorem q1566 : (Jvm.Cond.lays "TrustDesk$Strike" "TrustDesk$Scheme" "state" "I") ∈ lw_all := lw_g (lw_at lw_m7 14 rfl) rfl
theorem q1567 : (Jvm.Cond.lays "TrustDesk$Strike" "TrustDesk$Scheme" "failedBy" "I") ∈ lw_all := lw_g (lw_at lw_m7 15 rfl) rfl
theorem q1568 : (Jvm.Cond.laysFinal "TrustDesk$Strike" "TrustDesk$Scheme" "this$0" "LTrustDesk;") ∈ lw_all := lw_g (lw_at lw_m7 16 rfl) rfl
theorem q1570 : (Jvm.Cond.methodLink "TrustDeskLaw" (73 : Nat) ({ cls := "TrustDesk", name := "objects", desc := "(II)Z" } : Jvm.MethodName)) ∈ lw_all := lw_g (lw_at lw_m7 18 rfl) rfl
theorem q1571 : (Jvm.Cond.instanceMethod ({ cls := "TrustDesk", name := "objects", desc := "(II)Z" } : Jvm.MethodName)) ∈ lw_all := lw_g (lw_at lw_m7 19 rfl) rfl
theorem q1572 : (Jvm.Cond.selects "TrustDesk" ({ cls := "TrustDesk", name := "objects", desc := "(II)Z" } : Jvm.MethodName) ({ cls := "TrustDesk", name := "objects", desc := "(II)Z" } : Jvm.MethodName)) ∈ lw_all := lw_g (lw_at lw_m7 20 rfl) rfl
theorem q1573 : (Jvm.Cond.code ({ cls := "TrustDesk", name := "objects", desc := "(II)Z" } : Jvm.MethodName) prog_1_method_33_code (4 : Nat) (Option.some Jvm.ClassFile.FieldType.boolean)) ∈ lw_all := lw_g (lw_at lw_m7 21 rfl) rfl
theorem q1574 : (Jvm.Cond.methodLink "TrustDesk" (328 : Nat) ({ cls := "TrustDesk", name := "openAt", desc := "(I)LTrustDesk$Scheme;" } : Jvm.MethodName)) ∈ lw_all := lw_g (lw_at lw_m7 22 rfl) rfl
theorem q1576 : (Jvm.Cond.instanceMethod ({ cls := "TrustDesk", name := "openAt", desc := "(I)LTrustDesk$Scheme;" } : Jvm.MethodName)) ∈ lw_all := lw_g (lw_at lw_m7 24 rfl) rfl
theorem q1577 : (Jvm.Cond.code ({ cls := "TrustDesk", name := "openAt", desc := "(I)LTrustDesk$Scheme;" } : Jvm.MethodName) prog_1_method_32_code (2 : Nat) (Option.some (Jvm.ClassFile.FieldType.object "TrustDesk$Scheme"))) ∈ lw_all := lw_g (lw_at lw_m7 25 rfl) rfl
theorem q1578 : (Jvm.Cond.classLink "TrustDesk" (325 : Nat) "TrustDesk$Scheme") ∈ lw_all := lw_g (lw_at lw_m7 26 rfl) rfl
theorem q1579 : (Jvm.Cond.methodLink "TrustDesk" (338 : Nat) ({ cls := "java/util/ArrayList", name := "contains", desc := "(Ljava/lang/Object;)Z" } : Jvm.MethodName)) ∈ lw_all := lw_g (lw_at lw_m7 27 rfl) rfl
theorem q1580 : (Jvm.Cond.methodLink "TrustDeskLaw" (77 : Nat) ({ cls := "TrustDesk", name := "withdraws", desc := "(II)Z" } : Jvm.MethodName)) ∈ lw_all := lw_g (lw_at lw_m7 28 rfl) rfl
theorem q1581 : (Jvm.Cond.instanceMethod ({ cls := "TrustDesk", name := "withdraws", desc := "(II)Z" } : Jvm.MethodName)) ∈ lw_all := lw_g (lw_at lw_m7 29 rfl) rfl
theorem q1582 : (Jvm.Cond.selects "TrustDesk" ({ cls := "TrustDesk", name := "withdraws", desc := "(II)Z" } : Jvm.MethodName) ({ cls := "TrustDesk", name := "withdraws", desc := "(II)Z" } : Jvm.MethodName)) ∈ lw_all := lw_g (lw_at lw_m7 30 rfl) rfl
theorem q1583 : (Jvm.Cond.code ({ cls := "TrustDesk", name := "withdraws", desc := "(II)Z" } : Jvm.MethodName) prog_1_method_34_code (5 : Nat) (Option.some Jvm.ClassFile.FieldType.boolean)) ∈ lw_all := lw_g (lw_at lw_m7 31 rfl) rfl
theorem q1584 : (Jvm.Cond.methodLink "TrustDesk" (341 : Nat) ({ cls := "java/util/ArrayList", name := "indexOf", desc := "(Ljava/lang/Object;)I" } : Jvm.MethodName)) ∈ lw_all := lw_g (lw_at lw_m7 32 rfl) rfl
theorem q1585 : (Jvm.Cond.methodLink "TrustDesk" (345 : Nat) ({ cls := "java/util/ArrayList", name := "remove", desc := "(I)Ljava/lang/Object;" } : Jvm.MethodName)) ∈ lw_all := lw_g (lw_at lw_m7 33 rfl) rfl
theorem q1586 : (Jvm.Cond.instanceMethod ({ cls := "java/util/ArrayList", name := "remove", desc := "(I)Ljava/lang/Object;" } : Jvm.MethodName)) ∈ lw_all := lw_g (lw_at lw_m7 34 rfl) rfl
theorem q1587 : (Jvm.Cond.selects "java/util/ArrayList" ({ cls := "java/util/ArrayList", name := "remove", desc := "(I)Ljava/lang/Object;" } : Jvm.MethodName) ({ cls := "java/util/ArrayList", name := "remove", desc := "(I)Ljava/lang/Object;" } : Jvm.MethodName)) ∈ lw_all := lw_g (lw_at lw_m7 35 rfl) rfl
theorem q1588 : (Jvm.Cond.code ({ cls := "java/util/ArrayList", name := "remove", desc := "(I)Ljava/lang/Object;" } : Jvm.MethodName) prog_51_method_29_code (4 : Nat) (Option.some (Jvm.ClassFile.FieldType.object "java/lang/Object"))) ∈ lw_all := lw_g (lw_at lw_m7 36 rfl) rfl
theorem q1589 : (Jvm.Cond.methodLink "java/util/ArrayList" (144 : Nat) ({ cls := "java/util/ArrayList", name := "fastRemove", desc := "([Ljava/lang/Object;I)V" } : Jvm.MethodName)) ∈ lw_all := lw_g (lw_at lw_m7 37 rfl) rfl
theorem q1591 : (Jvm.Cond.instanceMethod ({ cls := "java/util/ArrayList", name := "fastRemove", desc := "([Ljava/lang/Object;I)V" } : Jvm.MethodName)) ∈ lw_all := lw_g (lw_at lw_m7 39 rfl) rfl
theorem q1592 : (Jvm.Cond.code ({ cls := "java/util/ArrayList", name := "fastRemove", desc := "([Ljava/lang/Object;I)V" } : Jvm.MethodName) prog_51_method_39_code (4 : Nat) (Option.none : Option Jvm.ClassFile.FieldType)) ∈ lw_all := lw_g (lw_at lw_m7 40 rfl) rfl
theorem q1593 : (Jvm.Cond.methodLink "java/util/ArrayList" (112 : Nat) ({ cls := "java/lang/System", name := "arraycopy", desc := "(Ljava/lang/Object;ILjava/lang/Object;II)V" } : Jvm.MethodName)) ∈ lw_all := lw_g (lw_at lw_m7 41 rfl) rfl
theorem q1594 : (Jvm.Cond.methodLink "TrustDeskLaw" (81 : Nat) ({ cls := "TrustDesk", name := "vote", desc := "(IIZ)Z" } : Jvm.MethodName)) ∈ lw_all := lw_g (lw_at lw_m7 42 rfl) rfl
theorem q1595 : (Jvm.Cond.instanceMethod ({ cls := "TrustDesk", name := "vote", desc := "(IIZ)Z" } : Jvm.MethodName)) ∈ lw_all := lw_g (lw_at lw_m7 43 rfl) rfl
theorem q1596 : (Jvm.Cond.selects "TrustDesk" ({ cls := "TrustDesk", name := "vote", desc := "(IIZ)Z" } : Jvm.MethodName) ({ cls := "TrustDesk", name := "vote", desc := "(IIZ)Z" } : Jvm.MethodName)) ∈ lw_all := lw_g (lw_at lw_m7 44 rfl) rfl
theorem q1597 : (Jvm.Cond.code ({ cls := "TrustDesk", name := "vote", desc := "(IIZ)Z" } : Jvm.MethodName) prog_1_method_35_code (5 : Nat) (Option.some Jvm.ClassFile.FieldType.boolean)) ∈ lw_all := lw_g (lw_at lw_m7 45 rfl) rfl
theorem q1598 : (Jvm.Cond.methodLink "TrustDesk" (348 : Nat) ({ cls := "TrustDesk$Scheme", name := "mayVote", desc := "(I)Z" } : Jvm.MethodName)) ∈ lw_all := lw_g (lw_at lw_m7 46 rfl) rfl
theorem q1599 : (Jvm.Cond.instanceMethod ({ cls := "TrustDesk$Scheme", name := "mayVote", desc := "(I)Z" } : Jvm.MethodName)) ∈ lw_all := lw_g (lw_at lw_m7 47 rfl) rfl
theorem q1600 : (Jvm.Cond.sameMethod "TrustDesk$Scheme" "TrustDesk$Scheme" "mayVote" "(I)Z") ∈ lw_all := lw_g (lw_at lw_m7 48 rfl) rfl
theorem q1601 : (Jvm.Cond.selects "TrustDesk$Join" ({ cls := "TrustDesk$Scheme", name := "mayVote", desc := "(I)Z" } : Jvm.MethodName) ({ cls := "TrustDesk$Join", name := "mayVote", desc := "(I)Z" } : Jvm.MethodName)) ∈ lw_all := lw_g (lw_at lw_m7 49 rfl) rfl
theorem q1602 : (Jvm.Cond.instanceMethod ({ cls := "TrustDesk$Join", name := "mayVote", desc := "(I)Z" } : Jvm.MethodName)) ∈ lw_all := lw_g (lw_at lw_m7 50 rfl) rfl
theorem q1603 : (Jvm.Cond.code ({ cls := "TrustDesk$Join", name := "mayVote", desc := "(I)Z" } : Jvm.MethodName) prog_12_method_5_code (2 : Nat) (Option.some Jvm.ClassFile.FieldType.boolean)) ∈ lw_all := lw_g (lw_at lw_m7 51 rfl) rfl
theorem q1604 : (Jvm.Cond.methodLink "TrustDesk$Join" (53 : Nat) ({ cls := "TrustDesk$Scheme", name := "mayVote", desc := "(I)Z" } : Jvm.MethodName)) ∈ lw_all := lw_g (lw_at lw_m7 52 rfl) rfl
theorem q1605 : (Jvm.Cond.methodLink "TrustDesk$Join" (57 : Nat) ({ cls := "TrustDesk$Fund", name := "hasTrustee", desc := "(I)Z" } : Jvm.MethodName)) ∈ lw_all := lw_g (lw_at lw_m7 53 rfl) rfl
theorem q1606 : (Jvm.Cond.selects "TrustDesk$Nearer" ({ cls := "TrustDesk$Scheme", name := "mayVote", desc := "(I)Z" } : Jvm.MethodName) ({ cls := "TrustDesk$Scheme", name := "mayVote", desc := "(I)Z" } : Jvm.MethodName)) ∈ lw_all := lw_g (lw_at lw_m7 54 rfl) rfl
theorem q1607 : (Jvm.Cond.selects "TrustDesk$Sale" ({ cls := "TrustDesk$Scheme", name := "mayVote", desc := "(I)Z" } : Jvm.MethodName) ({ cls := "TrustDesk$Scheme", name := "mayVote", desc := "(I)Z" } : Jvm.MethodName)) ∈ lw_all := lw_g (lw_at lw_m7 55 rfl) rfl
theorem q1608 : (Jvm.Cond.selects "TrustDesk$Strike" ({ cls := "TrustDesk$Scheme", name := "mayVote", desc := "(I)Z" } : Jvm.MethodName) ({ cls := "TrustDesk$Scheme", name := "mayVote", desc := "(I)Z" } : Jvm.MethodName)) ∈ lw_all := lw_g (lw_at lw_m7 56 rfl) rfl
theorem q1609 : (Jvm.Cond.code ({ cls := "TrustDesk$Scheme", name := "mayVote", desc := "(I)Z" } : Jvm.MethodName) prog_19_method_6_code (2 : Nat) (Option.some Jvm.ClassFile.FieldType.boolean)) ∈ lw_all := lw_g (lw_at lw_m7 57 rfl) rfl
theorem q1610 : (Jvm.Cond.methodLink "TrustDesk$Scheme" (54 : Nat) ({ cls := "TrustDesk$Fund", name := "hasTrustee", desc := "(I)Z" } : Jvm.MethodName)) ∈ lw_all := lw_g (lw_at lw_m7 58 rfl) rfl
theorem q1611 : (Jvm.Cond.methodLink "TrustDesk" (351 : Nat) ({ cls := "TrustDesk$Scheme", name := "votes", desc := "(IZ)V" } : Jvm.MethodName)) ∈ lw_all := lw_g (lw_at lw_m7 59 rfl) rfl
theorem q1612 : (Jvm.Cond.instanceMethod ({ cls := "TrustDesk$Scheme", name := "votes", desc := "(IZ)V" } : Jvm.MethodName)) ∈ lw_all := lw_g (lw_at lw_m7 60 rfl) rfl
theorem q1614 : (Jvm.Cond.selects "TrustDesk$Join" ({ cls := "TrustDesk$Scheme", name := "votes", desc := "(IZ)V" } : Jvm.MethodName) ({ cls := "TrustDesk$Scheme", name := "votes", desc := "(IZ)V" } : Jvm.MethodName)) ∈ lw_all := lw_g (lw_at lw_m7 62 rfl) rfl
theorem q1615 : (Jvm.Cond.selects "TrustDesk$Nearer" ({ cls := "TrustDesk$Scheme", name := "votes", desc := "(IZ)V" } : Jvm.MethodName) ({ cls := "TrustDesk$Scheme", name := "votes", desc := "(IZ)V" } : Jvm.MethodName)) ∈ lw_all := lw_g (lw_at lw_m7 63 rfl) rfl
theorem q1616 : (Jvm.Cond.selects "TrustDesk$Sale" ({ cls := "TrustDesk$Scheme", name := "votes", desc := "(IZ)V" } : Jvm.MethodName) ({ cls := "TrustDesk$Scheme", name := "votes", desc := "(IZ)V" } : Jvm.MethodName)) ∈ lw_all := lw_g (lw_at lw_m7 64 rfl) rfl
theorem q1617 : (Jvm.Cond.selects "TrustDesk$Strike" ({ cls := "TrustDesk$Scheme", name := "votes", desc := "(IZ)V" } : Jvm.MethodName) ({ cls := "TrustDesk$Scheme", name := "votes", desc := "(IZ)V" } : Jvm.MethodName)) ∈ lw_all := lw_g (lw_at lw_m7 65 rfl) rfl
theorem q1618 : (Jvm.Cond.code ({ cls := "TrustDesk$Scheme", name := "votes", desc := "(IZ)V" } : Jvm.MethodName) prog_19_method_9_code (4 : Nat) (Option.none : Option Jvm.ClassFile.FieldType)) ∈ lw_all := lw_g (lw_at lw_m7 66 rfl) rfl
theorem q1619 : (Jvm.Cond.methodLink "TrustDesk$Scheme" (81 : Nat) ({ cls := "java/lang/Integer", name := "valueOf", desc := "(I)Ljava/lang/Integer;" } : Jvm.MethodName)) ∈ lw_all := lw_g (lw_at lw_m7 67 rfl) rfl
theorem q1620 : (Jvm.Cond.methodLink "TrustDesk$Scheme" (85 : Nat) ({ cls := "java/util/ArrayList", name := "indexOf", desc := "(Ljava/lang/Object;)I" } : Jvm.MethodName)) ∈ lw_all := lw_g (lw_at lw_m7 68 rfl) rfl
theorem q1621 : (Jvm.Cond.methodLink "TrustDesk$Scheme" (67 : Nat) ({ cls := "java/util/ArrayList", name := "size", desc := "()I" } : Jvm.MethodName)) ∈ lw_all := lw_g (lw_at lw_m7 69 rfl) rfl
theorem q1622 : (Jvm.Cond.methodLink "TrustDesk$Scheme" (89 : Nat) ({ cls := "java/util/ArrayList", name := "add", desc := "(Ljava/lang/Object;)Z" } : Jvm.MethodName)) ∈ lw_all := lw_g (lw_at lw_m7 70 rfl) rfl
theorem q1623 : (Jvm.Cond.methodLink "TrustDeskLaw" (86 : Nat) ({ cls := "TrustDesk", name := "settle", desc := "(I)I" } : Jvm.MethodName)) ∈ lw_all := lw_g (lw_at lw_m7 71 rfl) rfl
theorem q1624 : (Jvm.Cond.instanceMethod ({ cls := "TrustDesk", name := "settle", desc := "(I)I" } : Jvm.MethodName)) ∈ lw_all := lw_g (lw_at lw_m7 72 rfl) rfl
theorem q1625 : (Jvm.Cond.selects "TrustDesk" ({ cls := "TrustDesk", name := "settle", desc := "(I)I" } : Jvm.MethodName) ({ cls := "TrustDesk", name := "settle", desc := "(I)I" } : Jvm.MethodName)) ∈ lw_all := lw_g (lw_at lw_m7 73 rfl) rfl
theorem q1626 : (Jvm.Cond.code ({ cls := "TrustDesk", name := "settle", desc := "(I)I" } : Jvm.MethodName) prog_1_method_36_code (3 : Nat) (Option.some Jvm.ClassFile.FieldType.int)) ∈ lw_all := lw_g (lw_at lw_m7 74 rfl) rfl
theorem q1627 : (Jvm.Cond.methodLink "TrustDesk" (355 : Nat) ({ cls := "TrustDesk$Scheme", name := "settles", desc := "()I" } : Jvm.MethodName)) ∈ lw_all := lw_g (lw_at lw_m7 75 rfl) rfl
theorem q1628 : (Jvm.Cond.instanceMethod ({ cls := "TrustDesk$Scheme", name := "settles", desc := "()I" } : Jvm.MethodName)) ∈ lw_all := lw_g (lw_at lw_m7 76 rfl) rfl
theorem q1630 : (Jvm.Cond.selects "TrustDesk$Join" ({ cls := "TrustDesk$Scheme", name := "settles", desc := "()I" } : Jvm.MethodName) ({ cls := "TrustDesk$Scheme", name := "settles", desc := "()I" } : Jvm.MethodName)) ∈ lw_all := lw_g (lw_at lw_m7 78 rfl) rfl
theorem q1631 : (Jvm.Cond.selects "TrustDesk$Nearer" ({ cls := "TrustDesk$Scheme", name := "settles", desc := "()I" } : Jvm.MethodName) ({ cls := "TrustDesk$Scheme", name := "settles", desc := "()I" } : Jvm.MethodName)) ∈ lw_all := lw_g (lw_at lw_m7 79 rfl) rfl
theorem q1632 : (Jvm.Cond.selects "TrustDesk$Sale" ({ cls := "TrustDesk$Scheme", name := "settles", desc := "()I" } : Jvm.MethodName) ({ cls := "TrustDesk$Scheme", name := "settles", desc := "()I" } : Jvm.MethodName)) ∈ lw_all := lw_g (lw_at lw_m7 80 rfl) rfl
theorem q1633 : (Jvm.Cond.selects "TrustDesk$Strike" ({ cls := "TrustDesk$Scheme", name := "settles", desc := "()I" } : Jvm.MethodName) ({ cls := "TrustDesk$Scheme", name := "settles", desc := "()I" } : Jvm.MethodName)) ∈ lw_all := lw_g (lw_at lw_m7 81 rfl) rfl
theorem q1634 : (Jvm.Cond.code ({ cls := "TrustDesk$Scheme", name := "settles", desc := "()I" } : Jvm.MethodName) prog_19_method_10_code (2 : Nat) (Option.some Jvm.ClassFile.FieldType.int)) ∈ lw_all := lw_g (lw_at lw_m7 82 rfl) rfl
theorem q1635 : (Jvm.Cond.methodLink "TrustDesk$Scheme" (93 : Nat) ({ cls := "TrustDesk$Scheme", name := "canBe", desc := "()Z" } : Jvm.MethodName)) ∈ lw_all := lw_g (lw_at lw_m7 83 rfl) rfl
theorem q1636 : (Jvm.Cond.declares ({ cls := "TrustDesk$Scheme", name := "canBe", desc := "()Z" } : Jvm.MethodName)) ∈ lw_tbl := lw_at lw_m7 84 rfl
theorem q1637 : (Jvm.Cond.sameMethod "TrustDesk$Scheme" "TrustDesk$Scheme" "canBe" "()Z") ∈ lw_all := lw_g (lw_at lw_m7 85 rfl) rfl
theorem q1638 : (Jvm.Cond.selects "TrustDesk$Join" ({ cls := "TrustDesk$Scheme", name := "canBe", desc := "()Z" } : Jvm.MethodName) ({ cls := "TrustDesk$Join", name := "canBe", desc := "()Z" } : Jvm.MethodName)) ∈ lw_all := lw_g (lw_at lw_m7 86 rfl) rfl
theorem q1639 : (Jvm.Cond.instanceMethod ({ cls := "TrustDesk$Join", name := "canBe", desc := "()Z" } : Jvm.MethodName)) ∈ lw_all := lw_g (lw_at lw_m7 87 rfl) rfl
theorem q1640 : (Jvm.Cond.code ({ cls := "TrustDesk$Join", name := "canBe", desc := "()Z" } : Jvm.MethodName) prog_12_method_3_code (1 : Nat) (Option.some Jvm.ClassFile.FieldType.boolean)) ∈ lw_all := lw_g (lw_at lw_m7 88 rfl) rfl
theorem q1641 : (Jvm.Cond.methodLink "TrustDesk$Join" (34 : Nat) ({ cls := "TrustDesk$Fund", name := "isThere", desc := "()Z" } : Jvm.MethodName)) ∈ lw_all := lw_g (lw_at lw_m7 89 rfl) rfl
theorem q1642 : (Jvm.Cond.methodLink "TrustDesk$Join" (41 : Nat) ({ cls := "java/util/ArrayList", name := "size", desc := "()I" } : Jvm.MethodName)) ∈ lw_all := lw_g (lw_at lw_m7 90 rfl) rfl
theorem q1643 : (Jvm.Cond.methodLink "TrustDesk$Join" (45 : Nat) ({ cls := "TrustDesk$Fund", name := "many", desc := "(I)I" } : Jvm.MethodName)) ∈ lw_all := lw_g (lw_at lw_m7 91 rfl) rfl
theorem q1644 : (Jvm.Cond.selects "TrustDesk$Nearer" ({ cls := "TrustDesk$Scheme", name := "canBe", desc := "()Z" } : Jvm.MethodName) ({ cls := "TrustDesk$Nearer", name := "canBe", desc := "()Z" } : Jvm.MethodName)) ∈ lw_all := lw_g (lw_at lw_m7 92 rfl) rfl
theorem q1645 : (Jvm.Cond.instanceMethod ({ cls := "TrustDesk$Nearer", name := "canBe", desc := "()Z" } : Jvm.MethodName)) ∈ lw_all := lw_g (lw_at lw_m7 93 rfl) rfl
theorem q1646 : (Jvm.Cond.code ({ cls := "TrustDesk$Nearer", name := "canBe", desc := "()Z" } : Jvm.MethodName) prog_14_method_3_code (1 : Nat) (Option.some Jvm.ClassFile.FieldType.boolean)) ∈ lw_all := lw_g (lw_at lw_m7 94 rfl) rfl
theorem q1647 : (Jvm.Cond.methodLink "TrustDesk$Nearer" (17 : Nat) ({ cls := "TrustDesk$Fund", name := "isThere", desc := "()Z" } : Jvm.MethodName)) ∈ lw_all := lw_g (lw_at lw_m7 95 rfl) rfl
theorem q1648 : (Jvm.Cond.methodLink "TrustDesk$Nearer" (23 : Nat) ({ cls := "TrustDesk$Fund", name := "firstDead", desc := "()LTrustDesk$End;" } : Jvm.MethodName)) ∈ lw_all := lw_g (lw_at lw_m7 96 rfl) rfl
theorem q1649 : (Jvm.Cond.instanceMethod ({ cls := "TrustDesk$Fund", name := "firstDead", desc := "()LTrustDesk$End;" } : Jvm.MethodName)) ∈ lw_all := lw_g (lw_at lw_m7 97 rfl) rfl
theorem q1650 : (Jvm.Cond.selects "TrustDesk$Fund" ({ cls := "TrustDesk$Fund", name := "firstDead", desc := "()LTrustDesk$End;" } : Jvm.MethodName) ({ cls := "TrustDesk$Fund", name := "firstDead", desc := "()LTrustDesk$End;" } : Jvm.MethodName)) ∈ lw_all := lw_g (lw_at lw_m7 98 rfl) rfl
theorem q1651 : (Jvm.Cond.code ({ cls := "TrustDesk$Fund", name := "firstDead", desc := "()LTrustDesk$End;" } : Jvm.MethodName) prog_10_method_5_code (2 : Nat) (Option.some (Jvm.ClassFile.FieldType.object "TrustDesk$End"))) ∈ lw_all := lw_g (lw_at lw_m7 99 rfl) rfl
theorem q1652 : (Jvm.Cond.selects "TrustDesk$Sale" ({ cls := "TrustDesk$Scheme", name := "canBe", desc := "()Z" } : Jvm.MethodName) ({ cls := "TrustDesk$Sale", name := "canBe", desc := "()Z" } : Jvm.MethodName)) ∈ lw_all := lw_g (lw_at lw_m7 100 rfl) rfl
theorem q1653 : (Jvm.Cond.instanceMethod ({ cls := "TrustDesk$Sale", name := "canBe", desc := "()Z" } : Jvm.MethodName)) ∈ lw_all := lw_g (lw_at lw_m7 101 rfl) rfl
theorem q1654 : (Jvm.Cond.code ({ cls := "TrustDesk$Sale", name := "canBe", desc := "()Z" } : Jvm.MethodName) prog_18_method_3_code (1 : Nat) (Option.some Jvm.ClassFile.FieldType.boolean)) ∈ lw_all := lw_g (lw_at lw_m7 102 rfl) rfl
theorem q1655 : (Jvm.Cond.methodLink "TrustDesk$Sale" (19 : Nat) ({ cls := "TrustDesk$Fund", name := "isThere", desc := "()Z" } : Jvm.MethodName)) ∈ lw_all := lw_g (lw_at lw_m7 103 rfl) rfl
theorem q1656 : (Jvm.Cond.selects "TrustDesk$Strike" ({ cls := "TrustDesk$Scheme", name := "canBe", desc := "()Z" } : Jvm.MethodName) ({ cls := "TrustDesk$Strike", name := "canBe", desc := "()Z" } : Jvm.MethodName)) ∈ lw_all := lw_g (lw_at lw_m7 104 rfl) rfl
theorem q1657 : (Jvm.Cond.instanceMethod ({ cls := "TrustDesk$Strike", name := "canBe", desc := "()Z" } : Jvm.MethodName)) ∈ lw_all := lw_g (lw_at lw_m7 105 rfl) rfl
theorem q1658 : (Jvm.Cond.code ({ cls := "TrustDesk$Strike", name := "canBe", desc := "()Z" } : Jvm.MethodName) prog_21_method_3_code (1 : Nat) (Option.some Jvm.ClassFile.FieldType.boolean)) ∈ lw_all := lw_g (lw_at lw_m7 106 rfl) rfl
theorem q1659 : (Jvm.Cond.methodLink "TrustDesk$Strike" (19 : Nat) ({ cls := "TrustDesk$Fund", name := "isThere", desc := "()Z" } : Jvm.MethodName)) ∈ lw_all := lw_g (lw_at lw_m7 107 rfl) rfl
theorem q1660 : (Jvm.Cond.methodLink "TrustDesk$Strike" (33 : Nat) ({ cls := "java/util/ArrayList", name := "size", desc := "()I" } : Jvm.MethodName)) ∈ lw_all := lw_g (lw_at lw_m7 108 rfl) rfl
theorem q1661 : (Jvm.Cond.methodLink "TrustDesk$Strike" (39 : Nat) ({ cls := "java/util/ArrayList", name := "get", desc := "(I)Ljava/lang/Object;" } : Jvm.MethodName)) ∈ lw_all := lw_g (lw_at lw_m7 109 rfl) rfl
theorem q1662 : (Jvm.Cond.classLink "TrustDesk$Strike" (43 : Nat) "TrustDesk$End") ∈ lw_all := lw_g (lw_at lw_m7 110 rfl) rfl
theorem q1663 : (Jvm.Cond.methodLink "TrustDesk$Scheme" (97 : Nat) ({ cls := "TrustDesk$Scheme", name := "kind", desc := "()I" } : Jvm.MethodName)) ∈ lw_all := lw_g (lw_at lw_m7 111 rfl) rfl
theorem q1664 : (Jvm.Cond.declares ({ cls := "TrustDesk$Scheme", name := "kind", desc := "()I" } : Jvm.MethodName)) ∈ lw_tbl := lw_at lw_m7 112 rfl
theorem q1665 : (Jvm.Cond.sameMethod "TrustDesk$Scheme" "TrustDesk$Scheme" "kind" "()I") ∈ lw_all := lw_g (lw_at lw_m7 113 rfl) rfl
theorem q1666 : (Jvm.Cond.selects "TrustDesk$Join" ({ cls := "TrustDesk$Scheme", name := "kind", desc := "()I" } : Jvm.MethodName) ({ cls := "TrustDesk$Join", name := "kind", desc := "()I" } : Jvm.MethodName)) ∈ lw_all := lw_g (lw_at lw_m7 114 rfl) rfl
theorem q1667 : (Jvm.Cond.instanceMethod ({ cls := "TrustDesk$Join", name := "kind", desc := "()I" } : Jvm.MethodName)) ∈ lw_all := lw_g (lw_at lw_m7 115 rfl) rfl
theorem q1668 : (Jvm.Cond.code ({ cls := "TrustDesk$Join", name := "kind", desc := "()I" } : Jvm.MethodName) prog_12_method_2_code (1 : Nat) (Option.some Jvm.ClassFile.FieldType.int)) ∈ lw_all := lw_g (lw_at lw_m7 116 rfl) rfl
theorem q1669 : (Jvm.Cond.selects "TrustDesk$Nearer" ({ cls := "TrustDesk$Scheme", name := "kind", desc := "()I" } : Jvm.MethodName) ({ cls := "TrustDesk$Nearer", name := "kind", desc := "()I" } : Jvm.MethodName)) ∈ lw_all := lw_g (lw_at lw_m7 117 rfl) rfl
theorem q1670 : (Jvm.Cond.instanceMethod ({ cls := "TrustDesk$Nearer", name := "kind", desc := "()I" } : Jvm.MethodName)) ∈ lw_all := lw_g (lw_at lw_m7 118 rfl) rfl
theorem q1671 : (Jvm.Cond.code ({ cls := "TrustDesk$Nearer", name := "kind", desc := "()I" } : Jvm.MethodName) prog_14_method_2_code (1 : Nat) (Option.some Jvm.ClassFile.FieldType.int)) ∈ lw_all := lw_g (lw_at lw_m7 119 rfl) rfl
theorem q1672 : (Jvm.Cond.selects "TrustDesk$Sale" ({ cls := "TrustDesk$Scheme", name := "kind", desc := "()I" } : Jvm.MethodName) ({ cls := "TrustDesk$Sale", name := "kind", desc := "()I" } : Jvm.MethodName)) ∈ lw_all := lw_g (lw_at lw_m7 120 rfl) rfl
theorem q1673 : (Jvm.Cond.instanceMethod ({ cls := "TrustDesk$Sale", name := "kind", desc := "()I" } : Jvm.MethodName)) ∈ lw_all := lw_g (lw_at lw_m7 121 rfl) rfl
theorem q1674 : (Jvm.Cond.code ({ cls := "TrustDesk$Sale", name := "kind", desc := "()I" } : Jvm.MethodName) prog_18_method_2_code (1 : Nat) (Option.some Jvm.ClassFile.FieldType.int)) ∈ lw_all := lw_g (lw_at lw_m7 122 rfl) rfl
theorem q1675 : (Jvm.Cond.selects "TrustDesk$Strike" ({ cls := "TrustDesk$Scheme", name := "kind", desc := "()I" } : Jvm.MethodName) ({ cls := "TrustDesk$Strike", name := "kind", desc := "()I" } : Jvm.MethodName)) ∈ lw_all := lw_g (lw_at lw_m7 123 rfl) rfl
theorem q1676 : (Jvm.Cond.instanceMethod ({ cls := "TrustDesk$Strike", name := "kind", desc := "()I" } : Jvm.MethodName)) ∈ lw_all := lw_g (lw_at lw_m7 124 rfl) rfl
theorem q1677 : (Jvm.Cond.code ({ cls := "TrustDesk$Strike", name := "kind", desc := "()I" } : Jvm.MethodName) prog_21_method_2_code (1 : Nat) (Option.some Jvm.ClassFile.FieldType.int)) ∈ lw_all := lw_g (lw_at lw_m7 125 rfl) rfl
theorem q1678 : (Jvm.Cond.methodLinkNest "TrustDesk$Scheme" (100 : Nat) ({ cls := "TrustDesk", name := "yearNow", desc := "()I" } : Jvm.MethodName) "TrustDesk") ∈ lw_tbl := lw_at lw_m7 126 rfl
theorem q1679 : (Jvm.Cond.methodLinkNest "TrustDesk$Scheme" (103 : Nat) ({ cls := "TrustDesk", name := "learns", desc := "(LTrustDesk$Fund;II)[J" } : Jvm.MethodName) "TrustDesk") ∈ lw_tbl := lw_at lw_m7 127 rfl
theorem q1680 : (Jvm.Cond.methodLink "TrustDesk$Scheme" (107 : Nat) ({ cls := "TrustDesk$Act", name := "bars", desc := "(I[J)Z" } : Jvm.MethodName)) ∈ lw_all := lw_g (lw_at lw_m7 128 rfl) rfl
theorem q1681 : (Jvm.Cond.instanceMethod ({ cls := "TrustDesk$Act", name := "bars", desc := "(I[J)Z" } : Jvm.MethodName)) ∈ lw_all := lw_g (lw_at lw_m7 129 rfl) rfl
theorem q1682 : (Jvm.Cond.selects "TrustDesk$Act" ({ cls := "TrustDesk$Act", name := "bars", desc := "(I[J)Z" } : Jvm.MethodName) ({ cls := "TrustDesk$Act", name := "bars", desc := "(I[J)Z" } : Jvm.MethodName)) ∈ lw_all := lw_g (lw_at lw_m7 130 rfl) rfl
theorem q1683 : (Jvm.Cond.code ({ cls := "TrustDesk$Act", name := "bars", desc := "(I[J)Z" } : Jvm.MethodName) prog_2_method_2_code (4 : Nat) (Option.some Jvm.ClassFile.FieldType.boolean)) ∈ lw_all := lw_g (lw_at lw_m7 131 rfl) rfl
theorem q1684 : (Jvm.Cond.methodLink "TrustDesk$Act" (22 : Nat) ({ cls := "java/util/ArrayList", name := "size", desc := "()I" } : Jvm.MethodName)) ∈ lw_all := lw_g (lw_at lw_m7 132 rfl) rfl
theorem q1685 : (Jvm.Cond.methodLink "TrustDesk$Act" (26 : Nat) ({ cls := "java/util/ArrayList", name := "get", desc := "(I)Ljava/lang/Object;" } : Jvm.MethodName)) ∈ lw_all := lw_g (lw_at lw_m7 133 rfl) rfl
theorem q1686 : (Jvm.Cond.classLink "TrustDesk$Act" (30 : Nat) "TrustDesk$Bar") ∈ lw_all := lw_g (lw_at lw_m7 134 rfl) rfl
theorem q1687 : (Jvm.Cond.methodLink "TrustDesk$Act" (40 : Nat) ({ cls := "TrustDesk$Cond", name := "holds", desc := "([J)Z" } : Jvm.MethodName)) ∈ lw_all := lw_g (lw_at lw_m7 135 rfl) rfl
theorem q1688 : (Jvm.Cond.methodLink "TrustDesk$Scheme" (111 : Nat) ({ cls := "TrustDesk$Scheme", name := "marksLeft", desc := "()I" } : Jvm.MethodName)) ∈ lw_all := lw_g (lw_at lw_m7 136 rfl) rfl
theorem q1689 : (Jvm.Cond.instanceMethod ({ cls := "TrustDesk$Scheme", name := "marksLeft", desc := "()I" } : Jvm.MethodName)) ∈ lw_all := lw_g (lw_at lw_m7 137 rfl) rfl
theorem q1690 : (Jvm.Cond.sameMethod "TrustDesk$Scheme" "TrustDesk$Scheme" "marksLeft" "()I") ∈ lw_all := lw_g (lw_at lw_m7 138 rfl) rfl
theorem q1691 : (Jvm.Cond.selects "TrustDesk$Join" ({ cls := "TrustDesk$Scheme", name := "marksLeft", desc := "()I" } : Jvm.MethodName) ({ cls := "TrustDesk$Join", name := "marksLeft", desc := "()I" } : Jvm.MethodName)) ∈ lw_all := lw_g (lw_at lw_m7 139 rfl) rfl
theorem q1692 : (Jvm.Cond.instanceMethod ({ cls := "TrustDesk$Join", name := "marksLeft", desc := "()I" } : Jvm.MethodName)) ∈ lw_all := lw_g (lw_at lw_m7 140 rfl) rfl
theorem q1693 : (Jvm.Cond.code ({ cls := "TrustDesk$Join", name := "marksLeft", desc := "()I" } : Jvm.MethodName) prog_12_method_4_code (1 : Nat) (Option.some Jvm.ClassFile.FieldType.int)) ∈ lw_all := lw_g (lw_at lw_m7 141 rfl) rfl
theorem q1694 : (Jvm.Cond.selects "TrustDesk$Nearer" ({ cls := "TrustDesk$Scheme", name := "marksLeft", desc := "()I" } : Jvm.MethodName) ({ cls := "TrustDesk$Nearer", name := "marksLeft", desc := "()I" } : Jvm.MethodName)) ∈ lw_all := lw_g (lw_at lw_m7 142 rfl) rfl
theorem q1695 : (Jvm.Cond.instanceMethod ({ cls := "TrustDesk$Nearer", name := "marksLeft", desc := "()I" } : Jvm.MethodName)) ∈ lw_all := lw_g (lw_at lw_m7 143 rfl) rfl
theorem q1696 : (Jvm.Cond.code ({ cls := "TrustDesk$Nearer", name := "marksLeft", desc := "()I" } : Jvm.MethodName) prog_14_method_4_code (1 : Nat) (Option.some Jvm.ClassFile.FieldType.int)) ∈ lw_all := lw_g (lw_at lw_m7 144 rfl) rfl
theorem q1697 : (Jvm.Cond.methodLink "TrustDesk$Nearer" (40 : Nat) ({ cls := "java/util/ArrayList", name := "get", desc := "(I)Ljava/lang/Object;" } : Jvm.MethodName)) ∈ lw_all := lw_g (lw_at lw_m7 145 rfl) rfl
theorem q1698 : (Jvm.Cond.classLink "TrustDesk$Nearer" (46 : Nat) "TrustDesk$Near") ∈ lw_all := lw_g (lw_at lw_m7 146 rfl) rfl
theorem q1699 : (Jvm.Cond.selects "TrustDesk$Sale" ({ cls := "TrustDesk$Scheme", name := "marksLeft", desc := "()I" } : Jvm.MethodName) ({ cls := "TrustDesk$Scheme", name := "marksLeft", desc := "()I" } : Jvm.MethodName)) ∈ lw_all := lw_g (lw_at lw_m7 147 rfl) rfl
theorem q1700 : (Jvm.Cond.selects "TrustDesk$Strike" ({ cls := "TrustDesk$Scheme", name := "marksLeft", desc := "()I" } : Jvm.MethodName) ({ cls := "TrustDesk$Scheme", name := "marksLeft", desc := "()I" } : Jvm.MethodName)) ∈ lw_all := lw_g (lw_at lw_m7 148 rfl) rfl
theorem q1701 : (Jvm.Cond.code ({ cls := "TrustDesk$Scheme", name := "marksLeft", desc := "()I" } : Jvm.MethodName) prog_19_method_5_code (1 : Nat) (Option.some Jvm.ClassFile.FieldType.int)) ∈ lw_all := lw_g (lw_at lw_m7 149 rfl) rfl
theorem q1702 : (Jvm.Cond.methodLink "TrustDesk$Scheme" (114 : Nat) ({ cls := "java/lang/Integer", name := "bitCount", desc := "(I)I" } : Jvm.MethodName)) ∈ lw_all := lw_g (lw_at lw_m7 150 rfl) rfl
theorem q1703 : (Jvm.Cond.methodLink "TrustDesk$Scheme" (118 : Nat) ({ cls := "TrustDesk$Scheme", name := "isWilled", desc := "()Z" } : Jvm.MethodName)) ∈ lw_all := lw_g (lw_at lw_m7 151 rfl) rfl
theorem q1704 : (Jvm.Cond.instanceMethod ({ cls := "TrustDesk$Scheme", name := "isWilled", desc := "()Z" } : Jvm.MethodName)) ∈ lw_all := lw_g (lw_at lw_m7 152 rfl) rfl
theorem q1705 : (Jvm.Cond.sameMethod "TrustDesk$Scheme" "TrustDesk$Scheme" "isWilled" "()Z") ∈ lw_all := lw_g (lw_at lw_m7 153 rfl) rfl
theorem q1706 : (Jvm.Cond.selects "TrustDesk$Join" ({ cls := "TrustDesk$Scheme", name := "isWilled", desc := "()Z" } : Jvm.MethodName) ({ cls := "TrustDesk$Join", name := "isWilled", desc := "()Z" } : Jvm.MethodName)) ∈ lw_all := lw_g (lw_at lw_m7 154 rfl) rfl
theorem q1707 : (Jvm.Cond.instanceMethod ({ cls := "TrustDesk$Join", name := "isWilled", desc := "()Z" } : Jvm.MethodName)) ∈ lw_all := lw_g (lw_at lw_m7 155 rfl) rfl
theorem q1708 : (Jvm.Cond.code ({ cls := "TrustDesk$Join", name := "isWilled", desc := "()Z" } : Jvm.MethodName) prog_12_method_6_code (1 : Nat) (Option.some Jvm.ClassFile.FieldType.boolean)) ∈ lw_all := lw_g (lw_at lw_m7 156 rfl) rfl
theorem q1709 : (Jvm.Cond.methodLink "TrustDesk$Join" (60 : Nat) ({ cls := "TrustDesk$Scheme", name := "isWilled", desc := "()Z" } : Jvm.MethodName)) ∈ lw_all := lw_g (lw_at lw_m7 157 rfl) rfl
theorem q1710 : (Jvm.Cond.methodLink "TrustDesk$Join" (63 : Nat) ({ cls := "TrustDesk$Join", name := "yesOf", desc := "(LTrustDesk$Fund;)I" } : Jvm.MethodName)) ∈ lw_all := lw_g (lw_at lw_m7 158 rfl) rfl
theorem q1711 : (Jvm.Cond.sameMethod "TrustDesk$Join" "TrustDesk$Scheme" "yesOf" "(LTrustDesk$Fund;)I") ∈ lw_all := lw_g (lw_at lw_m7 159 rfl) rfl
theorem q1712 : (Jvm.Cond.declares ({ cls := "TrustDesk$Scheme", name := "yesOf", desc := "(LTrustDesk$Fund;)I" } : Jvm.MethodName)) ∈ lw_tbl := lw_at lw_m7 160 rfl
theorem q1713 : (Jvm.Cond.selects "TrustDesk$Join" ({ cls := "TrustDesk$Join", name := "yesOf", desc := "(LTrustDesk$Fund;)I" } : Jvm.MethodName) ({ cls := "TrustDesk$Scheme", name := "yesOf", desc := "(LTrustDesk$Fund;)I" } : Jvm.MethodName)) ∈ lw_all := lw_g (lw_at lw_m7 161 rfl) rfl
theorem q1714 : (Jvm.Cond.instanceMethod ({ cls := "TrustDesk$Scheme", name := "yesOf", desc := "(LTrustDesk$Fund;)I" } : Jvm.MethodName)) ∈ lw_all := lw_g (lw_at lw_m7 162 rfl) rfl
theorem q1715 : (Jvm.Cond.code ({ cls := "TrustDesk$Scheme", name := "yesOf", desc := "(LTrustDesk$Fund;)I" } : Jvm.MethodName) prog_19_method_8_code (4 : Nat) (Option.some Jvm.ClassFile.FieldType.int)) ∈ lw_all := lw_g (lw_at lw_m7 163 rfl) rfl
theorem q1716 : (Jvm.Cond.methodLink "TrustDesk$Scheme" (72 : Nat) ({ cls := "java/util/ArrayList", name := "get", desc := "(I)Ljava/lang/Object;" } : Jvm.MethodName)) ∈ lw_all := lw_g (lw_at lw_m7 164 rfl) rfl
theorem q1717 : (Jvm.Cond.classLink "TrustDesk$Scheme" (76 : Nat) "java/lang/Integer") ∈ lw_all := lw_g (lw_at lw_m7 165 rfl) rfl
theorem q1718 : (Jvm.Cond.methodLink "TrustDesk$Scheme" (78 : Nat) ({ cls := "java/lang/Integer", name := "intValue", desc := "()I" } : Jvm.MethodName)) ∈ lw_all := lw_g (lw_at lw_m7 166 rfl) rfl
theorem q1719 : (Jvm.Cond.selects "TrustDesk$Nearer" ({ cls := "TrustDesk$Scheme", name := "isWilled", desc := "()Z" } : Jvm.MethodName) ({ cls := "TrustDesk$Scheme", name := "isWilled", desc := "()Z" } : Jvm.MethodName)) ∈ lw_all := lw_g (lw_at lw_m7 167 rfl) rfl
theorem q1720 : (Jvm.Cond.selects "TrustDesk$Sale" ({ cls := "TrustDesk$Scheme", name := "isWilled", desc := "()Z" } : Jvm.MethodName) ({ cls := "TrustDesk$Scheme", name := "isWilled", desc := "()Z" } : Jvm.MethodName)) ∈ lw_all := lw_g (lw_at lw_m7 168 rfl) rfl
theorem q1721 : (Jvm.Cond.selects "TrustDesk$Strike" ({ cls := "TrustDesk$Scheme", name := "isWilled", desc := "()Z" } : Jvm.MethodName) ({ cls := "TrustDesk$Scheme", name := "isWilled", desc := "()Z" } : Jvm.MethodName)) ∈ lw_all := lw_g (lw_at lw_m7 169 rfl) rfl
theorem q1722 : (Jvm.Cond.code ({ cls := "TrustDesk$Scheme", name := "isWilled", desc := "()Z" } : Jvm.MethodName) prog_19_method_7_code (1 : Nat) (Option.some Jvm.ClassFile.FieldType.boolean)) ∈ lw_all := lw_g (lw_at lw_m7 170 rfl) rfl
theorem q1723 : (Jvm.Cond.methodLink "TrustDesk$Scheme" (60 : Nat) ({ cls := "TrustDesk$Scheme", name := "yesOf", desc := "(LTrustDesk$Fund;)I" } : Jvm.MethodName)) ∈ lw_all := lw_g (lw_at lw_m7 171 rfl) rfl
theorem q1724 : (Jvm.Cond.methodLink "TrustDesk$Scheme" (121 : Nat) ({ cls := "java/util/ArrayList", name := "isEmpty", desc := "()Z" } : Jvm.MethodName)) ∈ lw_all := lw_g (lw_at lw_m7 172 rfl) rfl
theorem q1725 : (Jvm.Cond.instanceMethod ({ cls := "java/util/ArrayList", name := "isEmpty", desc := "()Z" } : Jvm.MethodName)) ∈ lw_all := lw_g (lw_at lw_m7 173 rfl) rfl
theorem q1726 : (Jvm.Cond.selects "java/util/ArrayList" ({ cls := "java/util/ArrayList", name := "isEmpty", desc := "()Z" } : Jvm.MethodName) ({ cls := "java/util/ArrayList", name := "isEmpty", desc := "()Z" } : Jvm.MethodName)) ∈ lw_all := lw_g (lw_at lw_m7 174 rfl) rfl
theorem q1727 : (Jvm.Cond.code ({ cls := "java/util/ArrayList", name := "isEmpty", desc := "()Z" } : Jvm.MethodName) prog_51_method_9_code (1 : Nat) (Option.some Jvm.ClassFile.FieldType.boolean)) ∈ lw_all := lw_g (lw_at lw_m7 175 rfl) rfl
theorem q1728 : (Jvm.Cond.methodLink "TrustDesk$Scheme" (130 : Nat) ({ cls := "TrustDesk$Scheme", name := "make", desc := "()V" } : Jvm.MethodName)) ∈ lw_all := lw_g (lw_at lw_m7 176 rfl) rfl
theorem q1729 : (Jvm.Cond.declares ({ cls := "TrustDesk$Scheme", name := "make", desc := "()V" } : Jvm.MethodName)) ∈ lw_tbl := lw_at lw_m7 177 rfl
theorem q1730 : (Jvm.Cond.sameMethod "TrustDesk$Scheme" "TrustDesk$Scheme" "make" "()V") ∈ lw_all := lw_g (lw_at lw_m7 178 rfl) rfl
theorem q1731 : (Jvm.Cond.selects "TrustDesk$Join" ({ cls := "TrustDesk$Scheme", name := "make", desc := "()V" } : Jvm.MethodName) ({ cls := "TrustDesk$Join", name := "make", desc := "()V" } : Jvm.MethodName)) ∈ lw_all := lw_g (lw_at lw_m7 179 rfl) rfl
theorem q1732 : (Jvm.Cond.instanceMethod ({ cls := "TrustDesk$Join", name := "make", desc := "()V" } : Jvm.MethodName)) ∈ lw_all := lw_g (lw_at lw_m7 180 rfl) rfl
theorem q1733 : (Jvm.Cond.code ({ cls := "TrustDesk$Join", name := "make", desc := "()V" } : Jvm.MethodName) prog_12_method_8_code (6 : Nat) (Option.none : Option Jvm.ClassFile.FieldType)) ∈ lw_all := lw_g (lw_at lw_m7 181 rfl) rfl
theorem q1734 : (Jvm.Cond.methodLink "TrustDesk$Join" (94 : Nat) ({ cls := "TrustDesk$Join", name := "worth", desc := "(LTrustDesk$Fund;)J" } : Jvm.MethodName)) ∈ lw_all := lw_g (lw_at lw_m7 182 rfl) rfl
theorem q1736 : (Jvm.Cond.instanceMethod ({ cls := "TrustDesk$Join", name := "worth", desc := "(LTrustDesk$Fund;)J" } : Jvm.MethodName)) ∈ lw_all := lw_g (lw_at lw_m7 184 rfl) rfl
theorem q1737 : (Jvm.Cond.code ({ cls := "TrustDesk$Join", name := "worth", desc := "(LTrustDesk$Fund;)J" } : Jvm.MethodName) prog_12_method_7_code (2 : Nat) (Option.some Jvm.ClassFile.FieldType.long)) ∈ lw_all := lw_g (lw_at lw_m7 185 rfl) rfl
theorem q1738 : (Jvm.Cond.constantLong "TrustDesk$Join" (70 : Nat) (1000000000000 : Int64)) ∈ lw_all := lw_g (lw_at lw_m7 186 rfl) rfl
theorem q1739 : (Jvm.Cond.constantLong "TrustDesk$Join" (76 : Nat) (20 : Int64)) ∈ lw_all := lw_g (lw_at lw_m7 187 rfl) rfl
theorem q1740 : (Jvm.Cond.methodLinkNest "TrustDesk$Join" (78 : Nat) ({ cls := "TrustDesk", name := "yearNow", desc := "()I" } : Jvm.MethodName) "TrustDesk") ∈ lw_tbl := lw_at lw_m7 188 rfl
theorem q1741 : (Jvm.Cond.methodLinkNest "TrustDesk$Join" (84 : Nat) ({ cls := "TrustDesk", name := "incomeOf", desc := "(LTrustDesk$Fund;II)I" } : Jvm.MethodName) "TrustDesk") ∈ lw_tbl := lw_at lw_m7 189 rfl
theorem q1742 : (Jvm.Cond.methodLink "TrustDesk$Join" (88 : Nat) ({ cls := "java/lang/Math", name := "min", desc := "(JJ)J" } : Jvm.MethodName)) ∈ lw_all := lw_g (lw_at lw_m7 190 rfl) rfl
theorem q1743 : (Jvm.Cond.methodLink "TrustDesk$Join" (98 : Nat) ({ cls := "TrustDesk$Fund", name := "takes", desc := "(LTrustDesk$Fund;JJ)V" } : Jvm.MethodName)) ∈ lw_all := lw_g (lw_at lw_m7 191 rfl) rfl
theorem q1744 : (Jvm.Cond.instanceMethod ({ cls := "TrustDesk$Fund", name := "takes", desc := "(LTrustDesk$Fund;JJ)V" } : Jvm.MethodName)) ∈ lw_all := lw_g (lw_at lw_m7 192 rfl) rfl
theorem q1745 : (Jvm.Cond.selects "TrustDesk$Fund" ({ cls := "TrustDesk$Fund", name := "takes", desc := "(LTrustDesk$Fund;JJ)V" } : Jvm.MethodName) ({ cls := "TrustDesk$Fund", name := "takes", desc := "(LTrustDesk$Fund;JJ)V" } : Jvm.MethodName)) ∈ lw_all := lw_g (lw_at lw_m7 193 rfl) rfl
theorem q1746 : (Jvm.Cond.code ({ cls := "TrustDesk$Fund", name := "takes", desc := "(LTrustDesk$Fund;JJ)V" } : Jvm.MethodName) prog_10_method_7_code (11 : Nat) (Option.none : Option Jvm.ClassFile.FieldType)) ∈ lw_all := lw_g (lw_at lw_m7 194 rfl) rfl
theorem q1747 : (Jvm.Cond.methodLink "TrustDesk$Fund" (102 : Nat) ({ cls := "TrustDesk$Fund", name := "gets", desc := "(J)V" } : Jvm.MethodName)) ∈ lw_all := lw_g (lw_at lw_m7 195 rfl) rfl
theorem q1748 : (Jvm.Cond.methodLink "TrustDesk$Fund" (106 : Nat) ({ cls := "java/lang/Math", name := "min", desc := "(II)I" } : Jvm.MethodName)) ∈ lw_all := lw_g (lw_at lw_m7 196 rfl) rfl
theorem q1749 : (Jvm.Cond.constant "TrustDesk$Fund" (109 : Nat) (99999 : Int32)) ∈ lw_all := lw_g (lw_at lw_m7 197 rfl) rfl
theorem q1750 : (Jvm.Cond.methodLink "TrustDesk$Fund" (120 : Nat) ({ cls := "java/util/ArrayList", name := "clear", desc := "()V" } : Jvm.MethodName)) ∈ lw_all := lw_g (lw_at lw_m7 198 rfl) rfl
theorem q1751 : (Jvm.Cond.instanceMethod ({ cls := "java/util/ArrayList", name := "clear", desc := "()V" } : Jvm.MethodName)) ∈ lw_all := lw_g (lw_at lw_m7 199 rfl) rfl
theorem q1752 : (Jvm.Cond.selects "java/util/ArrayList" ({ cls := "java/util/ArrayList", name := "clear", desc := "()V" } : Jvm.MethodName) ({ cls := "java/util/ArrayList", name := "clear", desc := "()V" } : Jvm.MethodName)) ∈ lw_all := lw_g (lw_at lw_m7 200 rfl) rfl
theorem q1753 : (Jvm.Cond.code ({ cls := "java/util/ArrayList", name := "clear", desc := "()V" } : Jvm.MethodName) prog_51_method_40_code (4 : Nat) (Option.none : Option Jvm.ClassFile.FieldType)) ∈ lw_all := lw_g (lw_at lw_m7 201 rfl) rfl
theorem q1754 : (Jvm.Cond.selects "TrustDesk$Nearer" ({ cls := "TrustDesk$Scheme", name := "make", desc := "()V" } : Jvm.MethodName) ({ cls := "TrustDesk$Nearer", name := "make", desc := "()V" } : Jvm.MethodName)) ∈ lw_all := lw_g (lw_at lw_m7 202 rfl) rfl
theorem q1755 : (Jvm.Cond.instanceMethod ({ cls := "TrustDesk$Nearer", name := "make", desc := "()V" } : Jvm.MethodName)) ∈ lw_all := lw_g (lw_at lw_m7 203 rfl) rfl
theorem q1756 : (Jvm.Cond.code ({ cls := "TrustDesk$Nearer", name := "make", desc := "()V" } : Jvm.MethodName) prog_14_method_5_code (1 : Nat) (Option.none : Option Jvm.ClassFile.FieldType)) ∈ lw_all := lw_g (lw_at lw_m7 204 rfl) rfl
theorem q1757 : (Jvm.Cond.methodLink "TrustDesk$Nearer" (53 : Nat) ({ cls := "TrustDesk$End", name := "becomes", desc := "(LTrustDesk$Aim;)V" } : Jvm.MethodName)) ∈ lw_all := lw_g (lw_at lw_m7 205 rfl) rfl
theorem q1758 : (Jvm.Cond.instanceMethod ({ cls := "TrustDesk$End", name := "becomes", desc := "(LTrustDesk$Aim;)V" } : Jvm.MethodName)) ∈ lw_all := lw_g (lw_at lw_m7 206 rfl) rfl
theorem q1759 : (Jvm.Cond.selects "TrustDesk$End" ({ cls := "TrustDesk$End", name := "becomes", desc := "(LTrustDesk$Aim;)V" } : Jvm.MethodName) ({ cls := "TrustDesk$End", name := "becomes", desc := "(LTrustDesk$Aim;)V" } : Jvm.MethodName)) ∈ lw_all := lw_g (lw_at lw_m7 207 rfl) rfl
theorem q1760 : (Jvm.Cond.code ({ cls := "TrustDesk$End", name := "becomes", desc := "(LTrustDesk$Aim;)V" } : Jvm.MethodName) prog_8_method_2_code (2 : Nat) (Option.none : Option Jvm.ClassFile.FieldType)) ∈ lw_all := lw_g (lw_at lw_m7 208 rfl) rfl
theorem q1761 : (Jvm.Cond.selects "TrustDesk$Sale" ({ cls := "TrustDesk$Scheme", name := "make", desc := "()V" } : Jvm.MethodName) ({ cls := "TrustDesk$Sale", name := "make", desc := "()V" } : Jvm.MethodName)) ∈ lw_all := lw_g (lw_at lw_m7 209 rfl) rfl
theorem q1762 : (Jvm.Cond.instanceMethod ({ cls := "TrustDesk$Sale", name := "make", desc := "()V" } : Jvm.MethodName)) ∈ lw_all := lw_g (lw_at lw_m7 210 rfl) rfl
theorem q1763 : (Jvm.Cond.code ({ cls := "TrustDesk$Sale", name := "make", desc := "()V" } : Jvm.MethodName) prog_18_method_4_code (1 : Nat) (Option.none : Option Jvm.ClassFile.FieldType)) ∈ lw_all := lw_g (lw_at lw_m7 211 rfl) rfl
theorem q1764 : (Jvm.Cond.methodLinkNest "TrustDesk$Sale" (32 : Nat) ({ cls := "TrustDesk", name := "yearNow", desc := "()I" } : Jvm.MethodName) "TrustDesk") ∈ lw_tbl := lw_at lw_m7 212 rfl
theorem q1765 : (Jvm.Cond.methodLinkNest "TrustDesk$Sale" (39 : Nat) ({ cls := "TrustDesk", name := "factAt", desc := "(III)I" } : Jvm.MethodName) "TrustDesk") ∈ lw_tbl := lw_at lw_m7 213 rfl
theorem q1766 : (Jvm.Cond.methodLinkNest "TrustDesk$Sale" (43 : Nat) ({ cls := "TrustDesk", name := "actOn", desc := "(I)LTrustDesk$Act;" } : Jvm.MethodName) "TrustDesk") ∈ lw_tbl := lw_at lw_m7 214 rfl
theorem q1767 : (Jvm.Cond.methodLink "TrustDesk$Sale" (53 : Nat) ({ cls := "TrustDesk$Fund", name := "gets", desc := "(J)V" } : Jvm.MethodName)) ∈ lw_all := lw_g (lw_at lw_m7 215 rfl) rfl
theorem q1768 : (Jvm.Cond.selects "TrustDesk$Strike" ({ cls := "TrustDesk$Scheme", name := "make", desc := "()V" } : Jvm.MethodName) ({ cls := "TrustDesk$Strike", name := "make", desc := "()V" } : Jvm.MethodName)) ∈ lw_all := lw_g (lw_at lw_m7 216 rfl) rfl
theorem q1769 : (Jvm.Cond.instanceMethod ({ cls := "TrustDesk$Strike", name := "make", desc := "()V" } : Jvm.MethodName)) ∈ lw_all := lw_g (lw_at lw_m7 217 rfl) rfl
theorem q1770 : (Jvm.Cond.code ({ cls := "TrustDesk$Strike", name := "make", desc := "()V" } : Jvm.MethodName) prog_21_method_4_code (1 : Nat) (Option.none : Option Jvm.ClassFile.FieldType)) ∈ lw_all := lw_g (lw_at lw_m7 218 rfl) rfl
theorem q1771 : (Jvm.Cond.methodLink "TrustDeskLaw" (90 : Nat) ({ cls := "TrustDesk", name := "scheme", desc := "(II)I" } : Jvm.MethodName)) ∈ lw_all := lw_g (lw_at lw_m7 219 rfl) rfl
theorem q1772 : (Jvm.Cond.instanceMethod ({ cls := "TrustDesk", name := "scheme", desc := "(II)I" } : Jvm.MethodName)) ∈ lw_all := lw_g (lw_at lw_m7 220 rfl) rfl
theorem q1773 : (Jvm.Cond.selects "TrustDesk" ({ cls := "TrustDesk", name := "scheme", desc := "(II)I" } : Jvm.MethodName) ({ cls := "TrustDesk", name := "scheme", desc := "(II)I" } : Jvm.MethodName)) ∈ lw_all := lw_g (lw_at lw_m7 221 rfl) rfl
theorem q1774 : (Jvm.Cond.code ({ cls := "TrustDesk", name := "scheme", desc := "(II)I" } : Jvm.MethodName) prog_1_method_37_code (3 : Nat) (Option.some Jvm.ClassFile.FieldType.int)) ∈ lw_all := lw_g (lw_at lw_m7 222 rfl) rfl
theorem q1775 : (Jvm.Cond.methodLink "TrustDesk" (358 : Nat) ({ cls := "TrustDesk$Scheme", name := "told", desc := "(I)I" } : Jvm.MethodName)) ∈ lw_all := lw_g (lw_at lw_m7 223 rfl) rfl
theorem q1776 : (Jvm.Cond.instanceMethod ({ cls := "TrustDesk$Scheme", name := "told", desc := "(I)I" } : Jvm.MethodName)) ∈ lw_all := lw_g (lw_at lw_m7 224 rfl) rfl
theorem q1778 : (Jvm.Cond.selects "TrustDesk$Join" ({ cls := "TrustDesk$Scheme", name := "told", desc := "(I)I" } : Jvm.MethodName) ({ cls := "TrustDesk$Scheme", name := "told", desc := "(I)I" } : Jvm.MethodName)) ∈ lw_all := lw_g (lw_at lw_m7 226 rfl) rfl
theorem q1779 : (Jvm.Cond.selects "TrustDesk$Nearer" ({ cls := "TrustDesk$Scheme", name := "told", desc := "(I)I" } : Jvm.MethodName) ({ cls := "TrustDesk$Scheme", name := "told", desc := "(I)I" } : Jvm.MethodName)) ∈ lw_all := lw_g (lw_at lw_m7 227 rfl) rfl
theorem q1780 : (Jvm.Cond.selects "TrustDesk$Sale" ({ cls := "TrustDesk$Scheme", name := "told", desc := "(I)I" } : Jvm.MethodName) ({ cls := "TrustDesk$Scheme", name := "told", desc := "(I)I" } : Jvm.MethodName)) ∈ lw_all := lw_g (lw_at lw_m7 228 rfl) rfl
theorem q1781 : (Jvm.Cond.selects "TrustDesk$Strike" ({ cls := "TrustDesk$Scheme", name := "told", desc := "(I)I" } : Jvm.MethodName) ({ cls := "TrustDesk$Scheme", name := "told", desc := "(I)I" } : Jvm.MethodName)) ∈ lw_all := lw_g (lw_at lw_m7 229 rfl) rfl
theorem q1782 : (Jvm.Cond.code ({ cls := "TrustDesk$Scheme", name := "told", desc := "(I)I" } : Jvm.MethodName) prog_19_method_11_code (2 : Nat) (Option.some Jvm.ClassFile.FieldType.int)) ∈ lw_all := lw_g (lw_at lw_m7 230 rfl) rfl
theorem q1783 : (Jvm.Cond.methodLink "TrustDeskLaw" (103 : Nat) ({ cls := "TrustDesk", name := "coin", desc := "(I)J" } : Jvm.MethodName)) ∈ lw_all := lw_g (lw_at lw_m7 231 rfl) rfl
theorem q1784 : (Jvm.Cond.instanceMethod ({ cls := "TrustDesk", name := "coin", desc := "(I)J" } : Jvm.MethodName)) ∈ lw_all := lw_g (lw_at lw_m7 232 rfl) rfl
theorem q1785 : (Jvm.Cond.selects "TrustDesk" ({ cls := "TrustDesk", name := "coin", desc := "(I)J" } : Jvm.MethodName) ({ cls := "TrustDesk", name := "coin", desc := "(I)J" } : Jvm.MethodName)) ∈ lw_all := lw_g (lw_at lw_m7 233 rfl) rfl
theorem q1786 : (Jvm.Cond.code ({ cls := "TrustDesk", name := "coin", desc := "(I)J" } : Jvm.MethodName) prog_1_method_39_code (2 : Nat) (Option.some Jvm.ClassFile.FieldType.long)) ∈ lw_all := lw_g (lw_at lw_m7 234 rfl) rfl
theorem q1787 : (Jvm.Cond.constantLong "TrustDesk" (371 : Nat) (-1 : Int64)) ∈ lw_all := lw_g (lw_at lw_m7 235 rfl) rfl
theorem q1788 : (Jvm.Cond.methodLink "TrustDeskLaw" (108 : Nat) ({ cls := "TrustDesk", name := "income", desc := "(III)I" } : Jvm.MethodName)) ∈ lw_all := lw_g (lw_at lw_m7 236 rfl) rfl
theorem q1789 : (Jvm.Cond.instanceMethod ({ cls := "TrustDesk", name := "income", desc := "(III)I" } : Jvm.MethodName)) ∈ lw_all := lw_g (lw_at lw_m7 237 rfl) rfl
theorem q1790 : (Jvm.Cond.selects "TrustDesk" ({ cls := "TrustDesk", name := "income", desc := "(III)I" } : Jvm.MethodName) ({ cls := "TrustDesk", name := "income", desc := "(III)I" } : Jvm.MethodName)) ∈ lw_all := lw_g (lw_at lw_m7 238 rfl) rfl
theorem q1791 : (Jvm.Cond.code ({ cls := "TrustDesk", name := "income", desc := "(III)I" } : Jvm.MethodName) prog_1_method_40_code (4 : Nat) (Option.some Jvm.ClassFile.FieldType.int)) ∈ lw_all := lw_g (lw_at lw_m7 239 rfl) rfl
theorem q1792 : (Jvm.Cond.methodLink "TrustDeskLaw" (112 : Nat) ({ cls := "TrustDesk", name := "part", desc := "(II)I" } : Jvm.MethodName)) ∈ lw_all := lw_g (lw_at lw_m8 0 rfl) rfl
theorem q1793 : (Jvm.Cond.instanceMethod ({ cls := "TrustDesk", name := "part", desc := "(II)I" } : Jvm.MethodName)) ∈ lw_all := lw_g (lw_at lw_m8 1 rfl) rfl
theorem q1794 : (Jvm.Cond.selects "TrustDesk" ({ cls := "TrustDesk", name := "part", desc := "(II)I" } : Jvm.MethodName) ({ cls := "TrustDesk", name := "part", desc := "(II)I" } : Jvm.MethodName)) ∈ lw_all := lw_g (lw_at lw_m8 2 rfl) rfl
theorem q1795 : (Jvm.Cond.code ({ cls := "TrustDesk", name := "part", desc := "(II)I" } : Jvm.MethodName) prog_1_method_41_code (3 : Nat) (Option.some Jvm.ClassFile.FieldType.int)) ∈ lw_all := lw_g (lw_at lw_m8 3 rfl) rfl
theorem q1796 : (Jvm.Cond.methodLink "TrustDeskLaw" (116 : Nat) ({ cls := "TrustDesk", name := "paid", desc := "(I)J" } : Jvm.MethodName)) ∈ lw_all := lw_g (lw_at lw_m8 4 rfl) rfl
theorem q1797 : (Jvm.Cond.instanceMethod ({ cls := "TrustDesk", name := "paid", desc := "(I)J" } : Jvm.MethodName)) ∈ lw_all := lw_g (lw_at lw_m8 5 rfl) rfl
theorem q1798 : (Jvm.Cond.selects "TrustDesk" ({ cls := "TrustDesk", name := "paid", desc := "(I)J" } : Jvm.MethodName) ({ cls := "TrustDesk", name := "paid", desc := "(I)J" } : Jvm.MethodName)) ∈ lw_all := lw_g (lw_at lw_m8 6 rfl) rfl
theorem q1799 : (Jvm.Cond.code ({ cls := "TrustDesk", name := "paid", desc := "(I)J" } : Jvm.MethodName) prog_1_method_42_code (2 : Nat) (Option.some Jvm.ClassFile.FieldType.long)) ∈ lw_all := lw_g (lw_at lw_m8 7 rfl) rfl
theorem q1800 : (Jvm.Cond.methodLink "TrustDeskLaw" (120 : Nat) ({ cls := "TrustDesk", name := "endOf", desc := "(III)I" } : Jvm.MethodName)) ∈ lw_all := lw_g (lw_at lw_m8 8 rfl) rfl
theorem q1801 : (Jvm.Cond.instanceMethod ({ cls := "TrustDesk", name := "endOf", desc := "(III)I" } : Jvm.MethodName)) ∈ lw_all := lw_g (lw_at lw_m8 9 rfl) rfl
theorem q1802 : (Jvm.Cond.selects "TrustDesk" ({ cls := "TrustDesk", name := "endOf", desc := "(III)I" } : Jvm.MethodName) ({ cls := "TrustDesk", name := "endOf", desc := "(III)I" } : Jvm.MethodName)) ∈ lw_all := lw_g (lw_at lw_m8 10 rfl) rfl
theorem q1803 : (Jvm.Cond.code ({ cls := "TrustDesk", name := "endOf", desc := "(III)I" } : Jvm.MethodName) prog_1_method_44_code (5 : Nat) (Option.some Jvm.ClassFile.FieldType.int)) ∈ lw_all := lw_g (lw_at lw_m8 11 rfl) rfl
theorem q1804 : (Jvm.Cond.methodLink "TrustDesk" (373 : Nat) ({ cls := "TrustDesk", name := "endAt", desc := "(II)LTrustDesk$End;" } : Jvm.MethodName)) ∈ lw_all := lw_g (lw_at lw_m8 12 rfl) rfl
theorem q1806 : (Jvm.Cond.instanceMethod ({ cls := "TrustDesk", name := "endAt", desc := "(II)LTrustDesk$End;" } : Jvm.MethodName)) ∈ lw_all := lw_g (lw_at lw_m8 14 rfl) rfl
theorem q1807 : (Jvm.Cond.code ({ cls := "TrustDesk", name := "endAt", desc := "(II)LTrustDesk$End;" } : Jvm.MethodName) prog_1_method_43_code (3 : Nat) (Option.some (Jvm.ClassFile.FieldType.object "TrustDesk$End"))) ∈ lw_all := lw_g (lw_at lw_m8 15 rfl) rfl
theorem q1808 : (Jvm.Cond.methodLink "TrustDesk" (387 : Nat) ({ cls := "java/lang/String", name := "length", desc := "()I" } : Jvm.MethodName)) ∈ lw_all := lw_g (lw_at lw_m8 16 rfl) rfl
theorem q1809 : (Jvm.Cond.methodLink "TrustDeskLaw" (124 : Nat) ({ cls := "TrustDesk", name := "due", desc := "(IIII)I" } : Jvm.MethodName)) ∈ lw_all := lw_g (lw_at lw_m8 17 rfl) rfl
theorem q1810 : (Jvm.Cond.instanceMethod ({ cls := "TrustDesk", name := "due", desc := "(IIII)I" } : Jvm.MethodName)) ∈ lw_all := lw_g (lw_at lw_m8 18 rfl) rfl
theorem q1811 : (Jvm.Cond.selects "TrustDesk" ({ cls := "TrustDesk", name := "due", desc := "(IIII)I" } : Jvm.MethodName) ({ cls := "TrustDesk", name := "due", desc := "(IIII)I" } : Jvm.MethodName)) ∈ lw_all := lw_g (lw_at lw_m8 19 rfl) rfl
theorem q1812 : (Jvm.Cond.code ({ cls := "TrustDesk", name := "due", desc := "(IIII)I" } : Jvm.MethodName) prog_1_method_45_code (7 : Nat) (Option.some Jvm.ClassFile.FieldType.int)) ∈ lw_all := lw_g (lw_at lw_m8 20 rfl) rfl
theorem q1813 : (Jvm.Cond.methodLink "TrustDeskLaw" (129 : Nat) ({ cls := "TrustDesk", name := "why", desc := "(IIII)I" } : Jvm.MethodName)) ∈ lw_all := lw_g (lw_at lw_m8 21 rfl) rfl
theorem q1814 : (Jvm.Cond.instanceMethod ({ cls := "TrustDesk", name := "why", desc := "(IIII)I" } : Jvm.MethodName)) ∈ lw_all := lw_g (lw_at lw_m8 22 rfl) rfl
theorem q1815 : (Jvm.Cond.selects "TrustDesk" ({ cls := "TrustDesk", name := "why", desc := "(IIII)I" } : Jvm.MethodName) ({ cls := "TrustDesk", name := "why", desc := "(IIII)I" } : Jvm.MethodName)) ∈ lw_all := lw_g (lw_at lw_m8 23 rfl) rfl
theorem q1816 : (Jvm.Cond.code ({ cls := "TrustDesk", name := "why", desc := "(IIII)I" } : Jvm.MethodName) prog_1_method_46_code (6 : Nat) (Option.some Jvm.ClassFile.FieldType.int)) ∈ lw_all := lw_g (lw_at lw_m8 24 rfl) rfl
theorem q1817 : (Jvm.Cond.methodLink "TrustDesk" (392 : Nat) ({ cls := "TrustDesk$Aim", name := "failing", desc := "([J)I" } : Jvm.MethodName)) ∈ lw_all := lw_g (lw_at lw_m8 25 rfl) rfl
theorem q1818 : (Jvm.Cond.instanceMethod ({ cls := "TrustDesk$Aim", name := "failing", desc := "([J)I" } : Jvm.MethodName)) ∈ lw_all := lw_g (lw_at lw_m8 26 rfl) rfl
theorem q1819 : (Jvm.Cond.selects "TrustDesk$Aim" ({ cls := "TrustDesk$Aim", name := "failing", desc := "([J)I" } : Jvm.MethodName) ({ cls := "TrustDesk$Aim", name := "failing", desc := "([J)I" } : Jvm.MethodName)) ∈ lw_all := lw_g (lw_at lw_m8 27 rfl) rfl
theorem q1820 : (Jvm.Cond.code ({ cls := "TrustDesk$Aim", name := "failing", desc := "([J)I" } : Jvm.MethodName) prog_3_method_3_code (3 : Nat) (Option.some Jvm.ClassFile.FieldType.int)) ∈ lw_all := lw_g (lw_at lw_m8 28 rfl) rfl
theorem q1821 : (Jvm.Cond.methodLink "TrustDesk$Aim" (40 : Nat) ({ cls := "java/util/ArrayList", name := "size", desc := "()I" } : Jvm.MethodName)) ∈ lw_all := lw_g (lw_at lw_m8 29 rfl) rfl
theorem q1822 : (Jvm.Cond.methodLink "TrustDesk$Aim" (44 : Nat) ({ cls := "java/util/ArrayList", name := "get", desc := "(I)Ljava/lang/Object;" } : Jvm.MethodName)) ∈ lw_all := lw_g (lw_at lw_m8 30 rfl) rfl
theorem q1823 : (Jvm.Cond.classLink "TrustDesk$Aim" (48 : Nat) "TrustDesk$Compared") ∈ lw_all := lw_g (lw_at lw_m8 31 rfl) rfl
theorem q1824 : (Jvm.Cond.methodLink "TrustDesk$Aim" (50 : Nat) ({ cls := "TrustDesk$Compared", name := "holds", desc := "([J)Z" } : Jvm.MethodName)) ∈ lw_all := lw_g (lw_at lw_m8 32 rfl) rfl
theorem q1825 : (Jvm.Cond.methodLink "TrustDeskLaw" (133 : Nat) ({ cls := "TrustDesk", name := "entry", desc := "(II)I" } : Jvm.MethodName)) ∈ lw_all := lw_g (lw_at lw_m8 33 rfl) rfl
theorem q1826 : (Jvm.Cond.instanceMethod ({ cls := "TrustDesk", name := "entry", desc := "(II)I" } : Jvm.MethodName)) ∈ lw_all := lw_g (lw_at lw_m8 34 rfl) rfl
theorem q1827 : (Jvm.Cond.selects "TrustDesk" ({ cls := "TrustDesk", name := "entry", desc := "(II)I" } : Jvm.MethodName) ({ cls := "TrustDesk", name := "entry", desc := "(II)I" } : Jvm.MethodName)) ∈ lw_all := lw_g (lw_at lw_m8 35 rfl) rfl
theorem q1828 : (Jvm.Cond.code ({ cls := "TrustDesk", name := "entry", desc := "(II)I" } : Jvm.MethodName) prog_1_method_47_code (3 : Nat) (Option.some Jvm.ClassFile.FieldType.int)) ∈ lw_all := lw_g (lw_at lw_m8 36 rfl) rfl
theorem q1829 : (Jvm.Cond.methodLink "TrustDeskLaw" (137 : Nat) ({ cls := "TrustDesk", name := "nearest", desc := "(I)I" } : Jvm.MethodName)) ∈ lw_all := lw_g (lw_at lw_m8 37 rfl) rfl
theorem q1830 : (Jvm.Cond.instanceMethod ({ cls := "TrustDesk", name := "nearest", desc := "(I)I" } : Jvm.MethodName)) ∈ lw_all := lw_g (lw_at lw_m8 38 rfl) rfl
theorem q1831 : (Jvm.Cond.selects "TrustDesk" ({ cls := "TrustDesk", name := "nearest", desc := "(I)I" } : Jvm.MethodName) ({ cls := "TrustDesk", name := "nearest", desc := "(I)I" } : Jvm.MethodName)) ∈ lw_all := lw_g (lw_at lw_m8 39 rfl) rfl
theorem q1832 : (Jvm.Cond.code ({ cls := "TrustDesk", name := "nearest", desc := "(I)I" } : Jvm.MethodName) prog_1_method_49_code (5 : Nat) (Option.some Jvm.ClassFile.FieldType.int)) ∈ lw_all := lw_g (lw_at lw_m8 40 rfl) rfl
theorem q1833 : (Jvm.Cond.methodLink "TrustDesk" (396 : Nat) ({ cls := "TrustDesk", name := "kept", desc := "(LTrustDesk$Fund;LTrustDesk$Near;)I" } : Jvm.MethodName)) ∈ lw_all := lw_g (lw_at lw_m8 41 rfl) rfl
theorem q1834 : (Jvm.Cond.static ({ cls := "TrustDesk", name := "kept", desc := "(LTrustDesk$Fund;LTrustDesk$Near;)I" } : Jvm.MethodName)) ∈ lw_all := lw_g (lw_at lw_m8 42 rfl) rfl
theorem q1835 : (Jvm.Cond.code ({ cls := "TrustDesk", name := "kept", desc := "(LTrustDesk$Fund;LTrustDesk$Near;)I" } : Jvm.MethodName) prog_1_method_48_code (2 : Nat) (Option.some Jvm.ClassFile.FieldType.int)) ∈ lw_all := lw_g (lw_at lw_m8 43 rfl) rfl
theorem q1836 : (Jvm.Cond.methodLink "TrustDeskLaw" (141 : Nat) ({ cls := "TrustDesk", name := "marks", desc := "(III)I" } : Jvm.MethodName)) ∈ lw_all := lw_g (lw_at lw_m8 44 rfl) rfl
theorem q1837 : (Jvm.Cond.instanceMethod ({ cls := "TrustDesk", name := "marks", desc := "(III)I" } : Jvm.MethodName)) ∈ lw_all := lw_g (lw_at lw_m8 45 rfl) rfl
theorem q1838 : (Jvm.Cond.selects "TrustDesk" ({ cls := "TrustDesk", name := "marks", desc := "(III)I" } : Jvm.MethodName) ({ cls := "TrustDesk", name := "marks", desc := "(III)I" } : Jvm.MethodName)) ∈ lw_all := lw_g (lw_at lw_m8 46 rfl) rfl
theorem q1839 : (Jvm.Cond.code ({ cls := "TrustDesk", name := "marks", desc := "(III)I" } : Jvm.MethodName) prog_1_method_50_code (6 : Nat) (Option.some Jvm.ClassFile.FieldType.int)) ∈ lw_all := lw_g (lw_at lw_m8 47 rfl) rfl
theorem q1840 : (Jvm.Cond.methodLink "TrustDeskLaw" (145 : Nat) ({ cls := "TrustDesk", name := "group", desc := "(I)J" } : Jvm.MethodName)) ∈ lw_all := lw_g (lw_at lw_m8 48 rfl) rfl
theorem q1841 : (Jvm.Cond.instanceMethod ({ cls := "TrustDesk", name := "group", desc := "(I)J" } : Jvm.MethodName)) ∈ lw_all := lw_g (lw_at lw_m8 49 rfl) rfl
theorem q1842 : (Jvm.Cond.selects "TrustDesk" ({ cls := "TrustDesk", name := "group", desc := "(I)J" } : Jvm.MethodName) ({ cls := "TrustDesk", name := "group", desc := "(I)J" } : Jvm.MethodName)) ∈ lw_all := lw_g (lw_at lw_m8 50 rfl) rfl
theorem q1843 : (Jvm.Cond.code ({ cls := "TrustDesk", name := "group", desc := "(I)J" } : Jvm.MethodName) prog_1_method_52_code (3 : Nat) (Option.some Jvm.ClassFile.FieldType.long)) ∈ lw_all := lw_g (lw_at lw_m8 51 rfl) rfl
theorem q1844 : (Jvm.Cond.methodLink "TrustDesk" (400 : Nat) ({ cls := "TrustDesk", name := "isGroup", desc := "(I)Z" } : Jvm.MethodName)) ∈ lw_all := lw_g (lw_at lw_m8 52 rfl) rfl
theorem q1846 : (Jvm.Cond.instanceMethod ({ cls := "TrustDesk", name := "isGroup", desc := "(I)Z" } : Jvm.MethodName)) ∈ lw_all := lw_g (lw_at lw_m8 54 rfl) rfl
theorem q1847 : (Jvm.Cond.code ({ cls := "TrustDesk", name := "isGroup", desc := "(I)Z" } : Jvm.MethodName) prog_1_method_51_code (3 : Nat) (Option.some Jvm.ClassFile.FieldType.boolean)) ∈ lw_all := lw_g (lw_at lw_m8 55 rfl) rfl
theorem q1848 : (Jvm.Cond.classLink "TrustDesk" (403 : Nat) "TrustDesk$Groups") ∈ lw_all := lw_g (lw_at lw_m8 56 rfl) rfl
theorem q1849 : (Jvm.Cond.instantiable "TrustDesk$Groups" (12 : Nat)) ∈ lw_all := lw_g (lw_at lw_m8 57 rfl) rfl
theorem q1850 : (Jvm.Cond.methodLink "TrustDesk" (405 : Nat) ({ cls := "TrustDesk$Groups", name := "<init>", desc := "(LTrustDesk;I)V" } : Jvm.MethodName)) ∈ lw_all := lw_g (lw_at lw_m8 58 rfl) rfl
theorem q1851 : (Jvm.Cond.instanceMethod ({ cls := "TrustDesk$Groups", name := "<init>", desc := "(LTrustDesk;I)V" } : Jvm.MethodName)) ∈ lw_all := lw_g (lw_at lw_m8 59 rfl) rfl
theorem q1852 : (Jvm.Cond.code ({ cls := "TrustDesk$Groups", name := "<init>", desc := "(LTrustDesk;I)V" } : Jvm.MethodName) prog_11_method_1_code (4 : Nat) (Option.none : Option Jvm.ClassFile.FieldType)) ∈ lw_all := lw_g (lw_at lw_m8 60 rfl) rfl
theorem q1853 : (Jvm.Cond.methodLink "TrustDesk$Groups" (9 : Nat) ({ cls := "java/lang/Object", name := "<init>", desc := "()V" } : Jvm.MethodName)) ∈ lw_all := lw_g (lw_at lw_m8 61 rfl) rfl
theorem q1854 : (Jvm.Cond.classLink "TrustDesk$Groups" (15 : Nat) "TrustDesk$Fund") ∈ lw_all := lw_g (lw_at lw_m8 62 rfl) rfl
theorem q1855 : (Jvm.Cond.arrayOver (Jvm.ClassFile.FieldType.object "TrustDesk$Fund")) ∈ lw_tbl := lw_at lw_m8 63 rfl
theorem q1856 : (Jvm.Cond.methodLinkNest "TrustDesk$Groups" (45 : Nat) ({ cls := "TrustDesk", name := "actOn", desc := "(I)LTrustDesk$Act;" } : Jvm.MethodName) "TrustDesk") ∈ lw_tbl := lw_at lw_m8 64 rfl
theorem q1857 : (Jvm.Cond.constantLong "TrustDesk$Groups" (57 : Nat) (-1 : Int64)) ∈ lw_all := lw_g (lw_at lw_m8 65 rfl) rfl
theorem q1858 : (Jvm.Cond.methodLink "TrustDesk$Groups" (67 : Nat) ({ cls := "java/util/ArrayList", name := "size", desc := "()I" } : Jvm.MethodName)) ∈ lw_all := lw_g (lw_at lw_m8 66 rfl) rfl
theorem q1859 : (Jvm.Cond.methodLink "TrustDesk$Groups" (75 : Nat) ({ cls := "java/util/ArrayList", name := "get", desc := "(I)Ljava/lang/Object;" } : Jvm.MethodName)) ∈ lw_all := lw_g (lw_at lw_m8 67 rfl) rfl
theorem q1860 : (Jvm.Cond.methodLinkNest "TrustDesk$Groups" (79 : Nat) ({ cls := "TrustDesk", name := "yearNow", desc := "()I" } : Jvm.MethodName) "TrustDesk") ∈ lw_tbl := lw_at lw_m8 68 rfl
theorem q1861 : (Jvm.Cond.methodLinkNest "TrustDesk$Groups" (82 : Nat) ({ cls := "TrustDesk", name := "incomeOf", desc := "(LTrustDesk$Fund;II)I" } : Jvm.MethodName) "TrustDesk") ∈ lw_tbl := lw_at lw_m8 69 rfl
theorem q1862 : (Jvm.Cond.methodLink "TrustDesk$Groups" (86 : Nat) ({ cls := "TrustDesk$Groups", name := "need", desc := "(LTrustDesk$Fund;)J" } : Jvm.MethodName)) ∈ lw_all := lw_g (lw_at lw_m8 70 rfl) rfl
theorem q1864 : (Jvm.Cond.instanceMethod ({ cls := "TrustDesk$Groups", name := "need", desc := "(LTrustDesk$Fund;)J" } : Jvm.MethodName)) ∈ lw_all := lw_g (lw_at lw_m8 72 rfl) rfl
theorem q1865 : (Jvm.Cond.code ({ cls := "TrustDesk$Groups", name := "need", desc := "(LTrustDesk$Fund;)J" } : Jvm.MethodName) prog_11_method_2_code (7 : Nat) (Option.some Jvm.ClassFile.FieldType.long)) ∈ lw_all := lw_g (lw_at lw_m8 73 rfl) rfl
theorem q1866 : (Jvm.Cond.methodLinkNest "TrustDesk$Groups" (90 : Nat) ({ cls := "TrustDesk", name := "learns", desc := "(LTrustDesk$Fund;II)[J" } : Jvm.MethodName) "TrustDesk") ∈ lw_tbl := lw_at lw_m8 74 rfl
theorem q1867 : (Jvm.Cond.classLink "TrustDesk$Groups" (97 : Nat) "TrustDesk$End") ∈ lw_all := lw_g (lw_at lw_m8 75 rfl) rfl
theorem q1868 : (Jvm.Cond.methodLink "TrustDesk$Groups" (112 : Nat) ({ cls := "TrustDesk$Cond", name := "holds", desc := "([J)Z" } : Jvm.MethodName)) ∈ lw_all := lw_g (lw_at lw_m8 76 rfl) rfl
theorem q1869 : (Jvm.Cond.methodLink "TrustDesk$Groups" (117 : Nat) ({ cls := "TrustDesk$Aim", name := "asks", desc := "([J)I" } : Jvm.MethodName)) ∈ lw_all := lw_g (lw_at lw_m8 77 rfl) rfl
theorem q1870 : (Jvm.Cond.fieldLink "TrustDesk$Groups" (17 : Nat) "TrustDesk$Groups" "row" "[LTrustDesk$Fund;") ∈ lw_all := lw_g (lw_at lw_m8 78 rfl) rfl
theorem q1871 : (Jvm.Cond.fieldLink "TrustDesk$Groups" (21 : Nat) "TrustDesk$Groups" "left" "[J") ∈ lw_all := lw_g (lw_at lw_m8 79 rfl) rfl
theorem q1872 : (Jvm.Cond.fieldLink "TrustDesk$Groups" (25 : Nat) "TrustDesk$Groups" "sum" "[J") ∈ lw_all := lw_g (lw_at lw_m8 80 rfl) rfl
theorem q1873 : (Jvm.Cond.fieldLink "TrustDesk$Groups" (28 : Nat) "TrustDesk$Groups" "marks" "[I") ∈ lw_all := lw_g (lw_at lw_m8 81 rfl) rfl
theorem q1874 : (Jvm.Cond.fieldLink "TrustDesk$Groups" (32 : Nat) "TrustDesk$Groups" "many" "[I") ∈ lw_all := lw_g (lw_at lw_m8 82 rfl) rfl
theorem q1875 : (Jvm.Cond.fieldLink "TrustDesk$Groups" (35 : Nat) "TrustDesk$Groups" "at" "[I") ∈ lw_all := lw_g (lw_at lw_m8 83 rfl) rfl
theorem q1876 : (Jvm.Cond.fieldLink "TrustDesk$Groups" (38 : Nat) "TrustDesk$Groups" "best" "[I") ∈ lw_all := lw_g (lw_at lw_m8 84 rfl) rfl
theorem q1877 : (Jvm.Cond.fieldLink "TrustDesk$Groups" (54 : Nat) "TrustDesk$Groups" "keep" "I") ∈ lw_all := lw_g (lw_at lw_m8 85 rfl) rfl
theorem q1878 : (Jvm.Cond.fieldLink "TrustDesk$Groups" (73 : Nat) "TrustDesk$Groups" "size" "I") ∈ lw_all := lw_g (lw_at lw_m8 86 rfl) rfl
theorem q1879 : (Jvm.Cond.fieldLink "TrustDesk$Groups" (154 : Nat) "TrustDesk$Groups" "bestMany" "I") ∈ lw_all := lw_g (lw_at lw_m8 87 rfl) rfl
theorem q1880 : (Jvm.Cond.fieldLink "TrustDesk$Groups" (59 : Nat) "TrustDesk$Groups" "least" "J") ∈ lw_all := lw_g (lw_at lw_m8 88 rfl) rfl
theorem q1881 : (Jvm.Cond.fieldLinkNest "TrustDesk" (412 : Nat) "TrustDesk$Groups" "least" "J" "TrustDesk") ∈ lw_tbl := lw_at lw_m8 89 rfl
theorem q1882 : (Jvm.Cond.fieldLink "TrustDesk$Groups" (3 : Nat) "TrustDesk$Groups" "this$0" "LTrustDesk;") ∈ lw_all := lw_g (lw_at lw_m8 90 rfl) rfl
theorem q1883 : (Jvm.Cond.laysFinal "TrustDesk$Groups" "TrustDesk$Groups" "row" "[LTrustDesk$Fund;") ∈ lw_all := lw_g (lw_at lw_m8 91 rfl) rfl
theorem q1885 : (Jvm.Cond.laysFinal "TrustDesk$Groups" "TrustDesk$Groups" "left" "[J") ∈ lw_all := lw_g (lw_at lw_m8 93 rfl) rfl
theorem q1887 : (Jvm.Cond.laysFinal "TrustDesk$Groups" "TrustDesk$Groups" "sum" "[J") ∈ lw_all := lw_g (lw_at lw_m8 95 rfl) rfl
theorem q1889 : (Jvm.Cond.laysFinal "TrustDesk$Groups" "TrustDesk$Groups" "marks" "[I") ∈ lw_all := lw_g (lw_at lw_m8 97 rfl) rfl
theorem q1891 : (Jvm.Cond.laysFinal "TrustDesk$Groups" "TrustDesk$Groups" "many" "[I") ∈ lw_all := lw_g (lw_at lw_m8 99 rfl) rfl
theorem q1893 : (Jvm.Cond.laysFinal "TrustDesk$Groups" "TrustDesk$Groups" "at" "[I") ∈ lw_all := lw_g (lw_at lw_m8 101 rfl) rfl
theorem q1895 : (Jvm.Cond.laysFinal "TrustDesk$Groups" "TrustDesk$Groups" "best" "[I") ∈ lw_all := lw_g (lw_at lw_m8 103 rfl) rfl
theorem q1897 : (Jvm.Cond.laysFinal "TrustDesk$Groups" "TrustDesk$Groups" "keep" "I") ∈ lw_all := lw_g (lw_at lw_m8 105 rfl) rfl
theorem q1899 : (Jvm.Cond.lays "TrustDesk$Groups" "TrustDesk$Groups" "size" "I") ∈ lw_all := lw_g (lw_at lw_m8 107 rfl) rfl
theorem q1901 : (Jvm.Cond.lays "TrustDesk$Groups" "TrustDesk$Groups" "bestMany" "I") ∈ lw_all := lw_g (lw_at lw_m8 109 rfl) rfl
theorem q1903 : (Jvm.Cond.lays "TrustDesk$Groups" "TrustDesk$Groups" "least" "J") ∈ lw_all := lw_g (lw_at lw_m8 111 rfl) rfl
theorem q1905 : (Jvm.Cond.laysFinal "TrustDesk$Groups" "TrustDesk$Groups" "this$0" "LTrustDesk;") ∈ lw_all := lw_g (lw_at lw_m8 113 rfl) rfl
theorem q1908 : (Jvm.Cond.methodLink "TrustDesk" (408 : Nat) ({ cls := "TrustDesk$Groups", name := "tries", desc := "(II)V" } : Jvm.MethodName)) ∈ lw_all := lw_g (lw_at lw_m8 116 rfl) rfl
theorem q1909 : (Jvm.Cond.instanceMethod ({ cls := "TrustDesk$Groups", name := "tries", desc := "(II)V" } : Jvm.MethodName)) ∈ lw_all := lw_g (lw_at lw_m8 117 rfl) rfl
theorem q1910 : (Jvm.Cond.selects "TrustDesk$Groups" ({ cls := "TrustDesk$Groups", name := "tries", desc := "(II)V" } : Jvm.MethodName) ({ cls := "TrustDesk$Groups", name := "tries", desc := "(II)V" } : Jvm.MethodName)) ∈ lw_all := lw_g (lw_at lw_m8 118 rfl) rfl
theorem q1911 : (Jvm.Cond.code ({ cls := "TrustDesk$Groups", name := "tries", desc := "(II)V" } : Jvm.MethodName) prog_11_method_5_code (5 : Nat) (Option.none : Option Jvm.ClassFile.FieldType)) ∈ lw_all := lw_g (lw_at lw_m8 119 rfl) rfl
theorem q1912 : (Jvm.Cond.methodLink "TrustDesk$Groups" (123 : Nat) ({ cls := "TrustDesk$Groups", name := "keeps", desc := "(I)V" } : Jvm.MethodName)) ∈ lw_all := lw_g (lw_at lw_m8 120 rfl) rfl
theorem q1914 : (Jvm.Cond.instanceMethod ({ cls := "TrustDesk$Groups", name := "keeps", desc := "(I)V" } : Jvm.MethodName)) ∈ lw_all := lw_g (lw_at lw_m8 122 rfl) rfl
theorem q1915 : (Jvm.Cond.code ({ cls := "TrustDesk$Groups", name := "keeps", desc := "(I)V" } : Jvm.MethodName) prog_11_method_6_code (4 : Nat) (Option.none : Option Jvm.ClassFile.FieldType)) ∈ lw_all := lw_g (lw_at lw_m8 123 rfl) rfl
theorem q1916 : (Jvm.Cond.methodLink "TrustDesk$Groups" (150 : Nat) ({ cls := "TrustDesk$Groups", name := "idle", desc := "()J" } : Jvm.MethodName)) ∈ lw_all := lw_g (lw_at lw_m8 124 rfl) rfl
theorem q1918 : (Jvm.Cond.instanceMethod ({ cls := "TrustDesk$Groups", name := "idle", desc := "()J" } : Jvm.MethodName)) ∈ lw_all := lw_g (lw_at lw_m8 126 rfl) rfl
theorem q1919 : (Jvm.Cond.code ({ cls := "TrustDesk$Groups", name := "idle", desc := "()J" } : Jvm.MethodName) prog_11_method_7_code (4 : Nat) (Option.some Jvm.ClassFile.FieldType.long)) ∈ lw_all := lw_g (lw_at lw_m8 127 rfl) rfl
theorem q1920 : (Jvm.Cond.methodLink "TrustDesk$Groups" (163 : Nat) ({ cls := "java/lang/Math", name := "max", desc := "(JJ)J" } : Jvm.MethodName)) ∈ lw_all := lw_g (lw_at lw_m8 128 rfl) rfl
theorem q1921 : (Jvm.Cond.methodLink "TrustDesk$Groups" (157 : Nat) ({ cls := "java/lang/System", name := "arraycopy", desc := "(Ljava/lang/Object;ILjava/lang/Object;II)V" } : Jvm.MethodName)) ∈ lw_all := lw_g (lw_at lw_m8 129 rfl) rfl
theorem q1922 : (Jvm.Cond.methodLink "TrustDesk$Groups" (127 : Nat) ({ cls := "TrustDesk$Groups", name := "lays", desc := "(II)V" } : Jvm.MethodName)) ∈ lw_all := lw_g (lw_at lw_m8 130 rfl) rfl
theorem q1924 : (Jvm.Cond.instanceMethod ({ cls := "TrustDesk$Groups", name := "lays", desc := "(II)V" } : Jvm.MethodName)) ∈ lw_all := lw_g (lw_at lw_m8 132 rfl) rfl
theorem q1925 : (Jvm.Cond.code ({ cls := "TrustDesk$Groups", name := "lays", desc := "(II)V" } : Jvm.MethodName) prog_11_method_3_code (3 : Nat) (Option.none : Option Jvm.ClassFile.FieldType)) ∈ lw_all := lw_g (lw_at lw_m8 133 rfl) rfl
theorem q1926 : (Jvm.Cond.methodLink "TrustDesk$Groups" (131 : Nat) ({ cls := "java/lang/Integer", name := "bitCount", desc := "(I)I" } : Jvm.MethodName)) ∈ lw_all := lw_g (lw_at lw_m8 134 rfl) rfl
theorem q1927 : (Jvm.Cond.methodLink "TrustDesk$Groups" (137 : Nat) ({ cls := "java/lang/Math", name := "max", desc := "(II)I" } : Jvm.MethodName)) ∈ lw_all := lw_g (lw_at lw_m8 135 rfl) rfl
theorem q1928 : (Jvm.Cond.methodLink "TrustDesk$Groups" (143 : Nat) ({ cls := "TrustDesk$Groups", name := "tries", desc := "(II)V" } : Jvm.MethodName)) ∈ lw_all := lw_g (lw_at lw_m8 136 rfl) rfl
theorem q1929 : (Jvm.Cond.methodLink "TrustDesk$Groups" (146 : Nat) ({ cls := "TrustDesk$Groups", name := "lifts", desc := "(III)V" } : Jvm.MethodName)) ∈ lw_all := lw_g (lw_at lw_m8 137 rfl) rfl
theorem q1931 : (Jvm.Cond.instanceMethod ({ cls := "TrustDesk$Groups", name := "lifts", desc := "(III)V" } : Jvm.MethodName)) ∈ lw_all := lw_g (lw_at lw_m8 139 rfl) rfl
theorem q1932 : (Jvm.Cond.code ({ cls := "TrustDesk$Groups", name := "lifts", desc := "(III)V" } : Jvm.MethodName) prog_11_method_4_code (4 : Nat) (Option.none : Option Jvm.ClassFile.FieldType)) ∈ lw_all := lw_g (lw_at lw_m8 140 rfl) rfl
theorem q1933 : (Jvm.Cond.methodLink "TrustDeskLaw" (149 : Nat) ({ cls := "TrustDesk", name := "grouped", desc := "(II)I" } : Jvm.MethodName)) ∈ lw_all := lw_g (lw_at lw_m8 141 rfl) rfl
theorem q1934 : (Jvm.Cond.instanceMethod ({ cls := "TrustDesk", name := "grouped", desc := "(II)I" } : Jvm.MethodName)) ∈ lw_all := lw_g (lw_at lw_m8 142 rfl) rfl
theorem q1935 : (Jvm.Cond.selects "TrustDesk" ({ cls := "TrustDesk", name := "grouped", desc := "(II)I" } : Jvm.MethodName) ({ cls := "TrustDesk", name := "grouped", desc := "(II)I" } : Jvm.MethodName)) ∈ lw_all := lw_g (lw_at lw_m8 143 rfl) rfl
theorem q1936 : (Jvm.Cond.code ({ cls := "TrustDesk", name := "grouped", desc := "(II)I" } : Jvm.MethodName) prog_1_method_53_code (4 : Nat) (Option.some Jvm.ClassFile.FieldType.int)) ∈ lw_all := lw_g (lw_at lw_m8 144 rfl) rfl
theorem q1937 : (Jvm.Cond.methodLink "TrustDesk" (415 : Nat) ({ cls := "TrustDesk$Groups", name := "of", desc := "(I)I" } : Jvm.MethodName)) ∈ lw_all := lw_g (lw_at lw_m8 145 rfl) rfl
theorem q1938 : (Jvm.Cond.instanceMethod ({ cls := "TrustDesk$Groups", name := "of", desc := "(I)I" } : Jvm.MethodName)) ∈ lw_all := lw_g (lw_at lw_m8 146 rfl) rfl
theorem q1939 : (Jvm.Cond.selects "TrustDesk$Groups" ({ cls := "TrustDesk$Groups", name := "of", desc := "(I)I" } : Jvm.MethodName) ({ cls := "TrustDesk$Groups", name := "of", desc := "(I)I" } : Jvm.MethodName)) ∈ lw_all := lw_g (lw_at lw_m8 147 rfl) rfl
theorem q1940 : (Jvm.Cond.code ({ cls := "TrustDesk$Groups", name := "of", desc := "(I)I" } : Jvm.MethodName) prog_11_method_9_code (3 : Nat) (Option.some Jvm.ClassFile.FieldType.int)) ∈ lw_all := lw_g (lw_at lw_m8 148 rfl) rfl
theorem q1941 : (Jvm.Cond.methodLink "TrustDeskLaw" (153 : Nat) ({ cls := "TrustDesk", name := "lay", desc := "(II)Z" } : Jvm.MethodName)) ∈ lw_all := lw_g (lw_at lw_m8 149 rfl) rfl
theorem q1942 : (Jvm.Cond.instanceMethod ({ cls := "TrustDesk", name := "lay", desc := "(II)Z" } : Jvm.MethodName)) ∈ lw_all := lw_g (lw_at lw_m8 150 rfl) rfl
theorem q1943 : (Jvm.Cond.selects "TrustDesk" ({ cls := "TrustDesk", name := "lay", desc := "(II)Z" } : Jvm.MethodName) ({ cls := "TrustDesk", name := "lay", desc := "(II)Z" } : Jvm.MethodName)) ∈ lw_all := lw_g (lw_at lw_m8 151 rfl) rfl
theorem q1944 : (Jvm.Cond.code ({ cls := "TrustDesk", name := "lay", desc := "(II)Z" } : Jvm.MethodName) prog_1_method_54_code (3 : Nat) (Option.some Jvm.ClassFile.FieldType.boolean)) ∈ lw_all := lw_g (lw_at lw_m8 152 rfl) rfl
theorem q1945 : (Jvm.Cond.methodLink "TrustDeskLaw" (157 : Nat) ({ cls := "TrustDesk", name := "judge", desc := "(I)J" } : Jvm.MethodName)) ∈ lw_all := lw_g (lw_at lw_m8 153 rfl) rfl
theorem q1946 : (Jvm.Cond.instanceMethod ({ cls := "TrustDesk", name := "judge", desc := "(I)J" } : Jvm.MethodName)) ∈ lw_all := lw_g (lw_at lw_m8 154 rfl) rfl
theorem q1947 : (Jvm.Cond.selects "TrustDesk" ({ cls := "TrustDesk", name := "judge", desc := "(I)J" } : Jvm.MethodName) ({ cls := "TrustDesk", name := "judge", desc := "(I)J" } : Jvm.MethodName)) ∈ lw_all := lw_g (lw_at lw_m8 155 rfl) rfl
theorem q1948 : (Jvm.Cond.code ({ cls := "TrustDesk", name := "judge", desc := "(I)J" } : Jvm.MethodName) prog_1_method_55_code (2 : Nat) (Option.some Jvm.ClassFile.FieldType.long)) ∈ lw_all := lw_g (lw_at lw_m8 156 rfl) rfl
theorem q1949 : (Jvm.Cond.methodLink "TrustDesk" (421 : Nat) ({ cls := "TrustDesk$Groups", name := "judged", desc := "()J" } : Jvm.MethodName)) ∈ lw_all := lw_g (lw_at lw_m8 157 rfl) rfl
theorem q1950 : (Jvm.Cond.instanceMethod ({ cls := "TrustDesk$Groups", name := "judged", desc := "()J" } : Jvm.MethodName)) ∈ lw_all := lw_g (lw_at lw_m8 158 rfl) rfl
theorem q1951 : (Jvm.Cond.selects "TrustDesk$Groups" ({ cls := "TrustDesk$Groups", name := "judged", desc := "()J" } : Jvm.MethodName) ({ cls := "TrustDesk$Groups", name := "judged", desc := "()J" } : Jvm.MethodName)) ∈ lw_all := lw_g (lw_at lw_m8 159 rfl) rfl
theorem q1952 : (Jvm.Cond.code ({ cls := "TrustDesk$Groups", name := "judged", desc := "()J" } : Jvm.MethodName) prog_11_method_8_code (3 : Nat) (Option.some Jvm.ClassFile.FieldType.long)) ∈ lw_all := lw_g (lw_at lw_m8 160 rfl) rfl
theorem q1953 : (Jvm.Cond.constantLong "TrustDesk$Groups" (169 : Nat) (-2 : Int64)) ∈ lw_all := lw_g (lw_at lw_m8 161 rfl) rfl
theorem q1954 : (Jvm.Cond.methodLink "TrustDeskLaw" (161 : Nat) ({ cls := "TrustDesk", name := "account", desc := "(II)I" } : Jvm.MethodName)) ∈ lw_all := lw_g (lw_at lw_m8 162 rfl) rfl
theorem q1955 : (Jvm.Cond.instanceMethod ({ cls := "TrustDesk", name := "account", desc := "(II)I" } : Jvm.MethodName)) ∈ lw_all := lw_g (lw_at lw_m8 163 rfl) rfl
theorem q1956 : (Jvm.Cond.selects "TrustDesk" ({ cls := "TrustDesk", name := "account", desc := "(II)I" } : Jvm.MethodName) ({ cls := "TrustDesk", name := "account", desc := "(II)I" } : Jvm.MethodName)) ∈ lw_all := lw_g (lw_at lw_m8 164 rfl) rfl
theorem q1957 : (Jvm.Cond.code ({ cls := "TrustDesk", name := "account", desc := "(II)I" } : Jvm.MethodName) prog_1_method_56_code (4 : Nat) (Option.some Jvm.ClassFile.FieldType.int)) ∈ lw_all := lw_g (lw_at lw_m8 165 rfl) rfl
theorem q1958 : (Jvm.Cond.methodLink "TrustDesk" (428 : Nat) ({ cls := "java/lang/Math", name := "max", desc := "(II)I" } : Jvm.MethodName)) ∈ lw_all := lw_g (lw_at lw_m8 166 rfl) rfl
theorem q1959 : (Jvm.Cond.methodLink "TrustDeskLaw" (165 : Nat) ({ cls := "TrustDesk", name := "count", desc := "(I)I" } : Jvm.MethodName)) ∈ lw_all := lw_g (lw_at lw_m8 167 rfl) rfl
theorem q1960 : (Jvm.Cond.instanceMethod ({ cls := "TrustDesk", name := "count", desc := "(I)I" } : Jvm.MethodName)) ∈ lw_all := lw_g (lw_at lw_m8 168 rfl) rfl
theorem q1961 : (Jvm.Cond.selects "TrustDesk" ({ cls := "TrustDesk", name := "count", desc := "(I)I" } : Jvm.MethodName) ({ cls := "TrustDesk", name := "count", desc := "(I)I" } : Jvm.MethodName)) ∈ lw_all := lw_g (lw_at lw_m8 169 rfl) rfl
theorem q1962 : (Jvm.Cond.code ({ cls := "TrustDesk", name := "count", desc := "(I)I" } : Jvm.MethodName) prog_1_method_57_code (4 : Nat) (Option.some Jvm.ClassFile.FieldType.int)) ∈ lw_all := lw_g (lw_at lw_m8 170 rfl) rfl
theorem q1963 : (Jvm.Cond.methodLink "TrustDeskLaw" (94 : Nat) ({ cls := "TrustDeskLaw", name := "fundOf", desc := "(LTrustDesk;II[J)I" } : Jvm.MethodName)) ∈ lw_all := lw_g (lw_at lw_m8 171 rfl) rfl
theorem q1964 : (Jvm.Cond.static ({ cls := "TrustDeskLaw", name := "fundOf", desc := "(LTrustDesk;II[J)I" } : Jvm.MethodName)) ∈ lw_all := lw_g (lw_at lw_m8 172 rfl) rfl
theorem q1965 : (Jvm.Cond.codeWith ({ cls := "TrustDeskLaw", name := "fundOf", desc := "(LTrustDesk;II[J)I" } : Jvm.MethodName) method_3_code (5 : Nat) (Option.some Jvm.ClassFile.FieldType.int) [((0 : Nat), (10 : Nat), (13 : Nat), (13 : Nat))]) ∈ lw_all := lw_g (lw_at lw_m8 173 rfl) rfl
theorem q1966 : (Jvm.Cond.classLink "TrustDeskLaw" (13 : Nat) "java/util/NoSuchElementException") ∈ lw_all := lw_g (lw_at lw_m8 174 rfl) rfl
theorem q1967 : (Jvm.Cond.methodLink "TrustDeskLaw" (7 : Nat) ({ cls := "TrustDesk", name := "fundOf", desc := "(II)I" } : Jvm.MethodName)) ∈ lw_all := lw_g (lw_at lw_m8 175 rfl) rfl
theorem q1968 : (Jvm.Cond.instanceMethod ({ cls := "TrustDesk", name := "fundOf", desc := "(II)I" } : Jvm.MethodName)) ∈ lw_all := lw_g (lw_at lw_m8 176 rfl) rfl
theorem q1969 : (Jvm.Cond.selects "TrustDesk" ({ cls := "TrustDesk", name := "fundOf", desc := "(II)I" } : Jvm.MethodName) ({ cls := "TrustDesk", name := "fundOf", desc := "(II)I" } : Jvm.MethodName)) ∈ lw_all := lw_g (lw_at lw_m8 177 rfl) rfl
theorem q1970 : (Jvm.Cond.code ({ cls := "TrustDesk", name := "fundOf", desc := "(II)I" } : Jvm.MethodName) prog_1_method_38_code (4 : Nat) (Option.some Jvm.ClassFile.FieldType.int)) ∈ lw_all := lw_g (lw_at lw_m8 178 rfl) rfl
theorem q1971 : (Jvm.Cond.classLink "TrustDesk" (361 : Nat) "java/util/NoSuchElementException") ∈ lw_all := lw_g (lw_at lw_m8 179 rfl) rfl
theorem q1972 : (Jvm.Cond.instantiable "java/util/NoSuchElementException" (6 : Nat)) ∈ lw_all := lw_g (lw_at lw_m8 180 rfl) rfl
theorem q1973 : (Jvm.Cond.castable "java/util/NoSuchElementException" "java/util/NoSuchElementException") ∈ lw_tbl := lw_at lw_m8 181 rfl
theorem q1974 : (Jvm.Cond.declares ({ cls := "java/lang/RuntimeException", name := "<init>", desc := "()V" } : Jvm.MethodName)) ∈ lw_tbl := lw_at lw_m8 182 rfl
theorem q1976 : (Jvm.Cond.selects "java/util/NoSuchElementException" ({ cls := "java/lang/Throwable", name := "fillInStackTrace", desc := "(I)Ljava/lang/Throwable;" } : Jvm.MethodName) ({ cls := "java/lang/Throwable", name := "fillInStackTrace", desc := "(I)Ljava/lang/Throwable;" } : Jvm.MethodName)) ∈ lw_all := lw_g (lw_at lw_m8 184 rfl) rfl
theorem q1977 : (Jvm.Cond.lays "java/util/NoSuchElementException" "java/lang/Throwable" "cause" "Ljava/lang/Throwable;") ∈ lw_all := lw_g (lw_at lw_m8 185 rfl) rfl
theorem q1978 : (Jvm.Cond.lays "java/util/NoSuchElementException" "java/lang/Throwable" "stackTrace" "[Ljava/lang/StackTraceElement;") ∈ lw_all := lw_g (lw_at lw_m8 186 rfl) rfl
theorem q1979 : (Jvm.Cond.lays "java/util/NoSuchElementException" "java/lang/Throwable" "suppressedExceptions" "Ljava/util/List;") ∈ lw_all := lw_g (lw_at lw_m8 187 rfl) rfl
theorem q1980 : (Jvm.Cond.lays "java/util/NoSuchElementException" "java/lang/Throwable" "detailMessage" "Ljava/lang/String;") ∈ lw_all := lw_g (lw_at lw_m8 188 rfl) rfl
theorem q1981 : (Jvm.Cond.lays "java/util/NoSuchElementException" "java/lang/Throwable" "backtrace" "Ljava/lang/Object;") ∈ lw_all := lw_g (lw_at lw_m8 189 rfl) rfl
theorem q1982 : (Jvm.Cond.methodLink "TrustDesk" (363 : Nat) ({ cls := "java/util/NoSuchElementException", name := "<init>", desc := "()V" } : Jvm.MethodName)) ∈ lw_all := lw_g (lw_at lw_m8 190 rfl) rfl
theorem q1983 : (Jvm.Cond.instanceMethod ({ cls := "java/util/NoSuchElementException", name := "<init>", desc := "()V" } : Jvm.MethodName)) ∈ lw_all := lw_g (lw_at lw_m8 191 rfl) rfl
theorem q1984 : (Jvm.Cond.code ({ cls := "java/util/NoSuchElementException", name := "<init>", desc := "()V" } : Jvm.MethodName) prog_55_method_1_code (1 : Nat) (Option.none : Option Jvm.ClassFile.FieldType)) ∈ lw_all := lw_g (lw_at lw_m8 192 rfl) rfl
theorem q1985 : (Jvm.Cond.methodLink "java/util/NoSuchElementException" (1 : Nat) ({ cls := "java/lang/RuntimeException", name := "<init>", desc := "()V" } : Jvm.MethodName)) ∈ lw_all := lw_g (lw_at lw_m8 193 rfl) rfl
theorem q1986 : (Jvm.Cond.instanceMethod ({ cls := "java/lang/RuntimeException", name := "<init>", desc := "()V" } : Jvm.MethodName)) ∈ lw_all := lw_g (lw_at lw_m8 194 rfl) rfl
theorem q1987 : (Jvm.Cond.code ({ cls := "java/lang/RuntimeException", name := "<init>", desc := "()V" } : Jvm.MethodName) prog_40_method_1_code (1 : Nat) (Option.none : Option Jvm.ClassFile.FieldType)) ∈ lw_all := lw_g (lw_at lw_m8 195 rfl) rfl
theorem q1988 : (Jvm.Cond.methodLink "java/lang/RuntimeException" (1 : Nat) ({ cls := "java/lang/Exception", name := "<init>", desc := "()V" } : Jvm.MethodName)) ∈ lw_all := lw_g (lw_at lw_m8 196 rfl) rfl
theorem q1989 : (Jvm.Cond.instanceMethod ({ cls := "java/lang/Exception", name := "<init>", desc := "()V" } : Jvm.MethodName)) ∈ lw_all := lw_g (lw_at lw_m8 197 rfl) rfl
theorem q1990 : (Jvm.Cond.code ({ cls := "java/lang/Exception", name := "<init>", desc := "()V" } : Jvm.MethodName) prog_34_method_1_code (1 : Nat) (Option.none : Option Jvm.ClassFile.FieldType)) ∈ lw_all := lw_g (lw_at lw_m8 198 rfl) rfl
theorem q1991 : (Jvm.Cond.methodLink "java/lang/Exception" (1 : Nat) ({ cls := "java/lang/Throwable", name := "<init>", desc := "()V" } : Jvm.MethodName)) ∈ lw_all := lw_g (lw_at lw_m8 199 rfl) rfl
theorem q1992 : (Jvm.Cond.lays "java/util/NoSuchElementException" "java/lang/Throwable" "depth" "I") ∈ lw_all := lw_g (lw_at lw_m8 200 rfl) rfl
theorem q1994 : (Jvm.Cond.methodLink "TrustDeskLaw" (100 : Nat) ({ cls := "TrustDeskModel", name := "thrown", desc := "()I" } : Jvm.MethodName)) ∈ lw_all := lw_g (lw_at lw_m8 202 rfl) rfl
theorem q1995 : (Jvm.Cond.instanceMethod ({ cls := "TrustDeskModel", name := "thrown", desc := "()I" } : Jvm.MethodName)) ∈ lw_all := lw_g (lw_at lw_m8 203 rfl) rfl
theorem q1996 : (Jvm.Cond.selects "TrustDeskModel" ({ cls := "TrustDeskModel", name := "thrown", desc := "()I" } : Jvm.MethodName) ({ cls := "TrustDeskModel", name := "thrown", desc := "()I" } : Jvm.MethodName)) ∈ lw_all := lw_g (lw_at lw_m8 204 rfl) rfl
theorem q1997 : (Jvm.Cond.code ({ cls := "TrustDeskModel", name := "thrown", desc := "()I" } : Jvm.MethodName) prog_26_method_1_code (1 : Nat) (Option.some Jvm.ClassFile.FieldType.int)) ∈ lw_all := lw_g (lw_at lw_m8 205 rfl) rfl
theorem q1998 : (Jvm.Cond.classLink "TrustDeskLaw" (16 : Nat) "TrustDeskModel") ∈ lw_all := lw_g (lw_at lw_m8 206 rfl) rfl
theorem q1999 : (Jvm.Cond.instantiable "TrustDeskModel" (72 : Nat)) ∈ lw_all := lw_g (lw_at lw_m8 207 rfl) rfl
theorem q2000 : (Jvm.Cond.methodLink "TrustDeskLaw" (18 : Nat) ({ cls := "TrustDeskModel", name := "<init>", desc := "()V" } : Jvm.MethodName)) ∈ lw_all := lw_g (lw_at lw_m8 208 rfl) rfl
theorem q2001 : (Jvm.Cond.instanceMethod ({ cls := "TrustDeskModel", name := "<init>", desc := "()V" } : Jvm.MethodName)) ∈ lw_all := lw_g (lw_at lw_m8 209 rfl) rfl
theorem q2002 : (Jvm.Cond.code ({ cls := "TrustDeskModel", name := "<init>", desc := "()V" } : Jvm.MethodName) prog_26_method_4_code (1 : Nat) (Option.none : Option Jvm.ClassFile.FieldType)) ∈ lw_all := lw_g (lw_at lw_m8 210 rfl) rfl
theorem q2003 : (Jvm.Cond.methodLink "TrustDeskModel" (7 : Nat) ({ cls := "java/lang/Object", name := "<init>", desc := "()V" } : Jvm.MethodName)) ∈ lw_all := lw_g (lw_at lw_m8 211 rfl) rfl
theorem q2004 : (Jvm.Cond.fieldLink "TrustDeskModel" (1 : Nat) "TrustDeskModel" "thrown" "I") ∈ lw_all := lw_g (lw_at lw_m8 212 rfl) rfl
theorem q2005 : (Jvm.Cond.fieldLink "TrustDeskModel" (164 : Nat) "TrustDeskModel" "today" "I") ∈ lw_all := lw_g (lw_at lw_m8 213 rfl) rfl
theorem q2006 : (Jvm.Cond.fieldLink "TrustDeskModel" (179 : Nat) "TrustDeskModel" "facts" "I") ∈ lw_all := lw_g (lw_at lw_m8 214 rfl) rfl
theorem q2007 : (Jvm.Cond.fieldLink "TrustDeskModel" (13 : Nat) "TrustDeskModel" "fact" "[I") ∈ lw_all := lw_g (lw_at lw_m8 215 rfl) rfl
theorem q2008 : (Jvm.Cond.fieldLink "TrustDeskModel" (17 : Nat) "TrustDeskModel" "signs" "[I") ∈ lw_all := lw_g (lw_at lw_m8 216 rfl) rfl
theorem q2009 : (Jvm.Cond.fieldLink "TrustDeskModel" (20 : Nat) "TrustDeskModel" "signMany" "[I") ∈ lw_all := lw_g (lw_at lw_m8 217 rfl) rfl
theorem q2010 : (Jvm.Cond.fieldLink "TrustDeskModel" (23 : Nat) "TrustDeskModel" "many" "[I") ∈ lw_all := lw_g (lw_at lw_m8 218 rfl) rfl
theorem q2011 : (Jvm.Cond.fieldLink "TrustDeskModel" (26 : Nat) "TrustDeskModel" "kind" "[I") ∈ lw_all := lw_g (lw_at lw_m8 219 rfl) rfl
theorem q2012 : (Jvm.Cond.fieldLink "TrustDeskModel" (29 : Nat) "TrustDeskModel" "one" "[I") ∈ lw_all := lw_g (lw_at lw_m8 220 rfl) rfl
theorem q2013 : (Jvm.Cond.fieldLink "TrustDeskModel" (32 : Nat) "TrustDeskModel" "two" "[I") ∈ lw_all := lw_g (lw_at lw_m8 221 rfl) rfl
theorem q2014 : (Jvm.Cond.fieldLink "TrustDeskModel" (35 : Nat) "TrustDeskModel" "begins" "[I") ∈ lw_all := lw_g (lw_at lw_m8 222 rfl) rfl
theorem q2015 : (Jvm.Cond.fieldLink "TrustDeskModel" (38 : Nat) "TrustDeskModel" "middles" "[I") ∈ lw_all := lw_g (lw_at lw_m8 223 rfl) rfl
theorem q2016 : (Jvm.Cond.fieldLink "TrustDeskModel" (41 : Nat) "TrustDeskModel" "ends" "[I") ∈ lw_all := lw_g (lw_at lw_m8 224 rfl) rfl
theorem q2017 : (Jvm.Cond.fieldLink "TrustDeskModel" (44 : Nat) "TrustDeskModel" "tape" "[B") ∈ lw_all := lw_g (lw_at lw_m8 225 rfl) rfl
theorem q2018 : (Jvm.Cond.fieldLink "TrustDeskModel" (189 : Nat) "TrustDeskModel" "taped" "I") ∈ lw_all := lw_g (lw_at lw_m8 226 rfl) rfl
theorem q2019 : (Jvm.Cond.fieldLink "TrustDeskModel" (192 : Nat) "TrustDeskModel" "at" "I") ∈ lw_all := lw_g (lw_at lw_m8 227 rfl) rfl
theorem q2020 : (Jvm.Cond.fieldLink "TrustDeskModel" (195 : Nat) "TrustDeskModel" "place" "I") ∈ lw_all := lw_g (lw_at lw_m8 228 rfl) rfl
theorem q2021 : (Jvm.Cond.fieldLink "TrustDeskModel" (198 : Nat) "TrustDeskModel" "sort" "I") ∈ lw_all := lw_g (lw_at lw_m8 229 rfl) rfl
theorem q2022 : (Jvm.Cond.fieldLink "TrustDeskModel" (201 : Nat) "TrustDeskModel" "value" "I") ∈ lw_all := lw_g (lw_at lw_m8 230 rfl) rfl
theorem q2023 : (Jvm.Cond.fieldLink "TrustDeskModel" (224 : Nat) "TrustDeskModel" "fault" "I") ∈ lw_all := lw_g (lw_at lw_m8 231 rfl) rfl
theorem q2024 : (Jvm.Cond.fieldLink "TrustDeskModel" (227 : Nat) "TrustDeskModel" "faultPlace" "I") ∈ lw_all := lw_g (lw_at lw_m8 232 rfl) rfl
theorem q2025 : (Jvm.Cond.fieldLink "TrustDeskModel" (48 : Nat) "TrustDeskModel" "lastPlace" "I") ∈ lw_all := lw_g (lw_at lw_m8 233 rfl) rfl
theorem q2026 : (Jvm.Cond.fieldLink "TrustDeskModel" (276 : Nat) "TrustDeskModel" "open" "I") ∈ lw_all := lw_g (lw_at lw_m8 234 rfl) rfl
theorem q2027 : (Jvm.Cond.fieldLink "TrustDeskModel" (267 : Nat) "TrustDeskModel" "ofAct" "Z") ∈ lw_all := lw_g (lw_at lw_m8 235 rfl) rfl
theorem q2028 : (Jvm.Cond.fieldLink "TrustDeskModel" (321 : Nat) "TrustDeskModel" "newEnds" "I") ∈ lw_all := lw_g (lw_at lw_m8 236 rfl) rfl
theorem q2029 : (Jvm.Cond.fieldLink "TrustDeskModel" (51 : Nat) "TrustDeskModel" "nameFrom" "[I") ∈ lw_all := lw_g (lw_at lw_m8 237 rfl) rfl
theorem q2030 : (Jvm.Cond.fieldLink "TrustDeskModel" (54 : Nat) "TrustDeskModel" "nameSize" "[I") ∈ lw_all := lw_g (lw_at lw_m8 238 rfl) rfl
theorem q2031 : (Jvm.Cond.fieldLink "TrustDeskModel" (378 : Nat) "TrustDeskModel" "acts" "I") ∈ lw_all := lw_g (lw_at lw_m8 239 rfl) rfl
theorem q2032 : (Jvm.Cond.fieldLink "TrustDeskModel" (57 : Nat) "TrustDeskModel" "actFrom" "[I") ∈ lw_all := lw_g (lw_at lw_m9 0 rfl) rfl
theorem q2033 : (Jvm.Cond.fieldLink "TrustDeskModel" (60 : Nat) "TrustDeskModel" "named" "[I") ∈ lw_all := lw_g (lw_at lw_m9 1 rfl) rfl
theorem q2034 : (Jvm.Cond.fieldLink "TrustDeskModel" (63 : Nat) "TrustDeskModel" "heap" "[I") ∈ lw_all := lw_g (lw_at lw_m9 2 rfl) rfl
theorem q2035 : (Jvm.Cond.fieldLink "TrustDeskModel" (409 : Nat) "TrustDeskModel" "firstNot" "I") ∈ lw_all := lw_g (lw_at lw_m9 3 rfl) rfl
theorem q2036 : (Jvm.Cond.fieldLink "TrustDeskModel" (415 : Nat) "TrustDeskModel" "funds" "I") ∈ lw_all := lw_g (lw_at lw_m9 4 rfl) rfl
theorem q2037 : (Jvm.Cond.fieldLink "TrustDeskModel" (66 : Nat) "TrustDeskModel" "acres" "[I") ∈ lw_all := lw_g (lw_at lw_m9 5 rfl) rfl
theorem q2038 : (Jvm.Cond.fieldLink "TrustDeskModel" (69 : Nat) "TrustDeskModel" "stock" "[I") ∈ lw_all := lw_g (lw_at lw_m9 6 rfl) rfl
theorem q2039 : (Jvm.Cond.fieldLink "TrustDeskModel" (72 : Nat) "TrustDeskModel" "coin" "[J") ∈ lw_all := lw_g (lw_at lw_m9 7 rfl) rfl
theorem q2040 : (Jvm.Cond.fieldLink "TrustDeskModel" (76 : Nat) "TrustDeskModel" "marks" "[I") ∈ lw_all := lw_g (lw_at lw_m9 8 rfl) rfl
theorem q2041 : (Jvm.Cond.fieldLink "TrustDeskModel" (79 : Nat) "TrustDeskModel" "joinedTo" "[I") ∈ lw_all := lw_g (lw_at lw_m9 9 rfl) rfl
theorem q2042 : (Jvm.Cond.fieldLink "TrustDeskModel" (82 : Nat) "TrustDeskModel" "trustMost" "[I") ∈ lw_all := lw_g (lw_at lw_m9 10 rfl) rfl
theorem q2043 : (Jvm.Cond.fieldLink "TrustDeskModel" (85 : Nat) "TrustDeskModel" "trustYes" "[I") ∈ lw_all := lw_g (lw_at lw_m9 11 rfl) rfl
theorem q2044 : (Jvm.Cond.fieldLink "TrustDeskModel" (88 : Nat) "TrustDeskModel" "isTrustee" "[Z") ∈ lw_all := lw_g (lw_at lw_m9 12 rfl) rfl
theorem q2045 : (Jvm.Cond.fieldLink "TrustDeskModel" (92 : Nat) "TrustDeskModel" "part" "[I") ∈ lw_all := lw_g (lw_at lw_m9 13 rfl) rfl
theorem q2046 : (Jvm.Cond.fieldLink "TrustDeskModel" (95 : Nat) "TrustDeskModel" "paid" "[J") ∈ lw_all := lw_g (lw_at lw_m9 14 rfl) rfl
theorem q2047 : (Jvm.Cond.fieldLink "TrustDeskModel" (98 : Nat) "TrustDeskModel" "endMany" "[I") ∈ lw_all := lw_g (lw_at lw_m9 15 rfl) rfl
theorem q2048 : (Jvm.Cond.fieldLink "TrustDeskModel" (101 : Nat) "TrustDeskModel" "endText" "[I") ∈ lw_all := lw_g (lw_at lw_m9 16 rfl) rfl
theorem q2049 : (Jvm.Cond.fieldLink "TrustDeskModel" (104 : Nat) "TrustDeskModel" "endRow" "[I") ∈ lw_all := lw_g (lw_at lw_m9 17 rfl) rfl
theorem q2050 : (Jvm.Cond.fieldLink "TrustDeskModel" (107 : Nat) "TrustDeskModel" "endHow" "[I") ∈ lw_all := lw_g (lw_at lw_m9 18 rfl) rfl
theorem q2051 : (Jvm.Cond.fieldLink "TrustDeskModel" (110 : Nat) "TrustDeskModel" "endFailed" "[I") ∈ lw_all := lw_g (lw_at lw_m9 19 rfl) rfl
theorem q2052 : (Jvm.Cond.fieldLink "TrustDeskModel" (113 : Nat) "TrustDeskModel" "endDied" "[I") ∈ lw_all := lw_g (lw_at lw_m9 20 rfl) rfl
theorem q2053 : (Jvm.Cond.fieldLink "TrustDeskModel" (435 : Nat) "TrustDeskModel" "nears" "I") ∈ lw_all := lw_g (lw_at lw_m9 21 rfl) rfl
theorem q2054 : (Jvm.Cond.fieldLink "TrustDeskModel" (116 : Nat) "TrustDeskModel" "nearMarks" "[I") ∈ lw_all := lw_g (lw_at lw_m9 22 rfl) rfl
theorem q2055 : (Jvm.Cond.fieldLink "TrustDeskModel" (474 : Nat) "TrustDeskModel" "entries" "I") ∈ lw_all := lw_g (lw_at lw_m9 23 rfl) rfl
theorem q2056 : (Jvm.Cond.fieldLink "TrustDeskModel" (119 : Nat) "TrustDeskModel" "entry" "[I") ∈ lw_all := lw_g (lw_at lw_m9 24 rfl) rfl
theorem q2057 : (Jvm.Cond.fieldLink "TrustDeskModel" (501 : Nat) "TrustDeskModel" "schemes" "I") ∈ lw_all := lw_g (lw_at lw_m9 25 rfl) rfl
theorem q2058 : (Jvm.Cond.fieldLink "TrustDeskModel" (122 : Nat) "TrustDeskModel" "schemeKind" "[I") ∈ lw_all := lw_g (lw_at lw_m9 26 rfl) rfl
theorem q2059 : (Jvm.Cond.fieldLink "TrustDeskModel" (125 : Nat) "TrustDeskModel" "schemeFund" "[I") ∈ lw_all := lw_g (lw_at lw_m9 27 rfl) rfl
theorem q2060 : (Jvm.Cond.fieldLink "TrustDeskModel" (128 : Nat) "TrustDeskModel" "schemeX" "[I") ∈ lw_all := lw_g (lw_at lw_m9 28 rfl) rfl
theorem q2061 : (Jvm.Cond.fieldLink "TrustDeskModel" (131 : Nat) "TrustDeskModel" "schemeDay" "[I") ∈ lw_all := lw_g (lw_at lw_m9 29 rfl) rfl
theorem q2062 : (Jvm.Cond.fieldLink "TrustDeskModel" (134 : Nat) "TrustDeskModel" "schemeLast" "[I") ∈ lw_all := lw_g (lw_at lw_m9 30 rfl) rfl
theorem q2063 : (Jvm.Cond.fieldLink "TrustDeskModel" (137 : Nat) "TrustDeskModel" "schemeHow" "[I") ∈ lw_all := lw_g (lw_at lw_m9 31 rfl) rfl
theorem q2064 : (Jvm.Cond.fieldLink "TrustDeskModel" (140 : Nat) "TrustDeskModel" "schemeBy" "[I") ∈ lw_all := lw_g (lw_at lw_m9 32 rfl) rfl
theorem q2065 : (Jvm.Cond.fieldLink "TrustDeskModel" (143 : Nat) "TrustDeskModel" "isAgainst" "[Z") ∈ lw_all := lw_g (lw_at lw_m9 33 rfl) rfl
theorem q2066 : (Jvm.Cond.fieldLink "TrustDeskModel" (146 : Nat) "TrustDeskModel" "said" "[I") ∈ lw_all := lw_g (lw_at lw_m9 34 rfl) rfl
theorem q2067 : (Jvm.Cond.fieldLink "TrustDeskModel" (149 : Nat) "TrustDeskModel" "over" "[J") ∈ lw_all := lw_g (lw_at lw_m9 35 rfl) rfl
theorem q2068 : (Jvm.Cond.fieldLink "TrustDeskModel" (152 : Nat) "TrustDeskModel" "tried" "[I") ∈ lw_all := lw_g (lw_at lw_m9 36 rfl) rfl
theorem q2069 : (Jvm.Cond.fieldLink "TrustDeskModel" (155 : Nat) "TrustDeskModel" "best" "[I") ∈ lw_all := lw_g (lw_at lw_m9 37 rfl) rfl
theorem q2070 : (Jvm.Cond.fieldLink "TrustDeskModel" (158 : Nat) "TrustDeskModel" "laid" "[I") ∈ lw_all := lw_g (lw_at lw_m9 38 rfl) rfl
theorem q2071 : (Jvm.Cond.fieldLink "TrustDeskModel" (560 : Nat) "TrustDeskModel" "asked" "I") ∈ lw_all := lw_g (lw_at lw_m9 39 rfl) rfl
theorem q2072 : (Jvm.Cond.fieldLink "TrustDeskModel" (574 : Nat) "TrustDeskModel" "bestIdle" "J") ∈ lw_all := lw_g (lw_at lw_m9 40 rfl) rfl
theorem q2073 : (Jvm.Cond.fieldLink "TrustDeskModel" (571 : Nat) "TrustDeskModel" "bestMany" "I") ∈ lw_all := lw_g (lw_at lw_m9 41 rfl) rfl
theorem q2074 : (Jvm.Cond.fieldLink "TrustDeskModel" (592 : Nat) "TrustDeskModel" "accounts" "I") ∈ lw_all := lw_g (lw_at lw_m9 42 rfl) rfl
theorem q2075 : (Jvm.Cond.fieldLink "TrustDeskModel" (161 : Nat) "TrustDeskModel" "isGiven" "[Z") ∈ lw_all := lw_g (lw_at lw_m9 43 rfl) rfl
theorem q2076 : (Jvm.Cond.lays "TrustDeskModel" "TrustDeskModel" "thrown" "I") ∈ lw_all := lw_g (lw_at lw_m9 44 rfl) rfl
theorem q2078 : (Jvm.Cond.lays "TrustDeskModel" "TrustDeskModel" "today" "I") ∈ lw_all := lw_g (lw_at lw_m9 46 rfl) rfl
theorem q2080 : (Jvm.Cond.lays "TrustDeskModel" "TrustDeskModel" "facts" "I") ∈ lw_all := lw_g (lw_at lw_m9 48 rfl) rfl
theorem q2082 : (Jvm.Cond.laysFinal "TrustDeskModel" "TrustDeskModel" "fact" "[I") ∈ lw_all := lw_g (lw_at lw_m9 50 rfl) rfl
theorem q2084 : (Jvm.Cond.laysFinal "TrustDeskModel" "TrustDeskModel" "signs" "[I") ∈ lw_all := lw_g (lw_at lw_m9 52 rfl) rfl
theorem q2086 : (Jvm.Cond.laysFinal "TrustDeskModel" "TrustDeskModel" "signMany" "[I") ∈ lw_all := lw_g (lw_at lw_m9 54 rfl) rfl
theorem q2088 : (Jvm.Cond.laysFinal "TrustDeskModel" "TrustDeskModel" "many" "[I") ∈ lw_all := lw_g (lw_at lw_m9 56 rfl) rfl
theorem q2090 : (Jvm.Cond.laysFinal "TrustDeskModel" "TrustDeskModel" "kind" "[I") ∈ lw_all := lw_g (lw_at lw_m9 58 rfl) rfl
theorem q2092 : (Jvm.Cond.laysFinal "TrustDeskModel" "TrustDeskModel" "one" "[I") ∈ lw_all := lw_g (lw_at lw_m9 60 rfl) rfl
theorem q2094 : (Jvm.Cond.laysFinal "TrustDeskModel" "TrustDeskModel" "two" "[I") ∈ lw_all := lw_g (lw_at lw_m9 62 rfl) rfl
theorem q2096 : (Jvm.Cond.laysFinal "TrustDeskModel" "TrustDeskModel" "begins" "[I") ∈ lw_all := lw_g (lw_at lw_m9 64 rfl) rfl
theorem q2098 : (Jvm.Cond.laysFinal "TrustDeskModel" "TrustDeskModel" "middles" "[I") ∈ lw_all := lw_g (lw_at lw_m9 66 rfl) rfl
theorem q2100 : (Jvm.Cond.laysFinal "TrustDeskModel" "TrustDeskModel" "ends" "[I") ∈ lw_all := lw_g (lw_at lw_m9 68 rfl) rfl
theorem q2102 : (Jvm.Cond.laysFinal "TrustDeskModel" "TrustDeskModel" "tape" "[B") ∈ lw_all := lw_g (lw_at lw_m9 70 rfl) rfl
theorem q2104 : (Jvm.Cond.lays "TrustDeskModel" "TrustDeskModel" "taped" "I") ∈ lw_all := lw_g (lw_at lw_m9 72 rfl) rfl
theorem q2106 : (Jvm.Cond.lays "TrustDeskModel" "TrustDeskModel" "at" "I") ∈ lw_all := lw_g (lw_at lw_m9 74 rfl) rfl
theorem q2108 : (Jvm.Cond.lays "TrustDeskModel" "TrustDeskModel" "place" "I") ∈ lw_all := lw_g (lw_at lw_m9 76 rfl) rfl
theorem q2110 : (Jvm.Cond.lays "TrustDeskModel" "TrustDeskModel" "sort" "I") ∈ lw_all := lw_g (lw_at lw_m9 78 rfl) rfl
theorem q2112 : (Jvm.Cond.lays "TrustDeskModel" "TrustDeskModel" "value" "I") ∈ lw_all := lw_g (lw_at lw_m9 80 rfl) rfl
theorem q2114 : (Jvm.Cond.lays "TrustDeskModel" "TrustDeskModel" "fault" "I") ∈ lw_all := lw_g (lw_at lw_m9 82 rfl) rfl
theorem q2116 : (Jvm.Cond.lays "TrustDeskModel" "TrustDeskModel" "faultPlace" "I") ∈ lw_all := lw_g (lw_at lw_m9 84 rfl) rfl
theorem q2118 : (Jvm.Cond.lays "TrustDeskModel" "TrustDeskModel" "lastPlace" "I") ∈ lw_all := lw_g (lw_at lw_m9 86 rfl) rfl
theorem q2120 : (Jvm.Cond.lays "TrustDeskModel" "TrustDeskModel" "open" "I") ∈ lw_all := lw_g (lw_at lw_m9 88 rfl) rfl
theorem q2122 : (Jvm.Cond.lays "TrustDeskModel" "TrustDeskModel" "ofAct" "Z") ∈ lw_all := lw_g (lw_at lw_m9 90 rfl) rfl
theorem q2124 : (Jvm.Cond.lays "TrustDeskModel" "TrustDeskModel" "newEnds" "I") ∈ lw_all := lw_g (lw_at lw_m9 92 rfl) rfl
theorem q2126 : (Jvm.Cond.laysFinal "TrustDeskModel" "TrustDeskModel" "nameFrom" "[I") ∈ lw_all := lw_g (lw_at lw_m9 94 rfl) rfl
theorem q2128 : (Jvm.Cond.laysFinal "TrustDeskModel" "TrustDeskModel" "nameSize" "[I") ∈ lw_all := lw_g (lw_at lw_m9 96 rfl) rfl
theorem q2130 : (Jvm.Cond.lays "TrustDeskModel" "TrustDeskModel" "acts" "I") ∈ lw_all := lw_g (lw_at lw_m9 98 rfl) rfl
theorem q2132 : (Jvm.Cond.laysFinal "TrustDeskModel" "TrustDeskModel" "actFrom" "[I") ∈ lw_all := lw_g (lw_at lw_m9 100 rfl) rfl
theorem q2134 : (Jvm.Cond.laysFinal "TrustDeskModel" "TrustDeskModel" "named" "[I") ∈ lw_all := lw_g (lw_at lw_m9 102 rfl) rfl
theorem q2136 : (Jvm.Cond.laysFinal "TrustDeskModel" "TrustDeskModel" "heap" "[I") ∈ lw_all := lw_g (lw_at lw_m9 104 rfl) rfl
theorem q2138 : (Jvm.Cond.lays "TrustDeskModel" "TrustDeskModel" "firstNot" "I") ∈ lw_all := lw_g (lw_at lw_m9 106 rfl) rfl
theorem q2140 : (Jvm.Cond.lays "TrustDeskModel" "TrustDeskModel" "funds" "I") ∈ lw_all := lw_g (lw_at lw_m9 108 rfl) rfl
theorem q2142 : (Jvm.Cond.laysFinal "TrustDeskModel" "TrustDeskModel" "acres" "[I") ∈ lw_all := lw_g (lw_at lw_m9 110 rfl) rfl
theorem q2144 : (Jvm.Cond.laysFinal "TrustDeskModel" "TrustDeskModel" "stock" "[I") ∈ lw_all := lw_g (lw_at lw_m9 112 rfl) rfl
theorem q2146 : (Jvm.Cond.laysFinal "TrustDeskModel" "TrustDeskModel" "coin" "[J") ∈ lw_all := lw_g (lw_at lw_m9 114 rfl) rfl
theorem q2148 : (Jvm.Cond.laysFinal "TrustDeskModel" "TrustDeskModel" "marks" "[I") ∈ lw_all := lw_g (lw_at lw_m9 116 rfl) rfl
theorem q2150 : (Jvm.Cond.laysFinal "TrustDeskModel" "TrustDeskModel" "joinedTo" "[I") ∈ lw_all := lw_g (lw_at lw_m9 118 rfl) rfl
theorem q2152 : (Jvm.Cond.laysFinal "TrustDeskModel" "TrustDeskModel" "trustMost" "[I") ∈ lw_all := lw_g (lw_at lw_m9 120 rfl) rfl
theorem q2154 : (Jvm.Cond.laysFinal "TrustDeskModel" "TrustDeskModel" "trustYes" "[I") ∈ lw_all := lw_g (lw_at lw_m9 122 rfl) rfl
theorem q2156 : (Jvm.Cond.laysFinal "TrustDeskModel" "TrustDeskModel" "isTrustee" "[Z") ∈ lw_all := lw_g (lw_at lw_m9 124 rfl) rfl
theorem q2158 : (Jvm.Cond.laysFinal "TrustDeskModel" "TrustDeskModel" "part" "[I") ∈ lw_all := lw_g (lw_at lw_m9 126 rfl) rfl
theorem q2160 : (Jvm.Cond.laysFinal "TrustDeskModel" "TrustDeskModel" "paid" "[J") ∈ lw_all := lw_g (lw_at lw_m9 128 rfl) rfl
theorem q2162 : (Jvm.Cond.laysFinal "TrustDeskModel" "TrustDeskModel" "endMany" "[I") ∈ lw_all := lw_g (lw_at lw_m9 130 rfl) rfl
theorem q2164 : (Jvm.Cond.laysFinal "TrustDeskModel" "TrustDeskModel" "endText" "[I") ∈ lw_all := lw_g (lw_at lw_m9 132 rfl) rfl
theorem q2166 : (Jvm.Cond.laysFinal "TrustDeskModel" "TrustDeskModel" "endRow" "[I") ∈ lw_all := lw_g (lw_at lw_m9 134 rfl) rfl
theorem q2168 : (Jvm.Cond.laysFinal "TrustDeskModel" "TrustDeskModel" "endHow" "[I") ∈ lw_all := lw_g (lw_at lw_m9 136 rfl) rfl
theorem q2170 : (Jvm.Cond.laysFinal "TrustDeskModel" "TrustDeskModel" "endFailed" "[I") ∈ lw_all := lw_g (lw_at lw_m9 138 rfl) rfl
theorem q2172 : (Jvm.Cond.laysFinal "TrustDeskModel" "TrustDeskModel" "endDied" "[I") ∈ lw_all := lw_g (lw_at lw_m9 140 rfl) rfl
theorem q2174 : (Jvm.Cond.lays "TrustDeskModel" "TrustDeskModel" "nears" "I") ∈ lw_all := lw_g (lw_at lw_m9 142 rfl) rfl
theorem q2176 : (Jvm.Cond.laysFinal "TrustDeskModel" "TrustDeskModel" "nearMarks" "[I") ∈ lw_all := lw_g (lw_at lw_m9 144 rfl) rfl
theorem q2178 : (Jvm.Cond.lays "TrustDeskModel" "TrustDeskModel" "entries" "I") ∈ lw_all := lw_g (lw_at lw_m9 146 rfl) rfl
theorem q2180 : (Jvm.Cond.laysFinal "TrustDeskModel" "TrustDeskModel" "entry" "[I") ∈ lw_all := lw_g (lw_at lw_m9 148 rfl) rfl
theorem q2182 : (Jvm.Cond.lays "TrustDeskModel" "TrustDeskModel" "schemes" "I") ∈ lw_all := lw_g (lw_at lw_m9 150 rfl) rfl
theorem q2184 : (Jvm.Cond.laysFinal "TrustDeskModel" "TrustDeskModel" "schemeKind" "[I") ∈ lw_all := lw_g (lw_at lw_m9 152 rfl) rfl
theorem q2186 : (Jvm.Cond.laysFinal "TrustDeskModel" "TrustDeskModel" "schemeFund" "[I") ∈ lw_all := lw_g (lw_at lw_m9 154 rfl) rfl
theorem q2188 : (Jvm.Cond.laysFinal "TrustDeskModel" "TrustDeskModel" "schemeX" "[I") ∈ lw_all := lw_g (lw_at lw_m9 156 rfl) rfl
theorem q2190 : (Jvm.Cond.laysFinal "TrustDeskModel" "TrustDeskModel" "schemeDay" "[I") ∈ lw_all := lw_g (lw_at lw_m9 158 rfl) rfl
theorem q2192 : (Jvm.Cond.laysFinal "TrustDeskModel" "TrustDeskModel" "schemeLast" "[I") ∈ lw_all := lw_g (lw_at lw_m9 160 rfl) rfl
theorem q2194 : (Jvm.Cond.laysFinal "TrustDeskModel" "TrustDeskModel" "schemeHow" "[I") ∈ lw_all := lw_g (lw_at lw_m9 162 rfl) rfl
theorem q2196 : (Jvm.Cond.laysFinal "TrustDeskModel" "TrustDeskModel" "schemeBy" "[I") ∈ lw_all := lw_g (lw_at lw_m9 164 rfl) rfl
theorem q2198 : (Jvm.Cond.laysFinal "TrustDeskModel" "TrustDeskModel" "isAgainst" "[Z") ∈ lw_all := lw_g (lw_at lw_m9 166 rfl) rfl
theorem q2200 : (Jvm.Cond.laysFinal "TrustDeskModel" "TrustDeskModel" "said" "[I") ∈ lw_all := lw_g (lw_at lw_m9 168 rfl) rfl
theorem q2202 : (Jvm.Cond.laysFinal "TrustDeskModel" "TrustDeskModel" "over" "[J") ∈ lw_all := lw_g (lw_at lw_m9 170 rfl) rfl
theorem q2204 : (Jvm.Cond.laysFinal "TrustDeskModel" "TrustDeskModel" "tried" "[I") ∈ lw_all := lw_g (lw_at lw_m9 172 rfl) rfl
theorem q2206 : (Jvm.Cond.laysFinal "TrustDeskModel" "TrustDeskModel" "best" "[I") ∈ lw_all := lw_g (lw_at lw_m9 174 rfl) rfl
theorem q2208 : (Jvm.Cond.laysFinal "TrustDeskModel" "TrustDeskModel" "laid" "[I") ∈ lw_all := lw_g (lw_at lw_m9 176 rfl) rfl
theorem q2210 : (Jvm.Cond.lays "TrustDeskModel" "TrustDeskModel" "asked" "I") ∈ lw_all := lw_g (lw_at lw_m9 178 rfl) rfl
theorem q2212 : (Jvm.Cond.lays "TrustDeskModel" "TrustDeskModel" "bestIdle" "J") ∈ lw_all := lw_g (lw_at lw_m9 180 rfl) rfl
theorem q2214 : (Jvm.Cond.lays "TrustDeskModel" "TrustDeskModel" "bestMany" "I") ∈ lw_all := lw_g (lw_at lw_m9 182 rfl) rfl
theorem q2216 : (Jvm.Cond.lays "TrustDeskModel" "TrustDeskModel" "accounts" "I") ∈ lw_all := lw_g (lw_at lw_m9 184 rfl) rfl
theorem q2218 : (Jvm.Cond.laysFinal "TrustDeskModel" "TrustDeskModel" "isGiven" "[Z") ∈ lw_all := lw_g (lw_at lw_m9 186 rfl) rfl
theorem q2221 : (Jvm.Cond.arrayClass Jvm.ClassFile.FieldType.boolean) ∈ lw_all := lw_g (lw_at lw_m9 189 rfl) rfl
theorem q2222 : (Jvm.Cond.methodLink "TrustDeskLaw" (23 : Nat) ({ cls := "TrustDeskModel", name := "fact", desc := "(III)Z" } : Jvm.MethodName)) ∈ lw_all := lw_g (lw_at lw_m9 190 rfl) rfl
theorem q2223 : (Jvm.Cond.instanceMethod ({ cls := "TrustDeskModel", name := "fact", desc := "(III)Z" } : Jvm.MethodName)) ∈ lw_all := lw_g (lw_at lw_m9 191 rfl) rfl
theorem q2224 : (Jvm.Cond.selects "TrustDeskModel" ({ cls := "TrustDeskModel", name := "fact", desc := "(III)Z" } : Jvm.MethodName) ({ cls := "TrustDeskModel", name := "fact", desc := "(III)Z" } : Jvm.MethodName)) ∈ lw_all := lw_g (lw_at lw_m9 192 rfl) rfl
theorem q2225 : (Jvm.Cond.code ({ cls := "TrustDeskModel", name := "fact", desc := "(III)Z" } : Jvm.MethodName) prog_26_method_8_code (4 : Nat) (Option.some Jvm.ClassFile.FieldType.boolean)) ∈ lw_all := lw_g (lw_at lw_m9 193 rfl) rfl
theorem q2226 : (Jvm.Cond.constantLong "TrustDeskModel" (167 : Nat) (7 : Int64)) ∈ lw_all := lw_g (lw_at lw_m9 194 rfl) rfl
theorem q2227 : (Jvm.Cond.methodLink "TrustDeskModel" (169 : Nat) ({ cls := "TrustDeskModel", name := "within", desc := "(JJJ)Z" } : Jvm.MethodName)) ∈ lw_all := lw_g (lw_at lw_m9 195 rfl) rfl
theorem q2228 : (Jvm.Cond.static ({ cls := "TrustDeskModel", name := "within", desc := "(JJJ)Z" } : Jvm.MethodName)) ∈ lw_all := lw_g (lw_at lw_m9 196 rfl) rfl
theorem q2229 : (Jvm.Cond.code ({ cls := "TrustDeskModel", name := "within", desc := "(JJJ)Z" } : Jvm.MethodName) prog_26_method_2_code (6 : Nat) (Option.some Jvm.ClassFile.FieldType.boolean)) ∈ lw_all := lw_g (lw_at lw_m9 197 rfl) rfl
theorem q2230 : (Jvm.Cond.methodLink "TrustDeskModel" (173 : Nat) ({ cls := "TrustDeskModel", name := "isYear", desc := "(I)Z" } : Jvm.MethodName)) ∈ lw_all := lw_g (lw_at lw_m9 198 rfl) rfl
theorem q2231 : (Jvm.Cond.static ({ cls := "TrustDeskModel", name := "isYear", desc := "(I)Z" } : Jvm.MethodName)) ∈ lw_all := lw_g (lw_at lw_m9 199 rfl) rfl
theorem q2232 : (Jvm.Cond.code ({ cls := "TrustDeskModel", name := "isYear", desc := "(I)Z" } : Jvm.MethodName) prog_26_method_7_code (1 : Nat) (Option.some Jvm.ClassFile.FieldType.boolean)) ∈ lw_all := lw_g (lw_at lw_m9 200 rfl) rfl
theorem q2233 : (Jvm.Cond.constantLong "TrustDeskModel" (177 : Nat) (9999 : Int64)) ∈ lw_all := lw_g (lw_at lw_m9 201 rfl) rfl
theorem q2234 : (Jvm.Cond.methodLink "TrustDeskLaw" (28 : Nat) ({ cls := "TrustDeskModel", name := "factOf", desc := "(III)I" } : Jvm.MethodName)) ∈ lw_all := lw_g (lw_at lw_m9 202 rfl) rfl
theorem q2235 : (Jvm.Cond.instanceMethod ({ cls := "TrustDeskModel", name := "factOf", desc := "(III)I" } : Jvm.MethodName)) ∈ lw_all := lw_g (lw_at lw_m9 203 rfl) rfl
theorem q2236 : (Jvm.Cond.selects "TrustDeskModel" ({ cls := "TrustDeskModel", name := "factOf", desc := "(III)I" } : Jvm.MethodName) ({ cls := "TrustDeskModel", name := "factOf", desc := "(III)I" } : Jvm.MethodName)) ∈ lw_all := lw_g (lw_at lw_m9 204 rfl) rfl
theorem q2237 : (Jvm.Cond.code ({ cls := "TrustDeskModel", name := "factOf", desc := "(III)I" } : Jvm.MethodName) prog_26_method_10_code (4 : Nat) (Option.some Jvm.ClassFile.FieldType.int)) ∈ lw_all := lw_g (lw_at lw_m9 205 rfl) rfl
theorem q2238 : (Jvm.Cond.methodLink "TrustDeskModel" (182 : Nat) ({ cls := "TrustDeskModel", name := "isKnown", desc := "(I)Z" } : Jvm.MethodName)) ∈ lw_all := lw_g (lw_at lw_m9 206 rfl) rfl
theorem q2240 : (Jvm.Cond.instanceMethod ({ cls := "TrustDeskModel", name := "isKnown", desc := "(I)Z" } : Jvm.MethodName)) ∈ lw_all := lw_g (lw_at lw_m9 208 rfl) rfl
theorem q2241 : (Jvm.Cond.code ({ cls := "TrustDeskModel", name := "isKnown", desc := "(I)Z" } : Jvm.MethodName) prog_26_method_6_code (2 : Nat) (Option.some Jvm.ClassFile.FieldType.boolean)) ∈ lw_all := lw_g (lw_at lw_m9 209 rfl) rfl
theorem q2242 : (Jvm.Cond.methodLink "TrustDeskModel" (185 : Nat) ({ cls := "TrustDeskModel", name := "factAt", desc := "(III)I" } : Jvm.MethodName)) ∈ lw_all := lw_g (lw_at lw_m9 210 rfl) rfl
theorem q2244 : (Jvm.Cond.instanceMethod ({ cls := "TrustDeskModel", name := "factAt", desc := "(III)I" } : Jvm.MethodName)) ∈ lw_all := lw_g (lw_at lw_m9 212 rfl) rfl
theorem q2245 : (Jvm.Cond.code ({ cls := "TrustDeskModel", name := "factAt", desc := "(III)I" } : Jvm.MethodName) prog_26_method_9_code (6 : Nat) (Option.some Jvm.ClassFile.FieldType.int)) ∈ lw_all := lw_g (lw_at lw_m9 213 rfl) rfl
theorem q2246 : (Jvm.Cond.methodLink "TrustDeskLaw" (33 : Nat) ({ cls := "TrustDeskModel", name := "feed", desc := "(IIIII)I" } : Jvm.MethodName)) ∈ lw_all := lw_g (lw_at lw_m9 214 rfl) rfl
theorem q2247 : (Jvm.Cond.instanceMethod ({ cls := "TrustDeskModel", name := "feed", desc := "(IIIII)I" } : Jvm.MethodName)) ∈ lw_all := lw_g (lw_at lw_m9 215 rfl) rfl
theorem q2248 : (Jvm.Cond.selects "TrustDeskModel" ({ cls := "TrustDeskModel", name := "feed", desc := "(IIIII)I" } : Jvm.MethodName) ({ cls := "TrustDeskModel", name := "feed", desc := "(IIIII)I" } : Jvm.MethodName)) ∈ lw_all := lw_g (lw_at lw_m9 216 rfl) rfl
theorem q2249 : (Jvm.Cond.code ({ cls := "TrustDeskModel", name := "feed", desc := "(IIIII)I" } : Jvm.MethodName) prog_26_method_11_code (8 : Nat) (Option.some Jvm.ClassFile.FieldType.int)) ∈ lw_all := lw_g (lw_at lw_m9 217 rfl) rfl
theorem q2250 : (Jvm.Cond.methodLink "TrustDeskLaw" (38 : Nat) ({ cls := "TrustDeskModel", name := "end", desc := "(I)I" } : Jvm.MethodName)) ∈ lw_all := lw_g (lw_at lw_m9 218 rfl) rfl
theorem q2251 : (Jvm.Cond.instanceMethod ({ cls := "TrustDeskModel", name := "end", desc := "(I)I" } : Jvm.MethodName)) ∈ lw_all := lw_g (lw_at lw_m9 219 rfl) rfl
theorem q2252 : (Jvm.Cond.selects "TrustDeskModel" ({ cls := "TrustDeskModel", name := "end", desc := "(I)I" } : Jvm.MethodName) ({ cls := "TrustDeskModel", name := "end", desc := "(I)I" } : Jvm.MethodName)) ∈ lw_all := lw_g (lw_at lw_m9 220 rfl) rfl
theorem q2253 : (Jvm.Cond.code ({ cls := "TrustDeskModel", name := "end", desc := "(I)I" } : Jvm.MethodName) prog_26_method_12_code (2 : Nat) (Option.some Jvm.ClassFile.FieldType.int)) ∈ lw_all := lw_g (lw_at lw_m9 221 rfl) rfl
theorem q2254 : (Jvm.Cond.methodLink "TrustDeskLaw" (59 : Nat) ({ cls := "TrustDeskModel", name := "place", desc := "()I" } : Jvm.MethodName)) ∈ lw_all := lw_g (lw_at lw_m9 222 rfl) rfl
theorem q2255 : (Jvm.Cond.instanceMethod ({ cls := "TrustDeskModel", name := "place", desc := "()I" } : Jvm.MethodName)) ∈ lw_all := lw_g (lw_at lw_m9 223 rfl) rfl
theorem q2256 : (Jvm.Cond.selects "TrustDeskModel" ({ cls := "TrustDeskModel", name := "place", desc := "()I" } : Jvm.MethodName) ({ cls := "TrustDeskModel", name := "place", desc := "()I" } : Jvm.MethodName)) ∈ lw_all := lw_g (lw_at lw_m9 224 rfl) rfl
theorem q2257 : (Jvm.Cond.code ({ cls := "TrustDeskModel", name := "place", desc := "()I" } : Jvm.MethodName) prog_26_method_43_code (1 : Nat) (Option.some Jvm.ClassFile.FieldType.int)) ∈ lw_all := lw_g (lw_at lw_m9 225 rfl) rfl
theorem q2258 : (Jvm.Cond.methodLink "TrustDeskLaw" (42 : Nat) ({ cls := "TrustDeskModel", name := "act", desc := "(I)I" } : Jvm.MethodName)) ∈ lw_all := lw_g (lw_at lw_m9 226 rfl) rfl
theorem q2259 : (Jvm.Cond.instanceMethod ({ cls := "TrustDeskModel", name := "act", desc := "(I)I" } : Jvm.MethodName)) ∈ lw_all := lw_g (lw_at lw_m9 227 rfl) rfl
theorem q2260 : (Jvm.Cond.selects "TrustDeskModel" ({ cls := "TrustDeskModel", name := "act", desc := "(I)I" } : Jvm.MethodName) ({ cls := "TrustDeskModel", name := "act", desc := "(I)I" } : Jvm.MethodName)) ∈ lw_all := lw_g (lw_at lw_m9 228 rfl) rfl
theorem q2261 : (Jvm.Cond.code ({ cls := "TrustDeskModel", name := "act", desc := "(I)I" } : Jvm.MethodName) prog_26_method_44_code (3 : Nat) (Option.some Jvm.ClassFile.FieldType.int)) ∈ lw_all := lw_g (lw_at lw_m9 229 rfl) rfl
theorem q2262 : (Jvm.Cond.constantLong "TrustDeskModel" (376 : Nat) (36000 : Int64)) ∈ lw_all := lw_g (lw_at lw_m9 230 rfl) rfl
theorem q2263 : (Jvm.Cond.methodLink "TrustDeskModel" (381 : Nat) ({ cls := "TrustDeskModel", name := "starts", desc := "(Z)V" } : Jvm.MethodName)) ∈ lw_all := lw_g (lw_at lw_m9 231 rfl) rfl
theorem q2265 : (Jvm.Cond.instanceMethod ({ cls := "TrustDeskModel", name := "starts", desc := "(Z)V" } : Jvm.MethodName)) ∈ lw_all := lw_g (lw_at lw_m9 233 rfl) rfl
theorem q2266 : (Jvm.Cond.code ({ cls := "TrustDeskModel", name := "starts", desc := "(Z)V" } : Jvm.MethodName) prog_26_method_41_code (2 : Nat) (Option.none : Option Jvm.ClassFile.FieldType)) ∈ lw_all := lw_g (lw_at lw_m9 234 rfl) rfl
theorem q2267 : (Jvm.Cond.methodLink "TrustDeskModel" (237 : Nat) ({ cls := "TrustDeskModel", name := "next", desc := "()V" } : Jvm.MethodName)) ∈ lw_all := lw_g (lw_at lw_m9 235 rfl) rfl
theorem q2269 : (Jvm.Cond.instanceMethod ({ cls := "TrustDeskModel", name := "next", desc := "()V" } : Jvm.MethodName)) ∈ lw_all := lw_g (lw_at lw_m9 237 rfl) rfl
theorem q2270 : (Jvm.Cond.code ({ cls := "TrustDeskModel", name := "next", desc := "()V" } : Jvm.MethodName) prog_26_method_16_code (2 : Nat) (Option.none : Option Jvm.ClassFile.FieldType)) ∈ lw_all := lw_g (lw_at lw_m9 238 rfl) rfl
theorem q2271 : (Jvm.Cond.methodLink "TrustDeskModel" (204 : Nat) ({ cls := "TrustDeskModel", name := "isSmall", desc := "(I)Z" } : Jvm.MethodName)) ∈ lw_all := lw_g (lw_at lw_m9 239 rfl) rfl
theorem q2272 : (Jvm.Cond.static ({ cls := "TrustDeskModel", name := "isSmall", desc := "(I)Z" } : Jvm.MethodName)) ∈ lw_all := lw_g (lw_at lw_m10 0 rfl) rfl
theorem q2273 : (Jvm.Cond.code ({ cls := "TrustDeskModel", name := "isSmall", desc := "(I)Z" } : Jvm.MethodName) prog_26_method_14_code (1 : Nat) (Option.some Jvm.ClassFile.FieldType.boolean)) ∈ lw_all := lw_g (lw_at lw_m10 1 rfl) rfl
theorem q2274 : (Jvm.Cond.methodLink "TrustDeskModel" (207 : Nat) ({ cls := "TrustDeskModel", name := "see", desc := "(I)I" } : Jvm.MethodName)) ∈ lw_all := lw_g (lw_at lw_m10 2 rfl) rfl
theorem q2276 : (Jvm.Cond.instanceMethod ({ cls := "TrustDeskModel", name := "see", desc := "(I)I" } : Jvm.MethodName)) ∈ lw_all := lw_g (lw_at lw_m10 4 rfl) rfl
theorem q2277 : (Jvm.Cond.code ({ cls := "TrustDeskModel", name := "see", desc := "(I)I" } : Jvm.MethodName) prog_26_method_13_code (2 : Nat) (Option.some Jvm.ClassFile.FieldType.int)) ∈ lw_all := lw_g (lw_at lw_m10 5 rfl) rfl
theorem q2278 : (Jvm.Cond.methodLink "TrustDeskModel" (211 : Nat) ({ cls := "TrustDeskModel", name := "isDigit", desc := "(I)Z" } : Jvm.MethodName)) ∈ lw_all := lw_g (lw_at lw_m10 6 rfl) rfl
theorem q2279 : (Jvm.Cond.static ({ cls := "TrustDeskModel", name := "isDigit", desc := "(I)Z" } : Jvm.MethodName)) ∈ lw_all := lw_g (lw_at lw_m10 7 rfl) rfl
theorem q2280 : (Jvm.Cond.code ({ cls := "TrustDeskModel", name := "isDigit", desc := "(I)Z" } : Jvm.MethodName) prog_26_method_15_code (1 : Nat) (Option.some Jvm.ClassFile.FieldType.boolean)) ∈ lw_all := lw_g (lw_at lw_m10 8 rfl) rfl
theorem q2281 : (Jvm.Cond.methodLink "TrustDeskModel" (230 : Nat) ({ cls := "TrustDeskModel", name := "isWell", desc := "()Z" } : Jvm.MethodName)) ∈ lw_all := lw_g (lw_at lw_m10 9 rfl) rfl
theorem q2283 : (Jvm.Cond.instanceMethod ({ cls := "TrustDeskModel", name := "isWell", desc := "()Z" } : Jvm.MethodName)) ∈ lw_all := lw_g (lw_at lw_m10 11 rfl) rfl
theorem q2284 : (Jvm.Cond.code ({ cls := "TrustDeskModel", name := "isWell", desc := "()Z" } : Jvm.MethodName) prog_26_method_20_code (1 : Nat) (Option.some Jvm.ClassFile.FieldType.boolean)) ∈ lw_all := lw_g (lw_at lw_m10 12 rfl) rfl
theorem q2285 : (Jvm.Cond.methodLink "TrustDeskModel" (385 : Nat) ({ cls := "TrustDeskModel", name := "readRule", desc := "()V" } : Jvm.MethodName)) ∈ lw_all := lw_g (lw_at lw_m10 13 rfl) rfl
theorem q2287 : (Jvm.Cond.instanceMethod ({ cls := "TrustDeskModel", name := "readRule", desc := "()V" } : Jvm.MethodName)) ∈ lw_all := lw_g (lw_at lw_m10 15 rfl) rfl
theorem q2288 : (Jvm.Cond.code ({ cls := "TrustDeskModel", name := "readRule", desc := "()V" } : Jvm.MethodName) prog_26_method_40_code (4 : Nat) (Option.none : Option Jvm.ClassFile.FieldType)) ∈ lw_all := lw_g (lw_at lw_m10 16 rfl) rfl
theorem q2289 : (Jvm.Cond.methodLink "TrustDeskModel" (365 : Nat) ({ cls := "TrustDeskModel", name := "ruleWord", desc := "()I" } : Jvm.MethodName)) ∈ lw_all := lw_g (lw_at lw_m10 17 rfl) rfl
theorem q2291 : (Jvm.Cond.instanceMethod ({ cls := "TrustDeskModel", name := "ruleWord", desc := "()I" } : Jvm.MethodName)) ∈ lw_all := lw_g (lw_at lw_m10 19 rfl) rfl
theorem q2292 : (Jvm.Cond.code ({ cls := "TrustDeskModel", name := "ruleWord", desc := "()I" } : Jvm.MethodName) prog_26_method_39_code (1 : Nat) (Option.some Jvm.ClassFile.FieldType.int)) ∈ lw_all := lw_g (lw_at lw_m10 20 rfl) rfl
theorem q2293 : (Jvm.Cond.stringRef "TrustDeskModel" (351 : Nat) "fail") ∈ lw_tbl := lw_at lw_m10 21 rfl
theorem q2294 : (Jvm.Cond.methodLink "TrustDeskModel" (244 : Nat) ({ cls := "TrustDeskModel", name := "isWord", desc := "(Ljava/lang/String;)Z" } : Jvm.MethodName)) ∈ lw_all := lw_g (lw_at lw_m10 22 rfl) rfl
theorem q2296 : (Jvm.Cond.instanceMethod ({ cls := "TrustDeskModel", name := "isWord", desc := "(Ljava/lang/String;)Z" } : Jvm.MethodName)) ∈ lw_all := lw_g (lw_at lw_m10 24 rfl) rfl
theorem q2297 : (Jvm.Cond.code ({ cls := "TrustDeskModel", name := "isWord", desc := "(Ljava/lang/String;)Z" } : Jvm.MethodName) prog_26_method_17_code (3 : Nat) (Option.some Jvm.ClassFile.FieldType.boolean)) ∈ lw_all := lw_g (lw_at lw_m10 25 rfl) rfl
theorem q2298 : (Jvm.Cond.methodLink "TrustDeskModel" (214 : Nat) ({ cls := "java/lang/String", name := "length", desc := "()I" } : Jvm.MethodName)) ∈ lw_all := lw_g (lw_at lw_m10 26 rfl) rfl
theorem q2299 : (Jvm.Cond.methodLink "TrustDeskModel" (220 : Nat) ({ cls := "java/lang/String", name := "charAt", desc := "(I)C" } : Jvm.MethodName)) ∈ lw_all := lw_g (lw_at lw_m10 27 rfl) rfl
theorem q2300 : (Jvm.Cond.stringRef "TrustDeskModel" (353 : Nat) "keep") ∈ lw_tbl := lw_at lw_m10 28 rfl
theorem q2301 : (Jvm.Cond.stringRef "TrustDeskModel" (355 : Nat) "days") ∈ lw_tbl := lw_at lw_m10 29 rfl
theorem q2302 : (Jvm.Cond.stringRef "TrustDeskModel" (357 : Nat) "late") ∈ lw_tbl := lw_at lw_m10 30 rfl
theorem q2303 : (Jvm.Cond.stringRef "TrustDeskModel" (359 : Nat) "gain") ∈ lw_tbl := lw_at lw_m10 31 rfl
theorem q2304 : (Jvm.Cond.stringRef "TrustDeskModel" (361 : Nat) "sell") ∈ lw_tbl := lw_at lw_m10 32 rfl
theorem q2305 : (Jvm.Cond.stringRef "TrustDeskModel" (363 : Nat) "bar") ∈ lw_tbl := lw_at lw_m10 33 rfl
theorem q2306 : (Jvm.Cond.methodLink "TrustDeskModel" (240 : Nat) ({ cls := "TrustDeskModel", name := "fails", desc := "(I)V" } : Jvm.MethodName)) ∈ lw_all := lw_g (lw_at lw_m10 34 rfl) rfl
theorem q2308 : (Jvm.Cond.instanceMethod ({ cls := "TrustDeskModel", name := "fails", desc := "(I)V" } : Jvm.MethodName)) ∈ lw_all := lw_g (lw_at lw_m10 36 rfl) rfl
theorem q2309 : (Jvm.Cond.code ({ cls := "TrustDeskModel", name := "fails", desc := "(I)V" } : Jvm.MethodName) prog_26_method_19_code (2 : Nat) (Option.none : Option Jvm.ClassFile.FieldType)) ∈ lw_all := lw_g (lw_at lw_m10 37 rfl) rfl
theorem q2310 : (Jvm.Cond.methodLink "TrustDeskModel" (342 : Nat) ({ cls := "TrustDeskModel", name := "begin", desc := "(I)I" } : Jvm.MethodName)) ∈ lw_all := lw_g (lw_at lw_m10 38 rfl) rfl
theorem q2312 : (Jvm.Cond.instanceMethod ({ cls := "TrustDeskModel", name := "begin", desc := "(I)I" } : Jvm.MethodName)) ∈ lw_all := lw_g (lw_at lw_m10 40 rfl) rfl
theorem q2313 : (Jvm.Cond.code ({ cls := "TrustDeskModel", name := "begin", desc := "(I)I" } : Jvm.MethodName) prog_26_method_34_code (3 : Nat) (Option.some Jvm.ClassFile.FieldType.int)) ∈ lw_all := lw_g (lw_at lw_m10 41 rfl) rfl
theorem q2314 : (Jvm.Cond.stringRef "TrustDeskModel" (368 : Nat) "near") ∈ lw_tbl := lw_at lw_m10 42 rfl
theorem q2315 : (Jvm.Cond.stringRef "TrustDeskModel" (370 : Nat) "join") ∈ lw_tbl := lw_at lw_m10 43 rfl
theorem q2316 : (Jvm.Cond.stringRef "TrustDeskModel" (372 : Nat) "sale") ∈ lw_tbl := lw_at lw_m10 44 rfl
theorem q2317 : (Jvm.Cond.stringRef "TrustDeskModel" (374 : Nat) "strike") ∈ lw_tbl := lw_at lw_m10 45 rfl
theorem q2318 : (Jvm.Cond.stringRef "TrustDeskModel" (333 : Nat) "if") ∈ lw_tbl := lw_at lw_m10 46 rfl
theorem q2319 : (Jvm.Cond.methodLink "TrustDeskModel" (329 : Nat) ({ cls := "TrustDeskModel", name := "wantWord", desc := "(Ljava/lang/String;)V" } : Jvm.MethodName)) ∈ lw_all := lw_g (lw_at lw_m10 47 rfl) rfl
theorem q2321 : (Jvm.Cond.instanceMethod ({ cls := "TrustDeskModel", name := "wantWord", desc := "(Ljava/lang/String;)V" } : Jvm.MethodName)) ∈ lw_all := lw_g (lw_at lw_m10 49 rfl) rfl
theorem q2322 : (Jvm.Cond.code ({ cls := "TrustDeskModel", name := "wantWord", desc := "(Ljava/lang/String;)V" } : Jvm.MethodName) prog_26_method_22_code (2 : Nat) (Option.none : Option Jvm.ClassFile.FieldType)) ∈ lw_all := lw_g (lw_at lw_m10 50 rfl) rfl
theorem q2323 : (Jvm.Cond.methodLink "TrustDeskModel" (302 : Nat) ({ cls := "TrustDeskModel", name := "cond", desc := "()V" } : Jvm.MethodName)) ∈ lw_all := lw_g (lw_at lw_m10 51 rfl) rfl
theorem q2325 : (Jvm.Cond.instanceMethod ({ cls := "TrustDeskModel", name := "cond", desc := "()V" } : Jvm.MethodName)) ∈ lw_all := lw_g (lw_at lw_m10 53 rfl) rfl
theorem q2326 : (Jvm.Cond.code ({ cls := "TrustDeskModel", name := "cond", desc := "()V" } : Jvm.MethodName) prog_26_method_32_code (1 : Nat) (Option.none : Option Jvm.ClassFile.FieldType)) ∈ lw_all := lw_g (lw_at lw_m10 54 rfl) rfl
theorem q2327 : (Jvm.Cond.methodLink "TrustDeskModel" (312 : Nat) ({ cls := "TrustDeskModel", name := "both", desc := "()V" } : Jvm.MethodName)) ∈ lw_all := lw_g (lw_at lw_m10 55 rfl) rfl
theorem q2329 : (Jvm.Cond.instanceMethod ({ cls := "TrustDeskModel", name := "both", desc := "()V" } : Jvm.MethodName)) ∈ lw_all := lw_g (lw_at lw_m10 57 rfl) rfl
theorem q2330 : (Jvm.Cond.code ({ cls := "TrustDeskModel", name := "both", desc := "()V" } : Jvm.MethodName) prog_26_method_31_code (1 : Nat) (Option.none : Option Jvm.ClassFile.FieldType)) ∈ lw_all := lw_g (lw_at lw_m10 58 rfl) rfl
theorem q2331 : (Jvm.Cond.methodLink "TrustDeskModel" (308 : Nat) ({ cls := "TrustDeskModel", name := "part", desc := "()V" } : Jvm.MethodName)) ∈ lw_all := lw_g (lw_at lw_m10 59 rfl) rfl
theorem q2333 : (Jvm.Cond.instanceMethod ({ cls := "TrustDeskModel", name := "part", desc := "()V" } : Jvm.MethodName)) ∈ lw_all := lw_g (lw_at lw_m10 61 rfl) rfl
theorem q2334 : (Jvm.Cond.code ({ cls := "TrustDeskModel", name := "part", desc := "()V" } : Jvm.MethodName) prog_26_method_30_code (2 : Nat) (Option.none : Option Jvm.ClassFile.FieldType)) ∈ lw_all := lw_g (lw_at lw_m10 62 rfl) rfl
theorem q2335 : (Jvm.Cond.stringRef "TrustDeskModel" (300 : Nat) "not") ∈ lw_tbl := lw_at lw_m10 63 rfl
theorem q2336 : (Jvm.Cond.methodLink "TrustDeskModel" (234 : Nat) ({ cls := "TrustDeskModel", name := "isSign", desc := "(I)Z" } : Jvm.MethodName)) ∈ lw_all := lw_g (lw_at lw_m10 64 rfl) rfl
theorem q2338 : (Jvm.Cond.instanceMethod ({ cls := "TrustDeskModel", name := "isSign", desc := "(I)Z" } : Jvm.MethodName)) ∈ lw_all := lw_g (lw_at lw_m10 66 rfl) rfl
theorem q2339 : (Jvm.Cond.code ({ cls := "TrustDeskModel", name := "isSign", desc := "(I)Z" } : Jvm.MethodName) prog_26_method_18_code (2 : Nat) (Option.some Jvm.ClassFile.FieldType.boolean)) ∈ lw_all := lw_g (lw_at lw_m10 67 rfl) rfl
theorem q2340 : (Jvm.Cond.methodLink "TrustDeskModel" (285 : Nat) ({ cls := "TrustDeskModel", name := "opens", desc := "()V" } : Jvm.MethodName)) ∈ lw_all := lw_g (lw_at lw_m10 68 rfl) rfl
theorem q2342 : (Jvm.Cond.instanceMethod ({ cls := "TrustDeskModel", name := "opens", desc := "()V" } : Jvm.MethodName)) ∈ lw_all := lw_g (lw_at lw_m10 70 rfl) rfl
theorem q2343 : (Jvm.Cond.code ({ cls := "TrustDeskModel", name := "opens", desc := "()V" } : Jvm.MethodName) prog_26_method_25_code (1 : Nat) (Option.none : Option Jvm.ClassFile.FieldType)) ∈ lw_all := lw_g (lw_at lw_m10 71 rfl) rfl
theorem q2344 : (Jvm.Cond.methodLink "TrustDeskModel" (291 : Nat) ({ cls := "TrustDeskModel", name := "wantSign", desc := "(I)V" } : Jvm.MethodName)) ∈ lw_all := lw_g (lw_at lw_m10 72 rfl) rfl
theorem q2346 : (Jvm.Cond.instanceMethod ({ cls := "TrustDeskModel", name := "wantSign", desc := "(I)V" } : Jvm.MethodName)) ∈ lw_all := lw_g (lw_at lw_m10 74 rfl) rfl
theorem q2347 : (Jvm.Cond.code ({ cls := "TrustDeskModel", name := "wantSign", desc := "(I)V" } : Jvm.MethodName) prog_26_method_21_code (2 : Nat) (Option.none : Option Jvm.ClassFile.FieldType)) ∈ lw_all := lw_g (lw_at lw_m10 75 rfl) rfl
theorem q2348 : (Jvm.Cond.methodLink "TrustDeskModel" (305 : Nat) ({ cls := "TrustDeskModel", name := "compares", desc := "()V" } : Jvm.MethodName)) ∈ lw_all := lw_g (lw_at lw_m10 76 rfl) rfl
theorem q2350 : (Jvm.Cond.instanceMethod ({ cls := "TrustDeskModel", name := "compares", desc := "()V" } : Jvm.MethodName)) ∈ lw_all := lw_g (lw_at lw_m10 78 rfl) rfl
theorem q2351 : (Jvm.Cond.code ({ cls := "TrustDeskModel", name := "compares", desc := "()V" } : Jvm.MethodName) prog_26_method_29_code (2 : Nat) (Option.none : Option Jvm.ClassFile.FieldType)) ∈ lw_all := lw_g (lw_at lw_m10 79 rfl) rfl
theorem q2352 : (Jvm.Cond.methodLink "TrustDeskModel" (288 : Nat) ({ cls := "TrustDeskModel", name := "sum", desc := "()V" } : Jvm.MethodName)) ∈ lw_all := lw_g (lw_at lw_m10 80 rfl) rfl
theorem q2354 : (Jvm.Cond.instanceMethod ({ cls := "TrustDeskModel", name := "sum", desc := "()V" } : Jvm.MethodName)) ∈ lw_all := lw_g (lw_at lw_m10 82 rfl) rfl
theorem q2355 : (Jvm.Cond.code ({ cls := "TrustDeskModel", name := "sum", desc := "()V" } : Jvm.MethodName) prog_26_method_28_code (2 : Nat) (Option.none : Option Jvm.ClassFile.FieldType)) ∈ lw_all := lw_g (lw_at lw_m10 83 rfl) rfl
theorem q2356 : (Jvm.Cond.methodLink "TrustDeskModel" (297 : Nat) ({ cls := "TrustDeskModel", name := "product", desc := "()V" } : Jvm.MethodName)) ∈ lw_all := lw_g (lw_at lw_m10 84 rfl) rfl
theorem q2358 : (Jvm.Cond.instanceMethod ({ cls := "TrustDeskModel", name := "product", desc := "()V" } : Jvm.MethodName)) ∈ lw_all := lw_g (lw_at lw_m10 86 rfl) rfl
theorem q2359 : (Jvm.Cond.code ({ cls := "TrustDeskModel", name := "product", desc := "()V" } : Jvm.MethodName) prog_26_method_27_code (1 : Nat) (Option.none : Option Jvm.ClassFile.FieldType)) ∈ lw_all := lw_g (lw_at lw_m10 87 rfl) rfl
theorem q2360 : (Jvm.Cond.methodLink "TrustDeskModel" (294 : Nat) ({ cls := "TrustDeskModel", name := "factor", desc := "()V" } : Jvm.MethodName)) ∈ lw_all := lw_g (lw_at lw_m10 88 rfl) rfl
theorem q2362 : (Jvm.Cond.instanceMethod ({ cls := "TrustDeskModel", name := "factor", desc := "()V" } : Jvm.MethodName)) ∈ lw_all := lw_g (lw_at lw_m10 90 rfl) rfl
theorem q2363 : (Jvm.Cond.code ({ cls := "TrustDeskModel", name := "factor", desc := "()V" } : Jvm.MethodName) prog_26_method_26_code (2 : Nat) (Option.none : Option Jvm.ClassFile.FieldType)) ∈ lw_all := lw_g (lw_at lw_m10 91 rfl) rfl
theorem q2364 : (Jvm.Cond.methodLink "TrustDeskModel" (279 : Nat) ({ cls := "TrustDeskModel", name := "emits", desc := "(I)V" } : Jvm.MethodName)) ∈ lw_all := lw_g (lw_at lw_m10 92 rfl) rfl
theorem q2366 : (Jvm.Cond.instanceMethod ({ cls := "TrustDeskModel", name := "emits", desc := "(I)V" } : Jvm.MethodName)) ∈ lw_all := lw_g (lw_at lw_m10 94 rfl) rfl
theorem q2367 : (Jvm.Cond.code ({ cls := "TrustDeskModel", name := "emits", desc := "(I)V" } : Jvm.MethodName) prog_26_method_24_code (2 : Nat) (Option.none : Option Jvm.ClassFile.FieldType)) ∈ lw_all := lw_g (lw_at lw_m10 95 rfl) rfl
theorem q2368 : (Jvm.Cond.methodLink "TrustDeskModel" (282 : Nat) ({ cls := "TrustDeskModel", name := "name", desc := "()I" } : Jvm.MethodName)) ∈ lw_all := lw_g (lw_at lw_m10 96 rfl) rfl
theorem q2370 : (Jvm.Cond.instanceMethod ({ cls := "TrustDeskModel", name := "name", desc := "()I" } : Jvm.MethodName)) ∈ lw_all := lw_g (lw_at lw_m10 98 rfl) rfl
theorem q2371 : (Jvm.Cond.code ({ cls := "TrustDeskModel", name := "name", desc := "()I" } : Jvm.MethodName) prog_26_method_23_code (2 : Nat) (Option.some Jvm.ClassFile.FieldType.int)) ∈ lw_all := lw_g (lw_at lw_m10 99 rfl) rfl
theorem q2372 : (Jvm.Cond.stringRef "TrustDeskModel" (248 : Nat) "poor") ∈ lw_tbl := lw_at lw_m10 100 rfl
theorem q2373 : (Jvm.Cond.stringRef "TrustDeskModel" (250 : Nat) "maids") ∈ lw_tbl := lw_at lw_m10 101 rfl
theorem q2374 : (Jvm.Cond.stringRef "TrustDeskModel" (252 : Nat) "boys") ∈ lw_tbl := lw_at lw_m10 102 rfl
theorem q2375 : (Jvm.Cond.stringRef "TrustDeskModel" (254 : Nat) "sick") ∈ lw_tbl := lw_at lw_m10 103 rfl
theorem q2376 : (Jvm.Cond.stringRef "TrustDeskModel" (256 : Nat) "bread") ∈ lw_tbl := lw_at lw_m10 104 rfl
theorem q2377 : (Jvm.Cond.stringRef "TrustDeskModel" (258 : Nat) "coal") ∈ lw_tbl := lw_at lw_m10 105 rfl
theorem q2378 : (Jvm.Cond.stringRef "TrustDeskModel" (260 : Nat) "rent") ∈ lw_tbl := lw_at lw_m10 106 rfl
theorem q2379 : (Jvm.Cond.stringRef "TrustDeskModel" (262 : Nat) "lake") ∈ lw_tbl := lw_at lw_m10 107 rfl
theorem q2380 : (Jvm.Cond.stringRef "TrustDeskModel" (264 : Nat) "income") ∈ lw_tbl := lw_at lw_m10 108 rfl
theorem q2381 : (Jvm.Cond.stringRef "TrustDeskModel" (266 : Nat) "coin") ∈ lw_tbl := lw_at lw_m10 109 rfl
theorem q2382 : (Jvm.Cond.stringRef "TrustDeskModel" (271 : Nat) "living") ∈ lw_tbl := lw_at lw_m10 110 rfl
theorem q2383 : (Jvm.Cond.stringRef "TrustDeskModel" (273 : Nat) "dead") ∈ lw_tbl := lw_at lw_m10 111 rfl
theorem q2384 : (Jvm.Cond.stringRef "TrustDeskModel" (275 : Nat) "marks") ∈ lw_tbl := lw_at lw_m10 112 rfl
theorem q2385 : (Jvm.Cond.stringRef "TrustDeskModel" (310 : Nat) "and") ∈ lw_tbl := lw_at lw_m10 113 rfl
theorem q2386 : (Jvm.Cond.stringRef "TrustDeskModel" (315 : Nat) "or") ∈ lw_tbl := lw_at lw_m10 114 rfl
theorem q2387 : (Jvm.Cond.methodLink "TrustDeskModel" (317 : Nat) ({ cls := "TrustDeskModel", name := "number", desc := "(II)I" } : Jvm.MethodName)) ∈ lw_all := lw_g (lw_at lw_m10 115 rfl) rfl
theorem q2389 : (Jvm.Cond.instanceMethod ({ cls := "TrustDeskModel", name := "number", desc := "(II)I" } : Jvm.MethodName)) ∈ lw_all := lw_g (lw_at lw_m10 117 rfl) rfl
theorem q2390 : (Jvm.Cond.code ({ cls := "TrustDeskModel", name := "number", desc := "(II)I" } : Jvm.MethodName) prog_26_method_33_code (4 : Nat) (Option.some Jvm.ClassFile.FieldType.int)) ∈ lw_all := lw_g (lw_at lw_m10 118 rfl) rfl
theorem q2391 : (Jvm.Cond.methodLink "TrustDeskModel" (388 : Nat) ({ cls := "TrustDeskModel", name := "stops", desc := "(I)I" } : Jvm.MethodName)) ∈ lw_all := lw_g (lw_at lw_m10 119 rfl) rfl
theorem q2393 : (Jvm.Cond.instanceMethod ({ cls := "TrustDeskModel", name := "stops", desc := "(I)I" } : Jvm.MethodName)) ∈ lw_all := lw_g (lw_at lw_m10 121 rfl) rfl
theorem q2394 : (Jvm.Cond.code ({ cls := "TrustDeskModel", name := "stops", desc := "(I)I" } : Jvm.MethodName) prog_26_method_42_code (5 : Nat) (Option.some Jvm.ClassFile.FieldType.int)) ∈ lw_all := lw_g (lw_at lw_m10 122 rfl) rfl
theorem q2395 : (Jvm.Cond.methodLink "TrustDeskLaw" (46 : Nat) ({ cls := "TrustDeskModel", name := "holds", desc := "(II)I" } : Jvm.MethodName)) ∈ lw_all := lw_g (lw_at lw_m10 123 rfl) rfl
theorem q2396 : (Jvm.Cond.instanceMethod ({ cls := "TrustDeskModel", name := "holds", desc := "(II)I" } : Jvm.MethodName)) ∈ lw_all := lw_g (lw_at lw_m10 124 rfl) rfl
theorem q2397 : (Jvm.Cond.selects "TrustDeskModel" ({ cls := "TrustDeskModel", name := "holds", desc := "(II)I" } : Jvm.MethodName) ({ cls := "TrustDeskModel", name := "holds", desc := "(II)I" } : Jvm.MethodName)) ∈ lw_all := lw_g (lw_at lw_m10 125 rfl) rfl
theorem q2398 : (Jvm.Cond.code ({ cls := "TrustDeskModel", name := "holds", desc := "(II)I" } : Jvm.MethodName) prog_26_method_47_code (3 : Nat) (Option.some Jvm.ClassFile.FieldType.int)) ∈ lw_all := lw_g (lw_at lw_m10 126 rfl) rfl
theorem q2399 : (Jvm.Cond.constantLong "TrustDeskModel" (394 : Nat) (5 : Int64)) ∈ lw_all := lw_g (lw_at lw_m10 127 rfl) rfl
theorem q2400 : (Jvm.Cond.methodLink "TrustDeskModel" (396 : Nat) ({ cls := "TrustDeskModel", name := "toldOn", desc := "(II)I" } : Jvm.MethodName)) ∈ lw_all := lw_g (lw_at lw_m10 128 rfl) rfl
theorem q2402 : (Jvm.Cond.instanceMethod ({ cls := "TrustDeskModel", name := "toldOn", desc := "(II)I" } : Jvm.MethodName)) ∈ lw_all := lw_g (lw_at lw_m10 130 rfl) rfl
theorem q2403 : (Jvm.Cond.code ({ cls := "TrustDeskModel", name := "toldOn", desc := "(II)I" } : Jvm.MethodName) prog_26_method_46_code (6 : Nat) (Option.some Jvm.ClassFile.FieldType.int)) ∈ lw_all := lw_g (lw_at lw_m10 131 rfl) rfl
theorem q2404 : (Jvm.Cond.methodLink "TrustDeskModel" (391 : Nat) ({ cls := "TrustDeskModel", name := "actOn", desc := "(I)I" } : Jvm.MethodName)) ∈ lw_all := lw_g (lw_at lw_m10 132 rfl) rfl
theorem q2406 : (Jvm.Cond.instanceMethod ({ cls := "TrustDeskModel", name := "actOn", desc := "(I)I" } : Jvm.MethodName)) ∈ lw_all := lw_g (lw_at lw_m10 134 rfl) rfl
theorem q2407 : (Jvm.Cond.code ({ cls := "TrustDeskModel", name := "actOn", desc := "(I)I" } : Jvm.MethodName) prog_26_method_45_code (4 : Nat) (Option.some Jvm.ClassFile.FieldType.int)) ∈ lw_all := lw_g (lw_at lw_m10 135 rfl) rfl
theorem q2408 : (Jvm.Cond.methodLink "TrustDeskLaw" (50 : Nat) ({ cls := "TrustDeskModel", name := "fund", desc := "(II)I" } : Jvm.MethodName)) ∈ lw_all := lw_g (lw_at lw_m10 136 rfl) rfl
theorem q2409 : (Jvm.Cond.instanceMethod ({ cls := "TrustDeskModel", name := "fund", desc := "(II)I" } : Jvm.MethodName)) ∈ lw_all := lw_g (lw_at lw_m10 137 rfl) rfl
theorem q2410 : (Jvm.Cond.selects "TrustDeskModel" ({ cls := "TrustDeskModel", name := "fund", desc := "(II)I" } : Jvm.MethodName) ({ cls := "TrustDeskModel", name := "fund", desc := "(II)I" } : Jvm.MethodName)) ∈ lw_all := lw_g (lw_at lw_m10 138 rfl) rfl
theorem q2411 : (Jvm.Cond.code ({ cls := "TrustDeskModel", name := "fund", desc := "(II)I" } : Jvm.MethodName) prog_26_method_55_code (8 : Nat) (Option.some Jvm.ClassFile.FieldType.int)) ∈ lw_all := lw_g (lw_at lw_m10 139 rfl) rfl
theorem q2412 : (Jvm.Cond.constantLong "TrustDeskModel" (421 : Nat) (999 : Int64)) ∈ lw_all := lw_g (lw_at lw_m10 140 rfl) rfl
theorem q2413 : (Jvm.Cond.constantLong "TrustDeskModel" (423 : Nat) (99999 : Int64)) ∈ lw_all := lw_g (lw_at lw_m10 141 rfl) rfl
theorem q2414 : (Jvm.Cond.methodLink "TrustDeskModel" (425 : Nat) ({ cls := "TrustDeskModel", name := "readClause", desc := "()V" } : Jvm.MethodName)) ∈ lw_all := lw_g (lw_at lw_m10 142 rfl) rfl
theorem q2416 : (Jvm.Cond.instanceMethod ({ cls := "TrustDeskModel", name := "readClause", desc := "()V" } : Jvm.MethodName)) ∈ lw_all := lw_g (lw_at lw_m10 144 rfl) rfl
theorem q2417 : (Jvm.Cond.code ({ cls := "TrustDeskModel", name := "readClause", desc := "()V" } : Jvm.MethodName) prog_26_method_38_code (4 : Nat) (Option.none : Option Jvm.ClassFile.FieldType)) ∈ lw_all := lw_g (lw_at lw_m10 145 rfl) rfl
theorem q2418 : (Jvm.Cond.stringRef "TrustDeskModel" (336 : Nat) "end") ∈ lw_tbl := lw_at lw_m10 146 rfl
theorem q2419 : (Jvm.Cond.stringRef "TrustDeskModel" (338 : Nat) "mark") ∈ lw_tbl := lw_at lw_m10 147 rfl
theorem q2420 : (Jvm.Cond.stringRef "TrustDeskModel" (340 : Nat) "trust") ∈ lw_tbl := lw_at lw_m10 148 rfl
theorem q2421 : (Jvm.Cond.methodLink "TrustDeskModel" (345 : Nat) ({ cls := "TrustDeskModel", name := "readEnd", desc := "(I)V" } : Jvm.MethodName)) ∈ lw_all := lw_g (lw_at lw_m10 149 rfl) rfl
theorem q2423 : (Jvm.Cond.instanceMethod ({ cls := "TrustDeskModel", name := "readEnd", desc := "(I)V" } : Jvm.MethodName)) ∈ lw_all := lw_g (lw_at lw_m10 151 rfl) rfl
theorem q2424 : (Jvm.Cond.code ({ cls := "TrustDeskModel", name := "readEnd", desc := "(I)V" } : Jvm.MethodName) prog_26_method_37_code (2 : Nat) (Option.none : Option Jvm.ClassFile.FieldType)) ∈ lw_all := lw_g (lw_at lw_m10 152 rfl) rfl
theorem q2425 : (Jvm.Cond.methodLink "TrustDeskModel" (324 : Nat) ({ cls := "TrustDeskModel", name := "isThere", desc := "()Z" } : Jvm.MethodName)) ∈ lw_all := lw_g (lw_at lw_m10 153 rfl) rfl
theorem q2427 : (Jvm.Cond.instanceMethod ({ cls := "TrustDeskModel", name := "isThere", desc := "()Z" } : Jvm.MethodName)) ∈ lw_all := lw_g (lw_at lw_m10 155 rfl) rfl
theorem q2428 : (Jvm.Cond.code ({ cls := "TrustDeskModel", name := "isThere", desc := "()Z" } : Jvm.MethodName) prog_26_method_36_code (5 : Nat) (Option.some Jvm.ClassFile.FieldType.boolean)) ∈ lw_all := lw_g (lw_at lw_m10 156 rfl) rfl
theorem q2429 : (Jvm.Cond.stringRef "TrustDeskModel" (327 : Nat) "pays") ∈ lw_tbl := lw_at lw_m10 157 rfl
theorem q2430 : (Jvm.Cond.stringRef "TrustDeskModel" (335 : Nat) "part") ∈ lw_tbl := lw_at lw_m10 158 rfl
theorem q2431 : (Jvm.Cond.methodLink "TrustDeskModel" (348 : Nat) ({ cls := "TrustDeskModel", name := "readMarks", desc := "(I)V" } : Jvm.MethodName)) ∈ lw_all := lw_g (lw_at lw_m10 159 rfl) rfl
theorem q2433 : (Jvm.Cond.instanceMethod ({ cls := "TrustDeskModel", name := "readMarks", desc := "(I)V" } : Jvm.MethodName)) ∈ lw_all := lw_g (lw_at lw_m10 161 rfl) rfl
theorem q2434 : (Jvm.Cond.code ({ cls := "TrustDeskModel", name := "readMarks", desc := "(I)V" } : Jvm.MethodName) prog_26_method_35_code (3 : Nat) (Option.none : Option Jvm.ClassFile.FieldType)) ∈ lw_all := lw_g (lw_at lw_m10 162 rfl) rfl
theorem q2435 : (Jvm.Cond.methodLink "TrustDeskModel" (428 : Nat) ({ cls := "TrustDeskModel", name := "addEnd", desc := "(IIIIII)V" } : Jvm.MethodName)) ∈ lw_all := lw_g (lw_at lw_m10 163 rfl) rfl
theorem q2437 : (Jvm.Cond.instanceMethod ({ cls := "TrustDeskModel", name := "addEnd", desc := "(IIIIII)V" } : Jvm.MethodName)) ∈ lw_all := lw_g (lw_at lw_m10 165 rfl) rfl
theorem q2438 : (Jvm.Cond.code ({ cls := "TrustDeskModel", name := "addEnd", desc := "(IIIIII)V" } : Jvm.MethodName) prog_26_method_54_code (8 : Nat) (Option.none : Option Jvm.ClassFile.FieldType)) ∈ lw_all := lw_g (lw_at lw_m10 166 rfl) rfl
theorem q2439 : (Jvm.Cond.constant "TrustDeskModel" (432 : Nat) (1000000 : Int32)) ∈ lw_all := lw_g (lw_at lw_m10 167 rfl) rfl
theorem q2440 : (Jvm.Cond.methodLink "TrustDeskLaw" (54 : Nat) ({ cls := "TrustDeskModel", name := "near", desc := "(I)I" } : Jvm.MethodName)) ∈ lw_all := lw_g (lw_at lw_m10 168 rfl) rfl
theorem q2441 : (Jvm.Cond.instanceMethod ({ cls := "TrustDeskModel", name := "near", desc := "(I)I" } : Jvm.MethodName)) ∈ lw_all := lw_g (lw_at lw_m10 169 rfl) rfl
theorem q2442 : (Jvm.Cond.selects "TrustDeskModel" ({ cls := "TrustDeskModel", name := "near", desc := "(I)I" } : Jvm.MethodName) ({ cls := "TrustDeskModel", name := "near", desc := "(I)I" } : Jvm.MethodName)) ∈ lw_all := lw_g (lw_at lw_m10 170 rfl) rfl
theorem q2443 : (Jvm.Cond.code ({ cls := "TrustDeskModel", name := "near", desc := "(I)I" } : Jvm.MethodName) prog_26_method_56_code (3 : Nat) (Option.some Jvm.ClassFile.FieldType.int)) ∈ lw_all := lw_g (lw_at lw_m10 171 rfl) rfl
theorem q2444 : (Jvm.Cond.constantLong "TrustDeskModel" (433 : Nat) (255 : Int64)) ∈ lw_all := lw_g (lw_at lw_m10 172 rfl) rfl
theorem q2445 : (Jvm.Cond.methodLink "TrustDeskLaw" (128 : Nat) ({ cls := "TrustDeskModel", name := "due", desc := "(IIII)I" } : Jvm.MethodName)) ∈ lw_all := lw_g (lw_at lw_m10 173 rfl) rfl
theorem q2446 : (Jvm.Cond.instanceMethod ({ cls := "TrustDeskModel", name := "due", desc := "(IIII)I" } : Jvm.MethodName)) ∈ lw_all := lw_g (lw_at lw_m10 174 rfl) rfl
theorem q2447 : (Jvm.Cond.selects "TrustDeskModel" ({ cls := "TrustDeskModel", name := "due", desc := "(IIII)I" } : Jvm.MethodName) ({ cls := "TrustDeskModel", name := "due", desc := "(IIII)I" } : Jvm.MethodName)) ∈ lw_all := lw_g (lw_at lw_m10 175 rfl) rfl
theorem q2448 : (Jvm.Cond.code ({ cls := "TrustDeskModel", name := "due", desc := "(IIII)I" } : Jvm.MethodName) prog_26_method_61_code (5 : Nat) (Option.some Jvm.ClassFile.FieldType.int)) ∈ lw_all := lw_g (lw_at lw_m10 176 rfl) rfl
theorem q2449 : (Jvm.Cond.methodLink "TrustDeskModel" (455 : Nat) ({ cls := "TrustDeskModel", name := "isEnd", desc := "(II)Z" } : Jvm.MethodName)) ∈ lw_all := lw_g (lw_at lw_m10 177 rfl) rfl
theorem q2451 : (Jvm.Cond.instanceMethod ({ cls := "TrustDeskModel", name := "isEnd", desc := "(II)Z" } : Jvm.MethodName)) ∈ lw_all := lw_g (lw_at lw_m10 179 rfl) rfl
theorem q2452 : (Jvm.Cond.code ({ cls := "TrustDeskModel", name := "isEnd", desc := "(II)Z" } : Jvm.MethodName) prog_26_method_53_code (3 : Nat) (Option.some Jvm.ClassFile.FieldType.boolean)) ∈ lw_all := lw_g (lw_at lw_m10 180 rfl) rfl
theorem q2453 : (Jvm.Cond.methodLink "TrustDeskModel" (418 : Nat) ({ cls := "TrustDeskModel", name := "isFund", desc := "(I)Z" } : Jvm.MethodName)) ∈ lw_all := lw_g (lw_at lw_m10 181 rfl) rfl
theorem q2455 : (Jvm.Cond.instanceMethod ({ cls := "TrustDeskModel", name := "isFund", desc := "(I)Z" } : Jvm.MethodName)) ∈ lw_all := lw_g (lw_at lw_m10 183 rfl) rfl
theorem q2456 : (Jvm.Cond.code ({ cls := "TrustDeskModel", name := "isFund", desc := "(I)Z" } : Jvm.MethodName) prog_26_method_51_code (2 : Nat) (Option.some Jvm.ClassFile.FieldType.boolean)) ∈ lw_all := lw_g (lw_at lw_m10 184 rfl) rfl
theorem q2457 : (Jvm.Cond.methodLink "TrustDeskModel" (459 : Nat) ({ cls := "TrustDeskModel", name := "names", desc := "(III)V" } : Jvm.MethodName)) ∈ lw_all := lw_g (lw_at lw_m10 185 rfl) rfl
theorem q2459 : (Jvm.Cond.instanceMethod ({ cls := "TrustDeskModel", name := "names", desc := "(III)V" } : Jvm.MethodName)) ∈ lw_all := lw_g (lw_at lw_m10 187 rfl) rfl
theorem q2460 : (Jvm.Cond.code ({ cls := "TrustDeskModel", name := "names", desc := "(III)V" } : Jvm.MethodName) prog_26_method_58_code (5 : Nat) (Option.none : Option Jvm.ClassFile.FieldType)) ∈ lw_all := lw_g (lw_at lw_m10 188 rfl) rfl
theorem q2461 : (Jvm.Cond.methodLink "TrustDeskModel" (438 : Nat) ({ cls := "TrustDeskModel", name := "incomeOf", desc := "(III)I" } : Jvm.MethodName)) ∈ lw_all := lw_g (lw_at lw_m10 189 rfl) rfl
theorem q2463 : (Jvm.Cond.instanceMethod ({ cls := "TrustDeskModel", name := "incomeOf", desc := "(III)I" } : Jvm.MethodName)) ∈ lw_all := lw_g (lw_at lw_m10 191 rfl) rfl
theorem q2464 : (Jvm.Cond.code ({ cls := "TrustDeskModel", name := "incomeOf", desc := "(III)I" } : Jvm.MethodName) prog_26_method_57_code (4 : Nat) (Option.some Jvm.ClassFile.FieldType.int)) ∈ lw_all := lw_g (lw_at lw_m10 192 rfl) rfl
theorem q2465 : (Jvm.Cond.methodLink "TrustDeskModel" (405 : Nat) ({ cls := "TrustDeskModel", name := "bounded", desc := "(J)I" } : Jvm.MethodName)) ∈ lw_all := lw_g (lw_at lw_m10 193 rfl) rfl
theorem q2466 : (Jvm.Cond.static ({ cls := "TrustDeskModel", name := "bounded", desc := "(J)I" } : Jvm.MethodName)) ∈ lw_all := lw_g (lw_at lw_m10 194 rfl) rfl
theorem q2467 : (Jvm.Cond.code ({ cls := "TrustDeskModel", name := "bounded", desc := "(J)I" } : Jvm.MethodName) prog_26_method_48_code (2 : Nat) (Option.some Jvm.ClassFile.FieldType.int)) ∈ lw_all := lw_g (lw_at lw_m10 195 rfl) rfl
theorem q2468 : (Jvm.Cond.constantLong "TrustDeskModel" (399 : Nat) (1000000000 : Int64)) ∈ lw_all := lw_g (lw_at lw_m10 196 rfl) rfl
theorem q2469 : (Jvm.Cond.constant "TrustDeskModel" (401 : Nat) (1000000000 : Int32)) ∈ lw_all := lw_g (lw_at lw_m10 197 rfl) rfl
theorem q2470 : (Jvm.Cond.constantLong "TrustDeskModel" (402 : Nat) (-1000000000 : Int64)) ∈ lw_all := lw_g (lw_at lw_m10 198 rfl) rfl
theorem q2471 : (Jvm.Cond.constant "TrustDeskModel" (404 : Nat) (-1000000000 : Int32)) ∈ lw_all := lw_g (lw_at lw_m10 199 rfl) rfl
theorem q2472 : (Jvm.Cond.methodLink "TrustDeskModel" (441 : Nat) ({ cls := "TrustDeskModel", name := "howMany", desc := "(II)I" } : Jvm.MethodName)) ∈ lw_all := lw_g (lw_at lw_m10 200 rfl) rfl
theorem q2474 : (Jvm.Cond.instanceMethod ({ cls := "TrustDeskModel", name := "howMany", desc := "(II)I" } : Jvm.MethodName)) ∈ lw_all := lw_g (lw_at lw_m10 202 rfl) rfl
theorem q2475 : (Jvm.Cond.code ({ cls := "TrustDeskModel", name := "howMany", desc := "(II)I" } : Jvm.MethodName) prog_26_method_59_code (5 : Nat) (Option.some Jvm.ClassFile.FieldType.int)) ∈ lw_all := lw_g (lw_at lw_m10 203 rfl) rfl
theorem q2476 : (Jvm.Cond.methodLink "TrustDeskModel" (444 : Nat) ({ cls := "TrustDeskModel", name := "size", desc := "(I)I" } : Jvm.MethodName)) ∈ lw_all := lw_g (lw_at lw_m10 204 rfl) rfl
theorem q2477 : (Jvm.Cond.static ({ cls := "TrustDeskModel", name := "size", desc := "(I)I" } : Jvm.MethodName)) ∈ lw_all := lw_g (lw_at lw_m10 205 rfl) rfl
theorem q2478 : (Jvm.Cond.code ({ cls := "TrustDeskModel", name := "size", desc := "(I)I" } : Jvm.MethodName) prog_26_method_3_code (3 : Nat) (Option.some Jvm.ClassFile.FieldType.int)) ∈ lw_all := lw_g (lw_at lw_m10 206 rfl) rfl
theorem q2479 : (Jvm.Cond.methodLink "TrustDeskModel" (463 : Nat) ({ cls := "TrustDeskModel", name := "asks", desc := "(II)I" } : Jvm.MethodName)) ∈ lw_all := lw_g (lw_at lw_m10 207 rfl) rfl
theorem q2481 : (Jvm.Cond.instanceMethod ({ cls := "TrustDeskModel", name := "asks", desc := "(II)I" } : Jvm.MethodName)) ∈ lw_all := lw_g (lw_at lw_m10 209 rfl) rfl
theorem q2482 : (Jvm.Cond.code ({ cls := "TrustDeskModel", name := "asks", desc := "(II)I" } : Jvm.MethodName) prog_26_method_60_code (5 : Nat) (Option.some Jvm.ClassFile.FieldType.int)) ∈ lw_all := lw_g (lw_at lw_m10 210 rfl) rfl
theorem q2483 : (Jvm.Cond.methodLink "TrustDeskModel" (447 : Nat) ({ cls := "TrustDeskModel", name := "works", desc := "(III)I" } : Jvm.MethodName)) ∈ lw_all := lw_g (lw_at lw_m10 211 rfl) rfl
theorem q2485 : (Jvm.Cond.instanceMethod ({ cls := "TrustDeskModel", name := "works", desc := "(III)I" } : Jvm.MethodName)) ∈ lw_all := lw_g (lw_at lw_m10 213 rfl) rfl
theorem q2486 : (Jvm.Cond.code ({ cls := "TrustDeskModel", name := "works", desc := "(III)I" } : Jvm.MethodName) prog_26_method_50_code (8 : Nat) (Option.some Jvm.ClassFile.FieldType.int)) ∈ lw_all := lw_g (lw_at lw_m10 214 rfl) rfl
theorem q2487 : (Jvm.Cond.methodLink "TrustDeskModel" (412 : Nat) ({ cls := "TrustDeskModel", name := "joined", desc := "(III)I" } : Jvm.MethodName)) ∈ lw_all := lw_g (lw_at lw_m10 215 rfl) rfl
theorem q2488 : (Jvm.Cond.static ({ cls := "TrustDeskModel", name := "joined", desc := "(III)I" } : Jvm.MethodName)) ∈ lw_all := lw_g (lw_at lw_m10 216 rfl) rfl
theorem q2489 : (Jvm.Cond.code ({ cls := "TrustDeskModel", name := "joined", desc := "(III)I" } : Jvm.MethodName) prog_26_method_49_code (3 : Nat) (Option.some Jvm.ClassFile.FieldType.int)) ∈ lw_all := lw_g (lw_at lw_m10 217 rfl) rfl
theorem q2490 : (Jvm.Cond.methodLink "TrustDeskModel" (450 : Nat) ({ cls := "java/lang/Math", name := "max", desc := "(II)I" } : Jvm.MethodName)) ∈ lw_all := lw_g (lw_at lw_m10 218 rfl) rfl
theorem q2491 : (Jvm.Cond.methodLink "TrustDeskLaw" (132 : Nat) ({ cls := "TrustDeskModel", name := "why", desc := "(IIII)I" } : Jvm.MethodName)) ∈ lw_all := lw_g (lw_at lw_m10 219 rfl) rfl
theorem q2492 : (Jvm.Cond.instanceMethod ({ cls := "TrustDeskModel", name := "why", desc := "(IIII)I" } : Jvm.MethodName)) ∈ lw_all := lw_g (lw_at lw_m10 220 rfl) rfl
theorem q2493 : (Jvm.Cond.selects "TrustDeskModel" ({ cls := "TrustDeskModel", name := "why", desc := "(IIII)I" } : Jvm.MethodName) ({ cls := "TrustDeskModel", name := "why", desc := "(IIII)I" } : Jvm.MethodName)) ∈ lw_all := lw_g (lw_at lw_m10 221 rfl) rfl
theorem q2494 : (Jvm.Cond.code ({ cls := "TrustDeskModel", name := "why", desc := "(IIII)I" } : Jvm.MethodName) prog_26_method_62_code (7 : Nat) (Option.some Jvm.ClassFile.FieldType.int)) ∈ lw_all := lw_g (lw_at lw_m10 222 rfl) rfl
theorem q2495 : (Jvm.Cond.methodLink "TrustDeskLaw" (63 : Nat) ({ cls := "TrustDeskModel", name := "days", desc := "(I)I" } : Jvm.MethodName)) ∈ lw_all := lw_g (lw_at lw_m10 223 rfl) rfl
theorem q2496 : (Jvm.Cond.instanceMethod ({ cls := "TrustDeskModel", name := "days", desc := "(I)I" } : Jvm.MethodName)) ∈ lw_all := lw_g (lw_at lw_m10 224 rfl) rfl
theorem q2497 : (Jvm.Cond.selects "TrustDeskModel" ({ cls := "TrustDeskModel", name := "days", desc := "(I)I" } : Jvm.MethodName) ({ cls := "TrustDeskModel", name := "days", desc := "(I)I" } : Jvm.MethodName)) ∈ lw_all := lw_g (lw_at lw_m10 225 rfl) rfl
theorem q2498 : (Jvm.Cond.code ({ cls := "TrustDeskModel", name := "days", desc := "(I)I" } : Jvm.MethodName) prog_26_method_67_code (5 : Nat) (Option.some Jvm.ClassFile.FieldType.int)) ∈ lw_all := lw_g (lw_at lw_m10 226 rfl) rfl
theorem q2499 : (Jvm.Cond.constantLong "TrustDeskModel" (486 : Nat) (720 : Int64)) ∈ lw_all := lw_g (lw_at lw_m10 227 rfl) rfl
theorem q2500 : (Jvm.Cond.constant "TrustDeskModel" (488 : Nat) (36000 : Int32)) ∈ lw_all := lw_g (lw_at lw_m10 228 rfl) rfl
theorem q2501 : (Jvm.Cond.methodLink "TrustDeskModel" (489 : Nat) ({ cls := "TrustDeskModel", name := "closes", desc := "(II)V" } : Jvm.MethodName)) ∈ lw_all := lw_g (lw_at lw_m10 229 rfl) rfl
theorem q2503 : (Jvm.Cond.instanceMethod ({ cls := "TrustDeskModel", name := "closes", desc := "(II)V" } : Jvm.MethodName)) ∈ lw_all := lw_g (lw_at lw_m10 231 rfl) rfl
theorem q2504 : (Jvm.Cond.code ({ cls := "TrustDeskModel", name := "closes", desc := "(II)V" } : Jvm.MethodName) prog_26_method_66_code (8 : Nat) (Option.none : Option Jvm.ClassFile.FieldType)) ∈ lw_all := lw_g (lw_at lw_m10 232 rfl) rfl
theorem q2505 : (Jvm.Cond.constantLong "TrustDeskModel" (477 : Nat) (100 : Int64)) ∈ lw_all := lw_g (lw_at lw_m10 233 rfl) rfl
theorem q2506 : (Jvm.Cond.methodLink "TrustDeskModel" (479 : Nat) ({ cls := "TrustDeskModel", name := "gets", desc := "(IJ)V" } : Jvm.MethodName)) ∈ lw_all := lw_g (lw_at lw_m10 234 rfl) rfl
theorem q2508 : (Jvm.Cond.instanceMethod ({ cls := "TrustDeskModel", name := "gets", desc := "(IJ)V" } : Jvm.MethodName)) ∈ lw_all := lw_g (lw_at lw_m10 236 rfl) rfl
theorem q2509 : (Jvm.Cond.code ({ cls := "TrustDeskModel", name := "gets", desc := "(IJ)V" } : Jvm.MethodName) prog_26_method_63_code (4 : Nat) (Option.none : Option Jvm.ClassFile.FieldType)) ∈ lw_all := lw_g (lw_at lw_m10 237 rfl) rfl
theorem q2510 : (Jvm.Cond.constantLong "TrustDeskModel" (466 : Nat) (1000000000000000 : Int64)) ∈ lw_all := lw_g (lw_at lw_m10 238 rfl) rfl
theorem q2511 : (Jvm.Cond.methodLink "TrustDeskModel" (483 : Nat) ({ cls := "TrustDeskModel", name := "pays", desc := "(IIII)V" } : Jvm.MethodName)) ∈ lw_all := lw_g (lw_at lw_m10 239 rfl) rfl
theorem q2513 : (Jvm.Cond.instanceMethod ({ cls := "TrustDeskModel", name := "pays", desc := "(IIII)V" } : Jvm.MethodName)) ∈ lw_all := lw_g (lw_at lw_m11 1 rfl) rfl
theorem q2514 : (Jvm.Cond.code ({ cls := "TrustDeskModel", name := "pays", desc := "(IIII)V" } : Jvm.MethodName) prog_26_method_65_code (5 : Nat) (Option.none : Option Jvm.ClassFile.FieldType)) ∈ lw_all := lw_g (lw_at lw_m11 2 rfl) rfl
theorem q2515 : (Jvm.Cond.methodLink "TrustDeskModel" (470 : Nat) ({ cls := "TrustDeskModel", name := "leadsBack", desc := "(II)V" } : Jvm.MethodName)) ∈ lw_all := lw_g (lw_at lw_m11 3 rfl) rfl
theorem q2517 : (Jvm.Cond.instanceMethod ({ cls := "TrustDeskModel", name := "leadsBack", desc := "(II)V" } : Jvm.MethodName)) ∈ lw_all := lw_g (lw_at lw_m11 5 rfl) rfl
theorem q2518 : (Jvm.Cond.code ({ cls := "TrustDeskModel", name := "leadsBack", desc := "(II)V" } : Jvm.MethodName) prog_26_method_64_code (6 : Nat) (Option.none : Option Jvm.ClassFile.FieldType)) ∈ lw_all := lw_g (lw_at lw_m11 6 rfl) rfl
theorem q2519 : (Jvm.Cond.constantLong "TrustDeskModel" (468 : Nat) (1000000 : Int64)) ∈ lw_all := lw_g (lw_at lw_m11 7 rfl) rfl
theorem q2520 : (Jvm.Cond.methodLink "TrustDeskLaw" (68 : Nat) ({ cls := "TrustDeskModel", name := "trustee", desc := "(II)Z" } : Jvm.MethodName)) ∈ lw_all := lw_g (lw_at lw_m11 8 rfl) rfl
theorem q2521 : (Jvm.Cond.instanceMethod ({ cls := "TrustDeskModel", name := "trustee", desc := "(II)Z" } : Jvm.MethodName)) ∈ lw_all := lw_g (lw_at lw_m11 9 rfl) rfl
theorem q2522 : (Jvm.Cond.selects "TrustDeskModel" ({ cls := "TrustDeskModel", name := "trustee", desc := "(II)Z" } : Jvm.MethodName) ({ cls := "TrustDeskModel", name := "trustee", desc := "(II)Z" } : Jvm.MethodName)) ∈ lw_all := lw_g (lw_at lw_m11 10 rfl) rfl
theorem q2523 : (Jvm.Cond.code ({ cls := "TrustDeskModel", name := "trustee", desc := "(II)Z" } : Jvm.MethodName) prog_26_method_70_code (3 : Nat) (Option.some Jvm.ClassFile.FieldType.boolean)) ∈ lw_all := lw_g (lw_at lw_m11 11 rfl) rfl
theorem q2524 : (Jvm.Cond.methodLink "TrustDeskModel" (492 : Nat) ({ cls := "TrustDeskModel", name := "isFree", desc := "(I)Z" } : Jvm.MethodName)) ∈ lw_all := lw_g (lw_at lw_m11 12 rfl) rfl
theorem q2526 : (Jvm.Cond.instanceMethod ({ cls := "TrustDeskModel", name := "isFree", desc := "(I)Z" } : Jvm.MethodName)) ∈ lw_all := lw_g (lw_at lw_m11 14 rfl) rfl
theorem q2527 : (Jvm.Cond.code ({ cls := "TrustDeskModel", name := "isFree", desc := "(I)Z" } : Jvm.MethodName) prog_26_method_52_code (2 : Nat) (Option.some Jvm.ClassFile.FieldType.boolean)) ∈ lw_all := lw_g (lw_at lw_m11 15 rfl) rfl
theorem q2528 : (Jvm.Cond.methodLink "TrustDeskModel" (495 : Nat) ({ cls := "TrustDeskModel", name := "isPerson", desc := "(I)Z" } : Jvm.MethodName)) ∈ lw_all := lw_g (lw_at lw_m11 16 rfl) rfl
theorem q2529 : (Jvm.Cond.static ({ cls := "TrustDeskModel", name := "isPerson", desc := "(I)Z" } : Jvm.MethodName)) ∈ lw_all := lw_g (lw_at lw_m11 17 rfl) rfl
theorem q2530 : (Jvm.Cond.code ({ cls := "TrustDeskModel", name := "isPerson", desc := "(I)Z" } : Jvm.MethodName) prog_26_method_68_code (1 : Nat) (Option.some Jvm.ClassFile.FieldType.boolean)) ∈ lw_all := lw_g (lw_at lw_m11 18 rfl) rfl
theorem q2531 : (Jvm.Cond.methodLink "TrustDeskModel" (498 : Nat) ({ cls := "TrustDeskModel", name := "trustees", desc := "(I)I" } : Jvm.MethodName)) ∈ lw_all := lw_g (lw_at lw_m11 19 rfl) rfl
theorem q2533 : (Jvm.Cond.instanceMethod ({ cls := "TrustDeskModel", name := "trustees", desc := "(I)I" } : Jvm.MethodName)) ∈ lw_all := lw_g (lw_at lw_m11 21 rfl) rfl
theorem q2534 : (Jvm.Cond.code ({ cls := "TrustDeskModel", name := "trustees", desc := "(I)I" } : Jvm.MethodName) prog_26_method_69_code (4 : Nat) (Option.some Jvm.ClassFile.FieldType.int)) ∈ lw_all := lw_g (lw_at lw_m11 22 rfl) rfl
theorem q2535 : (Jvm.Cond.methodLink "TrustDeskLaw" (72 : Nat) ({ cls := "TrustDeskModel", name := "propose", desc := "(III)I" } : Jvm.MethodName)) ∈ lw_all := lw_g (lw_at lw_m11 23 rfl) rfl
theorem q2536 : (Jvm.Cond.instanceMethod ({ cls := "TrustDeskModel", name := "propose", desc := "(III)I" } : Jvm.MethodName)) ∈ lw_all := lw_g (lw_at lw_m11 24 rfl) rfl
theorem q2537 : (Jvm.Cond.selects "TrustDeskModel" ({ cls := "TrustDeskModel", name := "propose", desc := "(III)I" } : Jvm.MethodName) ({ cls := "TrustDeskModel", name := "propose", desc := "(III)I" } : Jvm.MethodName)) ∈ lw_all := lw_g (lw_at lw_m11 25 rfl) rfl
theorem q2538 : (Jvm.Cond.code ({ cls := "TrustDeskModel", name := "propose", desc := "(III)I" } : Jvm.MethodName) prog_26_method_72_code (5 : Nat) (Option.some Jvm.ClassFile.FieldType.int)) ∈ lw_all := lw_g (lw_at lw_m11 26 rfl) rfl
theorem q2539 : (Jvm.Cond.constantLong "TrustDeskModel" (504 : Nat) (3 : Int64)) ∈ lw_all := lw_g (lw_at lw_m11 27 rfl) rfl
theorem q2540 : (Jvm.Cond.methodLink "TrustDeskLaw" (76 : Nat) ({ cls := "TrustDeskModel", name := "objects", desc := "(II)Z" } : Jvm.MethodName)) ∈ lw_all := lw_g (lw_at lw_m11 28 rfl) rfl
theorem q2541 : (Jvm.Cond.instanceMethod ({ cls := "TrustDeskModel", name := "objects", desc := "(II)Z" } : Jvm.MethodName)) ∈ lw_all := lw_g (lw_at lw_m11 29 rfl) rfl
theorem q2542 : (Jvm.Cond.selects "TrustDeskModel" ({ cls := "TrustDeskModel", name := "objects", desc := "(II)Z" } : Jvm.MethodName) ({ cls := "TrustDeskModel", name := "objects", desc := "(II)Z" } : Jvm.MethodName)) ∈ lw_all := lw_g (lw_at lw_m11 30 rfl) rfl
theorem q2543 : (Jvm.Cond.code ({ cls := "TrustDeskModel", name := "objects", desc := "(II)Z" } : Jvm.MethodName) prog_26_method_75_code (3 : Nat) (Option.some Jvm.ClassFile.FieldType.boolean)) ∈ lw_all := lw_g (lw_at lw_m11 31 rfl) rfl
theorem q2544 : (Jvm.Cond.methodLink "TrustDeskModel" (506 : Nat) ({ cls := "TrustDeskModel", name := "isScheme", desc := "(I)Z" } : Jvm.MethodName)) ∈ lw_all := lw_g (lw_at lw_m11 32 rfl) rfl
theorem q2546 : (Jvm.Cond.instanceMethod ({ cls := "TrustDeskModel", name := "isScheme", desc := "(I)Z" } : Jvm.MethodName)) ∈ lw_all := lw_g (lw_at lw_m11 34 rfl) rfl
theorem q2547 : (Jvm.Cond.code ({ cls := "TrustDeskModel", name := "isScheme", desc := "(I)Z" } : Jvm.MethodName) prog_26_method_71_code (2 : Nat) (Option.some Jvm.ClassFile.FieldType.boolean)) ∈ lw_all := lw_g (lw_at lw_m11 35 rfl) rfl
theorem q2548 : (Jvm.Cond.methodLink "TrustDeskModel" (509 : Nat) ({ cls := "TrustDeskModel", name := "lastDay", desc := "(I)I" } : Jvm.MethodName)) ∈ lw_all := lw_g (lw_at lw_m11 36 rfl) rfl
theorem q2550 : (Jvm.Cond.instanceMethod ({ cls := "TrustDeskModel", name := "lastDay", desc := "(I)I" } : Jvm.MethodName)) ∈ lw_all := lw_g (lw_at lw_m11 38 rfl) rfl
theorem q2551 : (Jvm.Cond.code ({ cls := "TrustDeskModel", name := "lastDay", desc := "(I)I" } : Jvm.MethodName) prog_26_method_73_code (2 : Nat) (Option.some Jvm.ClassFile.FieldType.int)) ∈ lw_all := lw_g (lw_at lw_m11 39 rfl) rfl
theorem q2552 : (Jvm.Cond.methodLink "TrustDeskModel" (512 : Nat) ({ cls := "TrustDeskModel", name := "against", desc := "(I)I" } : Jvm.MethodName)) ∈ lw_all := lw_g (lw_at lw_m11 40 rfl) rfl
theorem q2554 : (Jvm.Cond.instanceMethod ({ cls := "TrustDeskModel", name := "against", desc := "(I)I" } : Jvm.MethodName)) ∈ lw_all := lw_g (lw_at lw_m11 42 rfl) rfl
theorem q2555 : (Jvm.Cond.code ({ cls := "TrustDeskModel", name := "against", desc := "(I)I" } : Jvm.MethodName) prog_26_method_74_code (4 : Nat) (Option.some Jvm.ClassFile.FieldType.int)) ∈ lw_all := lw_g (lw_at lw_m11 43 rfl) rfl
theorem q2556 : (Jvm.Cond.methodLink "TrustDeskLaw" (80 : Nat) ({ cls := "TrustDeskModel", name := "withdraws", desc := "(II)Z" } : Jvm.MethodName)) ∈ lw_all := lw_g (lw_at lw_m11 44 rfl) rfl
theorem q2557 : (Jvm.Cond.instanceMethod ({ cls := "TrustDeskModel", name := "withdraws", desc := "(II)Z" } : Jvm.MethodName)) ∈ lw_all := lw_g (lw_at lw_m11 45 rfl) rfl
theorem q2558 : (Jvm.Cond.selects "TrustDeskModel" ({ cls := "TrustDeskModel", name := "withdraws", desc := "(II)Z" } : Jvm.MethodName) ({ cls := "TrustDeskModel", name := "withdraws", desc := "(II)Z" } : Jvm.MethodName)) ∈ lw_all := lw_g (lw_at lw_m11 46 rfl) rfl
theorem q2559 : (Jvm.Cond.code ({ cls := "TrustDeskModel", name := "withdraws", desc := "(II)Z" } : Jvm.MethodName) prog_26_method_76_code (3 : Nat) (Option.some Jvm.ClassFile.FieldType.boolean)) ∈ lw_all := lw_g (lw_at lw_m11 47 rfl) rfl
theorem q2560 : (Jvm.Cond.methodLink "TrustDeskLaw" (85 : Nat) ({ cls := "TrustDeskModel", name := "vote", desc := "(IIZ)Z" } : Jvm.MethodName)) ∈ lw_all := lw_g (lw_at lw_m11 48 rfl) rfl
theorem q2561 : (Jvm.Cond.instanceMethod ({ cls := "TrustDeskModel", name := "vote", desc := "(IIZ)Z" } : Jvm.MethodName)) ∈ lw_all := lw_g (lw_at lw_m11 49 rfl) rfl
theorem q2562 : (Jvm.Cond.selects "TrustDeskModel" ({ cls := "TrustDeskModel", name := "vote", desc := "(IIZ)Z" } : Jvm.MethodName) ({ cls := "TrustDeskModel", name := "vote", desc := "(IIZ)Z" } : Jvm.MethodName)) ∈ lw_all := lw_g (lw_at lw_m11 50 rfl) rfl
theorem q2563 : (Jvm.Cond.code ({ cls := "TrustDeskModel", name := "vote", desc := "(IIZ)Z" } : Jvm.MethodName) prog_26_method_77_code (5 : Nat) (Option.some Jvm.ClassFile.FieldType.boolean)) ∈ lw_all := lw_g (lw_at lw_m11 51 rfl) rfl
theorem q2564 : (Jvm.Cond.methodLink "TrustDeskLaw" (89 : Nat) ({ cls := "TrustDeskModel", name := "settle", desc := "(I)I" } : Jvm.MethodName)) ∈ lw_all := lw_g (lw_at lw_m11 52 rfl) rfl
theorem q2565 : (Jvm.Cond.instanceMethod ({ cls := "TrustDeskModel", name := "settle", desc := "(I)I" } : Jvm.MethodName)) ∈ lw_all := lw_g (lw_at lw_m11 53 rfl) rfl
theorem q2566 : (Jvm.Cond.selects "TrustDeskModel" ({ cls := "TrustDeskModel", name := "settle", desc := "(I)I" } : Jvm.MethodName) ({ cls := "TrustDeskModel", name := "settle", desc := "(I)I" } : Jvm.MethodName)) ∈ lw_all := lw_g (lw_at lw_m11 54 rfl) rfl
theorem q2567 : (Jvm.Cond.code ({ cls := "TrustDeskModel", name := "settle", desc := "(I)I" } : Jvm.MethodName) prog_26_method_87_code (3 : Nat) (Option.some Jvm.ClassFile.FieldType.int)) ∈ lw_all := lw_g (lw_at lw_m11 55 rfl) rfl
theorem q2568 : (Jvm.Cond.methodLink "TrustDeskModel" (551 : Nat) ({ cls := "TrustDeskModel", name := "failsBy", desc := "(I)I" } : Jvm.MethodName)) ∈ lw_all := lw_g (lw_at lw_m11 56 rfl) rfl
theorem q2570 : (Jvm.Cond.instanceMethod ({ cls := "TrustDeskModel", name := "failsBy", desc := "(I)I" } : Jvm.MethodName)) ∈ lw_all := lw_g (lw_at lw_m11 58 rfl) rfl
theorem q2571 : (Jvm.Cond.code ({ cls := "TrustDeskModel", name := "failsBy", desc := "(I)I" } : Jvm.MethodName) prog_26_method_83_code (2 : Nat) (Option.some Jvm.ClassFile.FieldType.int)) ∈ lw_all := lw_g (lw_at lw_m11 59 rfl) rfl
theorem q2572 : (Jvm.Cond.methodLink "TrustDeskModel" (521 : Nat) ({ cls := "TrustDeskModel", name := "canBe", desc := "(I)Z" } : Jvm.MethodName)) ∈ lw_all := lw_g (lw_at lw_m11 60 rfl) rfl
theorem q2574 : (Jvm.Cond.instanceMethod ({ cls := "TrustDeskModel", name := "canBe", desc := "(I)Z" } : Jvm.MethodName)) ∈ lw_all := lw_g (lw_at lw_m11 62 rfl) rfl
theorem q2575 : (Jvm.Cond.code ({ cls := "TrustDeskModel", name := "canBe", desc := "(I)Z" } : Jvm.MethodName) prog_26_method_79_code (4 : Nat) (Option.some Jvm.ClassFile.FieldType.boolean)) ∈ lw_all := lw_g (lw_at lw_m11 63 rfl) rfl
theorem q2576 : (Jvm.Cond.methodLink "TrustDeskModel" (515 : Nat) ({ cls := "TrustDeskModel", name := "firstDead", desc := "(I)I" } : Jvm.MethodName)) ∈ lw_all := lw_g (lw_at lw_m11 64 rfl) rfl
theorem q2578 : (Jvm.Cond.instanceMethod ({ cls := "TrustDeskModel", name := "firstDead", desc := "(I)I" } : Jvm.MethodName)) ∈ lw_all := lw_g (lw_at lw_m11 66 rfl) rfl
theorem q2579 : (Jvm.Cond.code ({ cls := "TrustDeskModel", name := "firstDead", desc := "(I)I" } : Jvm.MethodName) prog_26_method_78_code (3 : Nat) (Option.some Jvm.ClassFile.FieldType.int)) ∈ lw_all := lw_g (lw_at lw_m11 67 rfl) rfl
theorem q2580 : (Jvm.Cond.methodLink "TrustDeskModel" (524 : Nat) ({ cls := "TrustDeskModel", name := "isBarred", desc := "(I)Z" } : Jvm.MethodName)) ∈ lw_all := lw_g (lw_at lw_m11 68 rfl) rfl
theorem q2582 : (Jvm.Cond.instanceMethod ({ cls := "TrustDeskModel", name := "isBarred", desc := "(I)Z" } : Jvm.MethodName)) ∈ lw_all := lw_g (lw_at lw_m11 70 rfl) rfl
theorem q2583 : (Jvm.Cond.code ({ cls := "TrustDeskModel", name := "isBarred", desc := "(I)Z" } : Jvm.MethodName) prog_26_method_80_code (5 : Nat) (Option.some Jvm.ClassFile.FieldType.boolean)) ∈ lw_all := lw_g (lw_at lw_m11 71 rfl) rfl
theorem q2584 : (Jvm.Cond.methodLink "TrustDeskModel" (518 : Nat) ({ cls := "TrustDeskModel", name := "year", desc := "()I" } : Jvm.MethodName)) ∈ lw_all := lw_g (lw_at lw_m11 72 rfl) rfl
theorem q2586 : (Jvm.Cond.instanceMethod ({ cls := "TrustDeskModel", name := "year", desc := "()I" } : Jvm.MethodName)) ∈ lw_all := lw_g (lw_at lw_m11 74 rfl) rfl
theorem q2587 : (Jvm.Cond.code ({ cls := "TrustDeskModel", name := "year", desc := "()I" } : Jvm.MethodName) prog_26_method_5_code (1 : Nat) (Option.some Jvm.ClassFile.FieldType.int)) ∈ lw_all := lw_g (lw_at lw_m11 75 rfl) rfl
theorem q2588 : (Jvm.Cond.methodLink "TrustDeskModel" (527 : Nat) ({ cls := "TrustDeskModel", name := "marksLeft", desc := "(I)I" } : Jvm.MethodName)) ∈ lw_all := lw_g (lw_at lw_m11 76 rfl) rfl
theorem q2590 : (Jvm.Cond.instanceMethod ({ cls := "TrustDeskModel", name := "marksLeft", desc := "(I)I" } : Jvm.MethodName)) ∈ lw_all := lw_g (lw_at lw_m11 78 rfl) rfl
theorem q2591 : (Jvm.Cond.code ({ cls := "TrustDeskModel", name := "marksLeft", desc := "(I)I" } : Jvm.MethodName) prog_26_method_81_code (3 : Nat) (Option.some Jvm.ClassFile.FieldType.int)) ∈ lw_all := lw_g (lw_at lw_m11 79 rfl) rfl
theorem q2592 : (Jvm.Cond.methodLink "TrustDeskModel" (530 : Nat) ({ cls := "TrustDeskModel", name := "lacksYes", desc := "(II)Z" } : Jvm.MethodName)) ∈ lw_all := lw_g (lw_at lw_m11 80 rfl) rfl
theorem q2594 : (Jvm.Cond.instanceMethod ({ cls := "TrustDeskModel", name := "lacksYes", desc := "(II)Z" } : Jvm.MethodName)) ∈ lw_all := lw_g (lw_at lw_m11 82 rfl) rfl
theorem q2595 : (Jvm.Cond.code ({ cls := "TrustDeskModel", name := "lacksYes", desc := "(II)Z" } : Jvm.MethodName) prog_26_method_82_code (5 : Nat) (Option.some Jvm.ClassFile.FieldType.boolean)) ∈ lw_all := lw_g (lw_at lw_m11 83 rfl) rfl
theorem q2596 : (Jvm.Cond.methodLink "TrustDeskModel" (554 : Nat) ({ cls := "TrustDeskModel", name := "makes", desc := "(I)V" } : Jvm.MethodName)) ∈ lw_all := lw_g (lw_at lw_m11 84 rfl) rfl
theorem q2598 : (Jvm.Cond.instanceMethod ({ cls := "TrustDeskModel", name := "makes", desc := "(I)V" } : Jvm.MethodName)) ∈ lw_all := lw_g (lw_at lw_m11 86 rfl) rfl
theorem q2599 : (Jvm.Cond.code ({ cls := "TrustDeskModel", name := "makes", desc := "(I)V" } : Jvm.MethodName) prog_26_method_86_code (5 : Nat) (Option.none : Option Jvm.ClassFile.FieldType)) ∈ lw_all := lw_g (lw_at lw_m11 87 rfl) rfl
theorem q2600 : (Jvm.Cond.methodLink "TrustDeskModel" (548 : Nat) ({ cls := "TrustDeskModel", name := "joins", desc := "(II)V" } : Jvm.MethodName)) ∈ lw_all := lw_g (lw_at lw_m11 88 rfl) rfl
theorem q2602 : (Jvm.Cond.instanceMethod ({ cls := "TrustDeskModel", name := "joins", desc := "(II)V" } : Jvm.MethodName)) ∈ lw_all := lw_g (lw_at lw_m11 90 rfl) rfl
theorem q2603 : (Jvm.Cond.code ({ cls := "TrustDeskModel", name := "joins", desc := "(II)V" } : Jvm.MethodName) prog_26_method_85_code (11 : Nat) (Option.none : Option Jvm.ClassFile.FieldType)) ∈ lw_all := lw_g (lw_at lw_m11 91 rfl) rfl
theorem q2604 : (Jvm.Cond.methodLink "TrustDeskModel" (541 : Nat) ({ cls := "TrustDeskModel", name := "worth", desc := "(I)J" } : Jvm.MethodName)) ∈ lw_all := lw_g (lw_at lw_m11 92 rfl) rfl
theorem q2606 : (Jvm.Cond.instanceMethod ({ cls := "TrustDeskModel", name := "worth", desc := "(I)J" } : Jvm.MethodName)) ∈ lw_all := lw_g (lw_at lw_m11 94 rfl) rfl
theorem q2607 : (Jvm.Cond.code ({ cls := "TrustDeskModel", name := "worth", desc := "(I)J" } : Jvm.MethodName) prog_26_method_84_code (2 : Nat) (Option.some Jvm.ClassFile.FieldType.long)) ∈ lw_all := lw_g (lw_at lw_m11 95 rfl) rfl
theorem q2608 : (Jvm.Cond.constantLong "TrustDeskModel" (533 : Nat) (1000000000000 : Int64)) ∈ lw_all := lw_g (lw_at lw_m11 96 rfl) rfl
theorem q2609 : (Jvm.Cond.constantLong "TrustDeskModel" (535 : Nat) (20 : Int64)) ∈ lw_all := lw_g (lw_at lw_m11 97 rfl) rfl
theorem q2610 : (Jvm.Cond.methodLink "TrustDeskModel" (537 : Nat) ({ cls := "java/lang/Math", name := "min", desc := "(JJ)J" } : Jvm.MethodName)) ∈ lw_all := lw_g (lw_at lw_m11 98 rfl) rfl
theorem q2611 : (Jvm.Cond.methodLink "TrustDeskModel" (545 : Nat) ({ cls := "java/lang/Math", name := "min", desc := "(II)I" } : Jvm.MethodName)) ∈ lw_all := lw_g (lw_at lw_m11 99 rfl) rfl
theorem q2612 : (Jvm.Cond.constant "TrustDeskModel" (547 : Nat) (99999 : Int32)) ∈ lw_all := lw_g (lw_at lw_m11 100 rfl) rfl
theorem q2613 : (Jvm.Cond.methodLink "TrustDeskLaw" (93 : Nat) ({ cls := "TrustDeskModel", name := "scheme", desc := "(II)I" } : Jvm.MethodName)) ∈ lw_all := lw_g (lw_at lw_m11 101 rfl) rfl
theorem q2614 : (Jvm.Cond.instanceMethod ({ cls := "TrustDeskModel", name := "scheme", desc := "(II)I" } : Jvm.MethodName)) ∈ lw_all := lw_g (lw_at lw_m11 102 rfl) rfl
theorem q2615 : (Jvm.Cond.selects "TrustDeskModel" ({ cls := "TrustDeskModel", name := "scheme", desc := "(II)I" } : Jvm.MethodName) ({ cls := "TrustDeskModel", name := "scheme", desc := "(II)I" } : Jvm.MethodName)) ∈ lw_all := lw_g (lw_at lw_m11 103 rfl) rfl
theorem q2616 : (Jvm.Cond.code ({ cls := "TrustDeskModel", name := "scheme", desc := "(II)I" } : Jvm.MethodName) prog_26_method_89_code (3 : Nat) (Option.some Jvm.ClassFile.FieldType.int)) ∈ lw_all := lw_g (lw_at lw_m11 104 rfl) rfl
theorem q2617 : (Jvm.Cond.methodLink "TrustDeskModel" (557 : Nat) ({ cls := "TrustDeskModel", name := "saidSo", desc := "(II)I" } : Jvm.MethodName)) ∈ lw_all := lw_g (lw_at lw_m11 105 rfl) rfl
theorem q2619 : (Jvm.Cond.instanceMethod ({ cls := "TrustDeskModel", name := "saidSo", desc := "(II)I" } : Jvm.MethodName)) ∈ lw_all := lw_g (lw_at lw_m11 107 rfl) rfl
theorem q2620 : (Jvm.Cond.code ({ cls := "TrustDeskModel", name := "saidSo", desc := "(II)I" } : Jvm.MethodName) prog_26_method_88_code (5 : Nat) (Option.some Jvm.ClassFile.FieldType.int)) ∈ lw_all := lw_g (lw_at lw_m11 108 rfl) rfl
theorem q2621 : (Jvm.Cond.methodLink "TrustDeskLaw" (140 : Nat) ({ cls := "TrustDeskModel", name := "nearest", desc := "(I)I" } : Jvm.MethodName)) ∈ lw_all := lw_g (lw_at lw_m11 109 rfl) rfl
theorem q2622 : (Jvm.Cond.instanceMethod ({ cls := "TrustDeskModel", name := "nearest", desc := "(I)I" } : Jvm.MethodName)) ∈ lw_all := lw_g (lw_at lw_m11 110 rfl) rfl
theorem q2623 : (Jvm.Cond.selects "TrustDeskModel" ({ cls := "TrustDeskModel", name := "nearest", desc := "(I)I" } : Jvm.MethodName) ({ cls := "TrustDeskModel", name := "nearest", desc := "(I)I" } : Jvm.MethodName)) ∈ lw_all := lw_g (lw_at lw_m11 111 rfl) rfl
theorem q2624 : (Jvm.Cond.code ({ cls := "TrustDeskModel", name := "nearest", desc := "(I)I" } : Jvm.MethodName) prog_26_method_90_code (6 : Nat) (Option.some Jvm.ClassFile.FieldType.int)) ∈ lw_all := lw_g (lw_at lw_m11 112 rfl) rfl
theorem q2625 : (Jvm.Cond.methodLink "TrustDeskLaw" (144 : Nat) ({ cls := "TrustDeskModel", name := "marks", desc := "(III)I" } : Jvm.MethodName)) ∈ lw_all := lw_g (lw_at lw_m11 113 rfl) rfl
theorem q2626 : (Jvm.Cond.instanceMethod ({ cls := "TrustDeskModel", name := "marks", desc := "(III)I" } : Jvm.MethodName)) ∈ lw_all := lw_g (lw_at lw_m11 114 rfl) rfl
theorem q2627 : (Jvm.Cond.selects "TrustDeskModel" ({ cls := "TrustDeskModel", name := "marks", desc := "(III)I" } : Jvm.MethodName) ({ cls := "TrustDeskModel", name := "marks", desc := "(III)I" } : Jvm.MethodName)) ∈ lw_all := lw_g (lw_at lw_m11 115 rfl) rfl
theorem q2628 : (Jvm.Cond.code ({ cls := "TrustDeskModel", name := "marks", desc := "(III)I" } : Jvm.MethodName) prog_26_method_91_code (5 : Nat) (Option.some Jvm.ClassFile.FieldType.int)) ∈ lw_all := lw_g (lw_at lw_m11 116 rfl) rfl
theorem q2629 : (Jvm.Cond.methodLink "TrustDeskLaw" (148 : Nat) ({ cls := "TrustDeskModel", name := "group", desc := "(I)J" } : Jvm.MethodName)) ∈ lw_all := lw_g (lw_at lw_m11 117 rfl) rfl
theorem q2630 : (Jvm.Cond.instanceMethod ({ cls := "TrustDeskModel", name := "group", desc := "(I)J" } : Jvm.MethodName)) ∈ lw_all := lw_g (lw_at lw_m11 118 rfl) rfl
theorem q2631 : (Jvm.Cond.selects "TrustDeskModel" ({ cls := "TrustDeskModel", name := "group", desc := "(I)J" } : Jvm.MethodName) ({ cls := "TrustDeskModel", name := "group", desc := "(I)J" } : Jvm.MethodName)) ∈ lw_all := lw_g (lw_at lw_m11 119 rfl) rfl
theorem q2632 : (Jvm.Cond.code ({ cls := "TrustDeskModel", name := "group", desc := "(I)J" } : Jvm.MethodName) prog_26_method_97_code (2 : Nat) (Option.some Jvm.ClassFile.FieldType.long)) ∈ lw_all := lw_g (lw_at lw_m11 120 rfl) rfl
theorem q2633 : (Jvm.Cond.methodLink "TrustDeskModel" (587 : Nat) ({ cls := "TrustDeskModel", name := "groups", desc := "(I)Z" } : Jvm.MethodName)) ∈ lw_all := lw_g (lw_at lw_m11 121 rfl) rfl
theorem q2635 : (Jvm.Cond.instanceMethod ({ cls := "TrustDeskModel", name := "groups", desc := "(I)Z" } : Jvm.MethodName)) ∈ lw_all := lw_g (lw_at lw_m11 123 rfl) rfl
theorem q2636 : (Jvm.Cond.code ({ cls := "TrustDeskModel", name := "groups", desc := "(I)Z" } : Jvm.MethodName) prog_26_method_96_code (2 : Nat) (Option.some Jvm.ClassFile.FieldType.boolean)) ∈ lw_all := lw_g (lw_at lw_m11 124 rfl) rfl
theorem q2637 : (Jvm.Cond.methodLink "TrustDeskModel" (581 : Nat) ({ cls := "TrustDeskModel", name := "areAsked", desc := "(I)Z" } : Jvm.MethodName)) ∈ lw_all := lw_g (lw_at lw_m11 125 rfl) rfl
theorem q2639 : (Jvm.Cond.instanceMethod ({ cls := "TrustDeskModel", name := "areAsked", desc := "(I)Z" } : Jvm.MethodName)) ∈ lw_all := lw_g (lw_at lw_m11 127 rfl) rfl
theorem q2640 : (Jvm.Cond.code ({ cls := "TrustDeskModel", name := "areAsked", desc := "(I)Z" } : Jvm.MethodName) prog_26_method_92_code (4 : Nat) (Option.some Jvm.ClassFile.FieldType.boolean)) ∈ lw_all := lw_g (lw_at lw_m11 128 rfl) rfl
theorem q2641 : (Jvm.Cond.methodLink "TrustDeskModel" (584 : Nat) ({ cls := "TrustDeskModel", name := "findOver", desc := "(I)V" } : Jvm.MethodName)) ∈ lw_all := lw_g (lw_at lw_m11 129 rfl) rfl
theorem q2643 : (Jvm.Cond.instanceMethod ({ cls := "TrustDeskModel", name := "findOver", desc := "(I)V" } : Jvm.MethodName)) ∈ lw_all := lw_g (lw_at lw_m11 131 rfl) rfl
theorem q2644 : (Jvm.Cond.code ({ cls := "TrustDeskModel", name := "findOver", desc := "(I)V" } : Jvm.MethodName) prog_26_method_93_code (5 : Nat) (Option.none : Option Jvm.ClassFile.FieldType)) ∈ lw_all := lw_g (lw_at lw_m11 132 rfl) rfl
theorem q2645 : (Jvm.Cond.methodLink "TrustDeskModel" (578 : Nat) ({ cls := "TrustDeskModel", name := "counts", desc := "(II)V" } : Jvm.MethodName)) ∈ lw_all := lw_g (lw_at lw_m11 133 rfl) rfl
theorem q2647 : (Jvm.Cond.instanceMethod ({ cls := "TrustDeskModel", name := "counts", desc := "(II)V" } : Jvm.MethodName)) ∈ lw_all := lw_g (lw_at lw_m11 135 rfl) rfl
theorem q2648 : (Jvm.Cond.code ({ cls := "TrustDeskModel", name := "counts", desc := "(II)V" } : Jvm.MethodName) prog_26_method_95_code (6 : Nat) (Option.none : Option Jvm.ClassFile.FieldType)) ∈ lw_all := lw_g (lw_at lw_m11 136 rfl) rfl
theorem q2649 : (Jvm.Cond.methodLink "TrustDeskModel" (567 : Nat) ({ cls := "TrustDeskModel", name := "idle", desc := "([I)J" } : Jvm.MethodName)) ∈ lw_all := lw_g (lw_at lw_m11 137 rfl) rfl
theorem q2651 : (Jvm.Cond.instanceMethod ({ cls := "TrustDeskModel", name := "idle", desc := "([I)J" } : Jvm.MethodName)) ∈ lw_all := lw_g (lw_at lw_m11 139 rfl) rfl
theorem q2652 : (Jvm.Cond.code ({ cls := "TrustDeskModel", name := "idle", desc := "([I)J" } : Jvm.MethodName) prog_26_method_94_code (10 : Nat) (Option.some Jvm.ClassFile.FieldType.long)) ∈ lw_all := lw_g (lw_at lw_m11 140 rfl) rfl
theorem q2653 : (Jvm.Cond.constantLong "TrustDeskModel" (563 : Nat) (-2 : Int64)) ∈ lw_all := lw_g (lw_at lw_m11 141 rfl) rfl
theorem q2654 : (Jvm.Cond.methodLink "TrustDeskModel" (565 : Nat) ({ cls := "java/lang/Math", name := "max", desc := "(JJ)J" } : Jvm.MethodName)) ∈ lw_all := lw_g (lw_at lw_m11 142 rfl) rfl
theorem q2655 : (Jvm.Cond.constantLong "TrustDeskModel" (590 : Nat) (-1 : Int64)) ∈ lw_all := lw_g (lw_at lw_m11 143 rfl) rfl
theorem q2656 : (Jvm.Cond.methodLink "TrustDeskLaw" (152 : Nat) ({ cls := "TrustDeskModel", name := "grouped", desc := "(II)I" } : Jvm.MethodName)) ∈ lw_all := lw_g (lw_at lw_m11 144 rfl) rfl
theorem q2657 : (Jvm.Cond.instanceMethod ({ cls := "TrustDeskModel", name := "grouped", desc := "(II)I" } : Jvm.MethodName)) ∈ lw_all := lw_g (lw_at lw_m11 145 rfl) rfl
theorem q2658 : (Jvm.Cond.selects "TrustDeskModel" ({ cls := "TrustDeskModel", name := "grouped", desc := "(II)I" } : Jvm.MethodName) ({ cls := "TrustDeskModel", name := "grouped", desc := "(II)I" } : Jvm.MethodName)) ∈ lw_all := lw_g (lw_at lw_m11 146 rfl) rfl
theorem q2659 : (Jvm.Cond.code ({ cls := "TrustDeskModel", name := "grouped", desc := "(II)I" } : Jvm.MethodName) prog_26_method_98_code (3 : Nat) (Option.some Jvm.ClassFile.FieldType.int)) ∈ lw_all := lw_g (lw_at lw_m11 147 rfl) rfl
theorem q2660 : (Jvm.Cond.methodLink "TrustDeskLaw" (156 : Nat) ({ cls := "TrustDeskModel", name := "lay", desc := "(II)Z" } : Jvm.MethodName)) ∈ lw_all := lw_g (lw_at lw_m11 148 rfl) rfl
theorem q2661 : (Jvm.Cond.instanceMethod ({ cls := "TrustDeskModel", name := "lay", desc := "(II)Z" } : Jvm.MethodName)) ∈ lw_all := lw_g (lw_at lw_m11 149 rfl) rfl
theorem q2662 : (Jvm.Cond.selects "TrustDeskModel" ({ cls := "TrustDeskModel", name := "lay", desc := "(II)Z" } : Jvm.MethodName) ({ cls := "TrustDeskModel", name := "lay", desc := "(II)Z" } : Jvm.MethodName)) ∈ lw_all := lw_g (lw_at lw_m11 150 rfl) rfl
theorem q2663 : (Jvm.Cond.code ({ cls := "TrustDeskModel", name := "lay", desc := "(II)Z" } : Jvm.MethodName) prog_26_method_99_code (3 : Nat) (Option.some Jvm.ClassFile.FieldType.boolean)) ∈ lw_all := lw_g (lw_at lw_m11 151 rfl) rfl
theorem q2664 : (Jvm.Cond.methodLink "TrustDeskLaw" (160 : Nat) ({ cls := "TrustDeskModel", name := "judge", desc := "(I)J" } : Jvm.MethodName)) ∈ lw_all := lw_g (lw_at lw_m11 152 rfl) rfl
theorem q2665 : (Jvm.Cond.instanceMethod ({ cls := "TrustDeskModel", name := "judge", desc := "(I)J" } : Jvm.MethodName)) ∈ lw_all := lw_g (lw_at lw_m11 153 rfl) rfl
theorem q2666 : (Jvm.Cond.selects "TrustDeskModel" ({ cls := "TrustDeskModel", name := "judge", desc := "(I)J" } : Jvm.MethodName) ({ cls := "TrustDeskModel", name := "judge", desc := "(I)J" } : Jvm.MethodName)) ∈ lw_all := lw_g (lw_at lw_m11 154 rfl) rfl
theorem q2667 : (Jvm.Cond.code ({ cls := "TrustDeskModel", name := "judge", desc := "(I)J" } : Jvm.MethodName) prog_26_method_100_code (2 : Nat) (Option.some Jvm.ClassFile.FieldType.long)) ∈ lw_all := lw_g (lw_at lw_m11 155 rfl) rfl
theorem q2668 : (Jvm.Cond.methodLink "TrustDeskLaw" (164 : Nat) ({ cls := "TrustDeskModel", name := "account", desc := "(II)I" } : Jvm.MethodName)) ∈ lw_all := lw_g (lw_at lw_m11 156 rfl) rfl
theorem q2669 : (Jvm.Cond.instanceMethod ({ cls := "TrustDeskModel", name := "account", desc := "(II)I" } : Jvm.MethodName)) ∈ lw_all := lw_g (lw_at lw_m11 157 rfl) rfl
theorem q2670 : (Jvm.Cond.selects "TrustDeskModel" ({ cls := "TrustDeskModel", name := "account", desc := "(II)I" } : Jvm.MethodName) ({ cls := "TrustDeskModel", name := "account", desc := "(II)I" } : Jvm.MethodName)) ∈ lw_all := lw_g (lw_at lw_m11 158 rfl) rfl
theorem q2671 : (Jvm.Cond.code ({ cls := "TrustDeskModel", name := "account", desc := "(II)I" } : Jvm.MethodName) prog_26_method_101_code (4 : Nat) (Option.some Jvm.ClassFile.FieldType.int)) ∈ lw_all := lw_g (lw_at lw_m11 159 rfl) rfl
theorem q2672 : (Jvm.Cond.methodLink "TrustDeskLaw" (99 : Nat) ({ cls := "TrustDeskModel", name := "fundOf", desc := "(II)I" } : Jvm.MethodName)) ∈ lw_all := lw_g (lw_at lw_m11 160 rfl) rfl
theorem q2673 : (Jvm.Cond.instanceMethod ({ cls := "TrustDeskModel", name := "fundOf", desc := "(II)I" } : Jvm.MethodName)) ∈ lw_all := lw_g (lw_at lw_m11 161 rfl) rfl
theorem q2674 : (Jvm.Cond.selects "TrustDeskModel" ({ cls := "TrustDeskModel", name := "fundOf", desc := "(II)I" } : Jvm.MethodName) ({ cls := "TrustDeskModel", name := "fundOf", desc := "(II)I" } : Jvm.MethodName)) ∈ lw_all := lw_g (lw_at lw_m11 162 rfl) rfl
theorem q2675 : (Jvm.Cond.code ({ cls := "TrustDeskModel", name := "fundOf", desc := "(II)I" } : Jvm.MethodName) prog_26_method_102_code (3 : Nat) (Option.some Jvm.ClassFile.FieldType.int)) ∈ lw_all := lw_g (lw_at lw_m11 163 rfl) rfl
theorem q2676 : (Jvm.Cond.constantLong "TrustDeskModel" (595 : Nat) (9 : Int64)) ∈ lw_all := lw_g (lw_at lw_m11 164 rfl) rfl
theorem q2677 : (Jvm.Cond.methodLink "TrustDeskLaw" (107 : Nat) ({ cls := "TrustDeskModel", name := "coin", desc := "(I)J" } : Jvm.MethodName)) ∈ lw_all := lw_g (lw_at lw_m11 165 rfl) rfl
theorem q2678 : (Jvm.Cond.instanceMethod ({ cls := "TrustDeskModel", name := "coin", desc := "(I)J" } : Jvm.MethodName)) ∈ lw_all := lw_g (lw_at lw_m11 166 rfl) rfl
theorem q2679 : (Jvm.Cond.selects "TrustDeskModel" ({ cls := "TrustDeskModel", name := "coin", desc := "(I)J" } : Jvm.MethodName) ({ cls := "TrustDeskModel", name := "coin", desc := "(I)J" } : Jvm.MethodName)) ∈ lw_all := lw_g (lw_at lw_m11 167 rfl) rfl
theorem q2680 : (Jvm.Cond.code ({ cls := "TrustDeskModel", name := "coin", desc := "(I)J" } : Jvm.MethodName) prog_26_method_103_code (2 : Nat) (Option.some Jvm.ClassFile.FieldType.long)) ∈ lw_all := lw_g (lw_at lw_m11 168 rfl) rfl
theorem q2681 : (Jvm.Cond.methodLink "TrustDeskLaw" (111 : Nat) ({ cls := "TrustDeskModel", name := "income", desc := "(III)I" } : Jvm.MethodName)) ∈ lw_all := lw_g (lw_at lw_m11 169 rfl) rfl
theorem q2682 : (Jvm.Cond.instanceMethod ({ cls := "TrustDeskModel", name := "income", desc := "(III)I" } : Jvm.MethodName)) ∈ lw_all := lw_g (lw_at lw_m11 170 rfl) rfl
theorem q2683 : (Jvm.Cond.selects "TrustDeskModel" ({ cls := "TrustDeskModel", name := "income", desc := "(III)I" } : Jvm.MethodName) ({ cls := "TrustDeskModel", name := "income", desc := "(III)I" } : Jvm.MethodName)) ∈ lw_all := lw_g (lw_at lw_m11 171 rfl) rfl
theorem q2684 : (Jvm.Cond.code ({ cls := "TrustDeskModel", name := "income", desc := "(III)I" } : Jvm.MethodName) prog_26_method_104_code (4 : Nat) (Option.some Jvm.ClassFile.FieldType.int)) ∈ lw_all := lw_g (lw_at lw_m11 172 rfl) rfl
theorem q2685 : (Jvm.Cond.methodLink "TrustDeskLaw" (115 : Nat) ({ cls := "TrustDeskModel", name := "part", desc := "(II)I" } : Jvm.MethodName)) ∈ lw_all := lw_g (lw_at lw_m11 173 rfl) rfl
theorem q2686 : (Jvm.Cond.instanceMethod ({ cls := "TrustDeskModel", name := "part", desc := "(II)I" } : Jvm.MethodName)) ∈ lw_all := lw_g (lw_at lw_m11 174 rfl) rfl
theorem q2687 : (Jvm.Cond.selects "TrustDeskModel" ({ cls := "TrustDeskModel", name := "part", desc := "(II)I" } : Jvm.MethodName) ({ cls := "TrustDeskModel", name := "part", desc := "(II)I" } : Jvm.MethodName)) ∈ lw_all := lw_g (lw_at lw_m11 175 rfl) rfl
theorem q2688 : (Jvm.Cond.code ({ cls := "TrustDeskModel", name := "part", desc := "(II)I" } : Jvm.MethodName) prog_26_method_105_code (3 : Nat) (Option.some Jvm.ClassFile.FieldType.int)) ∈ lw_all := lw_g (lw_at lw_m11 176 rfl) rfl
theorem q2689 : (Jvm.Cond.methodLink "TrustDeskLaw" (119 : Nat) ({ cls := "TrustDeskModel", name := "paid", desc := "(I)J" } : Jvm.MethodName)) ∈ lw_all := lw_g (lw_at lw_m11 177 rfl) rfl
theorem q2690 : (Jvm.Cond.instanceMethod ({ cls := "TrustDeskModel", name := "paid", desc := "(I)J" } : Jvm.MethodName)) ∈ lw_all := lw_g (lw_at lw_m11 178 rfl) rfl
theorem q2691 : (Jvm.Cond.selects "TrustDeskModel" ({ cls := "TrustDeskModel", name := "paid", desc := "(I)J" } : Jvm.MethodName) ({ cls := "TrustDeskModel", name := "paid", desc := "(I)J" } : Jvm.MethodName)) ∈ lw_all := lw_g (lw_at lw_m11 179 rfl) rfl
theorem q2692 : (Jvm.Cond.code ({ cls := "TrustDeskModel", name := "paid", desc := "(I)J" } : Jvm.MethodName) prog_26_method_106_code (2 : Nat) (Option.some Jvm.ClassFile.FieldType.long)) ∈ lw_all := lw_g (lw_at lw_m11 180 rfl) rfl
theorem q2693 : (Jvm.Cond.methodLink "TrustDeskLaw" (123 : Nat) ({ cls := "TrustDeskModel", name := "endOf", desc := "(III)I" } : Jvm.MethodName)) ∈ lw_all := lw_g (lw_at lw_m11 181 rfl) rfl
theorem q2694 : (Jvm.Cond.instanceMethod ({ cls := "TrustDeskModel", name := "endOf", desc := "(III)I" } : Jvm.MethodName)) ∈ lw_all := lw_g (lw_at lw_m11 182 rfl) rfl
theorem q2695 : (Jvm.Cond.selects "TrustDeskModel" ({ cls := "TrustDeskModel", name := "endOf", desc := "(III)I" } : Jvm.MethodName) ({ cls := "TrustDeskModel", name := "endOf", desc := "(III)I" } : Jvm.MethodName)) ∈ lw_all := lw_g (lw_at lw_m11 183 rfl) rfl
theorem q2696 : (Jvm.Cond.code ({ cls := "TrustDeskModel", name := "endOf", desc := "(III)I" } : Jvm.MethodName) prog_26_method_107_code (5 : Nat) (Option.some Jvm.ClassFile.FieldType.int)) ∈ lw_all := lw_g (lw_at lw_m11 184 rfl) rfl
theorem q2697 : (Jvm.Cond.methodLink "TrustDeskLaw" (136 : Nat) ({ cls := "TrustDeskModel", name := "entry", desc := "(II)I" } : Jvm.MethodName)) ∈ lw_all := lw_g (lw_at lw_m11 185 rfl) rfl
theorem q2698 : (Jvm.Cond.instanceMethod ({ cls := "TrustDeskModel", name := "entry", desc := "(II)I" } : Jvm.MethodName)) ∈ lw_all := lw_g (lw_at lw_m11 186 rfl) rfl
theorem q2699 : (Jvm.Cond.selects "TrustDeskModel" ({ cls := "TrustDeskModel", name := "entry", desc := "(II)I" } : Jvm.MethodName) ({ cls := "TrustDeskModel", name := "entry", desc := "(II)I" } : Jvm.MethodName)) ∈ lw_all := lw_g (lw_at lw_m11 187 rfl) rfl
theorem q2700 : (Jvm.Cond.code ({ cls := "TrustDeskModel", name := "entry", desc := "(II)I" } : Jvm.MethodName) prog_26_method_108_code (3 : Nat) (Option.some Jvm.ClassFile.FieldType.int)) ∈ lw_all := lw_g (lw_at lw_m11 188 rfl) rfl
theorem q2701 : (Jvm.Cond.methodLink "TrustDeskLaw" (168 : Nat) ({ cls := "TrustDeskModel", name := "count", desc := "(I)I" } : Jvm.MethodName)) ∈ lw_all := lw_g (lw_at lw_m11 189 rfl) rfl
theorem q2702 : (Jvm.Cond.instanceMethod ({ cls := "TrustDeskModel", name := "count", desc := "(I)I" } : Jvm.MethodName)) ∈ lw_all := lw_g (lw_at lw_m11 190 rfl) rfl
theorem q2703 : (Jvm.Cond.selects "TrustDeskModel" ({ cls := "TrustDeskModel", name := "count", desc := "(I)I" } : Jvm.MethodName) ({ cls := "TrustDeskModel", name := "count", desc := "(I)I" } : Jvm.MethodName)) ∈ lw_all := lw_g (lw_at lw_m11 191 rfl) rfl
theorem q2704 : (Jvm.Cond.code ({ cls := "TrustDeskModel", name := "count", desc := "(I)I" } : Jvm.MethodName) prog_26_method_111_code (2 : Nat) (Option.some Jvm.ClassFile.FieldType.int)) ∈ lw_all := lw_g (lw_at lw_m11 192 rfl) rfl
theorem q2705 : (Jvm.Cond.methodLink "TrustDeskModel" (597 : Nat) ({ cls := "TrustDeskModel", name := "made", desc := "()I" } : Jvm.MethodName)) ∈ lw_all := lw_g (lw_at lw_m11 193 rfl) rfl
theorem q2707 : (Jvm.Cond.instanceMethod ({ cls := "TrustDeskModel", name := "made", desc := "()I" } : Jvm.MethodName)) ∈ lw_all := lw_g (lw_at lw_m11 195 rfl) rfl
theorem q2708 : (Jvm.Cond.code ({ cls := "TrustDeskModel", name := "made", desc := "()I" } : Jvm.MethodName) prog_26_method_109_code (3 : Nat) (Option.some Jvm.ClassFile.FieldType.int)) ∈ lw_all := lw_g (lw_at lw_m11 196 rfl) rfl
theorem q2709 : (Jvm.Cond.methodLink "TrustDeskModel" (600 : Nat) ({ cls := "TrustDeskModel", name := "free", desc := "()I" } : Jvm.MethodName)) ∈ lw_all := lw_g (lw_at lw_m11 197 rfl) rfl
theorem q2711 : (Jvm.Cond.instanceMethod ({ cls := "TrustDeskModel", name := "free", desc := "()I" } : Jvm.MethodName)) ∈ lw_all := lw_g (lw_at lw_m11 199 rfl) rfl
theorem q2712 : (Jvm.Cond.code ({ cls := "TrustDeskModel", name := "free", desc := "()I" } : Jvm.MethodName) prog_26_method_110_code (3 : Nat) (Option.some Jvm.ClassFile.FieldType.int)) ∈ lw_all := lw_g (lw_at lw_m11 200 rfl) rfl
theorem q2714 : (Jvm.Cond.sameMethod "java/lang/AbstractStringBuilder" "java/lang/AbstractStringBuilder" "append" "(C)Ljava/lang/AbstractStringBuilder;") ∈ lw_all := lw_g (lw_at lw_m11 202 rfl) rfl
theorem q2719 : (Jvm.Cond.selects "TrustDesk$Join" ({ cls := "TrustDesk$Scheme", name := "yesOf", desc := "(LTrustDesk$Fund;)I" } : Jvm.MethodName) ({ cls := "TrustDesk$Scheme", name := "yesOf", desc := "(LTrustDesk$Fund;)I" } : Jvm.MethodName)) ∈ lw_all := lw_g (lw_at lw_m11 207 rfl) rfl
theorem q2720 : (Jvm.Cond.selects "TrustDesk$Nearer" ({ cls := "TrustDesk$Scheme", name := "yesOf", desc := "(LTrustDesk$Fund;)I" } : Jvm.MethodName) ({ cls := "TrustDesk$Scheme", name := "yesOf", desc := "(LTrustDesk$Fund;)I" } : Jvm.MethodName)) ∈ lw_all := lw_g (lw_at lw_m11 208 rfl) rfl
theorem q2721 : (Jvm.Cond.selects "TrustDesk$Sale" ({ cls := "TrustDesk$Scheme", name := "yesOf", desc := "(LTrustDesk$Fund;)I" } : Jvm.MethodName) ({ cls := "TrustDesk$Scheme", name := "yesOf", desc := "(LTrustDesk$Fund;)I" } : Jvm.MethodName)) ∈ lw_all := lw_g (lw_at lw_m11 209 rfl) rfl
theorem q2722 : (Jvm.Cond.selects "TrustDesk$Strike" ({ cls := "TrustDesk$Scheme", name := "yesOf", desc := "(LTrustDesk$Fund;)I" } : Jvm.MethodName) ({ cls := "TrustDesk$Scheme", name := "yesOf", desc := "(LTrustDesk$Fund;)I" } : Jvm.MethodName)) ∈ lw_all := lw_g (lw_at lw_m11 210 rfl) rfl
theorem q2723 : (Jvm.Cond.selects "TrustDesk$Compared" ({ cls := "TrustDesk$Compared", name := "holds", desc := "([J)Z" } : Jvm.MethodName) ({ cls := "TrustDesk$Compared", name := "holds", desc := "([J)Z" } : Jvm.MethodName)) ∈ lw_all := lw_g (lw_at lw_m11 211 rfl) rfl
theorem q2724 : (Jvm.Cond.castable "TrustDesk$Compared" "TrustDesk$Cond") ∈ lw_tbl := lw_at lw_m11 212 rfl
theorem q2725 : (Jvm.Cond.castable "TrustDesk$Not" "TrustDesk$Cond") ∈ lw_tbl := lw_at lw_m11 213 rfl
theorem q2726 : (Jvm.Cond.castable "TrustDesk$Some" "TrustDesk$Cond") ∈ lw_tbl := lw_at lw_m11 214 rfl
theorem q2727 : (Jvm.Cond.castable "TrustDesk$Join" "TrustDesk$Scheme") ∈ lw_tbl := lw_at lw_m11 215 rfl
theorem q2728 : (Jvm.Cond.castable "TrustDesk$Nearer" "TrustDesk$Scheme") ∈ lw_tbl := lw_at lw_m11 216 rfl
theorem q2729 : (Jvm.Cond.castable "TrustDesk$Sale" "TrustDesk$Scheme") ∈ lw_tbl := lw_at lw_m11 217 rfl
theorem q2730 : (Jvm.Cond.castable "TrustDesk$Strike" "TrustDesk$Scheme") ∈ lw_tbl := lw_at lw_m11 218 rfl
theorem q2731 : (Jvm.Cond.castable "TrustDesk$Fund" "java/lang/Object") ∈ lw_tbl := lw_at lw_m11 219 rfl
theorem q2732 : (Jvm.Cond.castable "TrustDesk" "java/lang/Object") ∈ lw_tbl := lw_at lw_m11 220 rfl
theorem q2733 : (Jvm.Cond.castable "java/util/ArrayList" "java/lang/Object") ∈ lw_tbl := lw_at lw_m11 221 rfl
theorem q2734 : (Jvm.Cond.castable "TrustDesk$Act" "java/lang/Object") ∈ lw_tbl := lw_at lw_m11 222 rfl
theorem q2735 : (Jvm.Cond.castable "TrustDeskModel" "java/lang/Object") ∈ lw_tbl := lw_at lw_m11 223 rfl
theorem q2736 : (Jvm.Cond.castable "TrustDesk$Reader" "java/lang/Object") ∈ lw_tbl := lw_at lw_m11 224 rfl
theorem q2737 : (Jvm.Cond.castable "java/lang/String" "java/lang/Object") ∈ lw_tbl := lw_at lw_m11 225 rfl
theorem q2738 : (Jvm.Cond.castable "TrustDesk$Wrong" "java/lang/Object") ∈ lw_tbl := lw_at lw_m11 226 rfl
theorem q2739 : (Jvm.Cond.castable "TrustDesk$Bar" "java/lang/Object") ∈ lw_tbl := lw_at lw_m11 227 rfl
theorem q2740 : (Jvm.Cond.castable "TrustDesk$Some" "java/lang/Object") ∈ lw_tbl := lw_at lw_m11 228 rfl
theorem q2741 : (Jvm.Cond.castable "TrustDesk$Fact" "java/lang/Object") ∈ lw_tbl := lw_at lw_m11 229 rfl
theorem q2742 : (Jvm.Cond.castable "TrustDesk$Plain" "java/lang/Object") ∈ lw_tbl := lw_at lw_m11 230 rfl
theorem q2743 : (Jvm.Cond.castable "TrustDesk$Worked" "java/lang/Object") ∈ lw_tbl := lw_at lw_m11 231 rfl
theorem q2744 : (Jvm.Cond.castable "TrustDesk$Compared" "java/lang/Object") ∈ lw_tbl := lw_at lw_m11 232 rfl
theorem q2745 : (Jvm.Cond.castable "TrustDesk$Not" "java/lang/Object") ∈ lw_tbl := lw_at lw_m11 233 rfl
theorem q2746 : (Jvm.Cond.castable "TrustDesk$Deed" "java/lang/Object") ∈ lw_tbl := lw_at lw_m11 234 rfl
theorem q2747 : (Jvm.Cond.castable "java/lang/StringBuilder" "java/lang/Object") ∈ lw_tbl := lw_at lw_m11 235 rfl
theorem q2748 : (Jvm.Cond.castable "TrustDesk$Aim" "java/lang/Object") ∈ lw_tbl := lw_at lw_m11 236 rfl
theorem q2749 : (Jvm.Cond.castable "TrustDesk$End" "java/lang/Object") ∈ lw_tbl := lw_at lw_m11 237 rfl
theorem q2750 : (Jvm.Cond.castable "TrustDesk$Near" "java/lang/Object") ∈ lw_tbl := lw_at lw_m11 238 rfl
theorem q2751 : (Jvm.Cond.castable "java/lang/Integer" "java/lang/Object") ∈ lw_tbl := lw_at lw_m11 239 rfl
theorem q2752 : (Jvm.Cond.castable "TrustDesk$Nearer" "java/lang/Object") ∈ lw_tbl := lw_at lw_m12 0 rfl
theorem q2753 : (Jvm.Cond.castable "TrustDesk$Join" "java/lang/Object") ∈ lw_tbl := lw_at lw_m12 1 rfl
theorem q2754 : (Jvm.Cond.castable "TrustDesk$Sale" "java/lang/Object") ∈ lw_tbl := lw_at lw_m12 2 rfl
theorem q2755 : (Jvm.Cond.castable "TrustDesk$Strike" "java/lang/Object") ∈ lw_tbl := lw_at lw_m12 3 rfl
theorem q2756 : (Jvm.Cond.castable "java/util/NoSuchElementException" "java/lang/Object") ∈ lw_tbl := lw_at lw_m12 4 rfl
theorem q2757 : (Jvm.Cond.castable "TrustDesk$Groups" "java/lang/Object") ∈ lw_tbl := lw_at lw_m12 5 rfl
theorem q2760 : (Jvm.Cond.selects "[Ljava/lang/Object;" ({ cls := "java/lang/Object", name := "getClass", desc := "()Ljava/lang/Class;" } : Jvm.MethodName) ({ cls := "java/lang/Object", name := "getClass", desc := "()Ljava/lang/Class;" } : Jvm.MethodName)) ∈ lw_all := lw_g (lw_at lw_m12 8 rfl) rfl
theorem q2761 : (Jvm.Cond.declares ({ cls := "java/lang/Object", name := "getClass", desc := "()Ljava/lang/Class;" } : Jvm.MethodName)) ∈ lw_tbl := lw_at lw_m12 9 rfl
