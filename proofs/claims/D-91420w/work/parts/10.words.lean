set_option maxRecDepth 100000
set_option maxHeartbeats 1000000
/-! words and links, by program -/
theorem q127 : (Jvm.Cond.initialized "FlyingDoctorsLaw") ∈ lw_all := lw_g (lw_at lw_m1 0 rfl) rfl
theorem q128 : (Jvm.Cond.initialized "FlyingDoctors") ∈ lw_all := lw_g (lw_at lw_m1 1 rfl) rfl
theorem q131 : (Jvm.Cond.initialized "java/util/ArrayList") ∈ lw_all := lw_g (lw_at lw_m1 4 rfl) rfl
theorem q132 : (Jvm.Cond.initialized "FlyingDoctors$Rules") ∈ lw_all := lw_g (lw_at lw_m1 5 rfl) rfl
theorem q133 : (Jvm.Cond.initialized "FlyingDoctors$Asked") ∈ lw_all := lw_g (lw_at lw_m1 6 rfl) rfl
theorem q134 : (Jvm.Cond.initialized "FlyingDoctorsModel") ∈ lw_all := lw_g (lw_at lw_m1 7 rfl) rfl
theorem q135 : (Jvm.Cond.initialized "FlyingDoctors$Place") ∈ lw_all := lw_g (lw_at lw_m1 8 rfl) rfl
theorem q136 : (Jvm.Cond.initialized "jdk/internal/util/ArraysSupport") ∈ lw_all := lw_g (lw_at lw_m1 9 rfl) rfl
theorem q137 : (Jvm.Cond.initialized "java/lang/Math") ∈ lw_all := lw_g (lw_at lw_m1 10 rfl) rfl
theorem q138 : (Jvm.Cond.initialized "java/util/Arrays") ∈ lw_all := lw_g (lw_at lw_m1 11 rfl) rfl
theorem q139 : (Jvm.Cond.initialized "java/lang/System") ∈ lw_all := lw_g (lw_at lw_m1 12 rfl) rfl
theorem q140 : (Jvm.Cond.initialized "java/util/Objects") ∈ lw_all := lw_g (lw_at lw_m1 13 rfl) rfl
theorem q141 : (Jvm.Cond.initialized "jdk/internal/util/Preconditions") ∈ lw_all := lw_g (lw_at lw_m1 14 rfl) rfl
theorem q142 : (Jvm.Cond.initialized "FlyingDoctors$Plane") ∈ lw_all := lw_g (lw_at lw_m1 15 rfl) rfl
theorem q143 : (Jvm.Cond.initialized "FlyingDoctors$Person") ∈ lw_all := lw_g (lw_at lw_m1 16 rfl) rfl
theorem q144 : (Jvm.Cond.initialized "java/lang/Throwable") ∈ lw_all := lw_g (lw_at lw_m1 17 rfl) rfl
theorem q147 : (Jvm.Cond.initialized "java/util/NoSuchElementException") ∈ lw_all := lw_g (lw_at lw_m1 20 rfl) rfl
theorem q148 : (Jvm.Cond.initialized "java/lang/IllegalArgumentException") ∈ lw_all := lw_g (lw_at lw_m1 21 rfl) rfl
theorem q149 : (Jvm.Cond.initialized "FlyingDoctors$Reader") ∈ lw_all := lw_g (lw_at lw_m1 22 rfl) rfl
theorem q150 : (Jvm.Cond.initialized "java/lang/String") ∈ lw_all := lw_g (lw_at lw_m1 23 rfl) rfl
theorem q151 : (Jvm.Cond.initialized "java/lang/StringLatin1") ∈ lw_all := lw_g (lw_at lw_m1 24 rfl) rfl
theorem q154 : (Jvm.Cond.initialized "FlyingDoctors$Wrong") ∈ lw_all := lw_g (lw_at lw_m1 27 rfl) rfl
theorem q156 : (Jvm.Cond.initialized "java/lang/StringBuilder") ∈ lw_all := lw_g (lw_at lw_m1 29 rfl) rfl
theorem q160 : (Jvm.Cond.initialized "FlyingDoctors$Chain") ∈ lw_all := lw_g (lw_at lw_m1 33 rfl) rfl
theorem q161 : (Jvm.Cond.initialized "FlyingDoctors$Number") ∈ lw_all := lw_g (lw_at lw_m1 34 rfl) rfl
theorem q162 : (Jvm.Cond.initialized "FlyingDoctors$Value") ∈ lw_all := lw_g (lw_at lw_m1 35 rfl) rfl
theorem q163 : (Jvm.Cond.initialized "FlyingDoctors$Param") ∈ lw_all := lw_g (lw_at lw_m1 36 rfl) rfl
theorem q164 : (Jvm.Cond.initialized "FlyingDoctors$Said") ∈ lw_all := lw_g (lw_at lw_m1 37 rfl) rfl
theorem q165 : (Jvm.Cond.initialized "FlyingDoctors$Not") ∈ lw_all := lw_g (lw_at lw_m1 38 rfl) rfl
theorem q166 : (Jvm.Cond.initialized "FlyingDoctors$Dose") ∈ lw_all := lw_g (lw_at lw_m1 39 rfl) rfl
theorem q167 : (Jvm.Cond.initialized "FlyingDoctors$Told") ∈ lw_all := lw_g (lw_at lw_m1 40 rfl) rfl
theorem q168 : (Jvm.Cond.initialized "FlyingDoctors$Call") ∈ lw_all := lw_g (lw_at lw_m1 41 rfl) rfl
theorem q169 : (Jvm.Cond.initialized "java/lang/IllegalStateException") ∈ lw_all := lw_g (lw_at lw_m1 42 rfl) rfl
theorem q170 : (Jvm.Cond.initialized "FlyingDoctors$Flight") ∈ lw_all := lw_g (lw_at lw_m1 43 rfl) rfl
theorem q171 : (Jvm.Cond.initialized "FlyingDoctors$Clinic") ∈ lw_all := lw_g (lw_at lw_m1 44 rfl) rfl
theorem q172 : (Jvm.Cond.initialized "FlyingDoctors$Rounds") ∈ lw_all := lw_g (lw_at lw_m1 45 rfl) rfl
theorem q173 : (Jvm.Cond.initialized "FlyingDoctors$Gift") ∈ lw_all := lw_g (lw_at lw_m1 46 rfl) rfl
theorem q174 : (Jvm.Cond.classLink "FlyingDoctorsLaw" (8 : Nat) "FlyingDoctors") ∈ lw_all := lw_g (lw_at lw_m1 47 rfl) rfl
theorem q175 : (Jvm.Cond.instantiable "FlyingDoctors" (28 : Nat)) ∈ lw_all := lw_g (lw_at lw_m1 48 rfl) rfl
theorem q176 : (Jvm.Cond.methodLink "FlyingDoctorsLaw" (110 : Nat) ({ cls := "FlyingDoctors", name := "<init>", desc := "()V" } : Jvm.MethodName)) ∈ lw_all := lw_g (lw_at lw_m1 49 rfl) rfl
theorem q177 : (Jvm.Cond.instanceMethod ({ cls := "FlyingDoctors", name := "<init>", desc := "()V" } : Jvm.MethodName)) ∈ lw_all := lw_g (lw_at lw_m1 50 rfl) rfl
theorem q178 : (Jvm.Cond.code ({ cls := "FlyingDoctors", name := "<init>", desc := "()V" } : Jvm.MethodName) prog_1_method_19_code (1 : Nat) (Option.none : Option Jvm.ClassFile.FieldType)) ∈ lw_all := lw_g (lw_at lw_m1 51 rfl) rfl
theorem q179 : (Jvm.Cond.methodLink "FlyingDoctors" (266 : Nat) ({ cls := "java/lang/Object", name := "<init>", desc := "()V" } : Jvm.MethodName)) ∈ lw_all := lw_g (lw_at lw_m1 52 rfl) rfl
theorem q180 : (Jvm.Cond.instanceMethod ({ cls := "java/lang/Object", name := "<init>", desc := "()V" } : Jvm.MethodName)) ∈ lw_all := lw_g (lw_at lw_m1 53 rfl) rfl
theorem q181 : (Jvm.Cond.code ({ cls := "java/lang/Object", name := "<init>", desc := "()V" } : Jvm.MethodName) object_method_1_code (1 : Nat) (Option.none : Option Jvm.ClassFile.FieldType)) ∈ lw_all := lw_g (lw_at lw_m1 54 rfl) rfl
theorem q182 : (Jvm.Cond.classLink "FlyingDoctors" (26 : Nat) "FlyingDoctors$Place") ∈ lw_all := lw_g (lw_at lw_m1 55 rfl) rfl
theorem q183 : (Jvm.Cond.arrayOver (Jvm.ClassFile.FieldType.object "FlyingDoctors$Place")) ∈ lw_tbl := lw_at lw_m1 56 rfl
theorem q184 : (Jvm.Cond.classLink "FlyingDoctors" (269 : Nat) "java/util/ArrayList") ∈ lw_all := lw_g (lw_at lw_m1 57 rfl) rfl
theorem q185 : (Jvm.Cond.instantiable "java/util/ArrayList" (3 : Nat)) ∈ lw_all := lw_g (lw_at lw_m1 58 rfl) rfl
theorem q186 : (Jvm.Cond.methodLink "FlyingDoctors" (271 : Nat) ({ cls := "java/util/ArrayList", name := "<init>", desc := "()V" } : Jvm.MethodName)) ∈ lw_all := lw_g (lw_at lw_m1 59 rfl) rfl
theorem q187 : (Jvm.Cond.instanceMethod ({ cls := "java/util/ArrayList", name := "<init>", desc := "()V" } : Jvm.MethodName)) ∈ lw_all := lw_g (lw_at lw_m1 60 rfl) rfl
theorem q188 : (Jvm.Cond.code ({ cls := "java/util/ArrayList", name := "<init>", desc := "()V" } : Jvm.MethodName) prog_50_method_2_code (1 : Nat) (Option.none : Option Jvm.ClassFile.FieldType)) ∈ lw_all := lw_g (lw_at lw_m1 61 rfl) rfl
theorem q189 : (Jvm.Cond.methodLink "java/util/ArrayList" (1 : Nat) ({ cls := "java/util/AbstractList", name := "<init>", desc := "()V" } : Jvm.MethodName)) ∈ lw_all := lw_g (lw_at lw_m1 62 rfl) rfl
theorem q190 : (Jvm.Cond.instanceMethod ({ cls := "java/util/AbstractList", name := "<init>", desc := "()V" } : Jvm.MethodName)) ∈ lw_all := lw_g (lw_at lw_m1 63 rfl) rfl
theorem q191 : (Jvm.Cond.code ({ cls := "java/util/AbstractList", name := "<init>", desc := "()V" } : Jvm.MethodName) prog_49_method_1_code (1 : Nat) (Option.none : Option Jvm.ClassFile.FieldType)) ∈ lw_all := lw_g (lw_at lw_m1 64 rfl) rfl
theorem q192 : (Jvm.Cond.methodLink "java/util/AbstractList" (1 : Nat) ({ cls := "java/util/AbstractCollection", name := "<init>", desc := "()V" } : Jvm.MethodName)) ∈ lw_all := lw_g (lw_at lw_m1 65 rfl) rfl
theorem q193 : (Jvm.Cond.instanceMethod ({ cls := "java/util/AbstractCollection", name := "<init>", desc := "()V" } : Jvm.MethodName)) ∈ lw_all := lw_g (lw_at lw_m1 66 rfl) rfl
theorem q194 : (Jvm.Cond.code ({ cls := "java/util/AbstractCollection", name := "<init>", desc := "()V" } : Jvm.MethodName) prog_48_method_1_code (1 : Nat) (Option.none : Option Jvm.ClassFile.FieldType)) ∈ lw_all := lw_g (lw_at lw_m1 67 rfl) rfl
theorem q195 : (Jvm.Cond.methodLink "java/util/AbstractCollection" (1 : Nat) ({ cls := "java/lang/Object", name := "<init>", desc := "()V" } : Jvm.MethodName)) ∈ lw_all := lw_g (lw_at lw_m1 68 rfl) rfl
theorem q196 : (Jvm.Cond.fieldLink "java/util/ArrayList" (39 : Nat) "java/util/ArrayList" "DEFAULTCAPACITY_EMPTY_ELEMENTDATA" "[Ljava/lang/Object;") ∈ lw_all := lw_g (lw_at lw_m1 69 rfl) rfl
theorem q198 : (Jvm.Cond.fieldLink "java/util/ArrayList" (9 : Nat) "java/util/ArrayList" "elementData" "[Ljava/lang/Object;") ∈ lw_all := lw_g (lw_at lw_m1 71 rfl) rfl
theorem q199 : (Jvm.Cond.fieldLink "java/util/ArrayList" (48 : Nat) "java/util/ArrayList" "size" "I") ∈ lw_all := lw_g (lw_at lw_m1 72 rfl) rfl
theorem q200 : (Jvm.Cond.fieldLink "java/util/AbstractList" (7 : Nat) "java/util/AbstractList" "modCount" "I") ∈ lw_all := lw_g (lw_at lw_m1 73 rfl) rfl
theorem q201 : (Jvm.Cond.fieldLink "java/util/ArrayList" (63 : Nat) "java/util/ArrayList" "modCount" "I") ∈ lw_all := lw_g (lw_at lw_m1 74 rfl) rfl
theorem q202 : (Jvm.Cond.sameField "java/util/ArrayList" "java/util/AbstractList" "modCount" "I") ∈ lw_all := lw_g (lw_at lw_m1 75 rfl) rfl
theorem q210 : (Jvm.Cond.arrayClass Jvm.ClassFile.FieldType.int) ∈ lw_all := lw_g (lw_at lw_m1 83 rfl) rfl
theorem q211 : (Jvm.Cond.classLink "FlyingDoctors" (43 : Nat) "FlyingDoctors$Rules") ∈ lw_all := lw_g (lw_at lw_m1 84 rfl) rfl
theorem q212 : (Jvm.Cond.instantiable "FlyingDoctors$Rules" (5 : Nat)) ∈ lw_all := lw_g (lw_at lw_m1 85 rfl) rfl
theorem q213 : (Jvm.Cond.methodLinkNest "FlyingDoctors" (294 : Nat) ({ cls := "FlyingDoctors$Rules", name := "<init>", desc := "()V" } : Jvm.MethodName) "FlyingDoctors") ∈ lw_tbl := lw_at lw_m1 86 rfl
theorem q214 : (Jvm.Cond.instanceMethod ({ cls := "FlyingDoctors$Rules", name := "<init>", desc := "()V" } : Jvm.MethodName)) ∈ lw_all := lw_g (lw_at lw_m1 87 rfl) rfl
theorem q215 : (Jvm.Cond.code ({ cls := "FlyingDoctors$Rules", name := "<init>", desc := "()V" } : Jvm.MethodName) prog_18_method_1_code (1 : Nat) (Option.none : Option Jvm.ClassFile.FieldType)) ∈ lw_all := lw_g (lw_at lw_m1 88 rfl) rfl
theorem q216 : (Jvm.Cond.methodLink "FlyingDoctors$Rules" (1 : Nat) ({ cls := "java/lang/Object", name := "<init>", desc := "()V" } : Jvm.MethodName)) ∈ lw_all := lw_g (lw_at lw_m1 89 rfl) rfl
theorem q217 : (Jvm.Cond.classLink "FlyingDoctors$Rules" (13 : Nat) "java/util/ArrayList") ∈ lw_all := lw_g (lw_at lw_m1 90 rfl) rfl
theorem q218 : (Jvm.Cond.methodLink "FlyingDoctors$Rules" (15 : Nat) ({ cls := "java/util/ArrayList", name := "<init>", desc := "()V" } : Jvm.MethodName)) ∈ lw_all := lw_g (lw_at lw_m1 91 rfl) rfl
theorem q219 : (Jvm.Cond.fieldLink "FlyingDoctors$Rules" (7 : Nat) "FlyingDoctors$Rules" "params" "[I") ∈ lw_all := lw_g (lw_at lw_m1 92 rfl) rfl
theorem q220 : (Jvm.Cond.fieldLinkNest "FlyingDoctors" (58 : Nat) "FlyingDoctors$Rules" "params" "[I" "FlyingDoctors") ∈ lw_tbl := lw_at lw_m1 93 rfl
theorem q221 : (Jvm.Cond.fieldLinkNest "FlyingDoctors$Reader" (239 : Nat) "FlyingDoctors$Rules" "params" "[I" "FlyingDoctors") ∈ lw_tbl := lw_at lw_m1 94 rfl
theorem q222 : (Jvm.Cond.fieldLink "FlyingDoctors$Rules" (16 : Nat) "FlyingDoctors$Rules" "flies" "Ljava/util/List;") ∈ lw_all := lw_g (lw_at lw_m1 95 rfl) rfl
theorem q223 : (Jvm.Cond.fieldLinkNest "FlyingDoctors" (127 : Nat) "FlyingDoctors$Rules" "flies" "Ljava/util/List;" "FlyingDoctors") ∈ lw_tbl := lw_at lw_m1 96 rfl
theorem q224 : (Jvm.Cond.fieldLinkNest "FlyingDoctors$Reader" (263 : Nat) "FlyingDoctors$Rules" "flies" "Ljava/util/List;" "FlyingDoctors") ∈ lw_tbl := lw_at lw_m1 97 rfl
theorem q225 : (Jvm.Cond.fieldLink "FlyingDoctors$Rules" (20 : Nat) "FlyingDoctors$Rules" "doses" "Ljava/util/List;") ∈ lw_all := lw_g (lw_at lw_m1 98 rfl) rfl
theorem q226 : (Jvm.Cond.fieldLinkNest "FlyingDoctors$Reader" (234 : Nat) "FlyingDoctors$Rules" "doses" "Ljava/util/List;" "FlyingDoctors") ∈ lw_tbl := lw_at lw_m1 99 rfl
theorem q227 : (Jvm.Cond.fieldLinkNest "FlyingDoctors" (365 : Nat) "FlyingDoctors$Rules" "doses" "Ljava/util/List;" "FlyingDoctors") ∈ lw_tbl := lw_at lw_m1 100 rfl
theorem q228 : (Jvm.Cond.fieldLinkNest "FlyingDoctors$Call" (66 : Nat) "FlyingDoctors$Rules" "first" "LFlyingDoctors$Ex;" "FlyingDoctors") ∈ lw_tbl := lw_at lw_m1 101 rfl
theorem q229 : (Jvm.Cond.fieldLinkNest "FlyingDoctors$Reader" (261 : Nat) "FlyingDoctors$Rules" "first" "LFlyingDoctors$Ex;" "FlyingDoctors") ∈ lw_tbl := lw_at lw_m1 102 rfl
theorem q230 : (Jvm.Cond.fieldLinkNest "FlyingDoctors" (45 : Nat) "FlyingDoctors$Rules" "told" "I" "FlyingDoctors") ∈ lw_tbl := lw_at lw_m1 103 rfl
theorem q242 : (Jvm.Cond.arrayClass Jvm.ClassFile.FieldType.byte) ∈ lw_all := lw_g (lw_at lw_m1 115 rfl) rfl
theorem q243 : (Jvm.Cond.classLink "FlyingDoctors" (54 : Nat) "FlyingDoctors$Asked") ∈ lw_all := lw_g (lw_at lw_m1 116 rfl) rfl
theorem q244 : (Jvm.Cond.instantiable "FlyingDoctors$Asked" (3 : Nat)) ∈ lw_all := lw_g (lw_at lw_m1 117 rfl) rfl
theorem q245 : (Jvm.Cond.methodLinkNest "FlyingDoctors" (295 : Nat) ({ cls := "FlyingDoctors$Asked", name := "<init>", desc := "()V" } : Jvm.MethodName) "FlyingDoctors") ∈ lw_tbl := lw_at lw_m1 118 rfl
theorem q246 : (Jvm.Cond.instanceMethod ({ cls := "FlyingDoctors$Asked", name := "<init>", desc := "()V" } : Jvm.MethodName)) ∈ lw_all := lw_g (lw_at lw_m1 119 rfl) rfl
theorem q247 : (Jvm.Cond.code ({ cls := "FlyingDoctors$Asked", name := "<init>", desc := "()V" } : Jvm.MethodName) prog_2_method_1_code (1 : Nat) (Option.none : Option Jvm.ClassFile.FieldType)) ∈ lw_all := lw_g (lw_at lw_m1 120 rfl) rfl
theorem q248 : (Jvm.Cond.methodLink "FlyingDoctors$Asked" (3 : Nat) ({ cls := "java/lang/Object", name := "<init>", desc := "()V" } : Jvm.MethodName)) ∈ lw_all := lw_g (lw_at lw_m1 121 rfl) rfl
theorem q249 : (Jvm.Cond.fieldLink "FlyingDoctors$Asked" (9 : Nat) "FlyingDoctors$Asked" "values" "[I") ∈ lw_all := lw_g (lw_at lw_m1 122 rfl) rfl
theorem q250 : (Jvm.Cond.fieldLinkNest "FlyingDoctors$Value" (13 : Nat) "FlyingDoctors$Asked" "values" "[I" "FlyingDoctors") ∈ lw_tbl := lw_at lw_m1 123 rfl
theorem q251 : (Jvm.Cond.fieldLinkNest "FlyingDoctors$Call" (79 : Nat) "FlyingDoctors$Asked" "values" "[I" "FlyingDoctors") ∈ lw_tbl := lw_at lw_m1 124 rfl
theorem q252 : (Jvm.Cond.fieldLinkNest "FlyingDoctors" (105 : Nat) "FlyingDoctors$Asked" "values" "[I" "FlyingDoctors") ∈ lw_tbl := lw_at lw_m1 125 rfl
theorem q253 : (Jvm.Cond.fieldLink "FlyingDoctors$Asked" (15 : Nat) "FlyingDoctors$Asked" "params" "[I") ∈ lw_all := lw_g (lw_at lw_m1 126 rfl) rfl
theorem q254 : (Jvm.Cond.fieldLinkNest "FlyingDoctors$Param" (13 : Nat) "FlyingDoctors$Asked" "params" "[I" "FlyingDoctors") ∈ lw_tbl := lw_at lw_m1 127 rfl
theorem q255 : (Jvm.Cond.fieldLinkNest "FlyingDoctors" (62 : Nat) "FlyingDoctors$Asked" "params" "[I" "FlyingDoctors") ∈ lw_tbl := lw_at lw_m1 128 rfl
theorem q256 : (Jvm.Cond.fieldLinkNest "FlyingDoctors$Said" (13 : Nat) "FlyingDoctors$Asked" "words" "I" "FlyingDoctors") ∈ lw_tbl := lw_at lw_m1 129 rfl
theorem q257 : (Jvm.Cond.fieldLink "FlyingDoctors$Asked" (18 : Nat) "FlyingDoctors$Asked" "words" "I") ∈ lw_all := lw_g (lw_at lw_m1 130 rfl) rfl
theorem q258 : (Jvm.Cond.fieldLinkNest "FlyingDoctors$Call" (76 : Nat) "FlyingDoctors$Asked" "words" "I" "FlyingDoctors") ∈ lw_tbl := lw_at lw_m1 131 rfl
theorem q266 : (Jvm.Cond.classLink "FlyingDoctors" (299 : Nat) "FlyingDoctors$Call") ∈ lw_all := lw_g (lw_at lw_m1 139 rfl) rfl
theorem q267 : (Jvm.Cond.arrayOver (Jvm.ClassFile.FieldType.object "FlyingDoctors$Call")) ∈ lw_tbl := lw_at lw_m1 140 rfl
theorem q268 : (Jvm.Cond.fieldLink "FlyingDoctors" (198 : Nat) "FlyingDoctors" "drumsThen" "[I") ∈ lw_all := lw_g (lw_at lw_m1 141 rfl) rfl
theorem q269 : (Jvm.Cond.fieldLink "FlyingDoctors" (253 : Nat) "FlyingDoctors" "overThen" "[I") ∈ lw_all := lw_g (lw_at lw_m1 142 rfl) rfl
theorem q270 : (Jvm.Cond.fieldLink "FlyingDoctors" (249 : Nat) "FlyingDoctors" "placeThen" "[LFlyingDoctors$Place;") ∈ lw_all := lw_g (lw_at lw_m1 143 rfl) rfl
theorem q271 : (Jvm.Cond.fieldLink "FlyingDoctors" (211 : Nat) "FlyingDoctors" "boardNow" "I") ∈ lw_all := lw_g (lw_at lw_m1 144 rfl) rfl
theorem q272 : (Jvm.Cond.fieldLink "FlyingDoctors" (12 : Nat) "FlyingDoctors" "places" "Ljava/util/List;") ∈ lw_all := lw_g (lw_at lw_m1 145 rfl) rfl
theorem q273 : (Jvm.Cond.fieldLink "FlyingDoctors" (272 : Nat) "FlyingDoctors" "planes" "Ljava/util/List;") ∈ lw_all := lw_g (lw_at lw_m1 146 rfl) rfl
theorem q274 : (Jvm.Cond.fieldLink "FlyingDoctors" (158 : Nat) "FlyingDoctors" "people" "Ljava/util/List;") ∈ lw_all := lw_g (lw_at lw_m1 147 rfl) rfl
theorem q275 : (Jvm.Cond.fieldLink "FlyingDoctors" (40 : Nat) "FlyingDoctors" "texts" "Ljava/util/List;") ∈ lw_all := lw_g (lw_at lw_m1 148 rfl) rfl
theorem q276 : (Jvm.Cond.fieldLinkNest "FlyingDoctors$Reader" (134 : Nat) "FlyingDoctors" "words" "Ljava/util/List;" "FlyingDoctors") ∈ lw_tbl := lw_at lw_m1 149 rfl
theorem q277 : (Jvm.Cond.fieldLink "FlyingDoctors" (275 : Nat) "FlyingDoctors" "words" "Ljava/util/List;") ∈ lw_all := lw_g (lw_at lw_m1 150 rfl) rfl
theorem q278 : (Jvm.Cond.fieldLink "FlyingDoctors" (81 : Nat) "FlyingDoctors" "rains" "Ljava/util/List;") ∈ lw_all := lw_g (lw_at lw_m1 151 rfl) rfl
theorem q279 : (Jvm.Cond.fieldLink "FlyingDoctors" (278 : Nat) "FlyingDoctors" "finds" "Ljava/util/List;") ∈ lw_all := lw_g (lw_at lw_m1 152 rfl) rfl
theorem q280 : (Jvm.Cond.fieldLink "FlyingDoctors" (281 : Nat) "FlyingDoctors" "calls" "Ljava/util/List;") ∈ lw_all := lw_g (lw_at lw_m1 153 rfl) rfl
theorem q281 : (Jvm.Cond.fieldLinkNest "FlyingDoctors$Call" (39 : Nat) "FlyingDoctors" "flights" "Ljava/util/List;" "FlyingDoctors") ∈ lw_tbl := lw_at lw_m1 154 rfl
theorem q282 : (Jvm.Cond.fieldLink "FlyingDoctors" (179 : Nat) "FlyingDoctors" "flights" "Ljava/util/List;") ∈ lw_all := lw_g (lw_at lw_m1 155 rfl) rfl
theorem q283 : (Jvm.Cond.fieldLinkNest "FlyingDoctors$Rounds" (15 : Nat) "FlyingDoctors" "clinics" "Ljava/util/List;" "FlyingDoctors") ∈ lw_tbl := lw_at lw_m1 156 rfl
theorem q284 : (Jvm.Cond.fieldLink "FlyingDoctors" (284 : Nat) "FlyingDoctors" "clinics" "Ljava/util/List;") ∈ lw_all := lw_g (lw_at lw_m1 157 rfl) rfl
theorem q285 : (Jvm.Cond.fieldLink "FlyingDoctors" (287 : Nat) "FlyingDoctors" "gifts" "Ljava/util/List;") ∈ lw_all := lw_g (lw_at lw_m1 158 rfl) rfl
theorem q286 : (Jvm.Cond.fieldLinkNest "FlyingDoctors$Reader" (32 : Nat) "FlyingDoctors" "tape" "[B" "FlyingDoctors") ∈ lw_tbl := lw_at lw_m1 159 rfl
theorem q287 : (Jvm.Cond.fieldLink "FlyingDoctors" (290 : Nat) "FlyingDoctors" "tape" "[B") ∈ lw_all := lw_g (lw_at lw_m1 160 rfl) rfl
theorem q288 : (Jvm.Cond.fieldLink "FlyingDoctors" (36 : Nat) "FlyingDoctors" "none" "LFlyingDoctors$Rules;") ∈ lw_all := lw_g (lw_at lw_m1 161 rfl) rfl
theorem q289 : (Jvm.Cond.fieldLink "FlyingDoctors" (49 : Nat) "FlyingDoctors" "asked" "LFlyingDoctors$Asked;") ∈ lw_all := lw_g (lw_at lw_m1 162 rfl) rfl
theorem q290 : (Jvm.Cond.fieldLink "FlyingDoctors" (296 : Nat) "FlyingDoctors" "weekDay" "[I") ∈ lw_all := lw_g (lw_at lw_m1 163 rfl) rfl
theorem q291 : (Jvm.Cond.fieldLink "FlyingDoctors" (301 : Nat) "FlyingDoctors" "open" "[LFlyingDoctors$Call;") ∈ lw_all := lw_g (lw_at lw_m1 164 rfl) rfl
theorem q292 : (Jvm.Cond.fieldLinkNest "FlyingDoctors$Call" (26 : Nat) "FlyingDoctors" "now" "I" "FlyingDoctors") ∈ lw_tbl := lw_at lw_m1 165 rfl
theorem q293 : (Jvm.Cond.fieldLink "FlyingDoctors" (173 : Nat) "FlyingDoctors" "now" "I") ∈ lw_all := lw_g (lw_at lw_m1 166 rfl) rfl
theorem q294 : (Jvm.Cond.fieldLink "FlyingDoctors" (340 : Nat) "FlyingDoctors" "taped" "I") ∈ lw_all := lw_g (lw_at lw_m1 167 rfl) rfl
theorem q295 : (Jvm.Cond.fieldLink "FlyingDoctors" (305 : Nat) "FlyingDoctors" "faultPlace" "I") ∈ lw_all := lw_g (lw_at lw_m1 168 rfl) rfl
theorem q296 : (Jvm.Cond.fieldLinkNest "FlyingDoctors$Flight" (76 : Nat) "FlyingDoctors" "doctors" "I" "FlyingDoctors") ∈ lw_tbl := lw_at lw_m1 169 rfl
theorem q297 : (Jvm.Cond.fieldLink "FlyingDoctors" (331 : Nat) "FlyingDoctors" "doctors" "I") ∈ lw_all := lw_g (lw_at lw_m1 170 rfl) rfl
theorem q298 : (Jvm.Cond.fieldLink "FlyingDoctors" (308 : Nat) "FlyingDoctors" "failedLeg" "I") ∈ lw_all := lw_g (lw_at lw_m1 171 rfl) rfl
theorem q299 : (Jvm.Cond.fieldLink "FlyingDoctors" (311 : Nat) "FlyingDoctors" "weekMany" "I") ∈ lw_all := lw_g (lw_at lw_m1 172 rfl) rfl
theorem q300 : (Jvm.Cond.fieldLink "FlyingDoctors" (521 : Nat) "FlyingDoctors" "weekQuarters" "I") ∈ lw_all := lw_g (lw_at lw_m1 173 rfl) rfl
theorem q301 : (Jvm.Cond.fieldLink "FlyingDoctors" (546 : Nat) "FlyingDoctors" "differences" "I") ∈ lw_all := lw_g (lw_at lw_m1 174 rfl) rfl
theorem q359 : (Jvm.Cond.methodLink "FlyingDoctorsLaw" (114 : Nat) ({ cls := "FlyingDoctors", name := "place", desc := "(IIII)I" } : Jvm.MethodName)) ∈ lw_all := lw_g (lw_at lw_m1 232 rfl) rfl
theorem q360 : (Jvm.Cond.instanceMethod ({ cls := "FlyingDoctors", name := "place", desc := "(IIII)I" } : Jvm.MethodName)) ∈ lw_all := lw_g (lw_at lw_m1 233 rfl) rfl
theorem q361 : (Jvm.Cond.selects "FlyingDoctors" ({ cls := "FlyingDoctors", name := "place", desc := "(IIII)I" } : Jvm.MethodName) ({ cls := "FlyingDoctors", name := "place", desc := "(IIII)I" } : Jvm.MethodName)) ∈ lw_all := lw_g (lw_at lw_m1 234 rfl) rfl
theorem q362 : (Jvm.Cond.code ({ cls := "FlyingDoctors", name := "place", desc := "(IIII)I" } : Jvm.MethodName) prog_1_method_24_code (5 : Nat) (Option.some Jvm.ClassFile.FieldType.int)) ∈ lw_all := lw_g (lw_at lw_m1 235 rfl) rfl
theorem q364 : (Jvm.Cond.methodLink "FlyingDoctors" (16 : Nat) ({ cls := "java/util/List", name := "size", desc := "()I" } : Jvm.MethodName)) ∈ lw_all := lw_g (lw_at lw_m1 237 rfl) rfl
theorem q365 : (Jvm.Cond.interfaceMethod "java/util/List" "java/util/List" "size" "()I") ∈ lw_tbl := lw_at lw_m1 238 rfl
theorem q366 : (Jvm.Cond.declares ({ cls := "java/util/List", name := "size", desc := "()I" } : Jvm.MethodName)) ∈ lw_tbl := lw_at lw_m1 239 rfl
theorem q367 : (Jvm.Cond.castable "java/util/ArrayList" "java/util/List") ∈ lw_tbl := lw_at lw_m2 0 rfl
theorem q368 : (Jvm.Cond.selects "java/util/ArrayList" ({ cls := "java/util/List", name := "size", desc := "()I" } : Jvm.MethodName) ({ cls := "java/util/ArrayList", name := "size", desc := "()I" } : Jvm.MethodName)) ∈ lw_all := lw_g (lw_at lw_m2 1 rfl) rfl
theorem q369 : (Jvm.Cond.unhidden "java/util/ArrayList" "size" "()I") ∈ lw_tbl := lw_at lw_m2 2 rfl
theorem q370 : (Jvm.Cond.instanceMethod ({ cls := "java/util/ArrayList", name := "size", desc := "()I" } : Jvm.MethodName)) ∈ lw_all := lw_g (lw_at lw_m2 3 rfl) rfl
theorem q371 : (Jvm.Cond.publicMethod ({ cls := "java/util/ArrayList", name := "size", desc := "()I" } : Jvm.MethodName)) ∈ lw_tbl := lw_at lw_m2 4 rfl
theorem q372 : (Jvm.Cond.code ({ cls := "java/util/ArrayList", name := "size", desc := "()I" } : Jvm.MethodName) prog_50_method_8_code (1 : Nat) (Option.some Jvm.ClassFile.FieldType.int)) ∈ lw_all := lw_g (lw_at lw_m2 5 rfl) rfl
theorem q373 : (Jvm.Cond.methodLink "FlyingDoctors" (314 : Nat) ({ cls := "FlyingDoctors", name := "in", desc := "(III)Z" } : Jvm.MethodName)) ∈ lw_all := lw_g (lw_at lw_m2 6 rfl) rfl
theorem q374 : (Jvm.Cond.static ({ cls := "FlyingDoctors", name := "in", desc := "(III)Z" } : Jvm.MethodName)) ∈ lw_all := lw_g (lw_at lw_m2 7 rfl) rfl
theorem q375 : (Jvm.Cond.code ({ cls := "FlyingDoctors", name := "in", desc := "(III)Z" } : Jvm.MethodName) prog_1_method_1_code (3 : Nat) (Option.some Jvm.ClassFile.FieldType.boolean)) ∈ lw_all := lw_g (lw_at lw_m2 8 rfl) rfl
theorem q376 : (Jvm.Cond.instantiable "FlyingDoctors$Place" (10 : Nat)) ∈ lw_all := lw_g (lw_at lw_m2 9 rfl) rfl
theorem q377 : (Jvm.Cond.methodLink "FlyingDoctors" (322 : Nat) ({ cls := "FlyingDoctors$Place", name := "<init>", desc := "(IIIII)V" } : Jvm.MethodName)) ∈ lw_all := lw_g (lw_at lw_m2 10 rfl) rfl
theorem q378 : (Jvm.Cond.instanceMethod ({ cls := "FlyingDoctors$Place", name := "<init>", desc := "(IIIII)V" } : Jvm.MethodName)) ∈ lw_all := lw_g (lw_at lw_m2 11 rfl) rfl
theorem q379 : (Jvm.Cond.code ({ cls := "FlyingDoctors$Place", name := "<init>", desc := "(IIIII)V" } : Jvm.MethodName) prog_14_method_1_code (6 : Nat) (Option.none : Option Jvm.ClassFile.FieldType)) ∈ lw_all := lw_g (lw_at lw_m2 12 rfl) rfl
theorem q380 : (Jvm.Cond.methodLink "FlyingDoctors$Place" (3 : Nat) ({ cls := "java/lang/Object", name := "<init>", desc := "()V" } : Jvm.MethodName)) ∈ lw_all := lw_g (lw_at lw_m2 13 rfl) rfl
theorem q381 : (Jvm.Cond.fieldLink "FlyingDoctors$Place" (15 : Nat) "FlyingDoctors$Place" "number" "I") ∈ lw_all := lw_g (lw_at lw_m2 14 rfl) rfl
theorem q382 : (Jvm.Cond.fieldLinkNest "FlyingDoctors" (84 : Nat) "FlyingDoctors$Place" "number" "I" "FlyingDoctors") ∈ lw_tbl := lw_at lw_m2 15 rfl
theorem q383 : (Jvm.Cond.fieldLink "FlyingDoctors$Place" (19 : Nat) "FlyingDoctors$Place" "x" "I") ∈ lw_all := lw_g (lw_at lw_m2 16 rfl) rfl
theorem q384 : (Jvm.Cond.fieldLink "FlyingDoctors$Place" (22 : Nat) "FlyingDoctors$Place" "y" "I") ∈ lw_all := lw_g (lw_at lw_m2 17 rfl) rfl
theorem q385 : (Jvm.Cond.fieldLink "FlyingDoctors$Place" (25 : Nat) "FlyingDoctors$Place" "strip" "I") ∈ lw_all := lw_g (lw_at lw_m2 18 rfl) rfl
theorem q386 : (Jvm.Cond.fieldLinkNest "FlyingDoctors$Call" (87 : Nat) "FlyingDoctors$Place" "strip" "I" "FlyingDoctors") ∈ lw_tbl := lw_at lw_m2 19 rfl
theorem q387 : (Jvm.Cond.fieldLinkNest "FlyingDoctors" (112 : Nat) "FlyingDoctors$Place" "strip" "I" "FlyingDoctors") ∈ lw_tbl := lw_at lw_m2 20 rfl
theorem q388 : (Jvm.Cond.fieldLink "FlyingDoctors$Place" (28 : Nat) "FlyingDoctors$Place" "lamps" "Z") ∈ lw_all := lw_g (lw_at lw_m2 21 rfl) rfl
theorem q389 : (Jvm.Cond.fieldLinkNest "FlyingDoctors$Call" (92 : Nat) "FlyingDoctors$Place" "lamps" "Z" "FlyingDoctors") ∈ lw_tbl := lw_at lw_m2 22 rfl
theorem q390 : (Jvm.Cond.fieldLinkNest "FlyingDoctors" (120 : Nat) "FlyingDoctors$Place" "lamps" "Z" "FlyingDoctors") ∈ lw_tbl := lw_at lw_m2 23 rfl
theorem q391 : (Jvm.Cond.fieldLink "FlyingDoctors$Place" (32 : Nat) "FlyingDoctors$Place" "base" "Z") ∈ lw_all := lw_g (lw_at lw_m2 24 rfl) rfl
theorem q392 : (Jvm.Cond.fieldLinkNest "FlyingDoctors" (28 : Nat) "FlyingDoctors$Place" "base" "Z" "FlyingDoctors") ∈ lw_tbl := lw_at lw_m2 25 rfl
theorem q393 : (Jvm.Cond.fieldLink "FlyingDoctors$Place" (9 : Nat) "FlyingDoctors$Place" "chest" "[I") ∈ lw_all := lw_g (lw_at lw_m2 26 rfl) rfl
theorem q394 : (Jvm.Cond.fieldLinkNest "FlyingDoctors" (530 : Nat) "FlyingDoctors$Place" "chest" "[I" "FlyingDoctors") ∈ lw_tbl := lw_at lw_m2 27 rfl
theorem q395 : (Jvm.Cond.fieldLinkNest "FlyingDoctors" (256 : Nat) "FlyingDoctors$Place" "drums" "I" "FlyingDoctors") ∈ lw_tbl := lw_at lw_m2 28 rfl
theorem q396 : (Jvm.Cond.fieldLink "FlyingDoctors$Place" (41 : Nat) "FlyingDoctors$Place" "hours" "I") ∈ lw_all := lw_g (lw_at lw_m2 29 rfl) rfl
theorem q397 : (Jvm.Cond.fieldLinkNest "FlyingDoctors" (375 : Nat) "FlyingDoctors$Place" "hours" "I" "FlyingDoctors") ∈ lw_tbl := lw_at lw_m2 30 rfl
theorem q398 : (Jvm.Cond.fieldLink "FlyingDoctors$Place" (55 : Nat) "FlyingDoctors$Place" "range" "I") ∈ lw_all := lw_g (lw_at lw_m2 31 rfl) rfl
theorem q399 : (Jvm.Cond.fieldLinkNest "FlyingDoctors" (378 : Nat) "FlyingDoctors$Place" "range" "I" "FlyingDoctors") ∈ lw_tbl := lw_at lw_m2 32 rfl
theorem q422 : (Jvm.Cond.methodLink "FlyingDoctors" (262 : Nat) ({ cls := "java/util/List", name := "add", desc := "(Ljava/lang/Object;)Z" } : Jvm.MethodName)) ∈ lw_all := lw_g (lw_at lw_m2 55 rfl) rfl
theorem q423 : (Jvm.Cond.interfaceMethod "java/util/List" "java/util/List" "add" "(Ljava/lang/Object;)Z") ∈ lw_tbl := lw_at lw_m2 56 rfl
theorem q424 : (Jvm.Cond.declares ({ cls := "java/util/List", name := "add", desc := "(Ljava/lang/Object;)Z" } : Jvm.MethodName)) ∈ lw_tbl := lw_at lw_m2 57 rfl
theorem q425 : (Jvm.Cond.selects "java/util/ArrayList" ({ cls := "java/util/List", name := "add", desc := "(Ljava/lang/Object;)Z" } : Jvm.MethodName) ({ cls := "java/util/ArrayList", name := "add", desc := "(Ljava/lang/Object;)Z" } : Jvm.MethodName)) ∈ lw_all := lw_g (lw_at lw_m2 58 rfl) rfl
theorem q426 : (Jvm.Cond.unhidden "java/util/ArrayList" "add" "(Ljava/lang/Object;)Z") ∈ lw_tbl := lw_at lw_m2 59 rfl
theorem q427 : (Jvm.Cond.instanceMethod ({ cls := "java/util/ArrayList", name := "add", desc := "(Ljava/lang/Object;)Z" } : Jvm.MethodName)) ∈ lw_all := lw_g (lw_at lw_m2 60 rfl) rfl
theorem q428 : (Jvm.Cond.publicMethod ({ cls := "java/util/ArrayList", name := "add", desc := "(Ljava/lang/Object;)Z" } : Jvm.MethodName)) ∈ lw_tbl := lw_at lw_m2 61 rfl
theorem q429 : (Jvm.Cond.code ({ cls := "java/util/ArrayList", name := "add", desc := "(Ljava/lang/Object;)Z" } : Jvm.MethodName) prog_50_method_25_code (2 : Nat) (Option.some Jvm.ClassFile.FieldType.boolean)) ∈ lw_all := lw_g (lw_at lw_m2 62 rfl) rfl
theorem q430 : (Jvm.Cond.methodLink "java/util/ArrayList" (131 : Nat) ({ cls := "java/util/ArrayList", name := "add", desc := "(Ljava/lang/Object;[Ljava/lang/Object;I)V" } : Jvm.MethodName)) ∈ lw_all := lw_g (lw_at lw_m2 63 rfl) rfl
theorem q432 : (Jvm.Cond.instanceMethod ({ cls := "java/util/ArrayList", name := "add", desc := "(Ljava/lang/Object;[Ljava/lang/Object;I)V" } : Jvm.MethodName)) ∈ lw_all := lw_g (lw_at lw_m2 65 rfl) rfl
theorem q433 : (Jvm.Cond.code ({ cls := "java/util/ArrayList", name := "add", desc := "(Ljava/lang/Object;[Ljava/lang/Object;I)V" } : Jvm.MethodName) prog_50_method_24_code (4 : Nat) (Option.none : Option Jvm.ClassFile.FieldType)) ∈ lw_all := lw_g (lw_at lw_m2 66 rfl) rfl
theorem q434 : (Jvm.Cond.methodLink "java/util/ArrayList" (129 : Nat) ({ cls := "java/util/ArrayList", name := "grow", desc := "()[Ljava/lang/Object;" } : Jvm.MethodName)) ∈ lw_all := lw_g (lw_at lw_m2 67 rfl) rfl
theorem q436 : (Jvm.Cond.instanceMethod ({ cls := "java/util/ArrayList", name := "grow", desc := "()[Ljava/lang/Object;" } : Jvm.MethodName)) ∈ lw_all := lw_g (lw_at lw_m2 69 rfl) rfl
theorem q437 : (Jvm.Cond.code ({ cls := "java/util/ArrayList", name := "grow", desc := "()[Ljava/lang/Object;" } : Jvm.MethodName) prog_50_method_7_code (1 : Nat) (Option.some (Jvm.ClassFile.FieldType.array (Jvm.ClassFile.FieldType.object "java/lang/Object")))) ∈ lw_all := lw_g (lw_at lw_m2 70 rfl) rfl
theorem q438 : (Jvm.Cond.methodLink "java/util/ArrayList" (69 : Nat) ({ cls := "java/util/ArrayList", name := "grow", desc := "(I)[Ljava/lang/Object;" } : Jvm.MethodName)) ∈ lw_all := lw_g (lw_at lw_m2 71 rfl) rfl
theorem q440 : (Jvm.Cond.instanceMethod ({ cls := "java/util/ArrayList", name := "grow", desc := "(I)[Ljava/lang/Object;" } : Jvm.MethodName)) ∈ lw_all := lw_g (lw_at lw_m2 73 rfl) rfl
theorem q441 : (Jvm.Cond.code ({ cls := "java/util/ArrayList", name := "grow", desc := "(I)[Ljava/lang/Object;" } : Jvm.MethodName) prog_50_method_6_code (4 : Nat) (Option.some (Jvm.ClassFile.FieldType.array (Jvm.ClassFile.FieldType.object "java/lang/Object")))) ∈ lw_all := lw_g (lw_at lw_m2 74 rfl) rfl
theorem q442 : (Jvm.Cond.methodLink "java/util/ArrayList" (73 : Nat) ({ cls := "jdk/internal/util/ArraysSupport", name := "newLength", desc := "(III)I" } : Jvm.MethodName)) ∈ lw_all := lw_g (lw_at lw_m2 75 rfl) rfl
theorem q443 : (Jvm.Cond.static ({ cls := "jdk/internal/util/ArraysSupport", name := "newLength", desc := "(III)I" } : Jvm.MethodName)) ∈ lw_all := lw_g (lw_at lw_m2 76 rfl) rfl
theorem q444 : (Jvm.Cond.code ({ cls := "jdk/internal/util/ArraysSupport", name := "newLength", desc := "(III)I" } : Jvm.MethodName) prog_58_method_27_code (4 : Nat) (Option.some Jvm.ClassFile.FieldType.int)) ∈ lw_all := lw_g (lw_at lw_m2 77 rfl) rfl
theorem q445 : (Jvm.Cond.methodLink "jdk/internal/util/ArraysSupport" (194 : Nat) ({ cls := "java/lang/Math", name := "max", desc := "(II)I" } : Jvm.MethodName)) ∈ lw_all := lw_g (lw_at lw_m2 78 rfl) rfl
theorem q446 : (Jvm.Cond.static ({ cls := "java/lang/Math", name := "max", desc := "(II)I" } : Jvm.MethodName)) ∈ lw_all := lw_g (lw_at lw_m2 79 rfl) rfl
theorem q447 : (Jvm.Cond.code ({ cls := "java/lang/Math", name := "max", desc := "(II)I" } : Jvm.MethodName) prog_37_method_65_code (2 : Nat) (Option.some Jvm.ClassFile.FieldType.int)) ∈ lw_all := lw_g (lw_at lw_m2 80 rfl) rfl
theorem q448 : (Jvm.Cond.constant "jdk/internal/util/ArraysSupport" (200 : Nat) (2147483639 : Int32)) ∈ lw_all := lw_g (lw_at lw_m2 81 rfl) rfl
theorem q452 : (Jvm.Cond.methodLink "java/util/ArrayList" (66 : Nat) ({ cls := "java/util/Arrays", name := "copyOf", desc := "([Ljava/lang/Object;I)[Ljava/lang/Object;" } : Jvm.MethodName)) ∈ lw_all := lw_g (lw_at lw_m2 85 rfl) rfl
theorem q453 : (Jvm.Cond.static ({ cls := "java/util/Arrays", name := "copyOf", desc := "([Ljava/lang/Object;I)[Ljava/lang/Object;" } : Jvm.MethodName)) ∈ lw_all := lw_g (lw_at lw_m2 86 rfl) rfl
theorem q454 : (Jvm.Cond.code ({ cls := "java/util/Arrays", name := "copyOf", desc := "([Ljava/lang/Object;I)[Ljava/lang/Object;" } : Jvm.MethodName) prog_51_method_119_code (2 : Nat) (Option.some (Jvm.ClassFile.FieldType.array (Jvm.ClassFile.FieldType.object "java/lang/Object")))) ∈ lw_all := lw_g (lw_at lw_m2 87 rfl) rfl
theorem q455 : (Jvm.Cond.methodLink "java/util/Arrays" (86 : Nat) ({ cls := "java/lang/Object", name := "getClass", desc := "()Ljava/lang/Class;" } : Jvm.MethodName)) ∈ lw_all := lw_g (lw_at lw_m2 88 rfl) rfl
theorem q456 : (Jvm.Cond.instanceMethod ({ cls := "java/lang/Object", name := "getClass", desc := "()Ljava/lang/Class;" } : Jvm.MethodName)) ∈ lw_all := lw_g (lw_at lw_m2 89 rfl) rfl
theorem q486 : (Jvm.Cond.native ({ cls := "java/lang/Object", name := "getClass", desc := "()Ljava/lang/Class;" } : Jvm.MethodName)) ∈ lw_all := lw_g (lw_at lw_m2 119 rfl) rfl
theorem q487 : (Jvm.Cond.methodLink "java/util/Arrays" (300 : Nat) ({ cls := "java/util/Arrays", name := "copyOf", desc := "([Ljava/lang/Object;ILjava/lang/Class;)[Ljava/lang/Object;" } : Jvm.MethodName)) ∈ lw_all := lw_g (lw_at lw_m2 120 rfl) rfl
theorem q488 : (Jvm.Cond.static ({ cls := "java/util/Arrays", name := "copyOf", desc := "([Ljava/lang/Object;ILjava/lang/Class;)[Ljava/lang/Object;" } : Jvm.MethodName)) ∈ lw_all := lw_g (lw_at lw_m2 121 rfl) rfl
theorem q489 : (Jvm.Cond.code ({ cls := "java/util/Arrays", name := "copyOf", desc := "([Ljava/lang/Object;ILjava/lang/Class;)[Ljava/lang/Object;" } : Jvm.MethodName) prog_51_method_120_code (4 : Nat) (Option.some (Jvm.ClassFile.FieldType.array (Jvm.ClassFile.FieldType.object "java/lang/Object")))) ∈ lw_all := lw_g (lw_at lw_m2 122 rfl) rfl
theorem q490 : (Jvm.Cond.classLink "java/util/Arrays" (110 : Nat) "[Ljava/lang/Object;") ∈ lw_all := lw_g (lw_at lw_m2 123 rfl) rfl
theorem q491 : (Jvm.Cond.arrayOver (Jvm.ClassFile.FieldType.object "java/lang/Object")) ∈ lw_tbl := lw_at lw_m2 124 rfl
theorem q492 : (Jvm.Cond.classLink "java/util/Arrays" (2 : Nat) "java/lang/Object") ∈ lw_all := lw_g (lw_at lw_m2 125 rfl) rfl
theorem q493 : (Jvm.Cond.methodLink "java/util/Arrays" (304 : Nat) ({ cls := "java/lang/Math", name := "min", desc := "(II)I" } : Jvm.MethodName)) ∈ lw_all := lw_g (lw_at lw_m2 126 rfl) rfl
theorem q494 : (Jvm.Cond.static ({ cls := "java/lang/Math", name := "min", desc := "(II)I" } : Jvm.MethodName)) ∈ lw_all := lw_g (lw_at lw_m2 127 rfl) rfl
theorem q495 : (Jvm.Cond.code ({ cls := "java/lang/Math", name := "min", desc := "(II)I" } : Jvm.MethodName) prog_37_method_69_code (2 : Nat) (Option.some Jvm.ClassFile.FieldType.int)) ∈ lw_all := lw_g (lw_at lw_m2 128 rfl) rfl
theorem q496 : (Jvm.Cond.methodLink "java/util/Arrays" (150 : Nat) ({ cls := "java/lang/System", name := "arraycopy", desc := "(Ljava/lang/Object;ILjava/lang/Object;II)V" } : Jvm.MethodName)) ∈ lw_all := lw_g (lw_at lw_m2 129 rfl) rfl
theorem q497 : (Jvm.Cond.static ({ cls := "java/lang/System", name := "arraycopy", desc := "(Ljava/lang/Object;ILjava/lang/Object;II)V" } : Jvm.MethodName)) ∈ lw_all := lw_g (lw_at lw_m2 130 rfl) rfl
theorem q498 : (Jvm.Cond.native ({ cls := "java/lang/System", name := "arraycopy", desc := "(Ljava/lang/Object;ILjava/lang/Object;II)V" } : Jvm.MethodName)) ∈ lw_all := lw_g (lw_at lw_m2 131 rfl) rfl
theorem q499 : (Jvm.Cond.methodLink "java/util/ArrayList" (79 : Nat) ({ cls := "java/lang/Math", name := "max", desc := "(II)I" } : Jvm.MethodName)) ∈ lw_all := lw_g (lw_at lw_m2 132 rfl) rfl
theorem q500 : (Jvm.Cond.classLink "java/util/ArrayList" (7 : Nat) "java/lang/Object") ∈ lw_all := lw_g (lw_at lw_m2 133 rfl) rfl
theorem q501 : (Jvm.Cond.methodLink "FlyingDoctorsLaw" (118 : Nat) ({ cls := "FlyingDoctors", name := "plane", desc := "(IIIII)I" } : Jvm.MethodName)) ∈ lw_all := lw_g (lw_at lw_m2 134 rfl) rfl
theorem q502 : (Jvm.Cond.instanceMethod ({ cls := "FlyingDoctors", name := "plane", desc := "(IIIII)I" } : Jvm.MethodName)) ∈ lw_all := lw_g (lw_at lw_m2 135 rfl) rfl
theorem q503 : (Jvm.Cond.selects "FlyingDoctors" ({ cls := "FlyingDoctors", name := "plane", desc := "(IIIII)I" } : Jvm.MethodName) ({ cls := "FlyingDoctors", name := "plane", desc := "(IIIII)I" } : Jvm.MethodName)) ∈ lw_all := lw_g (lw_at lw_m2 136 rfl) rfl
theorem q504 : (Jvm.Cond.code ({ cls := "FlyingDoctors", name := "plane", desc := "(IIIII)I" } : Jvm.MethodName) prog_1_method_25_code (6 : Nat) (Option.some Jvm.ClassFile.FieldType.int)) ∈ lw_all := lw_g (lw_at lw_m2 137 rfl) rfl
theorem q506 : (Jvm.Cond.methodLink "FlyingDoctors" (22 : Nat) ({ cls := "java/util/List", name := "get", desc := "(I)Ljava/lang/Object;" } : Jvm.MethodName)) ∈ lw_all := lw_g (lw_at lw_m2 139 rfl) rfl
theorem q507 : (Jvm.Cond.interfaceMethod "java/util/List" "java/util/List" "get" "(I)Ljava/lang/Object;") ∈ lw_tbl := lw_at lw_m2 140 rfl
theorem q508 : (Jvm.Cond.declares ({ cls := "java/util/List", name := "get", desc := "(I)Ljava/lang/Object;" } : Jvm.MethodName)) ∈ lw_tbl := lw_at lw_m2 141 rfl
theorem q509 : (Jvm.Cond.selects "java/util/ArrayList" ({ cls := "java/util/List", name := "get", desc := "(I)Ljava/lang/Object;" } : Jvm.MethodName) ({ cls := "java/util/ArrayList", name := "get", desc := "(I)Ljava/lang/Object;" } : Jvm.MethodName)) ∈ lw_all := lw_g (lw_at lw_m2 142 rfl) rfl
theorem q510 : (Jvm.Cond.unhidden "java/util/ArrayList" "get" "(I)Ljava/lang/Object;") ∈ lw_tbl := lw_at lw_m2 143 rfl
theorem q511 : (Jvm.Cond.instanceMethod ({ cls := "java/util/ArrayList", name := "get", desc := "(I)Ljava/lang/Object;" } : Jvm.MethodName)) ∈ lw_all := lw_g (lw_at lw_m2 144 rfl) rfl
theorem q512 : (Jvm.Cond.publicMethod ({ cls := "java/util/ArrayList", name := "get", desc := "(I)Ljava/lang/Object;" } : Jvm.MethodName)) ∈ lw_tbl := lw_at lw_m2 145 rfl
theorem q513 : (Jvm.Cond.code ({ cls := "java/util/ArrayList", name := "get", desc := "(I)Ljava/lang/Object;" } : Jvm.MethodName) prog_50_method_20_code (2 : Nat) (Option.some (Jvm.ClassFile.FieldType.object "java/lang/Object"))) ∈ lw_all := lw_g (lw_at lw_m2 146 rfl) rfl
theorem q514 : (Jvm.Cond.methodLink "java/util/ArrayList" (118 : Nat) ({ cls := "java/util/Objects", name := "checkIndex", desc := "(II)I" } : Jvm.MethodName)) ∈ lw_all := lw_g (lw_at lw_m2 147 rfl) rfl
theorem q515 : (Jvm.Cond.static ({ cls := "java/util/Objects", name := "checkIndex", desc := "(II)I" } : Jvm.MethodName)) ∈ lw_all := lw_g (lw_at lw_m2 148 rfl) rfl
theorem q516 : (Jvm.Cond.code ({ cls := "java/util/Objects", name := "checkIndex", desc := "(II)I" } : Jvm.MethodName) prog_55_method_17_code (2 : Nat) (Option.some Jvm.ClassFile.FieldType.int)) ∈ lw_all := lw_g (lw_at lw_m2 149 rfl) rfl
theorem q517 : (Jvm.Cond.methodLink "java/util/Objects" (105 : Nat) ({ cls := "jdk/internal/util/Preconditions", name := "checkIndex", desc := "(IILjava/util/function/BiFunction;)I" } : Jvm.MethodName)) ∈ lw_all := lw_g (lw_at lw_m2 150 rfl) rfl
theorem q518 : (Jvm.Cond.static ({ cls := "jdk/internal/util/Preconditions", name := "checkIndex", desc := "(IILjava/util/function/BiFunction;)I" } : Jvm.MethodName)) ∈ lw_all := lw_g (lw_at lw_m2 151 rfl) rfl
theorem q519 : (Jvm.Cond.code ({ cls := "jdk/internal/util/Preconditions", name := "checkIndex", desc := "(IILjava/util/function/BiFunction;)I" } : Jvm.MethodName) prog_59_method_11_code (3 : Nat) (Option.some Jvm.ClassFile.FieldType.int)) ∈ lw_all := lw_g (lw_at lw_m2 152 rfl) rfl
theorem q520 : (Jvm.Cond.methodLink "java/util/ArrayList" (123 : Nat) ({ cls := "java/util/ArrayList", name := "elementData", desc := "(I)Ljava/lang/Object;" } : Jvm.MethodName)) ∈ lw_all := lw_g (lw_at lw_m2 153 rfl) rfl
theorem q521 : (Jvm.Cond.instanceMethod ({ cls := "java/util/ArrayList", name := "elementData", desc := "(I)Ljava/lang/Object;" } : Jvm.MethodName)) ∈ lw_all := lw_g (lw_at lw_m2 154 rfl) rfl
theorem q522 : (Jvm.Cond.selects "java/util/ArrayList" ({ cls := "java/util/ArrayList", name := "elementData", desc := "(I)Ljava/lang/Object;" } : Jvm.MethodName) ({ cls := "java/util/ArrayList", name := "elementData", desc := "(I)Ljava/lang/Object;" } : Jvm.MethodName)) ∈ lw_all := lw_g (lw_at lw_m2 155 rfl) rfl
theorem q523 : (Jvm.Cond.code ({ cls := "java/util/ArrayList", name := "elementData", desc := "(I)Ljava/lang/Object;" } : Jvm.MethodName) prog_50_method_18_code (2 : Nat) (Option.some (Jvm.ClassFile.FieldType.object "java/lang/Object"))) ∈ lw_all := lw_g (lw_at lw_m2 156 rfl) rfl
theorem q524 : (Jvm.Cond.classLink "FlyingDoctors" (116 : Nat) "FlyingDoctors$Plane") ∈ lw_all := lw_g (lw_at lw_m2 157 rfl) rfl
theorem q525 : (Jvm.Cond.instantiable "FlyingDoctors$Plane" (8 : Nat)) ∈ lw_all := lw_g (lw_at lw_m2 158 rfl) rfl
theorem q526 : (Jvm.Cond.methodLink "FlyingDoctors" (325 : Nat) ({ cls := "FlyingDoctors$Plane", name := "<init>", desc := "(IIIILFlyingDoctors$Place;)V" } : Jvm.MethodName)) ∈ lw_all := lw_g (lw_at lw_m2 159 rfl) rfl
theorem q527 : (Jvm.Cond.instanceMethod ({ cls := "FlyingDoctors$Plane", name := "<init>", desc := "(IIIILFlyingDoctors$Place;)V" } : Jvm.MethodName)) ∈ lw_all := lw_g (lw_at lw_m2 160 rfl) rfl
theorem q528 : (Jvm.Cond.code ({ cls := "FlyingDoctors$Plane", name := "<init>", desc := "(IIIILFlyingDoctors$Place;)V" } : Jvm.MethodName) prog_15_method_1_code (6 : Nat) (Option.none : Option Jvm.ClassFile.FieldType)) ∈ lw_all := lw_g (lw_at lw_m2 161 rfl) rfl
theorem q529 : (Jvm.Cond.methodLink "FlyingDoctors$Plane" (1 : Nat) ({ cls := "java/lang/Object", name := "<init>", desc := "()V" } : Jvm.MethodName)) ∈ lw_all := lw_g (lw_at lw_m2 162 rfl) rfl
theorem q530 : (Jvm.Cond.fieldLink "FlyingDoctors$Plane" (7 : Nat) "FlyingDoctors$Plane" "pace" "I") ∈ lw_all := lw_g (lw_at lw_m2 163 rfl) rfl
theorem q531 : (Jvm.Cond.fieldLink "FlyingDoctors$Plane" (13 : Nat) "FlyingDoctors$Plane" "tank" "I") ∈ lw_all := lw_g (lw_at lw_m2 164 rfl) rfl
theorem q532 : (Jvm.Cond.fieldLinkNest "FlyingDoctors$Flight" (89 : Nat) "FlyingDoctors$Plane" "tank" "I" "FlyingDoctors") ∈ lw_tbl := lw_at lw_m2 165 rfl
theorem q533 : (Jvm.Cond.fieldLinkNest "FlyingDoctors" (499 : Nat) "FlyingDoctors$Plane" "tank" "I" "FlyingDoctors") ∈ lw_tbl := lw_at lw_m2 166 rfl
theorem q534 : (Jvm.Cond.fieldLink "FlyingDoctors$Plane" (16 : Nat) "FlyingDoctors$Plane" "thirst" "I") ∈ lw_all := lw_g (lw_at lw_m2 167 rfl) rfl
theorem q535 : (Jvm.Cond.fieldLinkNest "FlyingDoctors$Flight" (92 : Nat) "FlyingDoctors$Plane" "thirst" "I" "FlyingDoctors") ∈ lw_tbl := lw_at lw_m2 168 rfl
theorem q536 : (Jvm.Cond.fieldLinkNest "FlyingDoctors" (222 : Nat) "FlyingDoctors$Plane" "thirst" "I" "FlyingDoctors") ∈ lw_tbl := lw_at lw_m2 169 rfl
theorem q537 : (Jvm.Cond.fieldLink "FlyingDoctors$Plane" (19 : Nat) "FlyingDoctors$Plane" "needs" "I") ∈ lw_all := lw_g (lw_at lw_m2 170 rfl) rfl
theorem q538 : (Jvm.Cond.fieldLinkNest "FlyingDoctors" (115 : Nat) "FlyingDoctors$Plane" "needs" "I" "FlyingDoctors") ∈ lw_tbl := lw_at lw_m2 171 rfl
theorem q539 : (Jvm.Cond.fieldLink "FlyingDoctors$Plane" (22 : Nat) "FlyingDoctors$Plane" "first" "LFlyingDoctors$Place;") ∈ lw_all := lw_g (lw_at lw_m2 172 rfl) rfl
theorem q540 : (Jvm.Cond.fieldLinkNest "FlyingDoctors" (471 : Nat) "FlyingDoctors$Plane" "first" "LFlyingDoctors$Place;" "FlyingDoctors") ∈ lw_tbl := lw_at lw_m2 173 rfl
theorem q541 : (Jvm.Cond.fieldLink "FlyingDoctors$Plane" (26 : Nat) "FlyingDoctors$Plane" "place" "LFlyingDoctors$Place;") ∈ lw_all := lw_g (lw_at lw_m2 174 rfl) rfl
theorem q542 : (Jvm.Cond.fieldLinkNest "FlyingDoctors" (168 : Nat) "FlyingDoctors$Plane" "place" "LFlyingDoctors$Place;" "FlyingDoctors") ∈ lw_tbl := lw_at lw_m2 175 rfl
theorem q543 : (Jvm.Cond.fieldLink "FlyingDoctors$Plane" (29 : Nat) "FlyingDoctors$Plane" "fuel" "I") ∈ lw_all := lw_g (lw_at lw_m2 176 rfl) rfl
theorem q544 : (Jvm.Cond.fieldLinkNest "FlyingDoctors" (193 : Nat) "FlyingDoctors$Plane" "fuel" "I" "FlyingDoctors") ∈ lw_tbl := lw_at lw_m2 177 rfl
theorem q545 : (Jvm.Cond.fieldLinkNest "FlyingDoctors" (146 : Nat) "FlyingDoctors$Plane" "over" "I" "FlyingDoctors") ∈ lw_tbl := lw_at lw_m2 178 rfl
theorem q563 : (Jvm.Cond.methodLink "FlyingDoctorsLaw" (123 : Nat) ({ cls := "FlyingDoctors", name := "person", desc := "(II)I" } : Jvm.MethodName)) ∈ lw_all := lw_g (lw_at lw_m2 196 rfl) rfl
theorem q564 : (Jvm.Cond.instanceMethod ({ cls := "FlyingDoctors", name := "person", desc := "(II)I" } : Jvm.MethodName)) ∈ lw_all := lw_g (lw_at lw_m2 197 rfl) rfl
theorem q565 : (Jvm.Cond.selects "FlyingDoctors" ({ cls := "FlyingDoctors", name := "person", desc := "(II)I" } : Jvm.MethodName) ({ cls := "FlyingDoctors", name := "person", desc := "(II)I" } : Jvm.MethodName)) ∈ lw_all := lw_g (lw_at lw_m2 198 rfl) rfl
theorem q566 : (Jvm.Cond.code ({ cls := "FlyingDoctors", name := "person", desc := "(II)I" } : Jvm.MethodName) prog_1_method_26_code (4 : Nat) (Option.some Jvm.ClassFile.FieldType.int)) ∈ lw_all := lw_g (lw_at lw_m2 199 rfl) rfl
theorem q567 : (Jvm.Cond.classLink "FlyingDoctors" (154 : Nat) "FlyingDoctors$Person") ∈ lw_all := lw_g (lw_at lw_m2 200 rfl) rfl
theorem q568 : (Jvm.Cond.instantiable "FlyingDoctors$Person" (6 : Nat)) ∈ lw_all := lw_g (lw_at lw_m2 201 rfl) rfl
theorem q569 : (Jvm.Cond.methodLink "FlyingDoctors" (328 : Nat) ({ cls := "FlyingDoctors$Person", name := "<init>", desc := "(IILFlyingDoctors$Place;)V" } : Jvm.MethodName)) ∈ lw_all := lw_g (lw_at lw_m2 202 rfl) rfl
theorem q570 : (Jvm.Cond.instanceMethod ({ cls := "FlyingDoctors$Person", name := "<init>", desc := "(IILFlyingDoctors$Place;)V" } : Jvm.MethodName)) ∈ lw_all := lw_g (lw_at lw_m2 203 rfl) rfl
theorem q571 : (Jvm.Cond.code ({ cls := "FlyingDoctors$Person", name := "<init>", desc := "(IILFlyingDoctors$Place;)V" } : Jvm.MethodName) prog_13_method_1_code (4 : Nat) (Option.none : Option Jvm.ClassFile.FieldType)) ∈ lw_all := lw_g (lw_at lw_m2 204 rfl) rfl
theorem q572 : (Jvm.Cond.methodLink "FlyingDoctors$Person" (1 : Nat) ({ cls := "java/lang/Object", name := "<init>", desc := "()V" } : Jvm.MethodName)) ∈ lw_all := lw_g (lw_at lw_m2 205 rfl) rfl
theorem q573 : (Jvm.Cond.fieldLink "FlyingDoctors$Person" (7 : Nat) "FlyingDoctors$Person" "number" "I") ∈ lw_all := lw_g (lw_at lw_m2 206 rfl) rfl
theorem q574 : (Jvm.Cond.fieldLinkNest "FlyingDoctors" (252 : Nat) "FlyingDoctors$Person" "number" "I" "FlyingDoctors") ∈ lw_tbl := lw_at lw_m2 207 rfl
theorem q575 : (Jvm.Cond.fieldLink "FlyingDoctors$Person" (13 : Nat) "FlyingDoctors$Person" "kind" "I") ∈ lw_all := lw_g (lw_at lw_m2 208 rfl) rfl
theorem q576 : (Jvm.Cond.fieldLinkNest "FlyingDoctors" (153 : Nat) "FlyingDoctors$Person" "kind" "I" "FlyingDoctors") ∈ lw_tbl := lw_at lw_m2 209 rfl
theorem q577 : (Jvm.Cond.fieldLink "FlyingDoctors$Person" (16 : Nat) "FlyingDoctors$Person" "first" "LFlyingDoctors$Place;") ∈ lw_all := lw_g (lw_at lw_m2 210 rfl) rfl
theorem q578 : (Jvm.Cond.fieldLinkNest "FlyingDoctors" (474 : Nat) "FlyingDoctors$Person" "first" "LFlyingDoctors$Place;" "FlyingDoctors") ∈ lw_tbl := lw_at lw_m2 211 rfl
theorem q579 : (Jvm.Cond.fieldLink "FlyingDoctors$Person" (20 : Nat) "FlyingDoctors$Person" "place" "LFlyingDoctors$Place;") ∈ lw_all := lw_g (lw_at lw_m2 212 rfl) rfl
theorem q580 : (Jvm.Cond.fieldLinkNest "FlyingDoctors" (164 : Nat) "FlyingDoctors$Person" "place" "LFlyingDoctors$Place;" "FlyingDoctors") ∈ lw_tbl := lw_at lw_m2 213 rfl
theorem q581 : (Jvm.Cond.fieldLinkNest "FlyingDoctors" (169 : Nat) "FlyingDoctors$Person" "over" "I" "FlyingDoctors") ∈ lw_tbl := lw_at lw_m2 214 rfl
theorem q582 : (Jvm.Cond.fieldLinkNest "FlyingDoctors" (170 : Nat) "FlyingDoctors$Person" "flew" "Z" "FlyingDoctors") ∈ lw_tbl := lw_at lw_m2 215 rfl
theorem q596 : (Jvm.Cond.methodLink "FlyingDoctors" (161 : Nat) ({ cls := "FlyingDoctors$Person", name := "bit", desc := "()I" } : Jvm.MethodName)) ∈ lw_all := lw_g (lw_at lw_m2 229 rfl) rfl
theorem q597 : (Jvm.Cond.instanceMethod ({ cls := "FlyingDoctors$Person", name := "bit", desc := "()I" } : Jvm.MethodName)) ∈ lw_all := lw_g (lw_at lw_m2 230 rfl) rfl
theorem q598 : (Jvm.Cond.selects "FlyingDoctors$Person" ({ cls := "FlyingDoctors$Person", name := "bit", desc := "()I" } : Jvm.MethodName) ({ cls := "FlyingDoctors$Person", name := "bit", desc := "()I" } : Jvm.MethodName)) ∈ lw_all := lw_g (lw_at lw_m2 231 rfl) rfl
theorem q599 : (Jvm.Cond.code ({ cls := "FlyingDoctors$Person", name := "bit", desc := "()I" } : Jvm.MethodName) prog_13_method_2_code (1 : Nat) (Option.some Jvm.ClassFile.FieldType.int)) ∈ lw_all := lw_g (lw_at lw_m2 232 rfl) rfl
theorem q600 : (Jvm.Cond.methodLink "FlyingDoctorsLaw" (137 : Nat) ({ cls := "FlyingDoctors", name := "feed", desc := "(IIIII)I" } : Jvm.MethodName)) ∈ lw_all := lw_g (lw_at lw_m2 233 rfl) rfl
theorem q601 : (Jvm.Cond.instanceMethod ({ cls := "FlyingDoctors", name := "feed", desc := "(IIIII)I" } : Jvm.MethodName)) ∈ lw_all := lw_g (lw_at lw_m2 234 rfl) rfl
theorem q602 : (Jvm.Cond.selects "FlyingDoctors" ({ cls := "FlyingDoctors", name := "feed", desc := "(IIIII)I" } : Jvm.MethodName) ({ cls := "FlyingDoctors", name := "feed", desc := "(IIIII)I" } : Jvm.MethodName)) ∈ lw_all := lw_g (lw_at lw_m2 235 rfl) rfl
theorem q603 : (Jvm.Cond.code ({ cls := "FlyingDoctors", name := "feed", desc := "(IIIII)I" } : Jvm.MethodName) prog_1_method_28_code (8 : Nat) (Option.some Jvm.ClassFile.FieldType.int)) ∈ lw_all := lw_g (lw_at lw_m2 236 rfl) rfl
theorem q604 : (Jvm.Cond.methodLink "FlyingDoctorsLaw" (145 : Nat) ({ cls := "FlyingDoctors", name := "fault", desc := "()I" } : Jvm.MethodName)) ∈ lw_all := lw_g (lw_at lw_m2 237 rfl) rfl
theorem q605 : (Jvm.Cond.instanceMethod ({ cls := "FlyingDoctors", name := "fault", desc := "()I" } : Jvm.MethodName)) ∈ lw_all := lw_g (lw_at lw_m2 238 rfl) rfl
theorem q606 : (Jvm.Cond.selects "FlyingDoctors" ({ cls := "FlyingDoctors", name := "fault", desc := "()I" } : Jvm.MethodName) ({ cls := "FlyingDoctors", name := "fault", desc := "()I" } : Jvm.MethodName)) ∈ lw_all := lw_g (lw_at lw_m2 239 rfl) rfl
theorem q607 : (Jvm.Cond.code ({ cls := "FlyingDoctors", name := "fault", desc := "()I" } : Jvm.MethodName) prog_1_method_30_code (1 : Nat) (Option.some Jvm.ClassFile.FieldType.int)) ∈ lw_all := lw_g (lw_at lw_m3 0 rfl) rfl
theorem q608 : (Jvm.Cond.methodLink "FlyingDoctorsLaw" (195 : Nat) ({ cls := "FlyingDoctors", name := "failed", desc := "()I" } : Jvm.MethodName)) ∈ lw_all := lw_g (lw_at lw_m3 1 rfl) rfl
theorem q609 : (Jvm.Cond.instanceMethod ({ cls := "FlyingDoctors", name := "failed", desc := "()I" } : Jvm.MethodName)) ∈ lw_all := lw_g (lw_at lw_m3 2 rfl) rfl
theorem q610 : (Jvm.Cond.selects "FlyingDoctors" ({ cls := "FlyingDoctors", name := "failed", desc := "()I" } : Jvm.MethodName) ({ cls := "FlyingDoctors", name := "failed", desc := "()I" } : Jvm.MethodName)) ∈ lw_all := lw_g (lw_at lw_m3 3 rfl) rfl
theorem q611 : (Jvm.Cond.code ({ cls := "FlyingDoctors", name := "failed", desc := "()I" } : Jvm.MethodName) prog_1_method_49_code (1 : Nat) (Option.some Jvm.ClassFile.FieldType.int)) ∈ lw_all := lw_g (lw_at lw_m3 4 rfl) rfl
theorem q612 : (Jvm.Cond.methodLink "FlyingDoctorsLaw" (214 : Nat) ({ cls := "FlyingDoctors", name := "clinic", desc := "(III)I" } : Jvm.MethodName)) ∈ lw_all := lw_g (lw_at lw_m3 5 rfl) rfl
theorem q613 : (Jvm.Cond.instanceMethod ({ cls := "FlyingDoctors", name := "clinic", desc := "(III)I" } : Jvm.MethodName)) ∈ lw_all := lw_g (lw_at lw_m3 6 rfl) rfl
theorem q614 : (Jvm.Cond.selects "FlyingDoctors" ({ cls := "FlyingDoctors", name := "clinic", desc := "(III)I" } : Jvm.MethodName) ({ cls := "FlyingDoctors", name := "clinic", desc := "(III)I" } : Jvm.MethodName)) ∈ lw_all := lw_g (lw_at lw_m3 7 rfl) rfl
theorem q615 : (Jvm.Cond.code ({ cls := "FlyingDoctors", name := "clinic", desc := "(III)I" } : Jvm.MethodName) prog_1_method_60_code (5 : Nat) (Option.some Jvm.ClassFile.FieldType.int)) ∈ lw_all := lw_g (lw_at lw_m3 8 rfl) rfl
theorem q616 : (Jvm.Cond.classLink "FlyingDoctors" (493 : Nat) "FlyingDoctors$Clinic") ∈ lw_all := lw_g (lw_at lw_m3 9 rfl) rfl
theorem q617 : (Jvm.Cond.instantiable "FlyingDoctors$Clinic" (3 : Nat)) ∈ lw_all := lw_g (lw_at lw_m3 10 rfl) rfl
theorem q618 : (Jvm.Cond.methodLink "FlyingDoctors" (496 : Nat) ({ cls := "FlyingDoctors$Clinic", name := "<init>", desc := "(LFlyingDoctors$Place;II)V" } : Jvm.MethodName)) ∈ lw_all := lw_g (lw_at lw_m3 11 rfl) rfl
theorem q619 : (Jvm.Cond.instanceMethod ({ cls := "FlyingDoctors$Clinic", name := "<init>", desc := "(LFlyingDoctors$Place;II)V" } : Jvm.MethodName)) ∈ lw_all := lw_g (lw_at lw_m3 12 rfl) rfl
theorem q620 : (Jvm.Cond.code ({ cls := "FlyingDoctors$Clinic", name := "<init>", desc := "(LFlyingDoctors$Place;II)V" } : Jvm.MethodName) prog_5_method_1_code (4 : Nat) (Option.none : Option Jvm.ClassFile.FieldType)) ∈ lw_all := lw_g (lw_at lw_m3 13 rfl) rfl
theorem q621 : (Jvm.Cond.methodLink "FlyingDoctors$Clinic" (1 : Nat) ({ cls := "java/lang/Object", name := "<init>", desc := "()V" } : Jvm.MethodName)) ∈ lw_all := lw_g (lw_at lw_m3 14 rfl) rfl
theorem q622 : (Jvm.Cond.fieldLink "FlyingDoctors$Clinic" (7 : Nat) "FlyingDoctors$Clinic" "place" "LFlyingDoctors$Place;") ∈ lw_all := lw_g (lw_at lw_m3 15 rfl) rfl
theorem q623 : (Jvm.Cond.fieldLinkNest "FlyingDoctors$Rounds" (66 : Nat) "FlyingDoctors$Clinic" "place" "LFlyingDoctors$Place;" "FlyingDoctors") ∈ lw_tbl := lw_at lw_m3 16 rfl
theorem q624 : (Jvm.Cond.fieldLinkNest "FlyingDoctors" (495 : Nat) "FlyingDoctors$Clinic" "place" "LFlyingDoctors$Place;" "FlyingDoctors") ∈ lw_tbl := lw_at lw_m3 17 rfl
theorem q625 : (Jvm.Cond.fieldLink "FlyingDoctors$Clinic" (13 : Nat) "FlyingDoctors$Clinic" "day" "I") ∈ lw_all := lw_g (lw_at lw_m3 18 rfl) rfl
theorem q626 : (Jvm.Cond.fieldLinkNest "FlyingDoctors$Rounds" (80 : Nat) "FlyingDoctors$Clinic" "day" "I" "FlyingDoctors") ∈ lw_tbl := lw_at lw_m3 19 rfl
theorem q627 : (Jvm.Cond.fieldLink "FlyingDoctors$Clinic" (17 : Nat) "FlyingDoctors$Clinic" "quarters" "I") ∈ lw_all := lw_g (lw_at lw_m3 20 rfl) rfl
theorem q628 : (Jvm.Cond.fieldLinkNest "FlyingDoctors$Rounds" (63 : Nat) "FlyingDoctors$Clinic" "quarters" "I" "FlyingDoctors") ∈ lw_tbl := lw_at lw_m3 21 rfl
theorem q636 : (Jvm.Cond.methodLink "FlyingDoctorsLaw" (237 : Nat) ({ cls := "FlyingDoctors", name := "gift", desc := "(III)I" } : Jvm.MethodName)) ∈ lw_all := lw_g (lw_at lw_m3 29 rfl) rfl
theorem q637 : (Jvm.Cond.instanceMethod ({ cls := "FlyingDoctors", name := "gift", desc := "(III)I" } : Jvm.MethodName)) ∈ lw_all := lw_g (lw_at lw_m3 30 rfl) rfl
theorem q638 : (Jvm.Cond.selects "FlyingDoctors" ({ cls := "FlyingDoctors", name := "gift", desc := "(III)I" } : Jvm.MethodName) ({ cls := "FlyingDoctors", name := "gift", desc := "(III)I" } : Jvm.MethodName)) ∈ lw_all := lw_g (lw_at lw_m3 31 rfl) rfl
theorem q639 : (Jvm.Cond.code ({ cls := "FlyingDoctors", name := "gift", desc := "(III)I" } : Jvm.MethodName) prog_1_method_69_code (4 : Nat) (Option.some Jvm.ClassFile.FieldType.int)) ∈ lw_all := lw_g (lw_at lw_m3 32 rfl) rfl
theorem q640 : (Jvm.Cond.constant "FlyingDoctors" (549 : Nat) (99999 : Int32)) ∈ lw_all := lw_g (lw_at lw_m3 33 rfl) rfl
theorem q641 : (Jvm.Cond.classLink "FlyingDoctors" (550 : Nat) "FlyingDoctors$Gift") ∈ lw_all := lw_g (lw_at lw_m3 34 rfl) rfl
theorem q642 : (Jvm.Cond.instantiable "FlyingDoctors$Gift" (3 : Nat)) ∈ lw_all := lw_g (lw_at lw_m3 35 rfl) rfl
theorem q643 : (Jvm.Cond.methodLink "FlyingDoctors" (552 : Nat) ({ cls := "FlyingDoctors$Gift", name := "<init>", desc := "(III)V" } : Jvm.MethodName)) ∈ lw_all := lw_g (lw_at lw_m3 36 rfl) rfl
theorem q644 : (Jvm.Cond.instanceMethod ({ cls := "FlyingDoctors$Gift", name := "<init>", desc := "(III)V" } : Jvm.MethodName)) ∈ lw_all := lw_g (lw_at lw_m3 37 rfl) rfl
theorem q645 : (Jvm.Cond.code ({ cls := "FlyingDoctors$Gift", name := "<init>", desc := "(III)V" } : Jvm.MethodName) prog_9_method_1_code (4 : Nat) (Option.none : Option Jvm.ClassFile.FieldType)) ∈ lw_all := lw_g (lw_at lw_m3 38 rfl) rfl
theorem q646 : (Jvm.Cond.methodLink "FlyingDoctors$Gift" (1 : Nat) ({ cls := "java/lang/Object", name := "<init>", desc := "()V" } : Jvm.MethodName)) ∈ lw_all := lw_g (lw_at lw_m3 39 rfl) rfl
theorem q647 : (Jvm.Cond.fieldLink "FlyingDoctors$Gift" (13 : Nat) "FlyingDoctors$Gift" "purpose" "I") ∈ lw_all := lw_g (lw_at lw_m3 40 rfl) rfl
theorem q648 : (Jvm.Cond.fieldLinkNest "FlyingDoctors" (555 : Nat) "FlyingDoctors$Gift" "purpose" "I" "FlyingDoctors") ∈ lw_tbl := lw_at lw_m3 41 rfl
theorem q649 : (Jvm.Cond.fieldLink "FlyingDoctors$Gift" (16 : Nat) "FlyingDoctors$Gift" "until" "I") ∈ lw_all := lw_g (lw_at lw_m3 42 rfl) rfl
theorem q650 : (Jvm.Cond.fieldLinkNest "FlyingDoctors" (558 : Nat) "FlyingDoctors$Gift" "until" "I" "FlyingDoctors") ∈ lw_tbl := lw_at lw_m3 43 rfl
theorem q651 : (Jvm.Cond.fieldLink "FlyingDoctors$Gift" (7 : Nat) "FlyingDoctors$Gift" "pence" "I") ∈ lw_all := lw_g (lw_at lw_m3 44 rfl) rfl
theorem q652 : (Jvm.Cond.fieldLinkNest "FlyingDoctors" (561 : Nat) "FlyingDoctors$Gift" "pence" "I" "FlyingDoctors") ∈ lw_tbl := lw_at lw_m3 45 rfl
theorem q660 : (Jvm.Cond.methodLink "FlyingDoctorsLaw" (241 : Nat) ({ cls := "FlyingDoctors", name := "spend", desc := "(II)Z" } : Jvm.MethodName)) ∈ lw_all := lw_g (lw_at lw_m3 53 rfl) rfl
theorem q661 : (Jvm.Cond.instanceMethod ({ cls := "FlyingDoctors", name := "spend", desc := "(II)Z" } : Jvm.MethodName)) ∈ lw_all := lw_g (lw_at lw_m3 54 rfl) rfl
theorem q662 : (Jvm.Cond.selects "FlyingDoctors" ({ cls := "FlyingDoctors", name := "spend", desc := "(II)Z" } : Jvm.MethodName) ({ cls := "FlyingDoctors", name := "spend", desc := "(II)Z" } : Jvm.MethodName)) ∈ lw_all := lw_g (lw_at lw_m3 55 rfl) rfl
theorem q663 : (Jvm.Cond.code ({ cls := "FlyingDoctors", name := "spend", desc := "(II)Z" } : Jvm.MethodName) prog_1_method_72_code (7 : Nat) (Option.some Jvm.ClassFile.FieldType.boolean)) ∈ lw_all := lw_g (lw_at lw_m3 56 rfl) rfl
theorem q664 : (Jvm.Cond.methodLink "FlyingDoctors" (564 : Nat) ({ cls := "FlyingDoctors", name := "isFor", desc := "(LFlyingDoctors$Gift;I)Z" } : Jvm.MethodName)) ∈ lw_all := lw_g (lw_at lw_m3 57 rfl) rfl
theorem q666 : (Jvm.Cond.instanceMethod ({ cls := "FlyingDoctors", name := "isFor", desc := "(LFlyingDoctors$Gift;I)Z" } : Jvm.MethodName)) ∈ lw_all := lw_g (lw_at lw_m3 59 rfl) rfl
theorem q667 : (Jvm.Cond.code ({ cls := "FlyingDoctors", name := "isFor", desc := "(LFlyingDoctors$Gift;I)Z" } : Jvm.MethodName) prog_1_method_70_code (3 : Nat) (Option.some Jvm.ClassFile.FieldType.boolean)) ∈ lw_all := lw_g (lw_at lw_m3 60 rfl) rfl
theorem q668 : (Jvm.Cond.methodLink "FlyingDoctors" (567 : Nat) ({ cls := "FlyingDoctors", name := "next", desc := "(I)LFlyingDoctors$Gift;" } : Jvm.MethodName)) ∈ lw_all := lw_g (lw_at lw_m3 61 rfl) rfl
theorem q670 : (Jvm.Cond.instanceMethod ({ cls := "FlyingDoctors", name := "next", desc := "(I)LFlyingDoctors$Gift;" } : Jvm.MethodName)) ∈ lw_all := lw_g (lw_at lw_m3 63 rfl) rfl
theorem q671 : (Jvm.Cond.code ({ cls := "FlyingDoctors", name := "next", desc := "(I)LFlyingDoctors$Gift;" } : Jvm.MethodName) prog_1_method_71_code (5 : Nat) (Option.some (Jvm.ClassFile.FieldType.object "FlyingDoctors$Gift"))) ∈ lw_all := lw_g (lw_at lw_m3 64 rfl) rfl
theorem q672 : (Jvm.Cond.methodLink "FlyingDoctors" (426 : Nat) ({ cls := "java/lang/Math", name := "min", desc := "(II)I" } : Jvm.MethodName)) ∈ lw_all := lw_g (lw_at lw_m3 65 rfl) rfl
theorem q673 : (Jvm.Cond.methodLink "FlyingDoctorsLaw" (127 : Nat) ({ cls := "FlyingDoctorsLaw", name := "drums", desc := "(LFlyingDoctors;II[J)I" } : Jvm.MethodName)) ∈ lw_all := lw_g (lw_at lw_m3 66 rfl) rfl
theorem q674 : (Jvm.Cond.static ({ cls := "FlyingDoctorsLaw", name := "drums", desc := "(LFlyingDoctors;II[J)I" } : Jvm.MethodName)) ∈ lw_all := lw_g (lw_at lw_m3 67 rfl) rfl
theorem q675 : (Jvm.Cond.codeWith ({ cls := "FlyingDoctorsLaw", name := "drums", desc := "(LFlyingDoctors;II[J)I" } : Jvm.MethodName) method_3_code (5 : Nat) (Option.some Jvm.ClassFile.FieldType.int) [((0 : Nat), (10 : Nat), (13 : Nat), (13 : Nat)), ((0 : Nat), (10 : Nat), (17 : Nat), (15 : Nat))]) ∈ lw_all := lw_g (lw_at lw_m3 68 rfl) rfl
theorem q676 : (Jvm.Cond.classLink "FlyingDoctorsLaw" (13 : Nat) "java/util/NoSuchElementException") ∈ lw_all := lw_g (lw_at lw_m3 69 rfl) rfl
theorem q677 : (Jvm.Cond.classLink "FlyingDoctorsLaw" (15 : Nat) "java/lang/IllegalArgumentException") ∈ lw_all := lw_g (lw_at lw_m3 70 rfl) rfl
theorem q678 : (Jvm.Cond.methodLink "FlyingDoctorsLaw" (7 : Nat) ({ cls := "FlyingDoctors", name := "drums", desc := "(II)I" } : Jvm.MethodName)) ∈ lw_all := lw_g (lw_at lw_m3 71 rfl) rfl
theorem q679 : (Jvm.Cond.instanceMethod ({ cls := "FlyingDoctors", name := "drums", desc := "(II)I" } : Jvm.MethodName)) ∈ lw_all := lw_g (lw_at lw_m3 72 rfl) rfl
theorem q680 : (Jvm.Cond.selects "FlyingDoctors" ({ cls := "FlyingDoctors", name := "drums", desc := "(II)I" } : Jvm.MethodName) ({ cls := "FlyingDoctors", name := "drums", desc := "(II)I" } : Jvm.MethodName)) ∈ lw_all := lw_g (lw_at lw_m3 73 rfl) rfl
theorem q681 : (Jvm.Cond.code ({ cls := "FlyingDoctors", name := "drums", desc := "(II)I" } : Jvm.MethodName) prog_1_method_27_code (5 : Nat) (Option.some Jvm.ClassFile.FieldType.int)) ∈ lw_all := lw_g (lw_at lw_m3 74 rfl) rfl
theorem q682 : (Jvm.Cond.methodLink "FlyingDoctors" (334 : Nat) ({ cls := "FlyingDoctors", name := "placeAt", desc := "(I)LFlyingDoctors$Place;" } : Jvm.MethodName)) ∈ lw_all := lw_g (lw_at lw_m3 75 rfl) rfl
theorem q684 : (Jvm.Cond.instanceMethod ({ cls := "FlyingDoctors", name := "placeAt", desc := "(I)LFlyingDoctors$Place;" } : Jvm.MethodName)) ∈ lw_all := lw_g (lw_at lw_m3 77 rfl) rfl
theorem q685 : (Jvm.Cond.code ({ cls := "FlyingDoctors", name := "placeAt", desc := "(I)LFlyingDoctors$Place;" } : Jvm.MethodName) prog_1_method_20_code (2 : Nat) (Option.some (Jvm.ClassFile.FieldType.object "FlyingDoctors$Place"))) ∈ lw_all := lw_g (lw_at lw_m3 78 rfl) rfl
theorem q686 : (Jvm.Cond.methodLink "FlyingDoctors" (318 : Nat) ({ cls := "FlyingDoctors", name := "found", desc := "(Z)V" } : Jvm.MethodName)) ∈ lw_all := lw_g (lw_at lw_m3 79 rfl) rfl
theorem q687 : (Jvm.Cond.static ({ cls := "FlyingDoctors", name := "found", desc := "(Z)V" } : Jvm.MethodName)) ∈ lw_all := lw_g (lw_at lw_m3 80 rfl) rfl
theorem q688 : (Jvm.Cond.code ({ cls := "FlyingDoctors", name := "found", desc := "(Z)V" } : Jvm.MethodName) prog_1_method_2_code (1 : Nat) (Option.none : Option Jvm.ClassFile.FieldType)) ∈ lw_all := lw_g (lw_at lw_m3 81 rfl) rfl
theorem q689 : (Jvm.Cond.classLink "FlyingDoctors" (1 : Nat) "java/util/NoSuchElementException") ∈ lw_all := lw_g (lw_at lw_m3 82 rfl) rfl
theorem q690 : (Jvm.Cond.instantiable "java/util/NoSuchElementException" (6 : Nat)) ∈ lw_all := lw_g (lw_at lw_m3 83 rfl) rfl
theorem q691 : (Jvm.Cond.castable "java/util/NoSuchElementException" "java/util/NoSuchElementException") ∈ lw_tbl := lw_at lw_m3 84 rfl
theorem q692 : (Jvm.Cond.declares ({ cls := "java/lang/RuntimeException", name := "<init>", desc := "()V" } : Jvm.MethodName)) ∈ lw_tbl := lw_at lw_m3 85 rfl
theorem q694 : (Jvm.Cond.declares ({ cls := "java/lang/Exception", name := "<init>", desc := "()V" } : Jvm.MethodName)) ∈ lw_tbl := lw_at lw_m3 87 rfl
theorem q696 : (Jvm.Cond.declares ({ cls := "java/lang/Throwable", name := "<init>", desc := "()V" } : Jvm.MethodName)) ∈ lw_tbl := lw_at lw_m3 89 rfl
theorem q698 : (Jvm.Cond.selects "java/util/NoSuchElementException" ({ cls := "java/lang/Throwable", name := "fillInStackTrace", desc := "(I)Ljava/lang/Throwable;" } : Jvm.MethodName) ({ cls := "java/lang/Throwable", name := "fillInStackTrace", desc := "(I)Ljava/lang/Throwable;" } : Jvm.MethodName)) ∈ lw_all := lw_g (lw_at lw_m3 91 rfl) rfl
theorem q699 : (Jvm.Cond.selects "java/util/NoSuchElementException" ({ cls := "java/lang/Throwable", name := "fillInStackTrace", desc := "()Ljava/lang/Throwable;" } : Jvm.MethodName) ({ cls := "java/lang/Throwable", name := "fillInStackTrace", desc := "()Ljava/lang/Throwable;" } : Jvm.MethodName)) ∈ lw_all := lw_g (lw_at lw_m3 92 rfl) rfl
theorem q700 : (Jvm.Cond.lays "java/util/NoSuchElementException" "java/lang/Throwable" "cause" "Ljava/lang/Throwable;") ∈ lw_all := lw_g (lw_at lw_m3 93 rfl) rfl
theorem q701 : (Jvm.Cond.lays "java/lang/Throwable" "java/lang/Throwable" "cause" "Ljava/lang/Throwable;") ∈ lw_all := lw_g (lw_at lw_m3 94 rfl) rfl
theorem q702 : (Jvm.Cond.lays "java/util/NoSuchElementException" "java/lang/Throwable" "stackTrace" "[Ljava/lang/StackTraceElement;") ∈ lw_all := lw_g (lw_at lw_m3 95 rfl) rfl
theorem q703 : (Jvm.Cond.lays "java/lang/Throwable" "java/lang/Throwable" "stackTrace" "[Ljava/lang/StackTraceElement;") ∈ lw_all := lw_g (lw_at lw_m3 96 rfl) rfl
theorem q704 : (Jvm.Cond.lays "java/util/NoSuchElementException" "java/lang/Throwable" "suppressedExceptions" "Ljava/util/List;") ∈ lw_all := lw_g (lw_at lw_m3 97 rfl) rfl
theorem q705 : (Jvm.Cond.lays "java/lang/Throwable" "java/lang/Throwable" "suppressedExceptions" "Ljava/util/List;") ∈ lw_all := lw_g (lw_at lw_m3 98 rfl) rfl
theorem q706 : (Jvm.Cond.lays "java/util/NoSuchElementException" "java/lang/Throwable" "detailMessage" "Ljava/lang/String;") ∈ lw_all := lw_g (lw_at lw_m3 99 rfl) rfl
theorem q707 : (Jvm.Cond.lays "java/lang/Throwable" "java/lang/Throwable" "detailMessage" "Ljava/lang/String;") ∈ lw_all := lw_g (lw_at lw_m3 100 rfl) rfl
theorem q708 : (Jvm.Cond.lays "java/util/NoSuchElementException" "java/lang/Throwable" "backtrace" "Ljava/lang/Object;") ∈ lw_all := lw_g (lw_at lw_m3 101 rfl) rfl
theorem q709 : (Jvm.Cond.lays "java/lang/Throwable" "java/lang/Throwable" "backtrace" "Ljava/lang/Object;") ∈ lw_all := lw_g (lw_at lw_m3 102 rfl) rfl
theorem q710 : (Jvm.Cond.fieldLink "java/lang/Throwable" (198 : Nat) "java/lang/Throwable" "backtrace" "Ljava/lang/Object;") ∈ lw_all := lw_g (lw_at lw_m3 103 rfl) rfl
theorem q711 : (Jvm.Cond.superclass "java/lang/Throwable" "java/lang/Object") ∈ lw_all := lw_g (lw_at lw_m3 104 rfl) rfl
theorem q712 : (Jvm.Cond.instanceMethod ({ cls := "java/lang/Throwable", name := "<init>", desc := "()V" } : Jvm.MethodName)) ∈ lw_all := lw_g (lw_at lw_m3 105 rfl) rfl
theorem q713 : (Jvm.Cond.code ({ cls := "java/lang/Throwable", name := "<init>", desc := "()V" } : Jvm.MethodName) prog_45_method_1_code (1 : Nat) (Option.none : Option Jvm.ClassFile.FieldType)) ∈ lw_all := lw_g (lw_at lw_m3 106 rfl) rfl
theorem q714 : (Jvm.Cond.methodLink "java/lang/Throwable" (1 : Nat) ({ cls := "java/lang/Object", name := "<init>", desc := "()V" } : Jvm.MethodName)) ∈ lw_all := lw_g (lw_at lw_m3 107 rfl) rfl
theorem q715 : (Jvm.Cond.fieldLink "java/lang/Throwable" (13 : Nat) "java/lang/Throwable" "UNASSIGNED_STACK" "[Ljava/lang/StackTraceElement;") ∈ lw_all := lw_g (lw_at lw_m3 108 rfl) rfl
theorem q716 : (Jvm.Cond.laysStatic "java/lang/Throwable" "UNASSIGNED_STACK" "[Ljava/lang/StackTraceElement;") ∈ lw_tbl := lw_at lw_m3 109 rfl
theorem q717 : (Jvm.Cond.fieldLink "java/lang/Throwable" (20 : Nat) "java/lang/Throwable" "SUPPRESSED_SENTINEL" "Ljava/util/List;") ∈ lw_all := lw_g (lw_at lw_m3 110 rfl) rfl
theorem q718 : (Jvm.Cond.laysStatic "java/lang/Throwable" "SUPPRESSED_SENTINEL" "Ljava/util/List;") ∈ lw_tbl := lw_at lw_m3 111 rfl
theorem q719 : (Jvm.Cond.methodLink "java/lang/Throwable" (27 : Nat) ({ cls := "java/lang/Throwable", name := "fillInStackTrace", desc := "()Ljava/lang/Throwable;" } : Jvm.MethodName)) ∈ lw_all := lw_g (lw_at lw_m3 112 rfl) rfl
theorem q720 : (Jvm.Cond.instanceMethod ({ cls := "java/lang/Throwable", name := "fillInStackTrace", desc := "()Ljava/lang/Throwable;" } : Jvm.MethodName)) ∈ lw_all := lw_g (lw_at lw_m3 113 rfl) rfl
theorem q723 : (Jvm.Cond.selects "java/lang/IllegalArgumentException" ({ cls := "java/lang/Throwable", name := "fillInStackTrace", desc := "()Ljava/lang/Throwable;" } : Jvm.MethodName) ({ cls := "java/lang/Throwable", name := "fillInStackTrace", desc := "()Ljava/lang/Throwable;" } : Jvm.MethodName)) ∈ lw_all := lw_g (lw_at lw_m3 116 rfl) rfl
theorem q724 : (Jvm.Cond.selects "java/lang/IllegalStateException" ({ cls := "java/lang/Throwable", name := "fillInStackTrace", desc := "()Ljava/lang/Throwable;" } : Jvm.MethodName) ({ cls := "java/lang/Throwable", name := "fillInStackTrace", desc := "()Ljava/lang/Throwable;" } : Jvm.MethodName)) ∈ lw_all := lw_g (lw_at lw_m3 117 rfl) rfl
theorem q725 : (Jvm.Cond.codeSync ({ cls := "java/lang/Throwable", name := "fillInStackTrace", desc := "()Ljava/lang/Throwable;" } : Jvm.MethodName) prog_45_method_18_code (1 : Nat) (Option.some (Jvm.ClassFile.FieldType.object "java/lang/Throwable"))) ∈ lw_all := lw_g (lw_at lw_m3 118 rfl) rfl
theorem q726 : (Jvm.Cond.methodLink "java/lang/Throwable" (202 : Nat) ({ cls := "java/lang/Throwable", name := "fillInStackTrace", desc := "(I)Ljava/lang/Throwable;" } : Jvm.MethodName)) ∈ lw_all := lw_g (lw_at lw_m3 119 rfl) rfl
theorem q728 : (Jvm.Cond.instanceMethod ({ cls := "java/lang/Throwable", name := "fillInStackTrace", desc := "(I)Ljava/lang/Throwable;" } : Jvm.MethodName)) ∈ lw_all := lw_g (lw_at lw_m3 121 rfl) rfl
theorem q730 : (Jvm.Cond.native ({ cls := "java/lang/Throwable", name := "fillInStackTrace", desc := "(I)Ljava/lang/Throwable;" } : Jvm.MethodName)) ∈ lw_all := lw_g (lw_at lw_m3 123 rfl) rfl
theorem q731 : (Jvm.Cond.methodLink "FlyingDoctors" (3 : Nat) ({ cls := "java/util/NoSuchElementException", name := "<init>", desc := "()V" } : Jvm.MethodName)) ∈ lw_all := lw_g (lw_at lw_m3 124 rfl) rfl
theorem q732 : (Jvm.Cond.instanceMethod ({ cls := "java/util/NoSuchElementException", name := "<init>", desc := "()V" } : Jvm.MethodName)) ∈ lw_all := lw_g (lw_at lw_m3 125 rfl) rfl
theorem q733 : (Jvm.Cond.code ({ cls := "java/util/NoSuchElementException", name := "<init>", desc := "()V" } : Jvm.MethodName) prog_54_method_1_code (1 : Nat) (Option.none : Option Jvm.ClassFile.FieldType)) ∈ lw_all := lw_g (lw_at lw_m3 126 rfl) rfl
theorem q734 : (Jvm.Cond.methodLink "java/util/NoSuchElementException" (1 : Nat) ({ cls := "java/lang/RuntimeException", name := "<init>", desc := "()V" } : Jvm.MethodName)) ∈ lw_all := lw_g (lw_at lw_m3 127 rfl) rfl
theorem q735 : (Jvm.Cond.instanceMethod ({ cls := "java/lang/RuntimeException", name := "<init>", desc := "()V" } : Jvm.MethodName)) ∈ lw_all := lw_g (lw_at lw_m3 128 rfl) rfl
theorem q736 : (Jvm.Cond.code ({ cls := "java/lang/RuntimeException", name := "<init>", desc := "()V" } : Jvm.MethodName) prog_39_method_1_code (1 : Nat) (Option.none : Option Jvm.ClassFile.FieldType)) ∈ lw_all := lw_g (lw_at lw_m3 129 rfl) rfl
theorem q737 : (Jvm.Cond.methodLink "java/lang/RuntimeException" (1 : Nat) ({ cls := "java/lang/Exception", name := "<init>", desc := "()V" } : Jvm.MethodName)) ∈ lw_all := lw_g (lw_at lw_m3 130 rfl) rfl
theorem q738 : (Jvm.Cond.instanceMethod ({ cls := "java/lang/Exception", name := "<init>", desc := "()V" } : Jvm.MethodName)) ∈ lw_all := lw_g (lw_at lw_m3 131 rfl) rfl
theorem q739 : (Jvm.Cond.code ({ cls := "java/lang/Exception", name := "<init>", desc := "()V" } : Jvm.MethodName) prog_32_method_1_code (1 : Nat) (Option.none : Option Jvm.ClassFile.FieldType)) ∈ lw_all := lw_g (lw_at lw_m3 132 rfl) rfl
theorem q740 : (Jvm.Cond.methodLink "java/lang/Exception" (1 : Nat) ({ cls := "java/lang/Throwable", name := "<init>", desc := "()V" } : Jvm.MethodName)) ∈ lw_all := lw_g (lw_at lw_m3 133 rfl) rfl
theorem q742 : (Jvm.Cond.fieldLink "java/lang/Throwable" (31 : Nat) "java/lang/Throwable" "detailMessage" "Ljava/lang/String;") ∈ lw_all := lw_g (lw_at lw_m3 135 rfl) rfl
theorem q743 : (Jvm.Cond.fieldLink "java/lang/Throwable" (7 : Nat) "java/lang/Throwable" "cause" "Ljava/lang/Throwable;") ∈ lw_all := lw_g (lw_at lw_m3 136 rfl) rfl
theorem q744 : (Jvm.Cond.fieldLink "java/lang/Throwable" (17 : Nat) "java/lang/Throwable" "stackTrace" "[Ljava/lang/StackTraceElement;") ∈ lw_all := lw_g (lw_at lw_m3 137 rfl) rfl
theorem q745 : (Jvm.Cond.fieldLink "java/lang/Throwable" (24 : Nat) "java/lang/Throwable" "suppressedExceptions" "Ljava/util/List;") ∈ lw_all := lw_g (lw_at lw_m3 138 rfl) rfl
theorem q754 : (Jvm.Cond.methodLink "FlyingDoctors" (337 : Nat) ({ cls := "FlyingDoctors", name := "right", desc := "(Z)V" } : Jvm.MethodName)) ∈ lw_all := lw_g (lw_at lw_m3 147 rfl) rfl
theorem q755 : (Jvm.Cond.static ({ cls := "FlyingDoctors", name := "right", desc := "(Z)V" } : Jvm.MethodName)) ∈ lw_all := lw_g (lw_at lw_m3 148 rfl) rfl
theorem q756 : (Jvm.Cond.code ({ cls := "FlyingDoctors", name := "right", desc := "(Z)V" } : Jvm.MethodName) prog_1_method_3_code (1 : Nat) (Option.none : Option Jvm.ClassFile.FieldType)) ∈ lw_all := lw_g (lw_at lw_m3 149 rfl) rfl
theorem q757 : (Jvm.Cond.classLink "FlyingDoctors" (7 : Nat) "java/lang/IllegalArgumentException") ∈ lw_all := lw_g (lw_at lw_m3 150 rfl) rfl
theorem q758 : (Jvm.Cond.instantiable "java/lang/IllegalArgumentException" (6 : Nat)) ∈ lw_all := lw_g (lw_at lw_m3 151 rfl) rfl
theorem q759 : (Jvm.Cond.castable "java/lang/IllegalArgumentException" "java/lang/IllegalArgumentException") ∈ lw_tbl := lw_at lw_m3 152 rfl
theorem q760 : (Jvm.Cond.selects "java/lang/IllegalArgumentException" ({ cls := "java/lang/Throwable", name := "fillInStackTrace", desc := "(I)Ljava/lang/Throwable;" } : Jvm.MethodName) ({ cls := "java/lang/Throwable", name := "fillInStackTrace", desc := "(I)Ljava/lang/Throwable;" } : Jvm.MethodName)) ∈ lw_all := lw_g (lw_at lw_m3 153 rfl) rfl
theorem q761 : (Jvm.Cond.lays "java/lang/IllegalArgumentException" "java/lang/Throwable" "cause" "Ljava/lang/Throwable;") ∈ lw_all := lw_g (lw_at lw_m3 154 rfl) rfl
theorem q762 : (Jvm.Cond.lays "java/lang/IllegalArgumentException" "java/lang/Throwable" "stackTrace" "[Ljava/lang/StackTraceElement;") ∈ lw_all := lw_g (lw_at lw_m3 155 rfl) rfl
theorem q763 : (Jvm.Cond.lays "java/lang/IllegalArgumentException" "java/lang/Throwable" "suppressedExceptions" "Ljava/util/List;") ∈ lw_all := lw_g (lw_at lw_m3 156 rfl) rfl
theorem q764 : (Jvm.Cond.lays "java/lang/IllegalArgumentException" "java/lang/Throwable" "detailMessage" "Ljava/lang/String;") ∈ lw_all := lw_g (lw_at lw_m3 157 rfl) rfl
theorem q765 : (Jvm.Cond.lays "java/lang/IllegalArgumentException" "java/lang/Throwable" "backtrace" "Ljava/lang/Object;") ∈ lw_all := lw_g (lw_at lw_m3 158 rfl) rfl
theorem q766 : (Jvm.Cond.methodLink "FlyingDoctors" (9 : Nat) ({ cls := "java/lang/IllegalArgumentException", name := "<init>", desc := "()V" } : Jvm.MethodName)) ∈ lw_all := lw_g (lw_at lw_m3 159 rfl) rfl
theorem q767 : (Jvm.Cond.instanceMethod ({ cls := "java/lang/IllegalArgumentException", name := "<init>", desc := "()V" } : Jvm.MethodName)) ∈ lw_all := lw_g (lw_at lw_m3 160 rfl) rfl
theorem q768 : (Jvm.Cond.code ({ cls := "java/lang/IllegalArgumentException", name := "<init>", desc := "()V" } : Jvm.MethodName) prog_33_method_1_code (1 : Nat) (Option.none : Option Jvm.ClassFile.FieldType)) ∈ lw_all := lw_g (lw_at lw_m3 161 rfl) rfl
theorem q769 : (Jvm.Cond.methodLink "java/lang/IllegalArgumentException" (1 : Nat) ({ cls := "java/lang/RuntimeException", name := "<init>", desc := "()V" } : Jvm.MethodName)) ∈ lw_all := lw_g (lw_at lw_m3 162 rfl) rfl
theorem q772 : (Jvm.Cond.methodLink "FlyingDoctorsLaw" (141 : Nat) ({ cls := "FlyingDoctorsLaw", name := "rules", desc := "(LFlyingDoctors;I[J)I" } : Jvm.MethodName)) ∈ lw_all := lw_g (lw_at lw_m3 165 rfl) rfl
theorem q773 : (Jvm.Cond.static ({ cls := "FlyingDoctorsLaw", name := "rules", desc := "(LFlyingDoctors;I[J)I" } : Jvm.MethodName)) ∈ lw_all := lw_g (lw_at lw_m3 166 rfl) rfl
theorem q774 : (Jvm.Cond.codeWith ({ cls := "FlyingDoctorsLaw", name := "rules", desc := "(LFlyingDoctors;I[J)I" } : Jvm.MethodName) method_4_code (4 : Nat) (Option.some Jvm.ClassFile.FieldType.int) [((0 : Nat), (9 : Nat), (12 : Nat), (15 : Nat))]) ∈ lw_all := lw_g (lw_at lw_m3 167 rfl) rfl
theorem q775 : (Jvm.Cond.methodLink "FlyingDoctorsLaw" (17 : Nat) ({ cls := "FlyingDoctors", name := "rules", desc := "(I)I" } : Jvm.MethodName)) ∈ lw_all := lw_g (lw_at lw_m3 168 rfl) rfl
theorem q776 : (Jvm.Cond.instanceMethod ({ cls := "FlyingDoctors", name := "rules", desc := "(I)I" } : Jvm.MethodName)) ∈ lw_all := lw_g (lw_at lw_m3 169 rfl) rfl
theorem q777 : (Jvm.Cond.selects "FlyingDoctors" ({ cls := "FlyingDoctors", name := "rules", desc := "(I)I" } : Jvm.MethodName) ({ cls := "FlyingDoctors", name := "rules", desc := "(I)I" } : Jvm.MethodName)) ∈ lw_all := lw_g (lw_at lw_m3 170 rfl) rfl
theorem q778 : (Jvm.Cond.codeWith ({ cls := "FlyingDoctors", name := "rules", desc := "(I)I" } : Jvm.MethodName) prog_1_method_29_code (4 : Nat) (Option.some Jvm.ClassFile.FieldType.int) [((57 : Nat), (95 : Nat), (98 : Nat), (359 : Nat))]) ∈ lw_all := lw_g (lw_at lw_m3 171 rfl) rfl
theorem q779 : (Jvm.Cond.classLink "FlyingDoctors" (359 : Nat) "FlyingDoctors$Wrong") ∈ lw_all := lw_g (lw_at lw_m3 172 rfl) rfl
theorem q780 : (Jvm.Cond.classLink "FlyingDoctors" (343 : Nat) "FlyingDoctors$Reader") ∈ lw_all := lw_g (lw_at lw_m3 173 rfl) rfl
theorem q781 : (Jvm.Cond.instantiable "FlyingDoctors$Reader" (10 : Nat)) ∈ lw_all := lw_g (lw_at lw_m3 174 rfl) rfl
theorem q782 : (Jvm.Cond.methodLink "FlyingDoctors" (345 : Nat) ({ cls := "FlyingDoctors$Reader", name := "<init>", desc := "(LFlyingDoctors;I)V" } : Jvm.MethodName)) ∈ lw_all := lw_g (lw_at lw_m3 175 rfl) rfl
theorem q783 : (Jvm.Cond.instanceMethod ({ cls := "FlyingDoctors$Reader", name := "<init>", desc := "(LFlyingDoctors;I)V" } : Jvm.MethodName)) ∈ lw_all := lw_g (lw_at lw_m3 176 rfl) rfl
theorem q784 : (Jvm.Cond.code ({ cls := "FlyingDoctors$Reader", name := "<init>", desc := "(LFlyingDoctors;I)V" } : Jvm.MethodName) prog_16_method_1_code (3 : Nat) (Option.none : Option Jvm.ClassFile.FieldType)) ∈ lw_all := lw_g (lw_at lw_m3 177 rfl) rfl
theorem q785 : (Jvm.Cond.methodLink "FlyingDoctors$Reader" (9 : Nat) ({ cls := "java/lang/Object", name := "<init>", desc := "()V" } : Jvm.MethodName)) ∈ lw_all := lw_g (lw_at lw_m3 178 rfl) rfl
theorem q786 : (Jvm.Cond.classLink "FlyingDoctors$Reader" (15 : Nat) "java/util/ArrayList") ∈ lw_all := lw_g (lw_at lw_m3 179 rfl) rfl
theorem q787 : (Jvm.Cond.methodLink "FlyingDoctors$Reader" (17 : Nat) ({ cls := "java/util/ArrayList", name := "<init>", desc := "()V" } : Jvm.MethodName)) ∈ lw_all := lw_g (lw_at lw_m3 180 rfl) rfl
theorem q788 : (Jvm.Cond.fieldLink "FlyingDoctors$Reader" (25 : Nat) "FlyingDoctors$Reader" "size" "I") ∈ lw_all := lw_g (lw_at lw_m3 181 rfl) rfl
theorem q789 : (Jvm.Cond.fieldLink "FlyingDoctors$Reader" (18 : Nat) "FlyingDoctors$Reader" "fresh" "Ljava/util/List;") ∈ lw_all := lw_g (lw_at lw_m3 182 rfl) rfl
theorem q790 : (Jvm.Cond.fieldLinkNest "FlyingDoctors" (352 : Nat) "FlyingDoctors$Reader" "fresh" "Ljava/util/List;" "FlyingDoctors") ∈ lw_tbl := lw_at lw_m3 183 rfl
theorem q791 : (Jvm.Cond.fieldLink "FlyingDoctors$Reader" (22 : Nat) "FlyingDoctors$Reader" "named" "Ljava/util/List;") ∈ lw_all := lw_g (lw_at lw_m3 184 rfl) rfl
theorem q792 : (Jvm.Cond.fieldLink "FlyingDoctors$Reader" (29 : Nat) "FlyingDoctors$Reader" "at" "I") ∈ lw_all := lw_g (lw_at lw_m3 185 rfl) rfl
theorem q793 : (Jvm.Cond.fieldLink "FlyingDoctors$Reader" (47 : Nat) "FlyingDoctors$Reader" "token" "I") ∈ lw_all := lw_g (lw_at lw_m3 186 rfl) rfl
theorem q794 : (Jvm.Cond.fieldLink "FlyingDoctors$Reader" (44 : Nat) "FlyingDoctors$Reader" "begins" "I") ∈ lw_all := lw_g (lw_at lw_m3 187 rfl) rfl
theorem q795 : (Jvm.Cond.fieldLinkNest "FlyingDoctors" (361 : Nat) "FlyingDoctors$Reader" "begins" "I" "FlyingDoctors") ∈ lw_tbl := lw_at lw_m3 188 rfl
theorem q796 : (Jvm.Cond.fieldLink "FlyingDoctors$Reader" (75 : Nat) "FlyingDoctors$Reader" "ends" "I") ∈ lw_all := lw_g (lw_at lw_m3 189 rfl) rfl
theorem q797 : (Jvm.Cond.fieldLink "FlyingDoctors$Reader" (57 : Nat) "FlyingDoctors$Reader" "number" "I") ∈ lw_all := lw_g (lw_at lw_m3 190 rfl) rfl
theorem q798 : (Jvm.Cond.fieldLink "FlyingDoctors$Reader" (253 : Nat) "FlyingDoctors$Reader" "clauses" "I") ∈ lw_all := lw_g (lw_at lw_m3 191 rfl) rfl
theorem q799 : (Jvm.Cond.fieldLink "FlyingDoctors$Reader" (3 : Nat) "FlyingDoctors$Reader" "this$0" "LFlyingDoctors;") ∈ lw_all := lw_g (lw_at lw_m3 192 rfl) rfl
theorem q821 : (Jvm.Cond.methodLink "FlyingDoctors" (348 : Nat) ({ cls := "FlyingDoctors$Reader", name := "read", desc := "()LFlyingDoctors$Rules;" } : Jvm.MethodName)) ∈ lw_all := lw_g (lw_at lw_m3 214 rfl) rfl
theorem q822 : (Jvm.Cond.instanceMethod ({ cls := "FlyingDoctors$Reader", name := "read", desc := "()LFlyingDoctors$Rules;" } : Jvm.MethodName)) ∈ lw_all := lw_g (lw_at lw_m3 215 rfl) rfl
theorem q823 : (Jvm.Cond.selects "FlyingDoctors$Reader" ({ cls := "FlyingDoctors$Reader", name := "read", desc := "()LFlyingDoctors$Rules;" } : Jvm.MethodName) ({ cls := "FlyingDoctors$Reader", name := "read", desc := "()LFlyingDoctors$Rules;" } : Jvm.MethodName)) ∈ lw_all := lw_g (lw_at lw_m3 216 rfl) rfl
theorem q824 : (Jvm.Cond.code ({ cls := "FlyingDoctors$Reader", name := "read", desc := "()LFlyingDoctors$Rules;" } : Jvm.MethodName) prog_16_method_28_code (2 : Nat) (Option.some (Jvm.ClassFile.FieldType.object "FlyingDoctors$Rules"))) ∈ lw_all := lw_g (lw_at lw_m3 217 rfl) rfl
theorem q825 : (Jvm.Cond.classLink "FlyingDoctors$Reader" (235 : Nat) "FlyingDoctors$Rules") ∈ lw_all := lw_g (lw_at lw_m3 218 rfl) rfl
theorem q826 : (Jvm.Cond.methodLinkNest "FlyingDoctors$Reader" (271 : Nat) ({ cls := "FlyingDoctors$Rules", name := "<init>", desc := "()V" } : Jvm.MethodName) "FlyingDoctors") ∈ lw_tbl := lw_at lw_m3 219 rfl
theorem q827 : (Jvm.Cond.methodLink "FlyingDoctors$Reader" (115 : Nat) ({ cls := "FlyingDoctors$Reader", name := "next", desc := "()V" } : Jvm.MethodName)) ∈ lw_all := lw_g (lw_at lw_m3 220 rfl) rfl
theorem q829 : (Jvm.Cond.instanceMethod ({ cls := "FlyingDoctors$Reader", name := "next", desc := "()V" } : Jvm.MethodName)) ∈ lw_all := lw_g (lw_at lw_m3 222 rfl) rfl
theorem q830 : (Jvm.Cond.code ({ cls := "FlyingDoctors$Reader", name := "next", desc := "()V" } : Jvm.MethodName) prog_16_method_5_code (1 : Nat) (Option.none : Option Jvm.ClassFile.FieldType)) ∈ lw_all := lw_g (lw_at lw_m3 223 rfl) rfl
theorem q831 : (Jvm.Cond.methodLink "FlyingDoctors$Reader" (36 : Nat) ({ cls := "FlyingDoctors$Reader", name := "here", desc := "()I" } : Jvm.MethodName)) ∈ lw_all := lw_g (lw_at lw_m3 224 rfl) rfl
theorem q833 : (Jvm.Cond.instanceMethod ({ cls := "FlyingDoctors$Reader", name := "here", desc := "()I" } : Jvm.MethodName)) ∈ lw_all := lw_g (lw_at lw_m3 226 rfl) rfl
theorem q834 : (Jvm.Cond.code ({ cls := "FlyingDoctors$Reader", name := "here", desc := "()I" } : Jvm.MethodName) prog_16_method_2_code (1 : Nat) (Option.some Jvm.ClassFile.FieldType.int)) ∈ lw_all := lw_g (lw_at lw_m3 227 rfl) rfl
theorem q835 : (Jvm.Cond.methodLink "FlyingDoctors$Reader" (50 : Nat) ({ cls := "FlyingDoctors$Reader", name := "isLetter", desc := "()Z" } : Jvm.MethodName)) ∈ lw_all := lw_g (lw_at lw_m3 228 rfl) rfl
theorem q837 : (Jvm.Cond.instanceMethod ({ cls := "FlyingDoctors$Reader", name := "isLetter", desc := "()Z" } : Jvm.MethodName)) ∈ lw_all := lw_g (lw_at lw_m3 230 rfl) rfl
theorem q838 : (Jvm.Cond.code ({ cls := "FlyingDoctors$Reader", name := "isLetter", desc := "()Z" } : Jvm.MethodName) prog_16_method_3_code (1 : Nat) (Option.some Jvm.ClassFile.FieldType.boolean)) ∈ lw_all := lw_g (lw_at lw_m3 231 rfl) rfl
theorem q839 : (Jvm.Cond.methodLinkNest "FlyingDoctors$Reader" (40 : Nat) ({ cls := "FlyingDoctors", name := "in", desc := "(III)Z" } : Jvm.MethodName) "FlyingDoctors") ∈ lw_tbl := lw_at lw_m3 232 rfl
theorem q840 : (Jvm.Cond.methodLink "FlyingDoctors$Reader" (54 : Nat) ({ cls := "FlyingDoctors$Reader", name := "isDigit", desc := "()Z" } : Jvm.MethodName)) ∈ lw_all := lw_g (lw_at lw_m3 233 rfl) rfl
theorem q842 : (Jvm.Cond.instanceMethod ({ cls := "FlyingDoctors$Reader", name := "isDigit", desc := "()Z" } : Jvm.MethodName)) ∈ lw_all := lw_g (lw_at lw_m3 235 rfl) rfl
theorem q843 : (Jvm.Cond.code ({ cls := "FlyingDoctors$Reader", name := "isDigit", desc := "()Z" } : Jvm.MethodName) prog_16_method_4_code (1 : Nat) (Option.some Jvm.ClassFile.FieldType.boolean)) ∈ lw_all := lw_g (lw_at lw_m3 236 rfl) rfl
theorem q844 : (Jvm.Cond.constant "FlyingDoctors$Reader" (60 : Nat) (1000000 : Int32)) ∈ lw_all := lw_g (lw_at lw_m3 237 rfl) rfl
theorem q845 : (Jvm.Cond.methodLink "FlyingDoctors$Reader" (61 : Nat) ({ cls := "java/lang/Math", name := "min", desc := "(II)I" } : Jvm.MethodName)) ∈ lw_all := lw_g (lw_at lw_m3 238 rfl) rfl
theorem q847 : (Jvm.Cond.methodLink "FlyingDoctors$Reader" (69 : Nat) ({ cls := "java/lang/String", name := "indexOf", desc := "(I)I" } : Jvm.MethodName)) ∈ lw_all := lw_g (lw_at lw_m4 0 rfl) rfl
theorem q848 : (Jvm.Cond.instanceMethod ({ cls := "java/lang/String", name := "indexOf", desc := "(I)I" } : Jvm.MethodName)) ∈ lw_all := lw_g (lw_at lw_m4 1 rfl) rfl
theorem q849 : (Jvm.Cond.selects "java/lang/String" ({ cls := "java/lang/String", name := "indexOf", desc := "(I)I" } : Jvm.MethodName) ({ cls := "java/lang/String", name := "indexOf", desc := "(I)I" } : Jvm.MethodName)) ∈ lw_all := lw_g (lw_at lw_m4 2 rfl) rfl
theorem q850 : (Jvm.Cond.code ({ cls := "java/lang/String", name := "indexOf", desc := "(I)I" } : Jvm.MethodName) prog_40_method_79_code (2 : Nat) (Option.some Jvm.ClassFile.FieldType.int)) ∈ lw_all := lw_g (lw_at lw_m4 3 rfl) rfl
theorem q851 : (Jvm.Cond.methodLink "java/lang/String" (633 : Nat) ({ cls := "java/lang/String", name := "indexOf", desc := "(II)I" } : Jvm.MethodName)) ∈ lw_all := lw_g (lw_at lw_m4 4 rfl) rfl
theorem q852 : (Jvm.Cond.instanceMethod ({ cls := "java/lang/String", name := "indexOf", desc := "(II)I" } : Jvm.MethodName)) ∈ lw_all := lw_g (lw_at lw_m4 5 rfl) rfl
theorem q853 : (Jvm.Cond.selects "java/lang/String" ({ cls := "java/lang/String", name := "indexOf", desc := "(II)I" } : Jvm.MethodName) ({ cls := "java/lang/String", name := "indexOf", desc := "(II)I" } : Jvm.MethodName)) ∈ lw_all := lw_g (lw_at lw_m4 6 rfl) rfl
theorem q854 : (Jvm.Cond.code ({ cls := "java/lang/String", name := "indexOf", desc := "(II)I" } : Jvm.MethodName) prog_40_method_80_code (3 : Nat) (Option.some Jvm.ClassFile.FieldType.int)) ∈ lw_all := lw_g (lw_at lw_m4 7 rfl) rfl
theorem q855 : (Jvm.Cond.methodLink "java/lang/String" (492 : Nat) ({ cls := "java/lang/String", name := "isLatin1", desc := "()Z" } : Jvm.MethodName)) ∈ lw_all := lw_g (lw_at lw_m4 8 rfl) rfl
theorem q856 : (Jvm.Cond.instanceMethod ({ cls := "java/lang/String", name := "isLatin1", desc := "()Z" } : Jvm.MethodName)) ∈ lw_all := lw_g (lw_at lw_m4 9 rfl) rfl
theorem q857 : (Jvm.Cond.selects "java/lang/String" ({ cls := "java/lang/String", name := "isLatin1", desc := "()Z" } : Jvm.MethodName) ({ cls := "java/lang/String", name := "isLatin1", desc := "()Z" } : Jvm.MethodName)) ∈ lw_all := lw_g (lw_at lw_m4 10 rfl) rfl
theorem q858 : (Jvm.Cond.code ({ cls := "java/lang/String", name := "isLatin1", desc := "()Z" } : Jvm.MethodName) prog_40_method_154_code (1 : Nat) (Option.some Jvm.ClassFile.FieldType.boolean)) ∈ lw_all := lw_g (lw_at lw_m4 11 rfl) rfl
theorem q859 : (Jvm.Cond.fieldLink "java/lang/String" (38 : Nat) "java/lang/String" "COMPACT_STRINGS" "Z") ∈ lw_all := lw_g (lw_at lw_m4 12 rfl) rfl
theorem q861 : (Jvm.Cond.methodLink "java/lang/String" (505 : Nat) ({ cls := "java/lang/String", name := "length", desc := "()I" } : Jvm.MethodName)) ∈ lw_all := lw_g (lw_at lw_m4 14 rfl) rfl
theorem q862 : (Jvm.Cond.instanceMethod ({ cls := "java/lang/String", name := "length", desc := "()I" } : Jvm.MethodName)) ∈ lw_all := lw_g (lw_at lw_m4 15 rfl) rfl
theorem q863 : (Jvm.Cond.selects "java/lang/String" ({ cls := "java/lang/String", name := "length", desc := "()I" } : Jvm.MethodName) ({ cls := "java/lang/String", name := "length", desc := "()I" } : Jvm.MethodName)) ∈ lw_all := lw_g (lw_at lw_m4 16 rfl) rfl
theorem q864 : (Jvm.Cond.code ({ cls := "java/lang/String", name := "length", desc := "()I" } : Jvm.MethodName) prog_40_method_54_code (1 : Nat) (Option.some Jvm.ClassFile.FieldType.int)) ∈ lw_all := lw_g (lw_at lw_m4 17 rfl) rfl
theorem q865 : (Jvm.Cond.methodLink "java/lang/String" (335 : Nat) ({ cls := "java/lang/String", name := "coder", desc := "()B" } : Jvm.MethodName)) ∈ lw_all := lw_g (lw_at lw_m4 18 rfl) rfl
theorem q866 : (Jvm.Cond.instanceMethod ({ cls := "java/lang/String", name := "coder", desc := "()B" } : Jvm.MethodName)) ∈ lw_all := lw_g (lw_at lw_m4 19 rfl) rfl
theorem q867 : (Jvm.Cond.selects "java/lang/String" ({ cls := "java/lang/String", name := "coder", desc := "()B" } : Jvm.MethodName) ({ cls := "java/lang/String", name := "coder", desc := "()B" } : Jvm.MethodName)) ∈ lw_all := lw_g (lw_at lw_m4 20 rfl) rfl
theorem q868 : (Jvm.Cond.code ({ cls := "java/lang/String", name := "coder", desc := "()B" } : Jvm.MethodName) prog_40_method_152_code (1 : Nat) (Option.some Jvm.ClassFile.FieldType.byte)) ∈ lw_all := lw_g (lw_at lw_m4 21 rfl) rfl
theorem q869 : (Jvm.Cond.methodLink "java/lang/String" (637 : Nat) ({ cls := "java/lang/StringLatin1", name := "indexOf", desc := "([BIII)I" } : Jvm.MethodName)) ∈ lw_all := lw_g (lw_at lw_m4 22 rfl) rfl
theorem q870 : (Jvm.Cond.static ({ cls := "java/lang/StringLatin1", name := "indexOf", desc := "([BIII)I" } : Jvm.MethodName)) ∈ lw_all := lw_g (lw_at lw_m4 23 rfl) rfl
theorem q871 : (Jvm.Cond.code ({ cls := "java/lang/StringLatin1", name := "indexOf", desc := "([BIII)I" } : Jvm.MethodName) prog_42_method_22_code (4 : Nat) (Option.some Jvm.ClassFile.FieldType.int)) ∈ lw_all := lw_g (lw_at lw_m4 24 rfl) rfl
theorem q872 : (Jvm.Cond.methodLink "java/lang/StringLatin1" (88 : Nat) ({ cls := "java/lang/StringLatin1", name := "canEncode", desc := "(I)Z" } : Jvm.MethodName)) ∈ lw_all := lw_g (lw_at lw_m4 25 rfl) rfl
theorem q873 : (Jvm.Cond.static ({ cls := "java/lang/StringLatin1", name := "canEncode", desc := "(I)Z" } : Jvm.MethodName)) ∈ lw_all := lw_g (lw_at lw_m4 26 rfl) rfl
theorem q874 : (Jvm.Cond.code ({ cls := "java/lang/StringLatin1", name := "canEncode", desc := "(I)Z" } : Jvm.MethodName) prog_42_method_4_code (1 : Nat) (Option.some Jvm.ClassFile.FieldType.boolean)) ∈ lw_all := lw_g (lw_at lw_m4 27 rfl) rfl
theorem q875 : (Jvm.Cond.methodLink "java/lang/StringLatin1" (92 : Nat) ({ cls := "java/lang/Math", name := "max", desc := "(II)I" } : Jvm.MethodName)) ∈ lw_all := lw_g (lw_at lw_m4 28 rfl) rfl
theorem q876 : (Jvm.Cond.methodLink "java/lang/StringLatin1" (38 : Nat) ({ cls := "java/lang/Math", name := "min", desc := "(II)I" } : Jvm.MethodName)) ∈ lw_all := lw_g (lw_at lw_m4 29 rfl) rfl
theorem q877 : (Jvm.Cond.methodLink "java/lang/StringLatin1" (95 : Nat) ({ cls := "java/lang/StringLatin1", name := "indexOfChar", desc := "([BIII)I" } : Jvm.MethodName)) ∈ lw_all := lw_g (lw_at lw_m4 30 rfl) rfl
theorem q878 : (Jvm.Cond.static ({ cls := "java/lang/StringLatin1", name := "indexOfChar", desc := "([BIII)I" } : Jvm.MethodName)) ∈ lw_all := lw_g (lw_at lw_m4 31 rfl) rfl
theorem q879 : (Jvm.Cond.code ({ cls := "java/lang/StringLatin1", name := "indexOfChar", desc := "([BIII)I" } : Jvm.MethodName) prog_42_method_23_code (6 : Nat) (Option.some Jvm.ClassFile.FieldType.int)) ∈ lw_all := lw_g (lw_at lw_m4 32 rfl) rfl
theorem q898 : (Jvm.Cond.fieldLink "java/lang/String" (1053 : Nat) "jdk/internal/util/Preconditions" "SIOOBE_FORMATTER" "Ljava/util/function/BiFunction;") ∈ lw_all := lw_g (lw_at lw_m4 51 rfl) rfl
theorem q929 : (Jvm.Cond.methodLink "FlyingDoctors$Reader" (272 : Nat) ({ cls := "FlyingDoctors$Reader", name := "clause", desc := "(LFlyingDoctors$Rules;)V" } : Jvm.MethodName)) ∈ lw_all := lw_g (lw_at lw_m4 82 rfl) rfl
theorem q931 : (Jvm.Cond.instanceMethod ({ cls := "FlyingDoctors$Reader", name := "clause", desc := "(LFlyingDoctors$Rules;)V" } : Jvm.MethodName)) ∈ lw_all := lw_g (lw_at lw_m4 84 rfl) rfl
theorem q932 : (Jvm.Cond.code ({ cls := "FlyingDoctors$Reader", name := "clause", desc := "(LFlyingDoctors$Rules;)V" } : Jvm.MethodName) prog_16_method_27_code (6 : Nat) (Option.none : Option Jvm.ClassFile.FieldType)) ∈ lw_all := lw_g (lw_at lw_m4 85 rfl) rfl
theorem q934 : (Jvm.Cond.methodLink "FlyingDoctors$Reader" (126 : Nat) ({ cls := "FlyingDoctors$Reader", name := "is", desc := "(Ljava/lang/String;)Z" } : Jvm.MethodName)) ∈ lw_all := lw_g (lw_at lw_m4 87 rfl) rfl
theorem q936 : (Jvm.Cond.instanceMethod ({ cls := "FlyingDoctors$Reader", name := "is", desc := "(Ljava/lang/String;)Z" } : Jvm.MethodName)) ∈ lw_all := lw_g (lw_at lw_m4 89 rfl) rfl
theorem q937 : (Jvm.Cond.code ({ cls := "FlyingDoctors$Reader", name := "is", desc := "(Ljava/lang/String;)Z" } : Jvm.MethodName) prog_16_method_6_code (3 : Nat) (Option.some Jvm.ClassFile.FieldType.boolean)) ∈ lw_all := lw_g (lw_at lw_m4 90 rfl) rfl
theorem q938 : (Jvm.Cond.methodLink "FlyingDoctors$Reader" (78 : Nat) ({ cls := "java/lang/String", name := "length", desc := "()I" } : Jvm.MethodName)) ∈ lw_all := lw_g (lw_at lw_m4 91 rfl) rfl
theorem q939 : (Jvm.Cond.methodLink "FlyingDoctors$Reader" (81 : Nat) ({ cls := "java/lang/String", name := "charAt", desc := "(I)C" } : Jvm.MethodName)) ∈ lw_all := lw_g (lw_at lw_m4 92 rfl) rfl
theorem q940 : (Jvm.Cond.instanceMethod ({ cls := "java/lang/String", name := "charAt", desc := "(I)C" } : Jvm.MethodName)) ∈ lw_all := lw_g (lw_at lw_m4 93 rfl) rfl
theorem q941 : (Jvm.Cond.selects "java/lang/String" ({ cls := "java/lang/String", name := "charAt", desc := "(I)C" } : Jvm.MethodName) ({ cls := "java/lang/String", name := "charAt", desc := "(I)C" } : Jvm.MethodName)) ∈ lw_all := lw_g (lw_at lw_m4 94 rfl) rfl
theorem q942 : (Jvm.Cond.code ({ cls := "java/lang/String", name := "charAt", desc := "(I)C" } : Jvm.MethodName) prog_40_method_56_code (2 : Nat) (Option.some Jvm.ClassFile.FieldType.char)) ∈ lw_all := lw_g (lw_at lw_m4 95 rfl) rfl
theorem q943 : (Jvm.Cond.methodLink "java/lang/String" (495 : Nat) ({ cls := "java/lang/StringLatin1", name := "charAt", desc := "([BI)C" } : Jvm.MethodName)) ∈ lw_all := lw_g (lw_at lw_m4 96 rfl) rfl
theorem q944 : (Jvm.Cond.static ({ cls := "java/lang/StringLatin1", name := "charAt", desc := "([BI)C" } : Jvm.MethodName)) ∈ lw_all := lw_g (lw_at lw_m4 97 rfl) rfl
theorem q945 : (Jvm.Cond.code ({ cls := "java/lang/StringLatin1", name := "charAt", desc := "([BI)C" } : Jvm.MethodName) prog_42_method_2_code (2 : Nat) (Option.some Jvm.ClassFile.FieldType.char)) ∈ lw_all := lw_g (lw_at lw_m4 98 rfl) rfl
theorem q946 : (Jvm.Cond.methodLink "java/lang/StringLatin1" (9 : Nat) ({ cls := "java/lang/String", name := "checkIndex", desc := "(II)V" } : Jvm.MethodName)) ∈ lw_all := lw_g (lw_at lw_m4 99 rfl) rfl
theorem q947 : (Jvm.Cond.static ({ cls := "java/lang/String", name := "checkIndex", desc := "(II)V" } : Jvm.MethodName)) ∈ lw_all := lw_g (lw_at lw_m4 100 rfl) rfl
theorem q948 : (Jvm.Cond.code ({ cls := "java/lang/String", name := "checkIndex", desc := "(II)V" } : Jvm.MethodName) prog_40_method_155_code (2 : Nat) (Option.none : Option Jvm.ClassFile.FieldType)) ∈ lw_all := lw_g (lw_at lw_m4 101 rfl) rfl
theorem q949 : (Jvm.Cond.methodLink "java/lang/String" (1059 : Nat) ({ cls := "jdk/internal/util/Preconditions", name := "checkIndex", desc := "(IILjava/util/function/BiFunction;)I" } : Jvm.MethodName)) ∈ lw_all := lw_g (lw_at lw_m4 102 rfl) rfl
theorem q961 : (Jvm.Cond.methodLink "FlyingDoctors$Reader" (111 : Nat) ({ cls := "FlyingDoctors$Reader", name := "want", desc := "(Z)V" } : Jvm.MethodName)) ∈ lw_all := lw_g (lw_at lw_m4 114 rfl) rfl
theorem q963 : (Jvm.Cond.instanceMethod ({ cls := "FlyingDoctors$Reader", name := "want", desc := "(Z)V" } : Jvm.MethodName)) ∈ lw_all := lw_g (lw_at lw_m4 116 rfl) rfl
theorem q964 : (Jvm.Cond.code ({ cls := "FlyingDoctors$Reader", name := "want", desc := "(Z)V" } : Jvm.MethodName) prog_16_method_11_code (2 : Nat) (Option.none : Option Jvm.ClassFile.FieldType)) ∈ lw_all := lw_g (lw_at lw_m4 117 rfl) rfl
theorem q965 : (Jvm.Cond.classLink "FlyingDoctors$Reader" (102 : Nat) "FlyingDoctors$Wrong") ∈ lw_all := lw_g (lw_at lw_m4 118 rfl) rfl
theorem q966 : (Jvm.Cond.instantiable "FlyingDoctors$Wrong" (7 : Nat)) ∈ lw_all := lw_g (lw_at lw_m4 119 rfl) rfl
theorem q974 : (Jvm.Cond.methodLink "FlyingDoctors$Reader" (104 : Nat) ({ cls := "FlyingDoctors$Wrong", name := "<init>", desc := "(I)V" } : Jvm.MethodName)) ∈ lw_all := lw_g (lw_at lw_m4 127 rfl) rfl
theorem q975 : (Jvm.Cond.instanceMethod ({ cls := "FlyingDoctors$Wrong", name := "<init>", desc := "(I)V" } : Jvm.MethodName)) ∈ lw_all := lw_g (lw_at lw_m4 128 rfl) rfl
theorem q976 : (Jvm.Cond.code ({ cls := "FlyingDoctors$Wrong", name := "<init>", desc := "(I)V" } : Jvm.MethodName) prog_22_method_1_code (2 : Nat) (Option.none : Option Jvm.ClassFile.FieldType)) ∈ lw_all := lw_g (lw_at lw_m4 129 rfl) rfl
theorem q977 : (Jvm.Cond.methodLink "FlyingDoctors$Wrong" (1 : Nat) ({ cls := "java/lang/Exception", name := "<init>", desc := "(Ljava/lang/String;Ljava/lang/Throwable;ZZ)V" } : Jvm.MethodName)) ∈ lw_all := lw_g (lw_at lw_m4 130 rfl) rfl
theorem q978 : (Jvm.Cond.instanceMethod ({ cls := "java/lang/Exception", name := "<init>", desc := "(Ljava/lang/String;Ljava/lang/Throwable;ZZ)V" } : Jvm.MethodName)) ∈ lw_all := lw_g (lw_at lw_m4 131 rfl) rfl
theorem q979 : (Jvm.Cond.code ({ cls := "java/lang/Exception", name := "<init>", desc := "(Ljava/lang/String;Ljava/lang/Throwable;ZZ)V" } : Jvm.MethodName) prog_32_method_5_code (5 : Nat) (Option.none : Option Jvm.ClassFile.FieldType)) ∈ lw_all := lw_g (lw_at lw_m4 132 rfl) rfl
theorem q980 : (Jvm.Cond.methodLink "java/lang/Exception" (16 : Nat) ({ cls := "java/lang/Throwable", name := "<init>", desc := "(Ljava/lang/String;Ljava/lang/Throwable;ZZ)V" } : Jvm.MethodName)) ∈ lw_all := lw_g (lw_at lw_m4 133 rfl) rfl
theorem q981 : (Jvm.Cond.instanceMethod ({ cls := "java/lang/Throwable", name := "<init>", desc := "(Ljava/lang/String;Ljava/lang/Throwable;ZZ)V" } : Jvm.MethodName)) ∈ lw_all := lw_g (lw_at lw_m4 134 rfl) rfl
theorem q982 : (Jvm.Cond.code ({ cls := "java/lang/Throwable", name := "<init>", desc := "(Ljava/lang/String;Ljava/lang/Throwable;ZZ)V" } : Jvm.MethodName) prog_45_method_5_code (5 : Nat) (Option.none : Option Jvm.ClassFile.FieldType)) ∈ lw_all := lw_g (lw_at lw_m4 135 rfl) rfl
theorem q983 : (Jvm.Cond.fieldLink "FlyingDoctors$Wrong" (7 : Nat) "FlyingDoctors$Wrong" "kind" "I") ∈ lw_all := lw_g (lw_at lw_m4 136 rfl) rfl
theorem q984 : (Jvm.Cond.fieldLinkNest "FlyingDoctors" (364 : Nat) "FlyingDoctors$Wrong" "kind" "I" "FlyingDoctors") ∈ lw_tbl := lw_at lw_m4 137 rfl
theorem q989 : (Jvm.Cond.methodLink "FlyingDoctors$Reader" (256 : Nat) ({ cls := "FlyingDoctors$Reader", name := "word", desc := "()V" } : Jvm.MethodName)) ∈ lw_all := lw_g (lw_at lw_m4 142 rfl) rfl
theorem q991 : (Jvm.Cond.instanceMethod ({ cls := "FlyingDoctors$Reader", name := "word", desc := "()V" } : Jvm.MethodName)) ∈ lw_all := lw_g (lw_at lw_m4 144 rfl) rfl
theorem q992 : (Jvm.Cond.code ({ cls := "FlyingDoctors$Reader", name := "word", desc := "()V" } : Jvm.MethodName) prog_16_method_23_code (2 : Nat) (Option.none : Option Jvm.ClassFile.FieldType)) ∈ lw_all := lw_g (lw_at lw_m4 145 rfl) rfl
theorem q994 : (Jvm.Cond.methodLink "FlyingDoctors$Reader" (118 : Nat) ({ cls := "java/util/List", name := "size", desc := "()I" } : Jvm.MethodName)) ∈ lw_all := lw_g (lw_at lw_m4 147 rfl) rfl
theorem q996 : (Jvm.Cond.methodLink "FlyingDoctors$Reader" (158 : Nat) ({ cls := "FlyingDoctors$Reader", name := "among", desc := "(Ljava/lang/String;)I" } : Jvm.MethodName)) ∈ lw_all := lw_g (lw_at lw_m4 149 rfl) rfl
theorem q998 : (Jvm.Cond.instanceMethod ({ cls := "FlyingDoctors$Reader", name := "among", desc := "(Ljava/lang/String;)I" } : Jvm.MethodName)) ∈ lw_all := lw_g (lw_at lw_m4 151 rfl) rfl
theorem q999 : (Jvm.Cond.code ({ cls := "FlyingDoctors$Reader", name := "among", desc := "(Ljava/lang/String;)I" } : Jvm.MethodName) prog_16_method_8_code (4 : Nat) (Option.some Jvm.ClassFile.FieldType.int)) ∈ lw_all := lw_g (lw_at lw_m4 152 rfl) rfl
theorem q1000 : (Jvm.Cond.methodLink "FlyingDoctors$Reader" (85 : Nat) ({ cls := "FlyingDoctors$Reader", name := "isThere", desc := "(Ljava/lang/String;I)Z" } : Jvm.MethodName)) ∈ lw_all := lw_g (lw_at lw_m4 153 rfl) rfl
theorem q1002 : (Jvm.Cond.instanceMethod ({ cls := "FlyingDoctors$Reader", name := "isThere", desc := "(Ljava/lang/String;I)Z" } : Jvm.MethodName)) ∈ lw_all := lw_g (lw_at lw_m4 155 rfl) rfl
theorem q1003 : (Jvm.Cond.code ({ cls := "FlyingDoctors$Reader", name := "isThere", desc := "(Ljava/lang/String;I)Z" } : Jvm.MethodName) prog_16_method_9_code (5 : Nat) (Option.some Jvm.ClassFile.FieldType.boolean)) ∈ lw_all := lw_g (lw_at lw_m4 156 rfl) rfl
theorem q1004 : (Jvm.Cond.methodLink "FlyingDoctors$Reader" (89 : Nat) ({ cls := "java/lang/String", name := "indexOf", desc := "(II)I" } : Jvm.MethodName)) ∈ lw_all := lw_g (lw_at lw_m4 157 rfl) rfl
theorem q1007 : (Jvm.Cond.methodLink "FlyingDoctors$Reader" (208 : Nat) ({ cls := "FlyingDoctors$Reader", name := "text", desc := "()Ljava/lang/String;" } : Jvm.MethodName)) ∈ lw_all := lw_g (lw_at lw_m4 160 rfl) rfl
theorem q1009 : (Jvm.Cond.instanceMethod ({ cls := "FlyingDoctors$Reader", name := "text", desc := "()Ljava/lang/String;" } : Jvm.MethodName)) ∈ lw_all := lw_g (lw_at lw_m4 162 rfl) rfl
theorem q1010 : (Jvm.Cond.code ({ cls := "FlyingDoctors$Reader", name := "text", desc := "()Ljava/lang/String;" } : Jvm.MethodName) prog_16_method_10_code (3 : Nat) (Option.some (Jvm.ClassFile.FieldType.object "java/lang/String"))) ∈ lw_all := lw_g (lw_at lw_m4 163 rfl) rfl
theorem q1011 : (Jvm.Cond.classLink "FlyingDoctors$Reader" (91 : Nat) "java/lang/StringBuilder") ∈ lw_all := lw_g (lw_at lw_m4 164 rfl) rfl
theorem q1012 : (Jvm.Cond.instantiable "java/lang/StringBuilder" (4 : Nat)) ∈ lw_all := lw_g (lw_at lw_m4 165 rfl) rfl
theorem q1013 : (Jvm.Cond.methodLink "FlyingDoctors$Reader" (93 : Nat) ({ cls := "java/lang/StringBuilder", name := "<init>", desc := "()V" } : Jvm.MethodName)) ∈ lw_all := lw_g (lw_at lw_m4 166 rfl) rfl
theorem q1014 : (Jvm.Cond.instanceMethod ({ cls := "java/lang/StringBuilder", name := "<init>", desc := "()V" } : Jvm.MethodName)) ∈ lw_all := lw_g (lw_at lw_m4 167 rfl) rfl
theorem q1015 : (Jvm.Cond.code ({ cls := "java/lang/StringBuilder", name := "<init>", desc := "()V" } : Jvm.MethodName) prog_41_method_1_code (1 : Nat) (Option.none : Option Jvm.ClassFile.FieldType)) ∈ lw_all := lw_g (lw_at lw_m4 168 rfl) rfl
theorem q1016 : (Jvm.Cond.methodLink "java/lang/StringBuilder" (1 : Nat) ({ cls := "java/lang/AbstractStringBuilder", name := "<init>", desc := "(I)V" } : Jvm.MethodName)) ∈ lw_all := lw_g (lw_at lw_m4 169 rfl) rfl
theorem q1017 : (Jvm.Cond.instanceMethod ({ cls := "java/lang/AbstractStringBuilder", name := "<init>", desc := "(I)V" } : Jvm.MethodName)) ∈ lw_all := lw_g (lw_at lw_m4 170 rfl) rfl
theorem q1018 : (Jvm.Cond.code ({ cls := "java/lang/AbstractStringBuilder", name := "<init>", desc := "(I)V" } : Jvm.MethodName) prog_26_method_2_code (2 : Nat) (Option.none : Option Jvm.ClassFile.FieldType)) ∈ lw_all := lw_g (lw_at lw_m4 171 rfl) rfl
theorem q1019 : (Jvm.Cond.methodLink "java/lang/AbstractStringBuilder" (3 : Nat) ({ cls := "java/lang/Object", name := "<init>", desc := "()V" } : Jvm.MethodName)) ∈ lw_all := lw_g (lw_at lw_m4 172 rfl) rfl
theorem q1020 : (Jvm.Cond.fieldLink "java/lang/AbstractStringBuilder" (18 : Nat) "java/lang/String" "COMPACT_STRINGS" "Z") ∈ lw_all := lw_g (lw_at lw_m4 173 rfl) rfl
theorem q1028 : (Jvm.Cond.fieldLink "java/lang/AbstractStringBuilder" (15 : Nat) "java/lang/AbstractStringBuilder" "value" "[B") ∈ lw_all := lw_g (lw_at lw_m4 181 rfl) rfl
theorem q1029 : (Jvm.Cond.fieldLink "java/lang/AbstractStringBuilder" (22 : Nat) "java/lang/AbstractStringBuilder" "coder" "B") ∈ lw_all := lw_g (lw_at lw_m4 182 rfl) rfl
theorem q1031 : (Jvm.Cond.fieldLink "java/lang/AbstractStringBuilder" (79 : Nat) "java/lang/AbstractStringBuilder" "count" "I") ∈ lw_all := lw_g (lw_at lw_m4 184 rfl) rfl
theorem q1040 : (Jvm.Cond.superclass "java/lang/StringBuilder" "java/lang/AbstractStringBuilder") ∈ lw_all := lw_g (lw_at lw_m4 193 rfl) rfl
theorem q1041 : (Jvm.Cond.methodLink "FlyingDoctors$Reader" (94 : Nat) ({ cls := "java/lang/StringBuilder", name := "append", desc := "(C)Ljava/lang/StringBuilder;" } : Jvm.MethodName)) ∈ lw_all := lw_g (lw_at lw_m4 194 rfl) rfl
theorem q1042 : (Jvm.Cond.instanceMethod ({ cls := "java/lang/StringBuilder", name := "append", desc := "(C)Ljava/lang/StringBuilder;" } : Jvm.MethodName)) ∈ lw_all := lw_g (lw_at lw_m4 195 rfl) rfl
theorem q1043 : (Jvm.Cond.selects "java/lang/StringBuilder" ({ cls := "java/lang/StringBuilder", name := "append", desc := "(C)Ljava/lang/StringBuilder;" } : Jvm.MethodName) ({ cls := "java/lang/StringBuilder", name := "append", desc := "(C)Ljava/lang/StringBuilder;" } : Jvm.MethodName)) ∈ lw_all := lw_g (lw_at lw_m4 196 rfl) rfl
theorem q1044 : (Jvm.Cond.code ({ cls := "java/lang/StringBuilder", name := "append", desc := "(C)Ljava/lang/StringBuilder;" } : Jvm.MethodName) prog_41_method_14_code (2 : Nat) (Option.some (Jvm.ClassFile.FieldType.object "java/lang/StringBuilder"))) ∈ lw_all := lw_g (lw_at lw_m4 197 rfl) rfl
theorem q1045 : (Jvm.Cond.methodLink "java/lang/StringBuilder" (50 : Nat) ({ cls := "java/lang/AbstractStringBuilder", name := "append", desc := "(C)Ljava/lang/AbstractStringBuilder;" } : Jvm.MethodName)) ∈ lw_all := lw_g (lw_at lw_m4 198 rfl) rfl
theorem q1046 : (Jvm.Cond.instanceMethod ({ cls := "java/lang/AbstractStringBuilder", name := "append", desc := "(C)Ljava/lang/AbstractStringBuilder;" } : Jvm.MethodName)) ∈ lw_all := lw_g (lw_at lw_m4 199 rfl) rfl
theorem q1047 : (Jvm.Cond.code ({ cls := "java/lang/AbstractStringBuilder", name := "append", desc := "(C)Ljava/lang/AbstractStringBuilder;" } : Jvm.MethodName) prog_26_method_31_code (2 : Nat) (Option.some (Jvm.ClassFile.FieldType.object "java/lang/AbstractStringBuilder"))) ∈ lw_all := lw_g (lw_at lw_m4 200 rfl) rfl
theorem q1048 : (Jvm.Cond.methodLink "java/lang/AbstractStringBuilder" (100 : Nat) ({ cls := "java/lang/AbstractStringBuilder", name := "ensureCapacityInternal", desc := "(I)V" } : Jvm.MethodName)) ∈ lw_all := lw_g (lw_at lw_m4 201 rfl) rfl
theorem q1049 : (Jvm.Cond.privateMethod ({ cls := "java/lang/AbstractStringBuilder", name := "ensureCapacityInternal", desc := "(I)V" } : Jvm.MethodName)) ∈ lw_tbl := lw_at lw_m4 202 rfl
theorem q1050 : (Jvm.Cond.instanceMethod ({ cls := "java/lang/AbstractStringBuilder", name := "ensureCapacityInternal", desc := "(I)V" } : Jvm.MethodName)) ∈ lw_all := lw_g (lw_at lw_m4 203 rfl) rfl
theorem q1051 : (Jvm.Cond.code ({ cls := "java/lang/AbstractStringBuilder", name := "ensureCapacityInternal", desc := "(I)V" } : Jvm.MethodName) prog_26_method_9_code (3 : Nat) (Option.none : Option Jvm.ClassFile.FieldType)) ∈ lw_all := lw_g (lw_at lw_m4 204 rfl) rfl
theorem q1052 : (Jvm.Cond.methodLink "java/lang/AbstractStringBuilder" (104 : Nat) ({ cls := "java/lang/AbstractStringBuilder", name := "newCapacity", desc := "(I)I" } : Jvm.MethodName)) ∈ lw_all := lw_g (lw_at lw_m4 205 rfl) rfl
theorem q1053 : (Jvm.Cond.privateMethod ({ cls := "java/lang/AbstractStringBuilder", name := "newCapacity", desc := "(I)I" } : Jvm.MethodName)) ∈ lw_tbl := lw_at lw_m4 206 rfl
theorem q1054 : (Jvm.Cond.instanceMethod ({ cls := "java/lang/AbstractStringBuilder", name := "newCapacity", desc := "(I)I" } : Jvm.MethodName)) ∈ lw_all := lw_g (lw_at lw_m4 207 rfl) rfl
theorem q1055 : (Jvm.Cond.code ({ cls := "java/lang/AbstractStringBuilder", name := "newCapacity", desc := "(I)I" } : Jvm.MethodName) prog_26_method_10_code (6 : Nat) (Option.some Jvm.ClassFile.FieldType.int)) ∈ lw_all := lw_g (lw_at lw_m4 208 rfl) rfl
theorem q1056 : (Jvm.Cond.methodLink "java/lang/AbstractStringBuilder" (114 : Nat) ({ cls := "jdk/internal/util/ArraysSupport", name := "newLength", desc := "(III)I" } : Jvm.MethodName)) ∈ lw_all := lw_g (lw_at lw_m4 209 rfl) rfl
theorem q1057 : (Jvm.Cond.constant "java/lang/AbstractStringBuilder" (39 : Nat) (2147483647 : Int32)) ∈ lw_all := lw_g (lw_at lw_m4 210 rfl) rfl
theorem q1058 : (Jvm.Cond.methodLink "java/lang/AbstractStringBuilder" (108 : Nat) ({ cls := "java/util/Arrays", name := "copyOf", desc := "([BI)[B" } : Jvm.MethodName)) ∈ lw_all := lw_g (lw_at lw_m4 211 rfl) rfl
theorem q1059 : (Jvm.Cond.static ({ cls := "java/util/Arrays", name := "copyOf", desc := "([BI)[B" } : Jvm.MethodName)) ∈ lw_all := lw_g (lw_at lw_m4 212 rfl) rfl
theorem q1060 : (Jvm.Cond.code ({ cls := "java/util/Arrays", name := "copyOf", desc := "([BI)[B" } : Jvm.MethodName) prog_51_method_121_code (3 : Nat) (Option.some (Jvm.ClassFile.FieldType.array Jvm.ClassFile.FieldType.byte))) ∈ lw_all := lw_g (lw_at lw_m4 213 rfl) rfl
theorem q1068 : (Jvm.Cond.methodLink "java/lang/AbstractStringBuilder" (83 : Nat) ({ cls := "java/lang/AbstractStringBuilder", name := "isLatin1", desc := "()Z" } : Jvm.MethodName)) ∈ lw_all := lw_g (lw_at lw_m4 221 rfl) rfl
theorem q1069 : (Jvm.Cond.instanceMethod ({ cls := "java/lang/AbstractStringBuilder", name := "isLatin1", desc := "()Z" } : Jvm.MethodName)) ∈ lw_all := lw_g (lw_at lw_m4 222 rfl) rfl
theorem q1070 : (Jvm.Cond.sameMethod "java/lang/AbstractStringBuilder" "java/lang/AbstractStringBuilder" "isLatin1" "()Z") ∈ lw_all := lw_g (lw_at lw_m4 223 rfl) rfl
theorem q1071 : (Jvm.Cond.selects "java/lang/StringBuilder" ({ cls := "java/lang/AbstractStringBuilder", name := "isLatin1", desc := "()Z" } : Jvm.MethodName) ({ cls := "java/lang/AbstractStringBuilder", name := "isLatin1", desc := "()Z" } : Jvm.MethodName)) ∈ lw_all := lw_g (lw_at lw_m4 224 rfl) rfl
theorem q1072 : (Jvm.Cond.code ({ cls := "java/lang/AbstractStringBuilder", name := "isLatin1", desc := "()Z" } : Jvm.MethodName) prog_26_method_68_code (1 : Nat) (Option.some Jvm.ClassFile.FieldType.boolean)) ∈ lw_all := lw_g (lw_at lw_m4 225 rfl) rfl
theorem q1073 : (Jvm.Cond.methodLink "java/lang/AbstractStringBuilder" (191 : Nat) ({ cls := "java/lang/StringLatin1", name := "canEncode", desc := "(C)Z" } : Jvm.MethodName)) ∈ lw_all := lw_g (lw_at lw_m4 226 rfl) rfl
theorem q1074 : (Jvm.Cond.static ({ cls := "java/lang/StringLatin1", name := "canEncode", desc := "(C)Z" } : Jvm.MethodName)) ∈ lw_all := lw_g (lw_at lw_m4 227 rfl) rfl
theorem q1075 : (Jvm.Cond.code ({ cls := "java/lang/StringLatin1", name := "canEncode", desc := "(C)Z" } : Jvm.MethodName) prog_42_method_3_code (1 : Nat) (Option.some Jvm.ClassFile.FieldType.boolean)) ∈ lw_all := lw_g (lw_at lw_m4 228 rfl) rfl
theorem q1101 : (Jvm.Cond.methodLink "FlyingDoctors$Reader" (98 : Nat) ({ cls := "java/lang/StringBuilder", name := "toString", desc := "()Ljava/lang/String;" } : Jvm.MethodName)) ∈ lw_all := lw_g (lw_at lw_m5 14 rfl) rfl
theorem q1102 : (Jvm.Cond.instanceMethod ({ cls := "java/lang/StringBuilder", name := "toString", desc := "()Ljava/lang/String;" } : Jvm.MethodName)) ∈ lw_all := lw_g (lw_at lw_m5 15 rfl) rfl
theorem q1103 : (Jvm.Cond.selects "java/lang/StringBuilder" ({ cls := "java/lang/StringBuilder", name := "toString", desc := "()Ljava/lang/String;" } : Jvm.MethodName) ({ cls := "java/lang/StringBuilder", name := "toString", desc := "()Ljava/lang/String;" } : Jvm.MethodName)) ∈ lw_all := lw_g (lw_at lw_m5 16 rfl) rfl
theorem q1104 : (Jvm.Cond.code ({ cls := "java/lang/StringBuilder", name := "toString", desc := "()Ljava/lang/String;" } : Jvm.MethodName) prog_41_method_42_code (1 : Nat) (Option.some (Jvm.ClassFile.FieldType.object "java/lang/String"))) ∈ lw_all := lw_g (lw_at lw_m5 17 rfl) rfl
theorem q1105 : (Jvm.Cond.classLink "java/lang/StringBuilder" (18 : Nat) "java/lang/String") ∈ lw_all := lw_g (lw_at lw_m5 18 rfl) rfl
theorem q1106 : (Jvm.Cond.instantiable "java/lang/String" (4 : Nat)) ∈ lw_all := lw_g (lw_at lw_m5 19 rfl) rfl
theorem q1107 : (Jvm.Cond.methodLink "java/lang/StringBuilder" (137 : Nat) ({ cls := "java/lang/String", name := "<init>", desc := "(Ljava/lang/StringBuilder;)V" } : Jvm.MethodName)) ∈ lw_all := lw_g (lw_at lw_m5 20 rfl) rfl
theorem q1108 : (Jvm.Cond.instanceMethod ({ cls := "java/lang/String", name := "<init>", desc := "(Ljava/lang/StringBuilder;)V" } : Jvm.MethodName)) ∈ lw_all := lw_g (lw_at lw_m5 21 rfl) rfl
theorem q1109 : (Jvm.Cond.code ({ cls := "java/lang/String", name := "<init>", desc := "(Ljava/lang/StringBuilder;)V" } : Jvm.MethodName) prog_40_method_53_code (2 : Nat) (Option.none : Option Jvm.ClassFile.FieldType)) ∈ lw_all := lw_g (lw_at lw_m5 22 rfl) rfl
theorem q1110 : (Jvm.Cond.methodLink "java/lang/String" (489 : Nat) ({ cls := "java/lang/String", name := "<init>", desc := "(Ljava/lang/AbstractStringBuilder;Ljava/lang/Void;)V" } : Jvm.MethodName)) ∈ lw_all := lw_g (lw_at lw_m5 23 rfl) rfl
theorem q1111 : (Jvm.Cond.instanceMethod ({ cls := "java/lang/String", name := "<init>", desc := "(Ljava/lang/AbstractStringBuilder;Ljava/lang/Void;)V" } : Jvm.MethodName)) ∈ lw_all := lw_g (lw_at lw_m5 24 rfl) rfl
theorem q1112 : (Jvm.Cond.code ({ cls := "java/lang/String", name := "<init>", desc := "(Ljava/lang/AbstractStringBuilder;Ljava/lang/Void;)V" } : Jvm.MethodName) prog_40_method_150_code (5 : Nat) (Option.none : Option Jvm.ClassFile.FieldType)) ∈ lw_all := lw_g (lw_at lw_m5 25 rfl) rfl
theorem q1113 : (Jvm.Cond.methodLink "java/lang/String" (1 : Nat) ({ cls := "java/lang/Object", name := "<init>", desc := "()V" } : Jvm.MethodName)) ∈ lw_all := lw_g (lw_at lw_m5 26 rfl) rfl
theorem q1114 : (Jvm.Cond.methodLink "java/lang/String" (552 : Nat) ({ cls := "java/lang/AbstractStringBuilder", name := "getValue", desc := "()[B" } : Jvm.MethodName)) ∈ lw_all := lw_g (lw_at lw_m5 27 rfl) rfl
theorem q1115 : (Jvm.Cond.instanceMethod ({ cls := "java/lang/AbstractStringBuilder", name := "getValue", desc := "()[B" } : Jvm.MethodName)) ∈ lw_all := lw_g (lw_at lw_m5 28 rfl) rfl
theorem q1116 : (Jvm.Cond.sameMethod "java/lang/AbstractStringBuilder" "java/lang/AbstractStringBuilder" "getValue" "()[B") ∈ lw_all := lw_g (lw_at lw_m5 29 rfl) rfl
theorem q1117 : (Jvm.Cond.selects "java/lang/StringBuilder" ({ cls := "java/lang/AbstractStringBuilder", name := "getValue", desc := "()[B" } : Jvm.MethodName) ({ cls := "java/lang/AbstractStringBuilder", name := "getValue", desc := "()[B" } : Jvm.MethodName)) ∈ lw_all := lw_g (lw_at lw_m5 30 rfl) rfl
theorem q1118 : (Jvm.Cond.code ({ cls := "java/lang/AbstractStringBuilder", name := "getValue", desc := "()[B" } : Jvm.MethodName) prog_26_method_64_code (1 : Nat) (Option.some (Jvm.ClassFile.FieldType.array Jvm.ClassFile.FieldType.byte))) ∈ lw_all := lw_g (lw_at lw_m5 31 rfl) rfl
theorem q1119 : (Jvm.Cond.methodLink "java/lang/String" (549 : Nat) ({ cls := "java/lang/AbstractStringBuilder", name := "length", desc := "()I" } : Jvm.MethodName)) ∈ lw_all := lw_g (lw_at lw_m5 32 rfl) rfl
theorem q1120 : (Jvm.Cond.instanceMethod ({ cls := "java/lang/AbstractStringBuilder", name := "length", desc := "()I" } : Jvm.MethodName)) ∈ lw_all := lw_g (lw_at lw_m5 33 rfl) rfl
theorem q1121 : (Jvm.Cond.sameMethod "java/lang/AbstractStringBuilder" "java/lang/AbstractStringBuilder" "length" "()I") ∈ lw_all := lw_g (lw_at lw_m5 34 rfl) rfl
theorem q1122 : (Jvm.Cond.selects "java/lang/StringBuilder" ({ cls := "java/lang/AbstractStringBuilder", name := "length", desc := "()I" } : Jvm.MethodName) ({ cls := "java/lang/StringBuilder", name := "length", desc := "()I" } : Jvm.MethodName)) ∈ lw_all := lw_g (lw_at lw_m5 35 rfl) rfl
theorem q1123 : (Jvm.Cond.instanceMethod ({ cls := "java/lang/StringBuilder", name := "length", desc := "()I" } : Jvm.MethodName)) ∈ lw_all := lw_g (lw_at lw_m5 36 rfl) rfl
theorem q1124 : (Jvm.Cond.code ({ cls := "java/lang/StringBuilder", name := "length", desc := "()I" } : Jvm.MethodName) prog_41_method_93_code (1 : Nat) (Option.some Jvm.ClassFile.FieldType.int)) ∈ lw_all := lw_g (lw_at lw_m5 37 rfl) rfl
theorem q1125 : (Jvm.Cond.methodLink "java/lang/StringBuilder" (343 : Nat) ({ cls := "java/lang/AbstractStringBuilder", name := "length", desc := "()I" } : Jvm.MethodName)) ∈ lw_all := lw_g (lw_at lw_m5 38 rfl) rfl
theorem q1126 : (Jvm.Cond.code ({ cls := "java/lang/AbstractStringBuilder", name := "length", desc := "()I" } : Jvm.MethodName) prog_26_method_6_code (1 : Nat) (Option.some Jvm.ClassFile.FieldType.int)) ∈ lw_all := lw_g (lw_at lw_m5 39 rfl) rfl
theorem q1127 : (Jvm.Cond.methodLink "java/lang/String" (1047 : Nat) ({ cls := "java/lang/AbstractStringBuilder", name := "isLatin1", desc := "()Z" } : Jvm.MethodName)) ∈ lw_all := lw_g (lw_at lw_m5 40 rfl) rfl
theorem q1128 : (Jvm.Cond.methodLink "java/lang/String" (54 : Nat) ({ cls := "java/util/Arrays", name := "copyOfRange", desc := "([BII)[B" } : Jvm.MethodName)) ∈ lw_all := lw_g (lw_at lw_m5 41 rfl) rfl
theorem q1129 : (Jvm.Cond.static ({ cls := "java/util/Arrays", name := "copyOfRange", desc := "([BII)[B" } : Jvm.MethodName)) ∈ lw_all := lw_g (lw_at lw_m5 42 rfl) rfl
theorem q1130 : (Jvm.Cond.code ({ cls := "java/util/Arrays", name := "copyOfRange", desc := "([BII)[B" } : Jvm.MethodName) prog_51_method_132_code (3 : Nat) (Option.some (Jvm.ClassFile.FieldType.array Jvm.ClassFile.FieldType.byte))) ∈ lw_all := lw_g (lw_at lw_m5 43 rfl) rfl
theorem q1131 : (Jvm.Cond.methodLink "java/util/Arrays" (339 : Nat) ({ cls := "java/util/Arrays", name := "copyOfRangeByte", desc := "([BII)[B" } : Jvm.MethodName)) ∈ lw_all := lw_g (lw_at lw_m5 44 rfl) rfl
theorem q1132 : (Jvm.Cond.static ({ cls := "java/util/Arrays", name := "copyOfRangeByte", desc := "([BII)[B" } : Jvm.MethodName)) ∈ lw_all := lw_g (lw_at lw_m5 45 rfl) rfl
theorem q1133 : (Jvm.Cond.code ({ cls := "java/util/Arrays", name := "copyOfRangeByte", desc := "([BII)[B" } : Jvm.MethodName) prog_51_method_133_code (5 : Nat) (Option.some (Jvm.ClassFile.FieldType.array Jvm.ClassFile.FieldType.byte))) ∈ lw_all := lw_g (lw_at lw_m5 46 rfl) rfl
theorem q1134 : (Jvm.Cond.methodLink "java/util/Arrays" (343 : Nat) ({ cls := "java/util/Arrays", name := "checkLength", desc := "(II)V" } : Jvm.MethodName)) ∈ lw_all := lw_g (lw_at lw_m5 47 rfl) rfl
theorem q1135 : (Jvm.Cond.static ({ cls := "java/util/Arrays", name := "checkLength", desc := "(II)V" } : Jvm.MethodName)) ∈ lw_all := lw_g (lw_at lw_m5 48 rfl) rfl
theorem q1136 : (Jvm.Cond.code ({ cls := "java/util/Arrays", name := "checkLength", desc := "(II)V" } : Jvm.MethodName) prog_51_method_131_code (2 : Nat) (Option.none : Option Jvm.ClassFile.FieldType)) ∈ lw_all := lw_g (lw_at lw_m5 49 rfl) rfl
theorem q1219 : (Jvm.Cond.fieldLink "java/lang/String" (9 : Nat) "java/lang/String" "value" "[B") ∈ lw_all := lw_g (lw_at lw_m5 132 rfl) rfl
theorem q1220 : (Jvm.Cond.fieldLink "java/lang/String" (15 : Nat) "java/lang/String" "coder" "B") ∈ lw_all := lw_g (lw_at lw_m5 133 rfl) rfl
theorem q1231 : (Jvm.Cond.methodLink "FlyingDoctors$Reader" (211 : Nat) ({ cls := "java/util/List", name := "contains", desc := "(Ljava/lang/Object;)Z" } : Jvm.MethodName)) ∈ lw_all := lw_g (lw_at lw_m5 144 rfl) rfl
theorem q1232 : (Jvm.Cond.interfaceMethod "java/util/List" "java/util/List" "contains" "(Ljava/lang/Object;)Z") ∈ lw_tbl := lw_at lw_m5 145 rfl
theorem q1233 : (Jvm.Cond.declares ({ cls := "java/util/List", name := "contains", desc := "(Ljava/lang/Object;)Z" } : Jvm.MethodName)) ∈ lw_tbl := lw_at lw_m5 146 rfl
theorem q1234 : (Jvm.Cond.selects "java/util/ArrayList" ({ cls := "java/util/List", name := "contains", desc := "(Ljava/lang/Object;)Z" } : Jvm.MethodName) ({ cls := "java/util/ArrayList", name := "contains", desc := "(Ljava/lang/Object;)Z" } : Jvm.MethodName)) ∈ lw_all := lw_g (lw_at lw_m5 147 rfl) rfl
theorem q1235 : (Jvm.Cond.unhidden "java/util/ArrayList" "contains" "(Ljava/lang/Object;)Z") ∈ lw_tbl := lw_at lw_m5 148 rfl
theorem q1236 : (Jvm.Cond.instanceMethod ({ cls := "java/util/ArrayList", name := "contains", desc := "(Ljava/lang/Object;)Z" } : Jvm.MethodName)) ∈ lw_all := lw_g (lw_at lw_m5 149 rfl) rfl
theorem q1237 : (Jvm.Cond.publicMethod ({ cls := "java/util/ArrayList", name := "contains", desc := "(Ljava/lang/Object;)Z" } : Jvm.MethodName)) ∈ lw_tbl := lw_at lw_m5 150 rfl
theorem q1238 : (Jvm.Cond.code ({ cls := "java/util/ArrayList", name := "contains", desc := "(Ljava/lang/Object;)Z" } : Jvm.MethodName) prog_50_method_10_code (2 : Nat) (Option.some Jvm.ClassFile.FieldType.boolean)) ∈ lw_all := lw_g (lw_at lw_m5 151 rfl) rfl
theorem q1239 : (Jvm.Cond.methodLink "java/util/ArrayList" (85 : Nat) ({ cls := "java/util/ArrayList", name := "indexOf", desc := "(Ljava/lang/Object;)I" } : Jvm.MethodName)) ∈ lw_all := lw_g (lw_at lw_m5 152 rfl) rfl
theorem q1240 : (Jvm.Cond.instanceMethod ({ cls := "java/util/ArrayList", name := "indexOf", desc := "(Ljava/lang/Object;)I" } : Jvm.MethodName)) ∈ lw_all := lw_g (lw_at lw_m5 153 rfl) rfl
theorem q1241 : (Jvm.Cond.selects "java/util/ArrayList" ({ cls := "java/util/ArrayList", name := "indexOf", desc := "(Ljava/lang/Object;)I" } : Jvm.MethodName) ({ cls := "java/util/ArrayList", name := "indexOf", desc := "(Ljava/lang/Object;)I" } : Jvm.MethodName)) ∈ lw_all := lw_g (lw_at lw_m5 154 rfl) rfl
theorem q1242 : (Jvm.Cond.code ({ cls := "java/util/ArrayList", name := "indexOf", desc := "(Ljava/lang/Object;)I" } : Jvm.MethodName) prog_50_method_11_code (2 : Nat) (Option.some Jvm.ClassFile.FieldType.int)) ∈ lw_all := lw_g (lw_at lw_m5 155 rfl) rfl
theorem q1243 : (Jvm.Cond.methodLink "java/util/ArrayList" (89 : Nat) ({ cls := "java/util/ArrayList", name := "indexOfRange", desc := "(Ljava/lang/Object;II)I" } : Jvm.MethodName)) ∈ lw_all := lw_g (lw_at lw_m5 156 rfl) rfl
theorem q1244 : (Jvm.Cond.instanceMethod ({ cls := "java/util/ArrayList", name := "indexOfRange", desc := "(Ljava/lang/Object;II)I" } : Jvm.MethodName)) ∈ lw_all := lw_g (lw_at lw_m5 157 rfl) rfl
theorem q1245 : (Jvm.Cond.selects "java/util/ArrayList" ({ cls := "java/util/ArrayList", name := "indexOfRange", desc := "(Ljava/lang/Object;II)I" } : Jvm.MethodName) ({ cls := "java/util/ArrayList", name := "indexOfRange", desc := "(Ljava/lang/Object;II)I" } : Jvm.MethodName)) ∈ lw_all := lw_g (lw_at lw_m5 158 rfl) rfl
theorem q1246 : (Jvm.Cond.code ({ cls := "java/util/ArrayList", name := "indexOfRange", desc := "(Ljava/lang/Object;II)I" } : Jvm.MethodName) prog_50_method_12_code (6 : Nat) (Option.some Jvm.ClassFile.FieldType.int)) ∈ lw_all := lw_g (lw_at lw_m5 159 rfl) rfl
theorem q1247 : (Jvm.Cond.declares ({ cls := "java/lang/Object", name := "equals", desc := "(Ljava/lang/Object;)Z" } : Jvm.MethodName)) ∈ lw_tbl := lw_at lw_m5 160 rfl
theorem q1248 : (Jvm.Cond.methodLink "java/util/ArrayList" (93 : Nat) ({ cls := "java/lang/Object", name := "equals", desc := "(Ljava/lang/Object;)Z" } : Jvm.MethodName)) ∈ lw_all := lw_g (lw_at lw_m5 161 rfl) rfl
theorem q1250 : (Jvm.Cond.sameMethod "java/lang/Object" "java/lang/Object" "equals" "(Ljava/lang/Object;)Z") ∈ lw_all := lw_g (lw_at lw_m5 163 rfl) rfl
theorem q1275 : (Jvm.Cond.selects "java/lang/String" ({ cls := "java/lang/Object", name := "equals", desc := "(Ljava/lang/Object;)Z" } : Jvm.MethodName) ({ cls := "java/lang/String", name := "equals", desc := "(Ljava/lang/Object;)Z" } : Jvm.MethodName)) ∈ lw_all := lw_g (lw_at lw_m5 188 rfl) rfl
theorem q1276 : (Jvm.Cond.instanceMethod ({ cls := "java/lang/String", name := "equals", desc := "(Ljava/lang/Object;)Z" } : Jvm.MethodName)) ∈ lw_all := lw_g (lw_at lw_m5 189 rfl) rfl
theorem q1277 : (Jvm.Cond.code ({ cls := "java/lang/String", name := "equals", desc := "(Ljava/lang/Object;)Z" } : Jvm.MethodName) prog_40_method_66_code (3 : Nat) (Option.some Jvm.ClassFile.FieldType.boolean)) ∈ lw_all := lw_g (lw_at lw_m5 190 rfl) rfl
theorem q1278 : (Jvm.Cond.classLink "java/lang/String" (10 : Nat) "java/lang/String") ∈ lw_all := lw_g (lw_at lw_m5 191 rfl) rfl
theorem q1279 : (Jvm.Cond.methodLink "java/lang/String" (541 : Nat) ({ cls := "java/lang/StringLatin1", name := "equals", desc := "([B[B)Z" } : Jvm.MethodName)) ∈ lw_all := lw_g (lw_at lw_m5 192 rfl) rfl
theorem q1280 : (Jvm.Cond.static ({ cls := "java/lang/StringLatin1", name := "equals", desc := "([B[B)Z" } : Jvm.MethodName)) ∈ lw_all := lw_g (lw_at lw_m5 193 rfl) rfl
theorem q1281 : (Jvm.Cond.code ({ cls := "java/lang/StringLatin1", name := "equals", desc := "([B[B)Z" } : Jvm.MethodName) prog_42_method_13_code (3 : Nat) (Option.some Jvm.ClassFile.FieldType.boolean)) ∈ lw_all := lw_g (lw_at lw_m5 194 rfl) rfl
theorem q1285 : (Jvm.Cond.methodLink "FlyingDoctors$Reader" (215 : Nat) ({ cls := "java/util/List", name := "add", desc := "(Ljava/lang/Object;)Z" } : Jvm.MethodName)) ∈ lw_all := lw_g (lw_at lw_m5 198 rfl) rfl
theorem q1286 : (Jvm.Cond.methodLink "FlyingDoctors$Reader" (153 : Nat) ({ cls := "FlyingDoctors$Reader", name := "need", desc := "(I)V" } : Jvm.MethodName)) ∈ lw_all := lw_g (lw_at lw_m5 199 rfl) rfl
theorem q1288 : (Jvm.Cond.instanceMethod ({ cls := "FlyingDoctors$Reader", name := "need", desc := "(I)V" } : Jvm.MethodName)) ∈ lw_all := lw_g (lw_at lw_m5 201 rfl) rfl
theorem q1289 : (Jvm.Cond.code ({ cls := "FlyingDoctors$Reader", name := "need", desc := "(I)V" } : Jvm.MethodName) prog_16_method_12_code (2 : Nat) (Option.none : Option Jvm.ClassFile.FieldType)) ∈ lw_all := lw_g (lw_at lw_m5 202 rfl) rfl
theorem q1290 : (Jvm.Cond.methodLink "FlyingDoctors$Reader" (107 : Nat) ({ cls := "FlyingDoctors$Reader", name := "isSign", desc := "(I)Z" } : Jvm.MethodName)) ∈ lw_all := lw_g (lw_at lw_m5 203 rfl) rfl
theorem q1292 : (Jvm.Cond.instanceMethod ({ cls := "FlyingDoctors$Reader", name := "isSign", desc := "(I)Z" } : Jvm.MethodName)) ∈ lw_all := lw_g (lw_at lw_m5 205 rfl) rfl
theorem q1293 : (Jvm.Cond.code ({ cls := "FlyingDoctors$Reader", name := "isSign", desc := "(I)Z" } : Jvm.MethodName) prog_16_method_7_code (2 : Nat) (Option.some Jvm.ClassFile.FieldType.boolean)) ∈ lw_all := lw_g (lw_at lw_m5 206 rfl) rfl
theorem q1294 : (Jvm.Cond.methodLink "FlyingDoctors$Reader" (258 : Nat) ({ cls := "FlyingDoctors$Reader", name := "clauseOf", desc := "()LFlyingDoctors$Ex;" } : Jvm.MethodName)) ∈ lw_all := lw_g (lw_at lw_m5 207 rfl) rfl
theorem q1296 : (Jvm.Cond.instanceMethod ({ cls := "FlyingDoctors$Reader", name := "clauseOf", desc := "()LFlyingDoctors$Ex;" } : Jvm.MethodName)) ∈ lw_all := lw_g (lw_at lw_m5 209 rfl) rfl
theorem q1297 : (Jvm.Cond.code ({ cls := "FlyingDoctors$Reader", name := "clauseOf", desc := "()LFlyingDoctors$Ex;" } : Jvm.MethodName) prog_16_method_26_code (2 : Nat) (Option.some (Jvm.ClassFile.FieldType.object "FlyingDoctors$Ex"))) ∈ lw_all := lw_g (lw_at lw_m5 210 rfl) rfl
theorem q1298 : (Jvm.Cond.methodLink "FlyingDoctors$Reader" (149 : Nat) ({ cls := "FlyingDoctors$Reader", name := "expression", desc := "(I)LFlyingDoctors$Ex;" } : Jvm.MethodName)) ∈ lw_all := lw_g (lw_at lw_m5 211 rfl) rfl
theorem q1300 : (Jvm.Cond.instanceMethod ({ cls := "FlyingDoctors$Reader", name := "expression", desc := "(I)LFlyingDoctors$Ex;" } : Jvm.MethodName)) ∈ lw_all := lw_g (lw_at lw_m5 213 rfl) rfl
theorem q1301 : (Jvm.Cond.code ({ cls := "FlyingDoctors$Reader", name := "expression", desc := "(I)LFlyingDoctors$Ex;" } : Jvm.MethodName) prog_16_method_22_code (3 : Nat) (Option.some (Jvm.ClassFile.FieldType.object "FlyingDoctors$Ex"))) ∈ lw_all := lw_g (lw_at lw_m5 214 rfl) rfl
theorem q1302 : (Jvm.Cond.classLink "FlyingDoctors$Reader" (175 : Nat) "FlyingDoctors$Chain") ∈ lw_all := lw_g (lw_at lw_m5 215 rfl) rfl
theorem q1303 : (Jvm.Cond.instantiable "FlyingDoctors$Chain" (2 : Nat)) ∈ lw_all := lw_g (lw_at lw_m5 216 rfl) rfl
theorem q1304 : (Jvm.Cond.methodLink "FlyingDoctors$Reader" (202 : Nat) ({ cls := "FlyingDoctors$Reader", name := "and", desc := "(I)LFlyingDoctors$Ex;" } : Jvm.MethodName)) ∈ lw_all := lw_g (lw_at lw_m5 217 rfl) rfl
theorem q1306 : (Jvm.Cond.instanceMethod ({ cls := "FlyingDoctors$Reader", name := "and", desc := "(I)LFlyingDoctors$Ex;" } : Jvm.MethodName)) ∈ lw_all := lw_g (lw_at lw_m5 219 rfl) rfl
theorem q1307 : (Jvm.Cond.code ({ cls := "FlyingDoctors$Reader", name := "and", desc := "(I)LFlyingDoctors$Ex;" } : Jvm.MethodName) prog_16_method_21_code (3 : Nat) (Option.some (Jvm.ClassFile.FieldType.object "FlyingDoctors$Ex"))) ∈ lw_all := lw_g (lw_at lw_m5 220 rfl) rfl
theorem q1308 : (Jvm.Cond.methodLink "FlyingDoctors$Reader" (198 : Nat) ({ cls := "FlyingDoctors$Reader", name := "not", desc := "(I)LFlyingDoctors$Ex;" } : Jvm.MethodName)) ∈ lw_all := lw_g (lw_at lw_m5 221 rfl) rfl
theorem q1310 : (Jvm.Cond.instanceMethod ({ cls := "FlyingDoctors$Reader", name := "not", desc := "(I)LFlyingDoctors$Ex;" } : Jvm.MethodName)) ∈ lw_all := lw_g (lw_at lw_m5 223 rfl) rfl
theorem q1311 : (Jvm.Cond.code ({ cls := "FlyingDoctors$Reader", name := "not", desc := "(I)LFlyingDoctors$Ex;" } : Jvm.MethodName) prog_16_method_20_code (6 : Nat) (Option.some (Jvm.ClassFile.FieldType.object "FlyingDoctors$Ex"))) ∈ lw_all := lw_g (lw_at lw_m5 224 rfl) rfl
theorem q1313 : (Jvm.Cond.methodLink "FlyingDoctors$Reader" (192 : Nat) ({ cls := "FlyingDoctors$Reader", name := "sum", desc := "(I)LFlyingDoctors$Ex;" } : Jvm.MethodName)) ∈ lw_all := lw_g (lw_at lw_m5 226 rfl) rfl
theorem q1315 : (Jvm.Cond.instanceMethod ({ cls := "FlyingDoctors$Reader", name := "sum", desc := "(I)LFlyingDoctors$Ex;" } : Jvm.MethodName)) ∈ lw_all := lw_g (lw_at lw_m5 228 rfl) rfl
theorem q1316 : (Jvm.Cond.code ({ cls := "FlyingDoctors$Reader", name := "sum", desc := "(I)LFlyingDoctors$Ex;" } : Jvm.MethodName) prog_16_method_19_code (4 : Nat) (Option.some (Jvm.ClassFile.FieldType.object "FlyingDoctors$Ex"))) ∈ lw_all := lw_g (lw_at lw_m5 229 rfl) rfl
theorem q1317 : (Jvm.Cond.methodLink "FlyingDoctors$Reader" (187 : Nat) ({ cls := "FlyingDoctors$Reader", name := "product", desc := "(I)LFlyingDoctors$Ex;" } : Jvm.MethodName)) ∈ lw_all := lw_g (lw_at lw_m5 230 rfl) rfl
theorem q1319 : (Jvm.Cond.instanceMethod ({ cls := "FlyingDoctors$Reader", name := "product", desc := "(I)LFlyingDoctors$Ex;" } : Jvm.MethodName)) ∈ lw_all := lw_g (lw_at lw_m5 232 rfl) rfl
theorem q1320 : (Jvm.Cond.code ({ cls := "FlyingDoctors$Reader", name := "product", desc := "(I)LFlyingDoctors$Ex;" } : Jvm.MethodName) prog_16_method_18_code (4 : Nat) (Option.some (Jvm.ClassFile.FieldType.object "FlyingDoctors$Ex"))) ∈ lw_all := lw_g (lw_at lw_m5 233 rfl) rfl
theorem q1321 : (Jvm.Cond.methodLink "FlyingDoctors$Reader" (177 : Nat) ({ cls := "FlyingDoctors$Reader", name := "part", desc := "(I)LFlyingDoctors$Ex;" } : Jvm.MethodName)) ∈ lw_all := lw_g (lw_at lw_m5 234 rfl) rfl
theorem q1323 : (Jvm.Cond.instanceMethod ({ cls := "FlyingDoctors$Reader", name := "part", desc := "(I)LFlyingDoctors$Ex;" } : Jvm.MethodName)) ∈ lw_all := lw_g (lw_at lw_m5 236 rfl) rfl
theorem q1324 : (Jvm.Cond.code ({ cls := "FlyingDoctors$Reader", name := "part", desc := "(I)LFlyingDoctors$Ex;" } : Jvm.MethodName) prog_16_method_16_code (3 : Nat) (Option.some (Jvm.ClassFile.FieldType.object "FlyingDoctors$Ex"))) ∈ lw_all := lw_g (lw_at lw_m5 237 rfl) rfl
theorem q1325 : (Jvm.Cond.classLink "FlyingDoctors$Reader" (140 : Nat) "FlyingDoctors$Number") ∈ lw_all := lw_g (lw_at lw_m5 238 rfl) rfl
theorem q1326 : (Jvm.Cond.instantiable "FlyingDoctors$Number" (1 : Nat)) ∈ lw_all := lw_g (lw_at lw_m5 239 rfl) rfl
theorem q1327 : (Jvm.Cond.methodLink "FlyingDoctors$Reader" (142 : Nat) ({ cls := "FlyingDoctors$Reader", name := "number", desc := "()I" } : Jvm.MethodName)) ∈ lw_all := lw_g (lw_at lw_m6 0 rfl) rfl
theorem q1329 : (Jvm.Cond.instanceMethod ({ cls := "FlyingDoctors$Reader", name := "number", desc := "()I" } : Jvm.MethodName)) ∈ lw_all := lw_g (lw_at lw_m6 2 rfl) rfl
theorem q1330 : (Jvm.Cond.code ({ cls := "FlyingDoctors$Reader", name := "number", desc := "()I" } : Jvm.MethodName) prog_16_method_13_code (2 : Nat) (Option.some Jvm.ClassFile.FieldType.int)) ∈ lw_all := lw_g (lw_at lw_m6 3 rfl) rfl
theorem q1331 : (Jvm.Cond.methodLink "FlyingDoctors$Reader" (144 : Nat) ({ cls := "FlyingDoctors$Number", name := "<init>", desc := "(I)V" } : Jvm.MethodName)) ∈ lw_all := lw_g (lw_at lw_m6 4 rfl) rfl
theorem q1332 : (Jvm.Cond.instanceMethod ({ cls := "FlyingDoctors$Number", name := "<init>", desc := "(I)V" } : Jvm.MethodName)) ∈ lw_all := lw_g (lw_at lw_m6 5 rfl) rfl
theorem q1333 : (Jvm.Cond.code ({ cls := "FlyingDoctors$Number", name := "<init>", desc := "(I)V" } : Jvm.MethodName) prog_11_method_1_code (2 : Nat) (Option.none : Option Jvm.ClassFile.FieldType)) ∈ lw_all := lw_g (lw_at lw_m6 6 rfl) rfl
theorem q1334 : (Jvm.Cond.methodLinkNest "FlyingDoctors$Number" (1 : Nat) ({ cls := "FlyingDoctors$Ex", name := "<init>", desc := "()V" } : Jvm.MethodName) "FlyingDoctors") ∈ lw_tbl := lw_at lw_m6 7 rfl
theorem q1335 : (Jvm.Cond.instanceMethod ({ cls := "FlyingDoctors$Ex", name := "<init>", desc := "()V" } : Jvm.MethodName)) ∈ lw_all := lw_g (lw_at lw_m6 8 rfl) rfl
theorem q1336 : (Jvm.Cond.code ({ cls := "FlyingDoctors$Ex", name := "<init>", desc := "()V" } : Jvm.MethodName) prog_7_method_1_code (1 : Nat) (Option.none : Option Jvm.ClassFile.FieldType)) ∈ lw_all := lw_g (lw_at lw_m6 9 rfl) rfl
theorem q1337 : (Jvm.Cond.methodLink "FlyingDoctors$Ex" (1 : Nat) ({ cls := "java/lang/Object", name := "<init>", desc := "()V" } : Jvm.MethodName)) ∈ lw_all := lw_g (lw_at lw_m6 10 rfl) rfl
theorem q1338 : (Jvm.Cond.fieldLink "FlyingDoctors$Number" (7 : Nat) "FlyingDoctors$Number" "n" "I") ∈ lw_all := lw_g (lw_at lw_m6 11 rfl) rfl
theorem q1342 : (Jvm.Cond.methodLink "FlyingDoctors$Reader" (145 : Nat) ({ cls := "FlyingDoctors$Reader", name := "ofWord", desc := "()LFlyingDoctors$Ex;" } : Jvm.MethodName)) ∈ lw_all := lw_g (lw_at lw_m6 15 rfl) rfl
theorem q1344 : (Jvm.Cond.instanceMethod ({ cls := "FlyingDoctors$Reader", name := "ofWord", desc := "()LFlyingDoctors$Ex;" } : Jvm.MethodName)) ∈ lw_all := lw_g (lw_at lw_m6 17 rfl) rfl
theorem q1345 : (Jvm.Cond.code ({ cls := "FlyingDoctors$Reader", name := "ofWord", desc := "()LFlyingDoctors$Ex;" } : Jvm.MethodName) prog_16_method_17_code (4 : Nat) (Option.some (Jvm.ClassFile.FieldType.object "FlyingDoctors$Ex"))) ∈ lw_all := lw_g (lw_at lw_m6 18 rfl) rfl
theorem q1346 : (Jvm.Cond.classLink "FlyingDoctors$Reader" (161 : Nat) "FlyingDoctors$Value") ∈ lw_all := lw_g (lw_at lw_m6 19 rfl) rfl
theorem q1347 : (Jvm.Cond.instantiable "FlyingDoctors$Value" (1 : Nat)) ∈ lw_all := lw_g (lw_at lw_m6 20 rfl) rfl
theorem q1348 : (Jvm.Cond.methodLink "FlyingDoctors$Reader" (163 : Nat) ({ cls := "FlyingDoctors$Value", name := "<init>", desc := "(I)V" } : Jvm.MethodName)) ∈ lw_all := lw_g (lw_at lw_m6 21 rfl) rfl
theorem q1349 : (Jvm.Cond.instanceMethod ({ cls := "FlyingDoctors$Value", name := "<init>", desc := "(I)V" } : Jvm.MethodName)) ∈ lw_all := lw_g (lw_at lw_m6 22 rfl) rfl
theorem q1350 : (Jvm.Cond.code ({ cls := "FlyingDoctors$Value", name := "<init>", desc := "(I)V" } : Jvm.MethodName) prog_21_method_1_code (2 : Nat) (Option.none : Option Jvm.ClassFile.FieldType)) ∈ lw_all := lw_g (lw_at lw_m6 23 rfl) rfl
theorem q1351 : (Jvm.Cond.methodLinkNest "FlyingDoctors$Value" (1 : Nat) ({ cls := "FlyingDoctors$Ex", name := "<init>", desc := "()V" } : Jvm.MethodName) "FlyingDoctors") ∈ lw_tbl := lw_at lw_m6 24 rfl
theorem q1352 : (Jvm.Cond.fieldLink "FlyingDoctors$Value" (7 : Nat) "FlyingDoctors$Value" "which" "I") ∈ lw_all := lw_g (lw_at lw_m6 25 rfl) rfl
theorem q1356 : (Jvm.Cond.classLink "FlyingDoctors$Reader" (166 : Nat) "FlyingDoctors$Param") ∈ lw_all := lw_g (lw_at lw_m6 29 rfl) rfl
theorem q1357 : (Jvm.Cond.instantiable "FlyingDoctors$Param" (1 : Nat)) ∈ lw_all := lw_g (lw_at lw_m6 30 rfl) rfl
theorem q1358 : (Jvm.Cond.methodLink "FlyingDoctors$Reader" (168 : Nat) ({ cls := "FlyingDoctors$Param", name := "<init>", desc := "(I)V" } : Jvm.MethodName)) ∈ lw_all := lw_g (lw_at lw_m6 31 rfl) rfl
theorem q1359 : (Jvm.Cond.instanceMethod ({ cls := "FlyingDoctors$Param", name := "<init>", desc := "(I)V" } : Jvm.MethodName)) ∈ lw_all := lw_g (lw_at lw_m6 32 rfl) rfl
theorem q1360 : (Jvm.Cond.code ({ cls := "FlyingDoctors$Param", name := "<init>", desc := "(I)V" } : Jvm.MethodName) prog_12_method_1_code (2 : Nat) (Option.none : Option Jvm.ClassFile.FieldType)) ∈ lw_all := lw_g (lw_at lw_m6 33 rfl) rfl
theorem q1361 : (Jvm.Cond.methodLinkNest "FlyingDoctors$Param" (1 : Nat) ({ cls := "FlyingDoctors$Ex", name := "<init>", desc := "()V" } : Jvm.MethodName) "FlyingDoctors") ∈ lw_tbl := lw_at lw_m6 34 rfl
theorem q1362 : (Jvm.Cond.fieldLink "FlyingDoctors$Param" (7 : Nat) "FlyingDoctors$Param" "which" "I") ∈ lw_all := lw_g (lw_at lw_m6 35 rfl) rfl
theorem q1366 : (Jvm.Cond.methodLink "FlyingDoctors$Reader" (169 : Nat) ({ cls := "FlyingDoctors$Reader", name := "wordNow", desc := "()I" } : Jvm.MethodName)) ∈ lw_all := lw_g (lw_at lw_m6 39 rfl) rfl
theorem q1368 : (Jvm.Cond.instanceMethod ({ cls := "FlyingDoctors$Reader", name := "wordNow", desc := "()I" } : Jvm.MethodName)) ∈ lw_all := lw_g (lw_at lw_m6 41 rfl) rfl
theorem q1369 : (Jvm.Cond.code ({ cls := "FlyingDoctors$Reader", name := "wordNow", desc := "()I" } : Jvm.MethodName) prog_16_method_14_code (2 : Nat) (Option.some Jvm.ClassFile.FieldType.int)) ∈ lw_all := lw_g (lw_at lw_m6 42 rfl) rfl
theorem q1371 : (Jvm.Cond.methodLink "FlyingDoctors$Reader" (122 : Nat) ({ cls := "java/util/List", name := "get", desc := "(I)Ljava/lang/Object;" } : Jvm.MethodName)) ∈ lw_all := lw_g (lw_at lw_m6 44 rfl) rfl
theorem q1372 : (Jvm.Cond.classLink "FlyingDoctors$Reader" (70 : Nat) "java/lang/String") ∈ lw_all := lw_g (lw_at lw_m6 45 rfl) rfl
theorem q1373 : (Jvm.Cond.methodLink "FlyingDoctors$Reader" (130 : Nat) ({ cls := "FlyingDoctors$Reader", name := "wordNumber", desc := "(Ljava/lang/String;)I" } : Jvm.MethodName)) ∈ lw_all := lw_g (lw_at lw_m6 46 rfl) rfl
theorem q1375 : (Jvm.Cond.instanceMethod ({ cls := "FlyingDoctors$Reader", name := "wordNumber", desc := "(Ljava/lang/String;)I" } : Jvm.MethodName)) ∈ lw_all := lw_g (lw_at lw_m6 48 rfl) rfl
theorem q1376 : (Jvm.Cond.code ({ cls := "FlyingDoctors$Reader", name := "wordNumber", desc := "(Ljava/lang/String;)I" } : Jvm.MethodName) prog_16_method_15_code (3 : Nat) (Option.some Jvm.ClassFile.FieldType.int)) ∈ lw_all := lw_g (lw_at lw_m6 49 rfl) rfl
theorem q1378 : (Jvm.Cond.methodLink "FlyingDoctors$Reader" (137 : Nat) ({ cls := "java/util/List", name := "indexOf", desc := "(Ljava/lang/Object;)I" } : Jvm.MethodName)) ∈ lw_all := lw_g (lw_at lw_m6 51 rfl) rfl
theorem q1379 : (Jvm.Cond.interfaceMethod "java/util/List" "java/util/List" "indexOf" "(Ljava/lang/Object;)I") ∈ lw_tbl := lw_at lw_m6 52 rfl
theorem q1380 : (Jvm.Cond.declares ({ cls := "java/util/List", name := "indexOf", desc := "(Ljava/lang/Object;)I" } : Jvm.MethodName)) ∈ lw_tbl := lw_at lw_m6 53 rfl
theorem q1381 : (Jvm.Cond.selects "java/util/ArrayList" ({ cls := "java/util/List", name := "indexOf", desc := "(Ljava/lang/Object;)I" } : Jvm.MethodName) ({ cls := "java/util/ArrayList", name := "indexOf", desc := "(Ljava/lang/Object;)I" } : Jvm.MethodName)) ∈ lw_all := lw_g (lw_at lw_m6 54 rfl) rfl
theorem q1382 : (Jvm.Cond.unhidden "java/util/ArrayList" "indexOf" "(Ljava/lang/Object;)I") ∈ lw_tbl := lw_at lw_m6 55 rfl
theorem q1383 : (Jvm.Cond.publicMethod ({ cls := "java/util/ArrayList", name := "indexOf", desc := "(Ljava/lang/Object;)I" } : Jvm.MethodName)) ∈ lw_tbl := lw_at lw_m6 56 rfl
theorem q1384 : (Jvm.Cond.classLink "FlyingDoctors$Reader" (172 : Nat) "FlyingDoctors$Said") ∈ lw_all := lw_g (lw_at lw_m6 57 rfl) rfl
theorem q1385 : (Jvm.Cond.instantiable "FlyingDoctors$Said" (1 : Nat)) ∈ lw_all := lw_g (lw_at lw_m6 58 rfl) rfl
theorem q1386 : (Jvm.Cond.methodLink "FlyingDoctors$Reader" (174 : Nat) ({ cls := "FlyingDoctors$Said", name := "<init>", desc := "(I)V" } : Jvm.MethodName)) ∈ lw_all := lw_g (lw_at lw_m6 59 rfl) rfl
theorem q1387 : (Jvm.Cond.instanceMethod ({ cls := "FlyingDoctors$Said", name := "<init>", desc := "(I)V" } : Jvm.MethodName)) ∈ lw_all := lw_g (lw_at lw_m6 60 rfl) rfl
theorem q1388 : (Jvm.Cond.code ({ cls := "FlyingDoctors$Said", name := "<init>", desc := "(I)V" } : Jvm.MethodName) prog_19_method_1_code (2 : Nat) (Option.none : Option Jvm.ClassFile.FieldType)) ∈ lw_all := lw_g (lw_at lw_m6 61 rfl) rfl
theorem q1389 : (Jvm.Cond.methodLinkNest "FlyingDoctors$Said" (1 : Nat) ({ cls := "FlyingDoctors$Ex", name := "<init>", desc := "()V" } : Jvm.MethodName) "FlyingDoctors") ∈ lw_tbl := lw_at lw_m6 62 rfl
theorem q1390 : (Jvm.Cond.fieldLink "FlyingDoctors$Said" (7 : Nat) "FlyingDoctors$Said" "word" "I") ∈ lw_all := lw_g (lw_at lw_m6 63 rfl) rfl
theorem q1394 : (Jvm.Cond.methodLink "FlyingDoctors$Reader" (180 : Nat) ({ cls := "FlyingDoctors$Chain", name := "<init>", desc := "(LFlyingDoctors$Ex;)V" } : Jvm.MethodName)) ∈ lw_all := lw_g (lw_at lw_m6 67 rfl) rfl
theorem q1395 : (Jvm.Cond.instanceMethod ({ cls := "FlyingDoctors$Chain", name := "<init>", desc := "(LFlyingDoctors$Ex;)V" } : Jvm.MethodName)) ∈ lw_all := lw_g (lw_at lw_m6 68 rfl) rfl
theorem q1396 : (Jvm.Cond.code ({ cls := "FlyingDoctors$Chain", name := "<init>", desc := "(LFlyingDoctors$Ex;)V" } : Jvm.MethodName) prog_4_method_1_code (2 : Nat) (Option.none : Option Jvm.ClassFile.FieldType)) ∈ lw_all := lw_g (lw_at lw_m6 69 rfl) rfl
theorem q1397 : (Jvm.Cond.methodLinkNest "FlyingDoctors$Chain" (1 : Nat) ({ cls := "FlyingDoctors$Ex", name := "<init>", desc := "()V" } : Jvm.MethodName) "FlyingDoctors") ∈ lw_tbl := lw_at lw_m6 70 rfl
theorem q1398 : (Jvm.Cond.classLink "FlyingDoctors$Chain" (7 : Nat) "java/util/ArrayList") ∈ lw_all := lw_g (lw_at lw_m6 71 rfl) rfl
theorem q1399 : (Jvm.Cond.methodLink "FlyingDoctors$Chain" (9 : Nat) ({ cls := "java/util/ArrayList", name := "<init>", desc := "()V" } : Jvm.MethodName)) ∈ lw_all := lw_g (lw_at lw_m6 72 rfl) rfl
theorem q1400 : (Jvm.Cond.classLink "FlyingDoctors$Chain" (16 : Nat) "java/lang/StringBuilder") ∈ lw_all := lw_g (lw_at lw_m6 73 rfl) rfl
theorem q1401 : (Jvm.Cond.methodLink "FlyingDoctors$Chain" (18 : Nat) ({ cls := "java/lang/StringBuilder", name := "<init>", desc := "()V" } : Jvm.MethodName)) ∈ lw_all := lw_g (lw_at lw_m6 74 rfl) rfl
theorem q1403 : (Jvm.Cond.methodLink "FlyingDoctors$Chain" (23 : Nat) ({ cls := "java/util/List", name := "add", desc := "(Ljava/lang/Object;)Z" } : Jvm.MethodName)) ∈ lw_all := lw_g (lw_at lw_m6 76 rfl) rfl
theorem q1404 : (Jvm.Cond.fieldLink "FlyingDoctors$Chain" (10 : Nat) "FlyingDoctors$Chain" "parts" "Ljava/util/List;") ∈ lw_all := lw_g (lw_at lw_m6 77 rfl) rfl
theorem q1405 : (Jvm.Cond.fieldLink "FlyingDoctors$Chain" (19 : Nat) "FlyingDoctors$Chain" "signs" "Ljava/lang/StringBuilder;") ∈ lw_all := lw_g (lw_at lw_m6 78 rfl) rfl
theorem q1411 : (Jvm.Cond.methodLink "FlyingDoctors$Reader" (183 : Nat) ({ cls := "FlyingDoctors$Chain", name := "add", desc := "(CLFlyingDoctors$Ex;)V" } : Jvm.MethodName)) ∈ lw_all := lw_g (lw_at lw_m6 84 rfl) rfl
theorem q1412 : (Jvm.Cond.instanceMethod ({ cls := "FlyingDoctors$Chain", name := "add", desc := "(CLFlyingDoctors$Ex;)V" } : Jvm.MethodName)) ∈ lw_all := lw_g (lw_at lw_m6 85 rfl) rfl
theorem q1413 : (Jvm.Cond.selects "FlyingDoctors$Chain" ({ cls := "FlyingDoctors$Chain", name := "add", desc := "(CLFlyingDoctors$Ex;)V" } : Jvm.MethodName) ({ cls := "FlyingDoctors$Chain", name := "add", desc := "(CLFlyingDoctors$Ex;)V" } : Jvm.MethodName)) ∈ lw_all := lw_g (lw_at lw_m6 86 rfl) rfl
theorem q1414 : (Jvm.Cond.code ({ cls := "FlyingDoctors$Chain", name := "add", desc := "(CLFlyingDoctors$Ex;)V" } : Jvm.MethodName) prog_4_method_2_code (3 : Nat) (Option.none : Option Jvm.ClassFile.FieldType)) ∈ lw_all := lw_g (lw_at lw_m6 87 rfl) rfl
theorem q1415 : (Jvm.Cond.methodLink "FlyingDoctors$Chain" (29 : Nat) ({ cls := "java/lang/StringBuilder", name := "append", desc := "(C)Ljava/lang/StringBuilder;" } : Jvm.MethodName)) ∈ lw_all := lw_g (lw_at lw_m6 88 rfl) rfl
theorem q1416 : (Jvm.Cond.classLink "FlyingDoctors$Reader" (195 : Nat) "FlyingDoctors$Not") ∈ lw_all := lw_g (lw_at lw_m6 89 rfl) rfl
theorem q1417 : (Jvm.Cond.instantiable "FlyingDoctors$Not" (1 : Nat)) ∈ lw_all := lw_g (lw_at lw_m6 90 rfl) rfl
theorem q1418 : (Jvm.Cond.methodLink "FlyingDoctors$Reader" (197 : Nat) ({ cls := "FlyingDoctors$Not", name := "<init>", desc := "(LFlyingDoctors$Ex;)V" } : Jvm.MethodName)) ∈ lw_all := lw_g (lw_at lw_m6 91 rfl) rfl
theorem q1419 : (Jvm.Cond.instanceMethod ({ cls := "FlyingDoctors$Not", name := "<init>", desc := "(LFlyingDoctors$Ex;)V" } : Jvm.MethodName)) ∈ lw_all := lw_g (lw_at lw_m6 92 rfl) rfl
theorem q1420 : (Jvm.Cond.code ({ cls := "FlyingDoctors$Not", name := "<init>", desc := "(LFlyingDoctors$Ex;)V" } : Jvm.MethodName) prog_10_method_1_code (2 : Nat) (Option.none : Option Jvm.ClassFile.FieldType)) ∈ lw_all := lw_g (lw_at lw_m6 93 rfl) rfl
theorem q1421 : (Jvm.Cond.methodLinkNest "FlyingDoctors$Not" (1 : Nat) ({ cls := "FlyingDoctors$Ex", name := "<init>", desc := "()V" } : Jvm.MethodName) "FlyingDoctors") ∈ lw_tbl := lw_at lw_m6 94 rfl
theorem q1422 : (Jvm.Cond.fieldLink "FlyingDoctors$Not" (7 : Nat) "FlyingDoctors$Not" "e" "LFlyingDoctors$Ex;") ∈ lw_all := lw_g (lw_at lw_m6 95 rfl) rfl
theorem q1428 : (Jvm.Cond.methodLink "FlyingDoctors$Reader" (266 : Nat) ({ cls := "FlyingDoctors$Reader", name := "chest", desc := "(LFlyingDoctors$Rules;)V" } : Jvm.MethodName)) ∈ lw_all := lw_g (lw_at lw_m6 101 rfl) rfl
theorem q1430 : (Jvm.Cond.instanceMethod ({ cls := "FlyingDoctors$Reader", name := "chest", desc := "(LFlyingDoctors$Rules;)V" } : Jvm.MethodName)) ∈ lw_all := lw_g (lw_at lw_m6 103 rfl) rfl
theorem q1431 : (Jvm.Cond.code ({ cls := "FlyingDoctors$Reader", name := "chest", desc := "(LFlyingDoctors$Rules;)V" } : Jvm.MethodName) prog_16_method_24_code (4 : Nat) (Option.none : Option Jvm.ClassFile.FieldType)) ∈ lw_all := lw_g (lw_at lw_m6 104 rfl) rfl
theorem q1435 : (Jvm.Cond.classLink "FlyingDoctors$Reader" (223 : Nat) "FlyingDoctors$Dose") ∈ lw_all := lw_g (lw_at lw_m6 108 rfl) rfl
theorem q1436 : (Jvm.Cond.instantiable "FlyingDoctors$Dose" (3 : Nat)) ∈ lw_all := lw_g (lw_at lw_m6 109 rfl) rfl
theorem q1437 : (Jvm.Cond.methodLink "FlyingDoctors$Reader" (225 : Nat) ({ cls := "FlyingDoctors$Dose", name := "<init>", desc := "(II)V" } : Jvm.MethodName)) ∈ lw_all := lw_g (lw_at lw_m6 110 rfl) rfl
theorem q1438 : (Jvm.Cond.instanceMethod ({ cls := "FlyingDoctors$Dose", name := "<init>", desc := "(II)V" } : Jvm.MethodName)) ∈ lw_all := lw_g (lw_at lw_m6 111 rfl) rfl
theorem q1439 : (Jvm.Cond.code ({ cls := "FlyingDoctors$Dose", name := "<init>", desc := "(II)V" } : Jvm.MethodName) prog_6_method_1_code (3 : Nat) (Option.none : Option Jvm.ClassFile.FieldType)) ∈ lw_all := lw_g (lw_at lw_m6 112 rfl) rfl
theorem q1440 : (Jvm.Cond.methodLink "FlyingDoctors$Dose" (3 : Nat) ({ cls := "java/lang/Object", name := "<init>", desc := "()V" } : Jvm.MethodName)) ∈ lw_all := lw_g (lw_at lw_m6 113 rfl) rfl
theorem q1441 : (Jvm.Cond.fieldLink "FlyingDoctors$Dose" (9 : Nat) "FlyingDoctors$Dose" "number" "I") ∈ lw_all := lw_g (lw_at lw_m6 114 rfl) rfl
theorem q1442 : (Jvm.Cond.fieldLink "FlyingDoctors$Dose" (15 : Nat) "FlyingDoctors$Dose" "who" "I") ∈ lw_all := lw_g (lw_at lw_m6 115 rfl) rfl
theorem q1443 : (Jvm.Cond.fieldLinkNest "FlyingDoctors$Reader" (230 : Nat) "FlyingDoctors$Dose" "when" "LFlyingDoctors$Ex;" "FlyingDoctors") ∈ lw_tbl := lw_at lw_m6 116 rfl
theorem q1444 : (Jvm.Cond.fieldLinkNest "FlyingDoctors" (538 : Nat) "FlyingDoctors$Dose" "when" "LFlyingDoctors$Ex;" "FlyingDoctors") ∈ lw_tbl := lw_at lw_m6 117 rfl
theorem q1453 : (Jvm.Cond.methodLink "FlyingDoctors$Reader" (269 : Nat) ({ cls := "FlyingDoctors$Reader", name := "set", desc := "(LFlyingDoctors$Rules;)V" } : Jvm.MethodName)) ∈ lw_all := lw_g (lw_at lw_m6 126 rfl) rfl
theorem q1455 : (Jvm.Cond.instanceMethod ({ cls := "FlyingDoctors$Reader", name := "set", desc := "(LFlyingDoctors$Rules;)V" } : Jvm.MethodName)) ∈ lw_all := lw_g (lw_at lw_m6 128 rfl) rfl
theorem q1456 : (Jvm.Cond.code ({ cls := "FlyingDoctors$Reader", name := "set", desc := "(LFlyingDoctors$Rules;)V" } : Jvm.MethodName) prog_16_method_25_code (3 : Nat) (Option.none : Option Jvm.ClassFile.FieldType)) ∈ lw_all := lw_g (lw_at lw_m6 129 rfl) rfl
theorem q1458 : (Jvm.Cond.methodLink "FlyingDoctors" (355 : Nat) ({ cls := "java/util/List", name := "addAll", desc := "(Ljava/util/Collection;)Z" } : Jvm.MethodName)) ∈ lw_all := lw_g (lw_at lw_m6 131 rfl) rfl
theorem q1459 : (Jvm.Cond.interfaceMethod "java/util/List" "java/util/List" "addAll" "(Ljava/util/Collection;)Z") ∈ lw_tbl := lw_at lw_m6 132 rfl
theorem q1460 : (Jvm.Cond.declares ({ cls := "java/util/List", name := "addAll", desc := "(Ljava/util/Collection;)Z" } : Jvm.MethodName)) ∈ lw_tbl := lw_at lw_m6 133 rfl
theorem q1461 : (Jvm.Cond.selects "java/util/ArrayList" ({ cls := "java/util/List", name := "addAll", desc := "(Ljava/util/Collection;)Z" } : Jvm.MethodName) ({ cls := "java/util/ArrayList", name := "addAll", desc := "(Ljava/util/Collection;)Z" } : Jvm.MethodName)) ∈ lw_all := lw_g (lw_at lw_m6 134 rfl) rfl
theorem q1462 : (Jvm.Cond.unhidden "java/util/ArrayList" "addAll" "(Ljava/util/Collection;)Z") ∈ lw_tbl := lw_at lw_m6 135 rfl
theorem q1463 : (Jvm.Cond.instanceMethod ({ cls := "java/util/ArrayList", name := "addAll", desc := "(Ljava/util/Collection;)Z" } : Jvm.MethodName)) ∈ lw_all := lw_g (lw_at lw_m6 136 rfl) rfl
theorem q1464 : (Jvm.Cond.publicMethod ({ cls := "java/util/ArrayList", name := "addAll", desc := "(Ljava/util/Collection;)Z" } : Jvm.MethodName)) ∈ lw_tbl := lw_at lw_m6 137 rfl
theorem q1465 : (Jvm.Cond.code ({ cls := "java/util/ArrayList", name := "addAll", desc := "(Ljava/util/Collection;)Z" } : Jvm.MethodName) prog_50_method_41_code (6 : Nat) (Option.some Jvm.ClassFile.FieldType.boolean)) ∈ lw_all := lw_g (lw_at lw_m6 138 rfl) rfl
theorem q1467 : (Jvm.Cond.methodLink "java/util/ArrayList" (42 : Nat) ({ cls := "java/util/Collection", name := "toArray", desc := "()[Ljava/lang/Object;" } : Jvm.MethodName)) ∈ lw_all := lw_g (lw_at lw_m6 140 rfl) rfl
theorem q1468 : (Jvm.Cond.interfaceMethod "java/util/Collection" "java/util/Collection" "toArray" "()[Ljava/lang/Object;") ∈ lw_tbl := lw_at lw_m6 141 rfl
theorem q1469 : (Jvm.Cond.declares ({ cls := "java/util/Collection", name := "toArray", desc := "()[Ljava/lang/Object;" } : Jvm.MethodName)) ∈ lw_tbl := lw_at lw_m6 142 rfl
theorem q1470 : (Jvm.Cond.castable "java/util/ArrayList" "java/util/Collection") ∈ lw_tbl := lw_at lw_m6 143 rfl
theorem q1471 : (Jvm.Cond.selects "java/util/ArrayList" ({ cls := "java/util/Collection", name := "toArray", desc := "()[Ljava/lang/Object;" } : Jvm.MethodName) ({ cls := "java/util/ArrayList", name := "toArray", desc := "()[Ljava/lang/Object;" } : Jvm.MethodName)) ∈ lw_all := lw_g (lw_at lw_m6 144 rfl) rfl
theorem q1472 : (Jvm.Cond.unhidden "java/util/ArrayList" "toArray" "()[Ljava/lang/Object;") ∈ lw_tbl := lw_at lw_m6 145 rfl
theorem q1473 : (Jvm.Cond.instanceMethod ({ cls := "java/util/ArrayList", name := "toArray", desc := "()[Ljava/lang/Object;" } : Jvm.MethodName)) ∈ lw_all := lw_g (lw_at lw_m6 146 rfl) rfl
theorem q1474 : (Jvm.Cond.publicMethod ({ cls := "java/util/ArrayList", name := "toArray", desc := "()[Ljava/lang/Object;" } : Jvm.MethodName)) ∈ lw_tbl := lw_at lw_m6 147 rfl
theorem q1475 : (Jvm.Cond.code ({ cls := "java/util/ArrayList", name := "toArray", desc := "()[Ljava/lang/Object;" } : Jvm.MethodName) prog_50_method_16_code (1 : Nat) (Option.some (Jvm.ClassFile.FieldType.array (Jvm.ClassFile.FieldType.object "java/lang/Object")))) ∈ lw_all := lw_g (lw_at lw_m6 148 rfl) rfl
theorem q1476 : (Jvm.Cond.methodLink "java/util/ArrayList" (112 : Nat) ({ cls := "java/lang/System", name := "arraycopy", desc := "(Ljava/lang/Object;ILjava/lang/Object;II)V" } : Jvm.MethodName)) ∈ lw_all := lw_g (lw_at lw_m6 149 rfl) rfl
theorem q1477 : (Jvm.Cond.methodLink "FlyingDoctorsLaw" (149 : Nat) ({ cls := "FlyingDoctorsLaw", name := "law", desc := "(LFlyingDoctors;I[J)I" } : Jvm.MethodName)) ∈ lw_all := lw_g (lw_at lw_m6 150 rfl) rfl
theorem q1478 : (Jvm.Cond.static ({ cls := "FlyingDoctorsLaw", name := "law", desc := "(LFlyingDoctors;I[J)I" } : Jvm.MethodName)) ∈ lw_all := lw_g (lw_at lw_m6 151 rfl) rfl
theorem q1479 : (Jvm.Cond.codeWith ({ cls := "FlyingDoctorsLaw", name := "law", desc := "(LFlyingDoctors;I[J)I" } : Jvm.MethodName) method_5_code (4 : Nat) (Option.some Jvm.ClassFile.FieldType.int) [((0 : Nat), (9 : Nat), (12 : Nat), (13 : Nat))]) ∈ lw_all := lw_g (lw_at lw_m6 152 rfl) rfl
theorem q1480 : (Jvm.Cond.methodLink "FlyingDoctorsLaw" (21 : Nat) ({ cls := "FlyingDoctors", name := "law", desc := "(I)I" } : Jvm.MethodName)) ∈ lw_all := lw_g (lw_at lw_m6 153 rfl) rfl
theorem q1481 : (Jvm.Cond.instanceMethod ({ cls := "FlyingDoctors", name := "law", desc := "(I)I" } : Jvm.MethodName)) ∈ lw_all := lw_g (lw_at lw_m6 154 rfl) rfl
theorem q1482 : (Jvm.Cond.selects "FlyingDoctors" ({ cls := "FlyingDoctors", name := "law", desc := "(I)I" } : Jvm.MethodName) ({ cls := "FlyingDoctors", name := "law", desc := "(I)I" } : Jvm.MethodName)) ∈ lw_all := lw_g (lw_at lw_m6 155 rfl) rfl
theorem q1483 : (Jvm.Cond.code ({ cls := "FlyingDoctors", name := "law", desc := "(I)I" } : Jvm.MethodName) prog_1_method_31_code (3 : Nat) (Option.some Jvm.ClassFile.FieldType.int)) ∈ lw_all := lw_g (lw_at lw_m6 156 rfl) rfl
theorem q1484 : (Jvm.Cond.methodLink "FlyingDoctors" (97 : Nat) ({ cls := "FlyingDoctors", name := "rulesAt", desc := "(I)LFlyingDoctors$Rules;" } : Jvm.MethodName)) ∈ lw_all := lw_g (lw_at lw_m6 157 rfl) rfl
theorem q1486 : (Jvm.Cond.instanceMethod ({ cls := "FlyingDoctors", name := "rulesAt", desc := "(I)LFlyingDoctors$Rules;" } : Jvm.MethodName)) ∈ lw_all := lw_g (lw_at lw_m6 159 rfl) rfl
theorem q1487 : (Jvm.Cond.code ({ cls := "FlyingDoctors", name := "rulesAt", desc := "(I)LFlyingDoctors$Rules;" } : Jvm.MethodName) prog_1_method_6_code (4 : Nat) (Option.some (Jvm.ClassFile.FieldType.object "FlyingDoctors$Rules"))) ∈ lw_all := lw_g (lw_at lw_m6 160 rfl) rfl
theorem q1488 : (Jvm.Cond.methodLink "FlyingDoctorsLaw" (152 : Nat) ({ cls := "FlyingDoctorsLaw", name := "quarters", desc := "(LFlyingDoctors;I[J)I" } : Jvm.MethodName)) ∈ lw_all := lw_g (lw_at lw_m6 161 rfl) rfl
theorem q1489 : (Jvm.Cond.static ({ cls := "FlyingDoctorsLaw", name := "quarters", desc := "(LFlyingDoctors;I[J)I" } : Jvm.MethodName)) ∈ lw_all := lw_g (lw_at lw_m6 162 rfl) rfl
theorem q1490 : (Jvm.Cond.codeWith ({ cls := "FlyingDoctorsLaw", name := "quarters", desc := "(LFlyingDoctors;I[J)I" } : Jvm.MethodName) method_6_code (4 : Nat) (Option.some Jvm.ClassFile.FieldType.int) [((0 : Nat), (9 : Nat), (12 : Nat), (15 : Nat))]) ∈ lw_all := lw_g (lw_at lw_m6 163 rfl) rfl
theorem q1491 : (Jvm.Cond.methodLink "FlyingDoctorsLaw" (24 : Nat) ({ cls := "FlyingDoctors", name := "quarters", desc := "(I)I" } : Jvm.MethodName)) ∈ lw_all := lw_g (lw_at lw_m6 164 rfl) rfl
theorem q1492 : (Jvm.Cond.instanceMethod ({ cls := "FlyingDoctors", name := "quarters", desc := "(I)I" } : Jvm.MethodName)) ∈ lw_all := lw_g (lw_at lw_m6 165 rfl) rfl
theorem q1493 : (Jvm.Cond.selects "FlyingDoctors" ({ cls := "FlyingDoctors", name := "quarters", desc := "(I)I" } : Jvm.MethodName) ({ cls := "FlyingDoctors", name := "quarters", desc := "(I)I" } : Jvm.MethodName)) ∈ lw_all := lw_g (lw_at lw_m6 166 rfl) rfl
theorem q1494 : (Jvm.Cond.code ({ cls := "FlyingDoctors", name := "quarters", desc := "(I)I" } : Jvm.MethodName) prog_1_method_32_code (2 : Nat) (Option.some Jvm.ClassFile.FieldType.int)) ∈ lw_all := lw_g (lw_at lw_m6 167 rfl) rfl
theorem q1495 : (Jvm.Cond.methodLink "FlyingDoctorsLaw" (155 : Nat) ({ cls := "FlyingDoctorsLaw", name := "rain", desc := "(LFlyingDoctors;III[J)I" } : Jvm.MethodName)) ∈ lw_all := lw_g (lw_at lw_m6 168 rfl) rfl
theorem q1496 : (Jvm.Cond.static ({ cls := "FlyingDoctorsLaw", name := "rain", desc := "(LFlyingDoctors;III[J)I" } : Jvm.MethodName)) ∈ lw_all := lw_g (lw_at lw_m6 169 rfl) rfl
theorem q1497 : (Jvm.Cond.codeWith ({ cls := "FlyingDoctorsLaw", name := "rain", desc := "(LFlyingDoctors;III[J)I" } : Jvm.MethodName) method_7_code (6 : Nat) (Option.some Jvm.ClassFile.FieldType.int) [((0 : Nat), (19 : Nat), (22 : Nat), (13 : Nat))]) ∈ lw_all := lw_g (lw_at lw_m6 170 rfl) rfl
theorem q1498 : (Jvm.Cond.methodLink "FlyingDoctorsLaw" (27 : Nat) ({ cls := "FlyingDoctors", name := "rain", desc := "(III)Z" } : Jvm.MethodName)) ∈ lw_all := lw_g (lw_at lw_m6 171 rfl) rfl
theorem q1499 : (Jvm.Cond.instanceMethod ({ cls := "FlyingDoctors", name := "rain", desc := "(III)Z" } : Jvm.MethodName)) ∈ lw_all := lw_g (lw_at lw_m6 172 rfl) rfl
theorem q1500 : (Jvm.Cond.selects "FlyingDoctors" ({ cls := "FlyingDoctors", name := "rain", desc := "(III)Z" } : Jvm.MethodName) ({ cls := "FlyingDoctors", name := "rain", desc := "(III)Z" } : Jvm.MethodName)) ∈ lw_all := lw_g (lw_at lw_m6 173 rfl) rfl
theorem q1501 : (Jvm.Cond.code ({ cls := "FlyingDoctors", name := "rain", desc := "(III)Z" } : Jvm.MethodName) prog_1_method_33_code (4 : Nat) (Option.some Jvm.ClassFile.FieldType.boolean)) ∈ lw_all := lw_g (lw_at lw_m6 174 rfl) rfl
theorem q1502 : (Jvm.Cond.classLink "FlyingDoctors" (69 : Nat) "FlyingDoctors$Told") ∈ lw_all := lw_g (lw_at lw_m6 175 rfl) rfl
theorem q1503 : (Jvm.Cond.instantiable "FlyingDoctors$Told" (4 : Nat)) ∈ lw_all := lw_g (lw_at lw_m6 176 rfl) rfl
theorem q1504 : (Jvm.Cond.methodLink "FlyingDoctors" (368 : Nat) ({ cls := "FlyingDoctors$Told", name := "<init>", desc := "(IIII)V" } : Jvm.MethodName)) ∈ lw_all := lw_g (lw_at lw_m6 177 rfl) rfl
theorem q1505 : (Jvm.Cond.instanceMethod ({ cls := "FlyingDoctors$Told", name := "<init>", desc := "(IIII)V" } : Jvm.MethodName)) ∈ lw_all := lw_g (lw_at lw_m6 178 rfl) rfl
theorem q1506 : (Jvm.Cond.code ({ cls := "FlyingDoctors$Told", name := "<init>", desc := "(IIII)V" } : Jvm.MethodName) prog_20_method_1_code (5 : Nat) (Option.none : Option Jvm.ClassFile.FieldType)) ∈ lw_all := lw_g (lw_at lw_m6 179 rfl) rfl
theorem q1507 : (Jvm.Cond.methodLink "FlyingDoctors$Told" (1 : Nat) ({ cls := "java/lang/Object", name := "<init>", desc := "()V" } : Jvm.MethodName)) ∈ lw_all := lw_g (lw_at lw_m6 180 rfl) rfl
theorem q1508 : (Jvm.Cond.fieldLink "FlyingDoctors$Told" (7 : Nat) "FlyingDoctors$Told" "of" "I") ∈ lw_all := lw_g (lw_at lw_m6 181 rfl) rfl
theorem q1509 : (Jvm.Cond.fieldLinkNest "FlyingDoctors" (71 : Nat) "FlyingDoctors$Told" "of" "I" "FlyingDoctors") ∈ lw_tbl := lw_at lw_m6 182 rfl
theorem q1510 : (Jvm.Cond.fieldLink "FlyingDoctors$Told" (13 : Nat) "FlyingDoctors$Told" "day" "I") ∈ lw_all := lw_g (lw_at lw_m6 183 rfl) rfl
theorem q1511 : (Jvm.Cond.fieldLinkNest "FlyingDoctors" (74 : Nat) "FlyingDoctors$Told" "day" "I" "FlyingDoctors") ∈ lw_tbl := lw_at lw_m6 184 rfl
theorem q1512 : (Jvm.Cond.fieldLink "FlyingDoctors$Told" (16 : Nat) "FlyingDoctors$Told" "value" "I") ∈ lw_all := lw_g (lw_at lw_m6 185 rfl) rfl
theorem q1513 : (Jvm.Cond.fieldLinkNest "FlyingDoctors" (78 : Nat) "FlyingDoctors$Told" "value" "I" "FlyingDoctors") ∈ lw_tbl := lw_at lw_m6 186 rfl
theorem q1514 : (Jvm.Cond.fieldLink "FlyingDoctors$Told" (19 : Nat) "FlyingDoctors$Told" "told" "I") ∈ lw_all := lw_g (lw_at lw_m6 187 rfl) rfl
theorem q1515 : (Jvm.Cond.fieldLinkNest "FlyingDoctors" (77 : Nat) "FlyingDoctors$Told" "told" "I" "FlyingDoctors") ∈ lw_tbl := lw_at lw_m6 188 rfl
theorem q1525 : (Jvm.Cond.methodLink "FlyingDoctorsLaw" (159 : Nat) ({ cls := "FlyingDoctorsLaw", name := "wet", desc := "(LFlyingDoctors;III[J)I" } : Jvm.MethodName)) ∈ lw_all := lw_g (lw_at lw_m6 198 rfl) rfl
theorem q1526 : (Jvm.Cond.static ({ cls := "FlyingDoctorsLaw", name := "wet", desc := "(LFlyingDoctors;III[J)I" } : Jvm.MethodName)) ∈ lw_all := lw_g (lw_at lw_m6 199 rfl) rfl
theorem q1527 : (Jvm.Cond.codeWith ({ cls := "FlyingDoctorsLaw", name := "wet", desc := "(LFlyingDoctors;III[J)I" } : Jvm.MethodName) method_8_code (6 : Nat) (Option.some Jvm.ClassFile.FieldType.int) [((0 : Nat), (12 : Nat), (15 : Nat), (13 : Nat)), ((0 : Nat), (12 : Nat), (19 : Nat), (15 : Nat))]) ∈ lw_all := lw_g (lw_at lw_m6 200 rfl) rfl
theorem q1528 : (Jvm.Cond.methodLink "FlyingDoctorsLaw" (31 : Nat) ({ cls := "FlyingDoctors", name := "wet", desc := "(III)I" } : Jvm.MethodName)) ∈ lw_all := lw_g (lw_at lw_m6 201 rfl) rfl
theorem q1529 : (Jvm.Cond.instanceMethod ({ cls := "FlyingDoctors", name := "wet", desc := "(III)I" } : Jvm.MethodName)) ∈ lw_all := lw_g (lw_at lw_m6 202 rfl) rfl
theorem q1530 : (Jvm.Cond.selects "FlyingDoctors" ({ cls := "FlyingDoctors", name := "wet", desc := "(III)I" } : Jvm.MethodName) ({ cls := "FlyingDoctors", name := "wet", desc := "(III)I" } : Jvm.MethodName)) ∈ lw_all := lw_g (lw_at lw_m6 203 rfl) rfl
theorem q1531 : (Jvm.Cond.code ({ cls := "FlyingDoctors", name := "wet", desc := "(III)I" } : Jvm.MethodName) prog_1_method_34_code (5 : Nat) (Option.some Jvm.ClassFile.FieldType.int)) ∈ lw_all := lw_g (lw_at lw_m6 204 rfl) rfl
theorem q1532 : (Jvm.Cond.methodLink "FlyingDoctors" (108 : Nat) ({ cls := "FlyingDoctors", name := "wetOf", desc := "(LFlyingDoctors$Place;II)I" } : Jvm.MethodName)) ∈ lw_all := lw_g (lw_at lw_m6 205 rfl) rfl
theorem q1534 : (Jvm.Cond.instanceMethod ({ cls := "FlyingDoctors", name := "wetOf", desc := "(LFlyingDoctors$Place;II)I" } : Jvm.MethodName)) ∈ lw_all := lw_g (lw_at lw_m6 207 rfl) rfl
theorem q1535 : (Jvm.Cond.code ({ cls := "FlyingDoctors", name := "wetOf", desc := "(LFlyingDoctors$Place;II)I" } : Jvm.MethodName) prog_1_method_9_code (6 : Nat) (Option.some Jvm.ClassFile.FieldType.int)) ∈ lw_all := lw_g (lw_at lw_m6 208 rfl) rfl
theorem q1536 : (Jvm.Cond.methodLink "FlyingDoctors" (87 : Nat) ({ cls := "FlyingDoctors", name := "latest", desc := "(Ljava/util/List;III)I" } : Jvm.MethodName)) ∈ lw_all := lw_g (lw_at lw_m6 209 rfl) rfl
theorem q1537 : (Jvm.Cond.static ({ cls := "FlyingDoctors", name := "latest", desc := "(Ljava/util/List;III)I" } : Jvm.MethodName)) ∈ lw_all := lw_g (lw_at lw_m6 210 rfl) rfl
theorem q1538 : (Jvm.Cond.code ({ cls := "FlyingDoctors", name := "latest", desc := "(Ljava/util/List;III)I" } : Jvm.MethodName) prog_1_method_8_code (7 : Nat) (Option.some Jvm.ClassFile.FieldType.int)) ∈ lw_all := lw_g (lw_at lw_m6 211 rfl) rfl
theorem q1539 : (Jvm.Cond.methodLink "FlyingDoctors" (91 : Nat) ({ cls := "java/lang/Math", name := "max", desc := "(II)I" } : Jvm.MethodName)) ∈ lw_all := lw_g (lw_at lw_m6 212 rfl) rfl
theorem q1540 : (Jvm.Cond.methodLink "FlyingDoctorsLaw" (162 : Nat) ({ cls := "FlyingDoctorsLaw", name := "may", desc := "(LFlyingDoctors;IIIIIII[J)I" } : Jvm.MethodName)) ∈ lw_all := lw_g (lw_at lw_m6 213 rfl) rfl
theorem q1541 : (Jvm.Cond.static ({ cls := "FlyingDoctorsLaw", name := "may", desc := "(LFlyingDoctors;IIIIIII[J)I" } : Jvm.MethodName)) ∈ lw_all := lw_g (lw_at lw_m6 214 rfl) rfl
theorem q1542 : (Jvm.Cond.codeWith ({ cls := "FlyingDoctorsLaw", name := "may", desc := "(LFlyingDoctors;IIIIIII[J)I" } : Jvm.MethodName) method_9_code (10 : Nat) (Option.some Jvm.ClassFile.FieldType.int) [((0 : Nat), (20 : Nat), (23 : Nat), (13 : Nat)), ((0 : Nat), (20 : Nat), (27 : Nat), (15 : Nat))]) ∈ lw_all := lw_g (lw_at lw_m6 215 rfl) rfl
theorem q1543 : (Jvm.Cond.methodLink "FlyingDoctorsLaw" (35 : Nat) ({ cls := "FlyingDoctors", name := "may", desc := "(IIIIIII)I" } : Jvm.MethodName)) ∈ lw_all := lw_g (lw_at lw_m6 216 rfl) rfl
theorem q1544 : (Jvm.Cond.instanceMethod ({ cls := "FlyingDoctors", name := "may", desc := "(IIIIIII)I" } : Jvm.MethodName)) ∈ lw_all := lw_g (lw_at lw_m6 217 rfl) rfl
theorem q1545 : (Jvm.Cond.selects "FlyingDoctors" ({ cls := "FlyingDoctors", name := "may", desc := "(IIIIIII)I" } : Jvm.MethodName) ({ cls := "FlyingDoctors", name := "may", desc := "(IIIIIII)I" } : Jvm.MethodName)) ∈ lw_all := lw_g (lw_at lw_m6 218 rfl) rfl
theorem q1546 : (Jvm.Cond.code ({ cls := "FlyingDoctors", name := "may", desc := "(IIIIIII)I" } : Jvm.MethodName) prog_1_method_35_code (11 : Nat) (Option.some Jvm.ClassFile.FieldType.int)) ∈ lw_all := lw_g (lw_at lw_m6 219 rfl) rfl
theorem q1547 : (Jvm.Cond.methodLink "FlyingDoctors" (370 : Nat) ({ cls := "FlyingDoctors", name := "planeAt", desc := "(I)LFlyingDoctors$Plane;" } : Jvm.MethodName)) ∈ lw_all := lw_g (lw_at lw_m6 220 rfl) rfl
theorem q1549 : (Jvm.Cond.instanceMethod ({ cls := "FlyingDoctors", name := "planeAt", desc := "(I)LFlyingDoctors$Plane;" } : Jvm.MethodName)) ∈ lw_all := lw_g (lw_at lw_m6 222 rfl) rfl
theorem q1550 : (Jvm.Cond.code ({ cls := "FlyingDoctors", name := "planeAt", desc := "(I)LFlyingDoctors$Plane;" } : Jvm.MethodName) prog_1_method_21_code (2 : Nat) (Option.some (Jvm.ClassFile.FieldType.object "FlyingDoctors$Plane"))) ∈ lw_all := lw_g (lw_at lw_m6 223 rfl) rfl
theorem q1551 : (Jvm.Cond.methodLink "FlyingDoctors" (235 : Nat) ({ cls := "FlyingDoctors", name := "mayNot", desc := "(LFlyingDoctors$Plane;LFlyingDoctors$Place;IILFlyingDoctors$Place;II)I" } : Jvm.MethodName)) ∈ lw_all := lw_g (lw_at lw_m6 224 rfl) rfl
theorem q1553 : (Jvm.Cond.instanceMethod ({ cls := "FlyingDoctors", name := "mayNot", desc := "(LFlyingDoctors$Plane;LFlyingDoctors$Place;IILFlyingDoctors$Place;II)I" } : Jvm.MethodName)) ∈ lw_all := lw_g (lw_at lw_m6 226 rfl) rfl
theorem q1554 : (Jvm.Cond.code ({ cls := "FlyingDoctors", name := "mayNot", desc := "(LFlyingDoctors$Plane;LFlyingDoctors$Place;IILFlyingDoctors$Place;II)I" } : Jvm.MethodName) prog_1_method_10_code (11 : Nat) (Option.some Jvm.ClassFile.FieldType.int)) ∈ lw_all := lw_g (lw_at lw_m6 227 rfl) rfl
theorem q1555 : (Jvm.Cond.methodLink "FlyingDoctors" (101 : Nat) ({ cls := "FlyingDoctors", name := "asking", desc := "(LFlyingDoctors$Rules;)LFlyingDoctors$Asked;" } : Jvm.MethodName)) ∈ lw_all := lw_g (lw_at lw_m6 228 rfl) rfl
theorem q1557 : (Jvm.Cond.instanceMethod ({ cls := "FlyingDoctors", name := "asking", desc := "(LFlyingDoctors$Rules;)LFlyingDoctors$Asked;" } : Jvm.MethodName)) ∈ lw_all := lw_g (lw_at lw_m6 230 rfl) rfl
theorem q1558 : (Jvm.Cond.code ({ cls := "FlyingDoctors", name := "asking", desc := "(LFlyingDoctors$Rules;)LFlyingDoctors$Asked;" } : Jvm.MethodName) prog_1_method_7_code (2 : Nat) (Option.some (Jvm.ClassFile.FieldType.object "FlyingDoctors$Asked"))) ∈ lw_all := lw_g (lw_at lw_m6 231 rfl) rfl
theorem q1559 : (Jvm.Cond.methodLink "FlyingDoctors" (53 : Nat) ({ cls := "FlyingDoctors$Asked", name := "clear", desc := "()V" } : Jvm.MethodName)) ∈ lw_all := lw_g (lw_at lw_m6 232 rfl) rfl
theorem q1560 : (Jvm.Cond.instanceMethod ({ cls := "FlyingDoctors$Asked", name := "clear", desc := "()V" } : Jvm.MethodName)) ∈ lw_all := lw_g (lw_at lw_m6 233 rfl) rfl
theorem q1561 : (Jvm.Cond.selects "FlyingDoctors$Asked" ({ cls := "FlyingDoctors$Asked", name := "clear", desc := "()V" } : Jvm.MethodName) ({ cls := "FlyingDoctors$Asked", name := "clear", desc := "()V" } : Jvm.MethodName)) ∈ lw_all := lw_g (lw_at lw_m6 234 rfl) rfl
theorem q1562 : (Jvm.Cond.code ({ cls := "FlyingDoctors$Asked", name := "clear", desc := "()V" } : Jvm.MethodName) prog_2_method_2_code (2 : Nat) (Option.none : Option Jvm.ClassFile.FieldType)) ∈ lw_all := lw_g (lw_at lw_m6 235 rfl) rfl
theorem q1563 : (Jvm.Cond.methodLink "FlyingDoctors" (63 : Nat) ({ cls := "java/lang/System", name := "arraycopy", desc := "(Ljava/lang/Object;ILjava/lang/Object;II)V" } : Jvm.MethodName)) ∈ lw_all := lw_g (lw_at lw_m6 236 rfl) rfl
theorem q1564 : (Jvm.Cond.methodLink "FlyingDoctors" (123 : Nat) ({ cls := "FlyingDoctors", name := "isNight", desc := "(I)Z" } : Jvm.MethodName)) ∈ lw_all := lw_g (lw_at lw_m6 237 rfl) rfl
theorem q1565 : (Jvm.Cond.static ({ cls := "FlyingDoctors", name := "isNight", desc := "(I)Z" } : Jvm.MethodName)) ∈ lw_all := lw_g (lw_at lw_m6 238 rfl) rfl
theorem q1566 : (Jvm.Cond.code ({ cls := "FlyingDoctors", name := "isNight", desc := "(I)Z" } : Jvm.MethodName) prog_1_method_4_code (1 : Nat) (Option.some Jvm.ClassFile.FieldType.boolean)) ∈ lw_all := lw_g (lw_at lw_m6 239 rfl) rfl
theorem q1567 : (Jvm.Cond.methodLink "FlyingDoctors" (32 : Nat) ({ cls := "FlyingDoctors$Place", name := "miles", desc := "(LFlyingDoctors$Place;)I" } : Jvm.MethodName)) ∈ lw_all := lw_g (lw_at lw_m7 0 rfl) rfl
theorem q1568 : (Jvm.Cond.instanceMethod ({ cls := "FlyingDoctors$Place", name := "miles", desc := "(LFlyingDoctors$Place;)I" } : Jvm.MethodName)) ∈ lw_all := lw_g (lw_at lw_m7 1 rfl) rfl
theorem q1569 : (Jvm.Cond.selects "FlyingDoctors$Place" ({ cls := "FlyingDoctors$Place", name := "miles", desc := "(LFlyingDoctors$Place;)I" } : Jvm.MethodName) ({ cls := "FlyingDoctors$Place", name := "miles", desc := "(LFlyingDoctors$Place;)I" } : Jvm.MethodName)) ∈ lw_all := lw_g (lw_at lw_m7 2 rfl) rfl
theorem q1570 : (Jvm.Cond.code ({ cls := "FlyingDoctors$Place", name := "miles", desc := "(LFlyingDoctors$Place;)I" } : Jvm.MethodName) prog_14_method_2_code (2 : Nat) (Option.some Jvm.ClassFile.FieldType.int)) ∈ lw_all := lw_g (lw_at lw_m7 3 rfl) rfl
theorem q1571 : (Jvm.Cond.methodLink "FlyingDoctors$Place" (35 : Nat) ({ cls := "java/lang/Math", name := "abs", desc := "(I)I" } : Jvm.MethodName)) ∈ lw_all := lw_g (lw_at lw_m7 4 rfl) rfl
theorem q1572 : (Jvm.Cond.static ({ cls := "java/lang/Math", name := "abs", desc := "(I)I" } : Jvm.MethodName)) ∈ lw_all := lw_g (lw_at lw_m7 5 rfl) rfl
theorem q1573 : (Jvm.Cond.code ({ cls := "java/lang/Math", name := "abs", desc := "(I)I" } : Jvm.MethodName) prog_37_method_59_code (1 : Nat) (Option.some Jvm.ClassFile.FieldType.int)) ∈ lw_all := lw_g (lw_at lw_m7 6 rfl) rfl
theorem q1574 : (Jvm.Cond.classLink "FlyingDoctors" (130 : Nat) "FlyingDoctors$Ex") ∈ lw_all := lw_g (lw_at lw_m7 7 rfl) rfl
theorem q1575 : (Jvm.Cond.methodLink "FlyingDoctors" (132 : Nat) ({ cls := "FlyingDoctors$Ex", name := "holds", desc := "(LFlyingDoctors$Asked;)Z" } : Jvm.MethodName)) ∈ lw_all := lw_g (lw_at lw_m7 8 rfl) rfl
theorem q1576 : (Jvm.Cond.instanceMethod ({ cls := "FlyingDoctors$Ex", name := "holds", desc := "(LFlyingDoctors$Asked;)Z" } : Jvm.MethodName)) ∈ lw_all := lw_g (lw_at lw_m7 9 rfl) rfl
theorem q1578 : (Jvm.Cond.selects "FlyingDoctors$Chain" ({ cls := "FlyingDoctors$Ex", name := "holds", desc := "(LFlyingDoctors$Asked;)Z" } : Jvm.MethodName) ({ cls := "FlyingDoctors$Ex", name := "holds", desc := "(LFlyingDoctors$Asked;)Z" } : Jvm.MethodName)) ∈ lw_all := lw_g (lw_at lw_m7 11 rfl) rfl
theorem q1579 : (Jvm.Cond.selects "FlyingDoctors$Not" ({ cls := "FlyingDoctors$Ex", name := "holds", desc := "(LFlyingDoctors$Asked;)Z" } : Jvm.MethodName) ({ cls := "FlyingDoctors$Ex", name := "holds", desc := "(LFlyingDoctors$Asked;)Z" } : Jvm.MethodName)) ∈ lw_all := lw_g (lw_at lw_m7 12 rfl) rfl
theorem q1580 : (Jvm.Cond.selects "FlyingDoctors$Number" ({ cls := "FlyingDoctors$Ex", name := "holds", desc := "(LFlyingDoctors$Asked;)Z" } : Jvm.MethodName) ({ cls := "FlyingDoctors$Ex", name := "holds", desc := "(LFlyingDoctors$Asked;)Z" } : Jvm.MethodName)) ∈ lw_all := lw_g (lw_at lw_m7 13 rfl) rfl
theorem q1581 : (Jvm.Cond.selects "FlyingDoctors$Param" ({ cls := "FlyingDoctors$Ex", name := "holds", desc := "(LFlyingDoctors$Asked;)Z" } : Jvm.MethodName) ({ cls := "FlyingDoctors$Ex", name := "holds", desc := "(LFlyingDoctors$Asked;)Z" } : Jvm.MethodName)) ∈ lw_all := lw_g (lw_at lw_m7 14 rfl) rfl
theorem q1582 : (Jvm.Cond.selects "FlyingDoctors$Said" ({ cls := "FlyingDoctors$Ex", name := "holds", desc := "(LFlyingDoctors$Asked;)Z" } : Jvm.MethodName) ({ cls := "FlyingDoctors$Ex", name := "holds", desc := "(LFlyingDoctors$Asked;)Z" } : Jvm.MethodName)) ∈ lw_all := lw_g (lw_at lw_m7 15 rfl) rfl
theorem q1583 : (Jvm.Cond.selects "FlyingDoctors$Value" ({ cls := "FlyingDoctors$Ex", name := "holds", desc := "(LFlyingDoctors$Asked;)Z" } : Jvm.MethodName) ({ cls := "FlyingDoctors$Ex", name := "holds", desc := "(LFlyingDoctors$Asked;)Z" } : Jvm.MethodName)) ∈ lw_all := lw_g (lw_at lw_m7 16 rfl) rfl
theorem q1584 : (Jvm.Cond.code ({ cls := "FlyingDoctors$Ex", name := "holds", desc := "(LFlyingDoctors$Asked;)Z" } : Jvm.MethodName) prog_7_method_3_code (2 : Nat) (Option.some Jvm.ClassFile.FieldType.boolean)) ∈ lw_all := lw_g (lw_at lw_m7 17 rfl) rfl
theorem q1585 : (Jvm.Cond.methodLink "FlyingDoctors$Ex" (7 : Nat) ({ cls := "FlyingDoctors$Ex", name := "value", desc := "(LFlyingDoctors$Asked;)I" } : Jvm.MethodName)) ∈ lw_all := lw_g (lw_at lw_m7 18 rfl) rfl
theorem q1586 : (Jvm.Cond.declares ({ cls := "FlyingDoctors$Ex", name := "value", desc := "(LFlyingDoctors$Asked;)I" } : Jvm.MethodName)) ∈ lw_tbl := lw_at lw_m7 19 rfl
theorem q1587 : (Jvm.Cond.sameMethod "FlyingDoctors$Ex" "FlyingDoctors$Ex" "value" "(LFlyingDoctors$Asked;)I") ∈ lw_all := lw_g (lw_at lw_m7 20 rfl) rfl
theorem q1588 : (Jvm.Cond.selects "FlyingDoctors$Chain" ({ cls := "FlyingDoctors$Ex", name := "value", desc := "(LFlyingDoctors$Asked;)I" } : Jvm.MethodName) ({ cls := "FlyingDoctors$Chain", name := "value", desc := "(LFlyingDoctors$Asked;)I" } : Jvm.MethodName)) ∈ lw_all := lw_g (lw_at lw_m7 21 rfl) rfl
theorem q1589 : (Jvm.Cond.instanceMethod ({ cls := "FlyingDoctors$Chain", name := "value", desc := "(LFlyingDoctors$Asked;)I" } : Jvm.MethodName)) ∈ lw_all := lw_g (lw_at lw_m7 22 rfl) rfl
theorem q1590 : (Jvm.Cond.code ({ cls := "FlyingDoctors$Chain", name := "value", desc := "(LFlyingDoctors$Asked;)I" } : Jvm.MethodName) prog_4_method_4_code (4 : Nat) (Option.some Jvm.ClassFile.FieldType.int)) ∈ lw_all := lw_g (lw_at lw_m7 23 rfl) rfl
theorem q1592 : (Jvm.Cond.methodLink "FlyingDoctors$Chain" (33 : Nat) ({ cls := "java/util/List", name := "get", desc := "(I)Ljava/lang/Object;" } : Jvm.MethodName)) ∈ lw_all := lw_g (lw_at lw_m7 25 rfl) rfl
theorem q1593 : (Jvm.Cond.classLink "FlyingDoctors$Chain" (2 : Nat) "FlyingDoctors$Ex") ∈ lw_all := lw_g (lw_at lw_m7 26 rfl) rfl
theorem q1594 : (Jvm.Cond.methodLink "FlyingDoctors$Chain" (37 : Nat) ({ cls := "FlyingDoctors$Ex", name := "value", desc := "(LFlyingDoctors$Asked;)I" } : Jvm.MethodName)) ∈ lw_all := lw_g (lw_at lw_m7 27 rfl) rfl
theorem q1595 : (Jvm.Cond.instanceMethod ({ cls := "FlyingDoctors$Not", name := "value", desc := "(LFlyingDoctors$Asked;)I" } : Jvm.MethodName)) ∈ lw_all := lw_g (lw_at lw_m7 28 rfl) rfl
theorem q1596 : (Jvm.Cond.code ({ cls := "FlyingDoctors$Not", name := "value", desc := "(LFlyingDoctors$Asked;)I" } : Jvm.MethodName) prog_10_method_2_code (2 : Nat) (Option.some Jvm.ClassFile.FieldType.int)) ∈ lw_all := lw_g (lw_at lw_m7 29 rfl) rfl
theorem q1597 : (Jvm.Cond.methodLink "FlyingDoctors$Not" (13 : Nat) ({ cls := "FlyingDoctors$Ex", name := "holds", desc := "(LFlyingDoctors$Asked;)Z" } : Jvm.MethodName)) ∈ lw_all := lw_g (lw_at lw_m7 30 rfl) rfl
theorem q1598 : (Jvm.Cond.instanceMethod ({ cls := "FlyingDoctors$Number", name := "value", desc := "(LFlyingDoctors$Asked;)I" } : Jvm.MethodName)) ∈ lw_all := lw_g (lw_at lw_m7 31 rfl) rfl
theorem q1599 : (Jvm.Cond.code ({ cls := "FlyingDoctors$Number", name := "value", desc := "(LFlyingDoctors$Asked;)I" } : Jvm.MethodName) prog_11_method_2_code (2 : Nat) (Option.some Jvm.ClassFile.FieldType.int)) ∈ lw_all := lw_g (lw_at lw_m7 32 rfl) rfl
theorem q1600 : (Jvm.Cond.instanceMethod ({ cls := "FlyingDoctors$Param", name := "value", desc := "(LFlyingDoctors$Asked;)I" } : Jvm.MethodName)) ∈ lw_all := lw_g (lw_at lw_m7 33 rfl) rfl
theorem q1601 : (Jvm.Cond.code ({ cls := "FlyingDoctors$Param", name := "value", desc := "(LFlyingDoctors$Asked;)I" } : Jvm.MethodName) prog_12_method_2_code (2 : Nat) (Option.some Jvm.ClassFile.FieldType.int)) ∈ lw_all := lw_g (lw_at lw_m7 34 rfl) rfl
theorem q1602 : (Jvm.Cond.instanceMethod ({ cls := "FlyingDoctors$Said", name := "value", desc := "(LFlyingDoctors$Asked;)I" } : Jvm.MethodName)) ∈ lw_all := lw_g (lw_at lw_m7 35 rfl) rfl
theorem q1603 : (Jvm.Cond.code ({ cls := "FlyingDoctors$Said", name := "value", desc := "(LFlyingDoctors$Asked;)I" } : Jvm.MethodName) prog_19_method_2_code (2 : Nat) (Option.some Jvm.ClassFile.FieldType.int)) ∈ lw_all := lw_g (lw_at lw_m7 36 rfl) rfl
theorem q1604 : (Jvm.Cond.instanceMethod ({ cls := "FlyingDoctors$Value", name := "value", desc := "(LFlyingDoctors$Asked;)I" } : Jvm.MethodName)) ∈ lw_all := lw_g (lw_at lw_m7 37 rfl) rfl
theorem q1605 : (Jvm.Cond.code ({ cls := "FlyingDoctors$Value", name := "value", desc := "(LFlyingDoctors$Asked;)I" } : Jvm.MethodName) prog_21_method_2_code (2 : Nat) (Option.some Jvm.ClassFile.FieldType.int)) ∈ lw_all := lw_g (lw_at lw_m7 38 rfl) rfl
theorem q1607 : (Jvm.Cond.methodLink "FlyingDoctors$Chain" (41 : Nat) ({ cls := "java/util/List", name := "size", desc := "()I" } : Jvm.MethodName)) ∈ lw_all := lw_g (lw_at lw_m7 40 rfl) rfl
theorem q1608 : (Jvm.Cond.methodLink "FlyingDoctors$Chain" (45 : Nat) ({ cls := "java/lang/StringBuilder", name := "charAt", desc := "(I)C" } : Jvm.MethodName)) ∈ lw_all := lw_g (lw_at lw_m7 41 rfl) rfl
theorem q1609 : (Jvm.Cond.instanceMethod ({ cls := "java/lang/StringBuilder", name := "charAt", desc := "(I)C" } : Jvm.MethodName)) ∈ lw_all := lw_g (lw_at lw_m7 42 rfl) rfl
theorem q1610 : (Jvm.Cond.selects "java/lang/StringBuilder" ({ cls := "java/lang/StringBuilder", name := "charAt", desc := "(I)C" } : Jvm.MethodName) ({ cls := "java/lang/StringBuilder", name := "charAt", desc := "(I)C" } : Jvm.MethodName)) ∈ lw_all := lw_g (lw_at lw_m7 43 rfl) rfl
theorem q1611 : (Jvm.Cond.code ({ cls := "java/lang/StringBuilder", name := "charAt", desc := "(I)C" } : Jvm.MethodName) prog_41_method_88_code (2 : Nat) (Option.some Jvm.ClassFile.FieldType.char)) ∈ lw_all := lw_g (lw_at lw_m7 44 rfl) rfl
theorem q1612 : (Jvm.Cond.methodLink "java/lang/StringBuilder" (329 : Nat) ({ cls := "java/lang/AbstractStringBuilder", name := "charAt", desc := "(I)C" } : Jvm.MethodName)) ∈ lw_all := lw_g (lw_at lw_m7 45 rfl) rfl
theorem q1613 : (Jvm.Cond.instanceMethod ({ cls := "java/lang/AbstractStringBuilder", name := "charAt", desc := "(I)C" } : Jvm.MethodName)) ∈ lw_all := lw_g (lw_at lw_m7 46 rfl) rfl
theorem q1614 : (Jvm.Cond.code ({ cls := "java/lang/AbstractStringBuilder", name := "charAt", desc := "(I)C" } : Jvm.MethodName) prog_26_method_14_code (5 : Nat) (Option.some Jvm.ClassFile.FieldType.char)) ∈ lw_all := lw_g (lw_at lw_m7 47 rfl) rfl
theorem q1615 : (Jvm.Cond.methodLink "java/lang/AbstractStringBuilder" (138 : Nat) ({ cls := "java/lang/Math", name := "min", desc := "(II)I" } : Jvm.MethodName)) ∈ lw_all := lw_g (lw_at lw_m7 48 rfl) rfl
theorem q1616 : (Jvm.Cond.methodLink "java/lang/AbstractStringBuilder" (144 : Nat) ({ cls := "java/lang/String", name := "checkIndex", desc := "(II)V" } : Jvm.MethodName)) ∈ lw_all := lw_g (lw_at lw_m7 49 rfl) rfl
theorem q1618 : (Jvm.Cond.methodLink "FlyingDoctors$Chain" (49 : Nat) ({ cls := "FlyingDoctors$Chain", name := "two", desc := "(CII)I" } : Jvm.MethodName)) ∈ lw_all := lw_g (lw_at lw_m7 51 rfl) rfl
theorem q1619 : (Jvm.Cond.static ({ cls := "FlyingDoctors$Chain", name := "two", desc := "(CII)I" } : Jvm.MethodName)) ∈ lw_all := lw_g (lw_at lw_m7 52 rfl) rfl
theorem q1620 : (Jvm.Cond.code ({ cls := "FlyingDoctors$Chain", name := "two", desc := "(CII)I" } : Jvm.MethodName) prog_4_method_3_code (3 : Nat) (Option.some Jvm.ClassFile.FieldType.int)) ∈ lw_all := lw_g (lw_at lw_m7 53 rfl) rfl
theorem q1621 : (Jvm.Cond.selects "FlyingDoctors$Not" ({ cls := "FlyingDoctors$Ex", name := "value", desc := "(LFlyingDoctors$Asked;)I" } : Jvm.MethodName) ({ cls := "FlyingDoctors$Not", name := "value", desc := "(LFlyingDoctors$Asked;)I" } : Jvm.MethodName)) ∈ lw_all := lw_g (lw_at lw_m7 54 rfl) rfl
theorem q1622 : (Jvm.Cond.selects "FlyingDoctors$Number" ({ cls := "FlyingDoctors$Ex", name := "value", desc := "(LFlyingDoctors$Asked;)I" } : Jvm.MethodName) ({ cls := "FlyingDoctors$Number", name := "value", desc := "(LFlyingDoctors$Asked;)I" } : Jvm.MethodName)) ∈ lw_all := lw_g (lw_at lw_m7 55 rfl) rfl
theorem q1623 : (Jvm.Cond.selects "FlyingDoctors$Param" ({ cls := "FlyingDoctors$Ex", name := "value", desc := "(LFlyingDoctors$Asked;)I" } : Jvm.MethodName) ({ cls := "FlyingDoctors$Param", name := "value", desc := "(LFlyingDoctors$Asked;)I" } : Jvm.MethodName)) ∈ lw_all := lw_g (lw_at lw_m7 56 rfl) rfl
theorem q1624 : (Jvm.Cond.selects "FlyingDoctors$Said" ({ cls := "FlyingDoctors$Ex", name := "value", desc := "(LFlyingDoctors$Asked;)I" } : Jvm.MethodName) ({ cls := "FlyingDoctors$Said", name := "value", desc := "(LFlyingDoctors$Asked;)I" } : Jvm.MethodName)) ∈ lw_all := lw_g (lw_at lw_m7 57 rfl) rfl
theorem q1625 : (Jvm.Cond.selects "FlyingDoctors$Value" ({ cls := "FlyingDoctors$Ex", name := "value", desc := "(LFlyingDoctors$Asked;)I" } : Jvm.MethodName) ({ cls := "FlyingDoctors$Value", name := "value", desc := "(LFlyingDoctors$Asked;)I" } : Jvm.MethodName)) ∈ lw_all := lw_g (lw_at lw_m7 58 rfl) rfl
theorem q1626 : (Jvm.Cond.methodLink "FlyingDoctorsLaw" (166 : Nat) ({ cls := "FlyingDoctorsLaw", name := "radio", desc := "(LFlyingDoctors;III[J)I" } : Jvm.MethodName)) ∈ lw_all := lw_g (lw_at lw_m7 59 rfl) rfl
theorem q1627 : (Jvm.Cond.static ({ cls := "FlyingDoctorsLaw", name := "radio", desc := "(LFlyingDoctors;III[J)I" } : Jvm.MethodName)) ∈ lw_all := lw_g (lw_at lw_m7 60 rfl) rfl
theorem q1628 : (Jvm.Cond.codeWith ({ cls := "FlyingDoctorsLaw", name := "radio", desc := "(LFlyingDoctors;III[J)I" } : Jvm.MethodName) method_10_code (6 : Nat) (Option.some Jvm.ClassFile.FieldType.int) [((0 : Nat), (19 : Nat), (22 : Nat), (13 : Nat))]) ∈ lw_all := lw_g (lw_at lw_m7 61 rfl) rfl
theorem q1629 : (Jvm.Cond.methodLink "FlyingDoctorsLaw" (39 : Nat) ({ cls := "FlyingDoctors", name := "radio", desc := "(III)Z" } : Jvm.MethodName)) ∈ lw_all := lw_g (lw_at lw_m7 62 rfl) rfl
theorem q1630 : (Jvm.Cond.instanceMethod ({ cls := "FlyingDoctors", name := "radio", desc := "(III)Z" } : Jvm.MethodName)) ∈ lw_all := lw_g (lw_at lw_m7 63 rfl) rfl
theorem q1631 : (Jvm.Cond.selects "FlyingDoctors" ({ cls := "FlyingDoctors", name := "radio", desc := "(III)Z" } : Jvm.MethodName) ({ cls := "FlyingDoctors", name := "radio", desc := "(III)Z" } : Jvm.MethodName)) ∈ lw_all := lw_g (lw_at lw_m7 64 rfl) rfl
theorem q1632 : (Jvm.Cond.code ({ cls := "FlyingDoctors", name := "radio", desc := "(III)Z" } : Jvm.MethodName) prog_1_method_36_code (5 : Nat) (Option.some Jvm.ClassFile.FieldType.boolean)) ∈ lw_all := lw_g (lw_at lw_m7 65 rfl) rfl
theorem q1633 : (Jvm.Cond.constant "FlyingDoctors" (374 : Nat) (16777215 : Int32)) ∈ lw_all := lw_g (lw_at lw_m7 66 rfl) rfl
theorem q1634 : (Jvm.Cond.methodLink "FlyingDoctorsLaw" (169 : Nat) ({ cls := "FlyingDoctorsLaw", name := "heard", desc := "(LFlyingDoctors;II[J)I" } : Jvm.MethodName)) ∈ lw_all := lw_g (lw_at lw_m7 67 rfl) rfl
theorem q1635 : (Jvm.Cond.static ({ cls := "FlyingDoctorsLaw", name := "heard", desc := "(LFlyingDoctors;II[J)I" } : Jvm.MethodName)) ∈ lw_all := lw_g (lw_at lw_m7 68 rfl) rfl
theorem q1636 : (Jvm.Cond.codeWith ({ cls := "FlyingDoctorsLaw", name := "heard", desc := "(LFlyingDoctors;II[J)I" } : Jvm.MethodName) method_11_code (5 : Nat) (Option.some Jvm.ClassFile.FieldType.int) [((0 : Nat), (10 : Nat), (13 : Nat), (13 : Nat)), ((0 : Nat), (10 : Nat), (17 : Nat), (15 : Nat))]) ∈ lw_all := lw_g (lw_at lw_m7 69 rfl) rfl
theorem q1637 : (Jvm.Cond.methodLink "FlyingDoctorsLaw" (42 : Nat) ({ cls := "FlyingDoctors", name := "heard", desc := "(II)I" } : Jvm.MethodName)) ∈ lw_all := lw_g (lw_at lw_m7 70 rfl) rfl
theorem q1638 : (Jvm.Cond.instanceMethod ({ cls := "FlyingDoctors", name := "heard", desc := "(II)I" } : Jvm.MethodName)) ∈ lw_all := lw_g (lw_at lw_m7 71 rfl) rfl
theorem q1639 : (Jvm.Cond.selects "FlyingDoctors" ({ cls := "FlyingDoctors", name := "heard", desc := "(II)I" } : Jvm.MethodName) ({ cls := "FlyingDoctors", name := "heard", desc := "(II)I" } : Jvm.MethodName)) ∈ lw_all := lw_g (lw_at lw_m7 72 rfl) rfl
theorem q1640 : (Jvm.Cond.code ({ cls := "FlyingDoctors", name := "heard", desc := "(II)I" } : Jvm.MethodName) prog_1_method_37_code (4 : Nat) (Option.some Jvm.ClassFile.FieldType.int)) ∈ lw_all := lw_g (lw_at lw_m7 73 rfl) rfl
theorem q1641 : (Jvm.Cond.methodLink "FlyingDoctors" (381 : Nat) ({ cls := "FlyingDoctors", name := "heardAt", desc := "(LFlyingDoctors$Place;I)I" } : Jvm.MethodName)) ∈ lw_all := lw_g (lw_at lw_m7 74 rfl) rfl
theorem q1643 : (Jvm.Cond.instanceMethod ({ cls := "FlyingDoctors", name := "heardAt", desc := "(LFlyingDoctors$Place;I)I" } : Jvm.MethodName)) ∈ lw_all := lw_g (lw_at lw_m7 76 rfl) rfl
theorem q1644 : (Jvm.Cond.code ({ cls := "FlyingDoctors", name := "heardAt", desc := "(LFlyingDoctors$Place;I)I" } : Jvm.MethodName) prog_1_method_11_code (8 : Nat) (Option.some Jvm.ClassFile.FieldType.int)) ∈ lw_all := lw_g (lw_at lw_m7 77 rfl) rfl
theorem q1645 : (Jvm.Cond.methodLink "FlyingDoctors" (136 : Nat) ({ cls := "FlyingDoctors$Place", name := "hears", desc := "(LFlyingDoctors$Place;I)Z" } : Jvm.MethodName)) ∈ lw_all := lw_g (lw_at lw_m7 78 rfl) rfl
theorem q1646 : (Jvm.Cond.instanceMethod ({ cls := "FlyingDoctors$Place", name := "hears", desc := "(LFlyingDoctors$Place;I)Z" } : Jvm.MethodName)) ∈ lw_all := lw_g (lw_at lw_m7 79 rfl) rfl
theorem q1647 : (Jvm.Cond.selects "FlyingDoctors$Place" ({ cls := "FlyingDoctors$Place", name := "hears", desc := "(LFlyingDoctors$Place;I)Z" } : Jvm.MethodName) ({ cls := "FlyingDoctors$Place", name := "hears", desc := "(LFlyingDoctors$Place;I)Z" } : Jvm.MethodName)) ∈ lw_all := lw_g (lw_at lw_m7 80 rfl) rfl
theorem q1648 : (Jvm.Cond.code ({ cls := "FlyingDoctors$Place", name := "hears", desc := "(LFlyingDoctors$Place;I)Z" } : Jvm.MethodName) prog_14_method_4_code (3 : Nat) (Option.some Jvm.ClassFile.FieldType.boolean)) ∈ lw_all := lw_g (lw_at lw_m7 81 rfl) rfl
theorem q1649 : (Jvm.Cond.methodLink "FlyingDoctors$Place" (44 : Nat) ({ cls := "FlyingDoctors$Place", name := "isOn", desc := "(I)Z" } : Jvm.MethodName)) ∈ lw_all := lw_g (lw_at lw_m7 82 rfl) rfl
theorem q1650 : (Jvm.Cond.instanceMethod ({ cls := "FlyingDoctors$Place", name := "isOn", desc := "(I)Z" } : Jvm.MethodName)) ∈ lw_all := lw_g (lw_at lw_m7 83 rfl) rfl
theorem q1651 : (Jvm.Cond.selects "FlyingDoctors$Place" ({ cls := "FlyingDoctors$Place", name := "isOn", desc := "(I)Z" } : Jvm.MethodName) ({ cls := "FlyingDoctors$Place", name := "isOn", desc := "(I)Z" } : Jvm.MethodName)) ∈ lw_all := lw_g (lw_at lw_m7 84 rfl) rfl
theorem q1652 : (Jvm.Cond.code ({ cls := "FlyingDoctors$Place", name := "isOn", desc := "(I)Z" } : Jvm.MethodName) prog_14_method_3_code (2 : Nat) (Option.some Jvm.ClassFile.FieldType.boolean)) ∈ lw_all := lw_g (lw_at lw_m7 85 rfl) rfl
theorem q1653 : (Jvm.Cond.methodLink "FlyingDoctors$Place" (48 : Nat) ({ cls := "FlyingDoctors$Place", name := "miles", desc := "(LFlyingDoctors$Place;)I" } : Jvm.MethodName)) ∈ lw_all := lw_g (lw_at lw_m7 86 rfl) rfl
theorem q1654 : (Jvm.Cond.methodLinkNest "FlyingDoctors$Place" (52 : Nat) ({ cls := "FlyingDoctors", name := "isNight", desc := "(I)Z" } : Jvm.MethodName) "FlyingDoctors") ∈ lw_tbl := lw_at lw_m7 87 rfl
theorem q1655 : (Jvm.Cond.methodLink "FlyingDoctorsLaw" (172 : Nat) ({ cls := "FlyingDoctorsLaw", name := "call", desc := "(LFlyingDoctors;II[J)I" } : Jvm.MethodName)) ∈ lw_all := lw_g (lw_at lw_m7 88 rfl) rfl
theorem q1656 : (Jvm.Cond.static ({ cls := "FlyingDoctorsLaw", name := "call", desc := "(LFlyingDoctors;II[J)I" } : Jvm.MethodName)) ∈ lw_all := lw_g (lw_at lw_m7 89 rfl) rfl
theorem q1657 : (Jvm.Cond.codeWith ({ cls := "FlyingDoctorsLaw", name := "call", desc := "(LFlyingDoctors;II[J)I" } : Jvm.MethodName) method_12_code (5 : Nat) (Option.some Jvm.ClassFile.FieldType.int) [((0 : Nat), (10 : Nat), (13 : Nat), (13 : Nat))]) ∈ lw_all := lw_g (lw_at lw_m7 90 rfl) rfl
theorem q1658 : (Jvm.Cond.methodLink "FlyingDoctorsLaw" (45 : Nat) ({ cls := "FlyingDoctors", name := "call", desc := "(II)I" } : Jvm.MethodName)) ∈ lw_all := lw_g (lw_at lw_m7 91 rfl) rfl
theorem q1659 : (Jvm.Cond.instanceMethod ({ cls := "FlyingDoctors", name := "call", desc := "(II)I" } : Jvm.MethodName)) ∈ lw_all := lw_g (lw_at lw_m7 92 rfl) rfl
theorem q1660 : (Jvm.Cond.selects "FlyingDoctors" ({ cls := "FlyingDoctors", name := "call", desc := "(II)I" } : Jvm.MethodName) ({ cls := "FlyingDoctors", name := "call", desc := "(II)I" } : Jvm.MethodName)) ∈ lw_all := lw_g (lw_at lw_m7 93 rfl) rfl
theorem q1661 : (Jvm.Cond.code ({ cls := "FlyingDoctors", name := "call", desc := "(II)I" } : Jvm.MethodName) prog_1_method_38_code (4 : Nat) (Option.some Jvm.ClassFile.FieldType.int)) ∈ lw_all := lw_g (lw_at lw_m7 94 rfl) rfl
theorem q1662 : (Jvm.Cond.instantiable "FlyingDoctors$Call" (7 : Nat)) ∈ lw_all := lw_g (lw_at lw_m7 95 rfl) rfl
theorem q1663 : (Jvm.Cond.methodLink "FlyingDoctors" (385 : Nat) ({ cls := "FlyingDoctors$Call", name := "<init>", desc := "(LFlyingDoctors;ILFlyingDoctors$Place;I)V" } : Jvm.MethodName)) ∈ lw_all := lw_g (lw_at lw_m7 96 rfl) rfl
theorem q1664 : (Jvm.Cond.instanceMethod ({ cls := "FlyingDoctors$Call", name := "<init>", desc := "(LFlyingDoctors;ILFlyingDoctors$Place;I)V" } : Jvm.MethodName)) ∈ lw_all := lw_g (lw_at lw_m7 97 rfl) rfl
theorem q1665 : (Jvm.Cond.code ({ cls := "FlyingDoctors$Call", name := "<init>", desc := "(LFlyingDoctors;ILFlyingDoctors$Place;I)V" } : Jvm.MethodName) prog_3_method_1_code (5 : Nat) (Option.none : Option Jvm.ClassFile.FieldType)) ∈ lw_all := lw_g (lw_at lw_m7 98 rfl) rfl
theorem q1666 : (Jvm.Cond.methodLink "FlyingDoctors$Call" (9 : Nat) ({ cls := "java/lang/Object", name := "<init>", desc := "()V" } : Jvm.MethodName)) ∈ lw_all := lw_g (lw_at lw_m7 99 rfl) rfl
theorem q1667 : (Jvm.Cond.methodLinkNest "FlyingDoctors$Call" (32 : Nat) ({ cls := "FlyingDoctors", name := "heardAt", desc := "(LFlyingDoctors$Place;I)I" } : Jvm.MethodName) "FlyingDoctors") ∈ lw_tbl := lw_at lw_m7 100 rfl
theorem q1668 : (Jvm.Cond.fieldLink "FlyingDoctors$Call" (15 : Nat) "FlyingDoctors$Call" "number" "I") ∈ lw_all := lw_g (lw_at lw_m7 101 rfl) rfl
theorem q1669 : (Jvm.Cond.fieldLinkNest "FlyingDoctors" (421 : Nat) "FlyingDoctors$Call" "number" "I" "FlyingDoctors") ∈ lw_tbl := lw_at lw_m7 102 rfl
theorem q1670 : (Jvm.Cond.fieldLink "FlyingDoctors$Call" (23 : Nat) "FlyingDoctors$Call" "words" "I") ∈ lw_all := lw_g (lw_at lw_m7 103 rfl) rfl
theorem q1671 : (Jvm.Cond.fieldLinkNest "FlyingDoctors" (393 : Nat) "FlyingDoctors$Call" "words" "I" "FlyingDoctors") ∈ lw_tbl := lw_at lw_m7 104 rfl
theorem q1672 : (Jvm.Cond.fieldLink "FlyingDoctors$Call" (29 : Nat) "FlyingDoctors$Call" "told" "I") ∈ lw_all := lw_g (lw_at lw_m7 105 rfl) rfl
theorem q1673 : (Jvm.Cond.fieldLinkNest "FlyingDoctors" (395 : Nat) "FlyingDoctors$Call" "told" "I" "FlyingDoctors") ∈ lw_tbl := lw_at lw_m7 106 rfl
theorem q1674 : (Jvm.Cond.fieldLink "FlyingDoctors$Call" (36 : Nat) "FlyingDoctors$Call" "heard" "I") ∈ lw_all := lw_g (lw_at lw_m7 107 rfl) rfl
theorem q1675 : (Jvm.Cond.fieldLinkNest "FlyingDoctors$Flight" (73 : Nat) "FlyingDoctors$Call" "heard" "I" "FlyingDoctors") ∈ lw_tbl := lw_at lw_m7 108 rfl
theorem q1676 : (Jvm.Cond.fieldLinkNest "FlyingDoctors" (396 : Nat) "FlyingDoctors$Call" "heard" "I" "FlyingDoctors") ∈ lw_tbl := lw_at lw_m7 109 rfl
theorem q1677 : (Jvm.Cond.fieldLink "FlyingDoctors$Call" (19 : Nat) "FlyingDoctors$Call" "place" "LFlyingDoctors$Place;") ∈ lw_all := lw_g (lw_at lw_m7 110 rfl) rfl
theorem q1678 : (Jvm.Cond.fieldLinkNest "FlyingDoctors$Flight" (68 : Nat) "FlyingDoctors$Call" "place" "LFlyingDoctors$Place;" "FlyingDoctors") ∈ lw_tbl := lw_at lw_m7 111 rfl
theorem q1679 : (Jvm.Cond.fieldLinkNest "FlyingDoctors" (392 : Nat) "FlyingDoctors$Call" "place" "LFlyingDoctors$Place;" "FlyingDoctors") ∈ lw_tbl := lw_at lw_m7 112 rfl
theorem q1680 : (Jvm.Cond.fieldLink "FlyingDoctors$Call" (114 : Nat) "FlyingDoctors$Call" "rank" "I") ∈ lw_all := lw_g (lw_at lw_m7 113 rfl) rfl
theorem q1681 : (Jvm.Cond.fieldLinkNest "FlyingDoctors" (415 : Nat) "FlyingDoctors$Call" "rank" "I" "FlyingDoctors") ∈ lw_tbl := lw_at lw_m7 114 rfl
theorem q1682 : (Jvm.Cond.fieldLink "FlyingDoctors$Call" (3 : Nat) "FlyingDoctors$Call" "this$0" "LFlyingDoctors;") ∈ lw_all := lw_g (lw_at lw_m7 115 rfl) rfl
theorem q1698 : (Jvm.Cond.methodLink "FlyingDoctorsLaw" (175 : Nat) ({ cls := "FlyingDoctorsLaw", name := "callOf", desc := "(LFlyingDoctors;II[J)I" } : Jvm.MethodName)) ∈ lw_all := lw_g (lw_at lw_m7 131 rfl) rfl
theorem q1699 : (Jvm.Cond.static ({ cls := "FlyingDoctorsLaw", name := "callOf", desc := "(LFlyingDoctors;II[J)I" } : Jvm.MethodName)) ∈ lw_all := lw_g (lw_at lw_m7 132 rfl) rfl
theorem q1700 : (Jvm.Cond.codeWith ({ cls := "FlyingDoctorsLaw", name := "callOf", desc := "(LFlyingDoctors;II[J)I" } : Jvm.MethodName) method_13_code (5 : Nat) (Option.some Jvm.ClassFile.FieldType.int) [((0 : Nat), (10 : Nat), (13 : Nat), (13 : Nat))]) ∈ lw_all := lw_g (lw_at lw_m7 133 rfl) rfl
theorem q1701 : (Jvm.Cond.methodLink "FlyingDoctorsLaw" (48 : Nat) ({ cls := "FlyingDoctors", name := "callOf", desc := "(II)I" } : Jvm.MethodName)) ∈ lw_all := lw_g (lw_at lw_m7 134 rfl) rfl
theorem q1702 : (Jvm.Cond.instanceMethod ({ cls := "FlyingDoctors", name := "callOf", desc := "(II)I" } : Jvm.MethodName)) ∈ lw_all := lw_g (lw_at lw_m7 135 rfl) rfl
theorem q1703 : (Jvm.Cond.selects "FlyingDoctors" ({ cls := "FlyingDoctors", name := "callOf", desc := "(II)I" } : Jvm.MethodName) ({ cls := "FlyingDoctors", name := "callOf", desc := "(II)I" } : Jvm.MethodName)) ∈ lw_all := lw_g (lw_at lw_m7 136 rfl) rfl
theorem q1704 : (Jvm.Cond.code ({ cls := "FlyingDoctors", name := "callOf", desc := "(II)I" } : Jvm.MethodName) prog_1_method_39_code (4 : Nat) (Option.some Jvm.ClassFile.FieldType.int)) ∈ lw_all := lw_g (lw_at lw_m7 137 rfl) rfl
theorem q1705 : (Jvm.Cond.methodLink "FlyingDoctors" (388 : Nat) ({ cls := "FlyingDoctors", name := "callAt", desc := "(I)LFlyingDoctors$Call;" } : Jvm.MethodName)) ∈ lw_all := lw_g (lw_at lw_m7 138 rfl) rfl
theorem q1707 : (Jvm.Cond.instanceMethod ({ cls := "FlyingDoctors", name := "callAt", desc := "(I)LFlyingDoctors$Call;" } : Jvm.MethodName)) ∈ lw_all := lw_g (lw_at lw_m7 140 rfl) rfl
theorem q1708 : (Jvm.Cond.code ({ cls := "FlyingDoctors", name := "callAt", desc := "(I)LFlyingDoctors$Call;" } : Jvm.MethodName) prog_1_method_23_code (2 : Nat) (Option.some (Jvm.ClassFile.FieldType.object "FlyingDoctors$Call"))) ∈ lw_all := lw_g (lw_at lw_m7 141 rfl) rfl
theorem q1709 : (Jvm.Cond.methodLink "FlyingDoctors" (399 : Nat) ({ cls := "FlyingDoctors$Call", name := "served", desc := "()I" } : Jvm.MethodName)) ∈ lw_all := lw_g (lw_at lw_m7 142 rfl) rfl
theorem q1710 : (Jvm.Cond.instanceMethod ({ cls := "FlyingDoctors$Call", name := "served", desc := "()I" } : Jvm.MethodName)) ∈ lw_all := lw_g (lw_at lw_m7 143 rfl) rfl
theorem q1711 : (Jvm.Cond.selects "FlyingDoctors$Call" ({ cls := "FlyingDoctors$Call", name := "served", desc := "()I" } : Jvm.MethodName) ({ cls := "FlyingDoctors$Call", name := "served", desc := "()I" } : Jvm.MethodName)) ∈ lw_all := lw_g (lw_at lw_m7 144 rfl) rfl
theorem q1712 : (Jvm.Cond.code ({ cls := "FlyingDoctors$Call", name := "served", desc := "()I" } : Jvm.MethodName) prog_3_method_3_code (4 : Nat) (Option.some Jvm.ClassFile.FieldType.int)) ∈ lw_all := lw_g (lw_at lw_m7 145 rfl) rfl
theorem q1714 : (Jvm.Cond.methodLink "FlyingDoctors$Call" (43 : Nat) ({ cls := "java/util/List", name := "size", desc := "()I" } : Jvm.MethodName)) ∈ lw_all := lw_g (lw_at lw_m7 147 rfl) rfl
theorem q1716 : (Jvm.Cond.methodLink "FlyingDoctors$Call" (49 : Nat) ({ cls := "java/util/List", name := "get", desc := "(I)Ljava/lang/Object;" } : Jvm.MethodName)) ∈ lw_all := lw_g (lw_at lw_m7 149 rfl) rfl
theorem q1717 : (Jvm.Cond.classLink "FlyingDoctors$Call" (53 : Nat) "FlyingDoctors$Flight") ∈ lw_all := lw_g (lw_at lw_m7 150 rfl) rfl
theorem q1718 : (Jvm.Cond.methodLink "FlyingDoctors$Call" (55 : Nat) ({ cls := "FlyingDoctors$Flight", name := "serves", desc := "(LFlyingDoctors$Call;)I" } : Jvm.MethodName)) ∈ lw_all := lw_g (lw_at lw_m7 151 rfl) rfl
theorem q1719 : (Jvm.Cond.instanceMethod ({ cls := "FlyingDoctors$Flight", name := "serves", desc := "(LFlyingDoctors$Call;)I" } : Jvm.MethodName)) ∈ lw_all := lw_g (lw_at lw_m7 152 rfl) rfl
theorem q1720 : (Jvm.Cond.selects "FlyingDoctors$Flight" ({ cls := "FlyingDoctors$Flight", name := "serves", desc := "(LFlyingDoctors$Call;)I" } : Jvm.MethodName) ({ cls := "FlyingDoctors$Flight", name := "serves", desc := "(LFlyingDoctors$Call;)I" } : Jvm.MethodName)) ∈ lw_all := lw_g (lw_at lw_m7 153 rfl) rfl
theorem q1721 : (Jvm.Cond.code ({ cls := "FlyingDoctors$Flight", name := "serves", desc := "(LFlyingDoctors$Call;)I" } : Jvm.MethodName) prog_8_method_4_code (3 : Nat) (Option.some Jvm.ClassFile.FieldType.int)) ∈ lw_all := lw_g (lw_at lw_m7 154 rfl) rfl
theorem q1722 : (Jvm.Cond.methodLink "FlyingDoctorsLaw" (178 : Nat) ({ cls := "FlyingDoctorsLaw", name := "priority", desc := "(LFlyingDoctors;I[J)I" } : Jvm.MethodName)) ∈ lw_all := lw_g (lw_at lw_m7 155 rfl) rfl
theorem q1723 : (Jvm.Cond.static ({ cls := "FlyingDoctorsLaw", name := "priority", desc := "(LFlyingDoctors;I[J)I" } : Jvm.MethodName)) ∈ lw_all := lw_g (lw_at lw_m7 156 rfl) rfl
theorem q1724 : (Jvm.Cond.codeWith ({ cls := "FlyingDoctorsLaw", name := "priority", desc := "(LFlyingDoctors;I[J)I" } : Jvm.MethodName) method_14_code (4 : Nat) (Option.some Jvm.ClassFile.FieldType.int) [((0 : Nat), (9 : Nat), (12 : Nat), (13 : Nat)), ((0 : Nat), (9 : Nat), (15 : Nat), (54 : Nat))]) ∈ lw_all := lw_g (lw_at lw_m7 157 rfl) rfl
theorem q1725 : (Jvm.Cond.classLink "FlyingDoctorsLaw" (54 : Nat) "java/lang/IllegalStateException") ∈ lw_all := lw_g (lw_at lw_m7 158 rfl) rfl
theorem q1726 : (Jvm.Cond.methodLink "FlyingDoctorsLaw" (51 : Nat) ({ cls := "FlyingDoctors", name := "priority", desc := "(I)I" } : Jvm.MethodName)) ∈ lw_all := lw_g (lw_at lw_m7 159 rfl) rfl
theorem q1727 : (Jvm.Cond.instanceMethod ({ cls := "FlyingDoctors", name := "priority", desc := "(I)I" } : Jvm.MethodName)) ∈ lw_all := lw_g (lw_at lw_m7 160 rfl) rfl
theorem q1728 : (Jvm.Cond.selects "FlyingDoctors" ({ cls := "FlyingDoctors", name := "priority", desc := "(I)I" } : Jvm.MethodName) ({ cls := "FlyingDoctors", name := "priority", desc := "(I)I" } : Jvm.MethodName)) ∈ lw_all := lw_g (lw_at lw_m7 161 rfl) rfl
theorem q1729 : (Jvm.Cond.code ({ cls := "FlyingDoctors", name := "priority", desc := "(I)I" } : Jvm.MethodName) prog_1_method_40_code (3 : Nat) (Option.some Jvm.ClassFile.FieldType.int)) ∈ lw_all := lw_g (lw_at lw_m7 162 rfl) rfl
theorem q1730 : (Jvm.Cond.methodLink "FlyingDoctors" (402 : Nat) ({ cls := "FlyingDoctors$Call", name := "isHeard", desc := "()Z" } : Jvm.MethodName)) ∈ lw_all := lw_g (lw_at lw_m7 163 rfl) rfl
theorem q1731 : (Jvm.Cond.instanceMethod ({ cls := "FlyingDoctors$Call", name := "isHeard", desc := "()Z" } : Jvm.MethodName)) ∈ lw_all := lw_g (lw_at lw_m7 164 rfl) rfl
theorem q1732 : (Jvm.Cond.selects "FlyingDoctors$Call" ({ cls := "FlyingDoctors$Call", name := "isHeard", desc := "()Z" } : Jvm.MethodName) ({ cls := "FlyingDoctors$Call", name := "isHeard", desc := "()Z" } : Jvm.MethodName)) ∈ lw_all := lw_g (lw_at lw_m7 165 rfl) rfl
theorem q1733 : (Jvm.Cond.code ({ cls := "FlyingDoctors$Call", name := "isHeard", desc := "()Z" } : Jvm.MethodName) prog_3_method_2_code (1 : Nat) (Option.some Jvm.ClassFile.FieldType.boolean)) ∈ lw_all := lw_g (lw_at lw_m7 166 rfl) rfl
theorem q1734 : (Jvm.Cond.classLink "FlyingDoctors" (406 : Nat) "java/lang/IllegalStateException") ∈ lw_all := lw_g (lw_at lw_m7 167 rfl) rfl
theorem q1735 : (Jvm.Cond.instantiable "java/lang/IllegalStateException" (6 : Nat)) ∈ lw_all := lw_g (lw_at lw_m7 168 rfl) rfl
theorem q1736 : (Jvm.Cond.castable "java/lang/IllegalStateException" "java/lang/IllegalStateException") ∈ lw_tbl := lw_at lw_m7 169 rfl
theorem q1737 : (Jvm.Cond.selects "java/lang/IllegalStateException" ({ cls := "java/lang/Throwable", name := "fillInStackTrace", desc := "(I)Ljava/lang/Throwable;" } : Jvm.MethodName) ({ cls := "java/lang/Throwable", name := "fillInStackTrace", desc := "(I)Ljava/lang/Throwable;" } : Jvm.MethodName)) ∈ lw_all := lw_g (lw_at lw_m7 170 rfl) rfl
theorem q1738 : (Jvm.Cond.lays "java/lang/IllegalStateException" "java/lang/Throwable" "cause" "Ljava/lang/Throwable;") ∈ lw_all := lw_g (lw_at lw_m7 171 rfl) rfl
theorem q1739 : (Jvm.Cond.lays "java/lang/IllegalStateException" "java/lang/Throwable" "stackTrace" "[Ljava/lang/StackTraceElement;") ∈ lw_all := lw_g (lw_at lw_m7 172 rfl) rfl
theorem q1740 : (Jvm.Cond.lays "java/lang/IllegalStateException" "java/lang/Throwable" "suppressedExceptions" "Ljava/util/List;") ∈ lw_all := lw_g (lw_at lw_m7 173 rfl) rfl
theorem q1741 : (Jvm.Cond.lays "java/lang/IllegalStateException" "java/lang/Throwable" "detailMessage" "Ljava/lang/String;") ∈ lw_all := lw_g (lw_at lw_m7 174 rfl) rfl
theorem q1742 : (Jvm.Cond.lays "java/lang/IllegalStateException" "java/lang/Throwable" "backtrace" "Ljava/lang/Object;") ∈ lw_all := lw_g (lw_at lw_m7 175 rfl) rfl
theorem q1743 : (Jvm.Cond.methodLink "FlyingDoctors" (408 : Nat) ({ cls := "java/lang/IllegalStateException", name := "<init>", desc := "()V" } : Jvm.MethodName)) ∈ lw_all := lw_g (lw_at lw_m7 176 rfl) rfl
theorem q1744 : (Jvm.Cond.instanceMethod ({ cls := "java/lang/IllegalStateException", name := "<init>", desc := "()V" } : Jvm.MethodName)) ∈ lw_all := lw_g (lw_at lw_m7 177 rfl) rfl
theorem q1745 : (Jvm.Cond.code ({ cls := "java/lang/IllegalStateException", name := "<init>", desc := "()V" } : Jvm.MethodName) prog_34_method_1_code (1 : Nat) (Option.none : Option Jvm.ClassFile.FieldType)) ∈ lw_all := lw_g (lw_at lw_m7 178 rfl) rfl
theorem q1746 : (Jvm.Cond.methodLink "java/lang/IllegalStateException" (1 : Nat) ({ cls := "java/lang/RuntimeException", name := "<init>", desc := "()V" } : Jvm.MethodName)) ∈ lw_all := lw_g (lw_at lw_m7 179 rfl) rfl
theorem q1749 : (Jvm.Cond.methodLink "FlyingDoctors" (409 : Nat) ({ cls := "FlyingDoctors$Call", name := "priority", desc := "()I" } : Jvm.MethodName)) ∈ lw_all := lw_g (lw_at lw_m7 182 rfl) rfl
theorem q1750 : (Jvm.Cond.instanceMethod ({ cls := "FlyingDoctors$Call", name := "priority", desc := "()I" } : Jvm.MethodName)) ∈ lw_all := lw_g (lw_at lw_m7 183 rfl) rfl
theorem q1751 : (Jvm.Cond.selects "FlyingDoctors$Call" ({ cls := "FlyingDoctors$Call", name := "priority", desc := "()I" } : Jvm.MethodName) ({ cls := "FlyingDoctors$Call", name := "priority", desc := "()I" } : Jvm.MethodName)) ∈ lw_all := lw_g (lw_at lw_m7 184 rfl) rfl
theorem q1752 : (Jvm.Cond.code ({ cls := "FlyingDoctors$Call", name := "priority", desc := "()I" } : Jvm.MethodName) prog_3_method_5_code (3 : Nat) (Option.some Jvm.ClassFile.FieldType.int)) ∈ lw_all := lw_g (lw_at lw_m7 185 rfl) rfl
theorem q1753 : (Jvm.Cond.methodLinkNest "FlyingDoctors$Call" (62 : Nat) ({ cls := "FlyingDoctors", name := "rulesAt", desc := "(I)LFlyingDoctors$Rules;" } : Jvm.MethodName) "FlyingDoctors") ∈ lw_tbl := lw_at lw_m7 186 rfl
theorem q1754 : (Jvm.Cond.methodLinkNest "FlyingDoctors$Call" (72 : Nat) ({ cls := "FlyingDoctors", name := "asking", desc := "(LFlyingDoctors$Rules;)LFlyingDoctors$Asked;" } : Jvm.MethodName) "FlyingDoctors") ∈ lw_tbl := lw_at lw_m7 187 rfl
theorem q1755 : (Jvm.Cond.methodLinkNest "FlyingDoctors$Call" (83 : Nat) ({ cls := "FlyingDoctors", name := "wetOf", desc := "(LFlyingDoctors$Place;II)I" } : Jvm.MethodName) "FlyingDoctors") ∈ lw_tbl := lw_at lw_m7 188 rfl
theorem q1756 : (Jvm.Cond.methodLinkNest "FlyingDoctors$Call" (96 : Nat) ({ cls := "FlyingDoctors", name := "isNight", desc := "(I)Z" } : Jvm.MethodName) "FlyingDoctors") ∈ lw_tbl := lw_at lw_m7 189 rfl
theorem q1757 : (Jvm.Cond.methodLinkNest "FlyingDoctors$Call" (100 : Nat) ({ cls := "FlyingDoctors", name := "nearestBase", desc := "(LFlyingDoctors$Place;)LFlyingDoctors$Place;" } : Jvm.MethodName) "FlyingDoctors") ∈ lw_tbl := lw_at lw_m7 190 rfl
theorem q1759 : (Jvm.Cond.instanceMethod ({ cls := "FlyingDoctors", name := "nearestBase", desc := "(LFlyingDoctors$Place;)LFlyingDoctors$Place;" } : Jvm.MethodName)) ∈ lw_all := lw_g (lw_at lw_m7 192 rfl) rfl
theorem q1760 : (Jvm.Cond.code ({ cls := "FlyingDoctors", name := "nearestBase", desc := "(LFlyingDoctors$Place;)LFlyingDoctors$Place;" } : Jvm.MethodName) prog_1_method_5_code (5 : Nat) (Option.some (Jvm.ClassFile.FieldType.object "FlyingDoctors$Place"))) ∈ lw_all := lw_g (lw_at lw_m7 193 rfl) rfl
theorem q1761 : (Jvm.Cond.methodLink "FlyingDoctors$Call" (104 : Nat) ({ cls := "FlyingDoctors$Place", name := "miles", desc := "(LFlyingDoctors$Place;)I" } : Jvm.MethodName)) ∈ lw_all := lw_g (lw_at lw_m7 194 rfl) rfl
theorem q1762 : (Jvm.Cond.methodLink "FlyingDoctors$Call" (108 : Nat) ({ cls := "FlyingDoctors$Ex", name := "value", desc := "(LFlyingDoctors$Asked;)I" } : Jvm.MethodName)) ∈ lw_all := lw_g (lw_at lw_m7 195 rfl) rfl
theorem q1763 : (Jvm.Cond.methodLink "FlyingDoctorsLaw" (181 : Nat) ({ cls := "FlyingDoctorsLaw", name := "order", desc := "(LFlyingDoctors;I[J)I" } : Jvm.MethodName)) ∈ lw_all := lw_g (lw_at lw_m7 196 rfl) rfl
theorem q1764 : (Jvm.Cond.static ({ cls := "FlyingDoctorsLaw", name := "order", desc := "(LFlyingDoctors;I[J)I" } : Jvm.MethodName)) ∈ lw_all := lw_g (lw_at lw_m7 197 rfl) rfl
theorem q1765 : (Jvm.Cond.codeWith ({ cls := "FlyingDoctorsLaw", name := "order", desc := "(LFlyingDoctors;I[J)I" } : Jvm.MethodName) method_15_code (4 : Nat) (Option.some Jvm.ClassFile.FieldType.int) [((0 : Nat), (9 : Nat), (12 : Nat), (13 : Nat))]) ∈ lw_all := lw_g (lw_at lw_m7 198 rfl) rfl
theorem q1766 : (Jvm.Cond.methodLink "FlyingDoctorsLaw" (56 : Nat) ({ cls := "FlyingDoctors", name := "order", desc := "(I)I" } : Jvm.MethodName)) ∈ lw_all := lw_g (lw_at lw_m7 199 rfl) rfl
theorem q1767 : (Jvm.Cond.instanceMethod ({ cls := "FlyingDoctors", name := "order", desc := "(I)I" } : Jvm.MethodName)) ∈ lw_all := lw_g (lw_at lw_m7 200 rfl) rfl
theorem q1768 : (Jvm.Cond.selects "FlyingDoctors" ({ cls := "FlyingDoctors", name := "order", desc := "(I)I" } : Jvm.MethodName) ({ cls := "FlyingDoctors", name := "order", desc := "(I)I" } : Jvm.MethodName)) ∈ lw_all := lw_g (lw_at lw_m7 201 rfl) rfl
theorem q1769 : (Jvm.Cond.code ({ cls := "FlyingDoctors", name := "order", desc := "(I)I" } : Jvm.MethodName) prog_1_method_41_code (5 : Nat) (Option.some Jvm.ClassFile.FieldType.int)) ∈ lw_all := lw_g (lw_at lw_m7 202 rfl) rfl
theorem q1770 : (Jvm.Cond.methodLink "FlyingDoctors" (412 : Nat) ({ cls := "FlyingDoctors$Call", name := "isOpen", desc := "()Z" } : Jvm.MethodName)) ∈ lw_all := lw_g (lw_at lw_m7 203 rfl) rfl
theorem q1771 : (Jvm.Cond.instanceMethod ({ cls := "FlyingDoctors$Call", name := "isOpen", desc := "()Z" } : Jvm.MethodName)) ∈ lw_all := lw_g (lw_at lw_m7 204 rfl) rfl
theorem q1772 : (Jvm.Cond.selects "FlyingDoctors$Call" ({ cls := "FlyingDoctors$Call", name := "isOpen", desc := "()Z" } : Jvm.MethodName) ({ cls := "FlyingDoctors$Call", name := "isOpen", desc := "()Z" } : Jvm.MethodName)) ∈ lw_all := lw_g (lw_at lw_m7 205 rfl) rfl
theorem q1773 : (Jvm.Cond.code ({ cls := "FlyingDoctors$Call", name := "isOpen", desc := "()Z" } : Jvm.MethodName) prog_3_method_4_code (2 : Nat) (Option.some Jvm.ClassFile.FieldType.boolean)) ∈ lw_all := lw_g (lw_at lw_m7 206 rfl) rfl
theorem q1774 : (Jvm.Cond.methodLink "FlyingDoctors$Call" (59 : Nat) ({ cls := "FlyingDoctors$Call", name := "served", desc := "()I" } : Jvm.MethodName)) ∈ lw_all := lw_g (lw_at lw_m7 207 rfl) rfl
theorem q1775 : (Jvm.Cond.methodLink "FlyingDoctors" (418 : Nat) ({ cls := "FlyingDoctors", name := "ahead", desc := "(LFlyingDoctors$Call;I)I" } : Jvm.MethodName)) ∈ lw_all := lw_g (lw_at lw_m7 208 rfl) rfl
theorem q1777 : (Jvm.Cond.instanceMethod ({ cls := "FlyingDoctors", name := "ahead", desc := "(LFlyingDoctors$Call;I)I" } : Jvm.MethodName)) ∈ lw_all := lw_g (lw_at lw_m7 210 rfl) rfl
theorem q1778 : (Jvm.Cond.code ({ cls := "FlyingDoctors", name := "ahead", desc := "(LFlyingDoctors$Call;I)I" } : Jvm.MethodName) prog_1_method_42_code (5 : Nat) (Option.some Jvm.ClassFile.FieldType.int)) ∈ lw_all := lw_g (lw_at lw_m7 211 rfl) rfl
theorem q1779 : (Jvm.Cond.methodLink "FlyingDoctors" (422 : Nat) ({ cls := "FlyingDoctors$Call", name := "isAhead", desc := "(LFlyingDoctors$Call;)Z" } : Jvm.MethodName)) ∈ lw_all := lw_g (lw_at lw_m7 212 rfl) rfl
theorem q1780 : (Jvm.Cond.instanceMethod ({ cls := "FlyingDoctors$Call", name := "isAhead", desc := "(LFlyingDoctors$Call;)Z" } : Jvm.MethodName)) ∈ lw_all := lw_g (lw_at lw_m7 213 rfl) rfl
theorem q1781 : (Jvm.Cond.selects "FlyingDoctors$Call" ({ cls := "FlyingDoctors$Call", name := "isAhead", desc := "(LFlyingDoctors$Call;)Z" } : Jvm.MethodName) ({ cls := "FlyingDoctors$Call", name := "isAhead", desc := "(LFlyingDoctors$Call;)Z" } : Jvm.MethodName)) ∈ lw_all := lw_g (lw_at lw_m7 214 rfl) rfl
theorem q1782 : (Jvm.Cond.code ({ cls := "FlyingDoctors$Call", name := "isAhead", desc := "(LFlyingDoctors$Call;)Z" } : Jvm.MethodName) prog_3_method_6_code (2 : Nat) (Option.some Jvm.ClassFile.FieldType.boolean)) ∈ lw_all := lw_g (lw_at lw_m7 215 rfl) rfl
theorem q1783 : (Jvm.Cond.methodLink "FlyingDoctorsLaw" (184 : Nat) ({ cls := "FlyingDoctorsLaw", name := "find", desc := "(LFlyingDoctors;IZ[J)I" } : Jvm.MethodName)) ∈ lw_all := lw_g (lw_at lw_m7 216 rfl) rfl
theorem q1784 : (Jvm.Cond.static ({ cls := "FlyingDoctorsLaw", name := "find", desc := "(LFlyingDoctors;IZ[J)I" } : Jvm.MethodName)) ∈ lw_all := lw_g (lw_at lw_m7 217 rfl) rfl
theorem q1785 : (Jvm.Cond.codeWith ({ cls := "FlyingDoctorsLaw", name := "find", desc := "(LFlyingDoctors;IZ[J)I" } : Jvm.MethodName) method_16_code (5 : Nat) (Option.some Jvm.ClassFile.FieldType.int) [((0 : Nat), (17 : Nat), (20 : Nat), (13 : Nat))]) ∈ lw_all := lw_g (lw_at lw_m7 218 rfl) rfl
theorem q1786 : (Jvm.Cond.methodLink "FlyingDoctorsLaw" (59 : Nat) ({ cls := "FlyingDoctors", name := "find", desc := "(IZ)Z" } : Jvm.MethodName)) ∈ lw_all := lw_g (lw_at lw_m7 219 rfl) rfl
theorem q1787 : (Jvm.Cond.instanceMethod ({ cls := "FlyingDoctors", name := "find", desc := "(IZ)Z" } : Jvm.MethodName)) ∈ lw_all := lw_g (lw_at lw_m7 220 rfl) rfl
theorem q1788 : (Jvm.Cond.selects "FlyingDoctors" ({ cls := "FlyingDoctors", name := "find", desc := "(IZ)Z" } : Jvm.MethodName) ({ cls := "FlyingDoctors", name := "find", desc := "(IZ)Z" } : Jvm.MethodName)) ∈ lw_all := lw_g (lw_at lw_m7 221 rfl) rfl
theorem q1789 : (Jvm.Cond.code ({ cls := "FlyingDoctors", name := "find", desc := "(IZ)Z" } : Jvm.MethodName) prog_1_method_43_code (4 : Nat) (Option.some Jvm.ClassFile.FieldType.boolean)) ∈ lw_all := lw_g (lw_at lw_m7 222 rfl) rfl
theorem q1790 : (Jvm.Cond.methodLink "FlyingDoctorsLaw" (188 : Nat) ({ cls := "FlyingDoctorsLaw", name := "misleads", desc := "(LFlyingDoctors;II[J)I" } : Jvm.MethodName)) ∈ lw_all := lw_g (lw_at lw_m7 223 rfl) rfl
theorem q1791 : (Jvm.Cond.static ({ cls := "FlyingDoctorsLaw", name := "misleads", desc := "(LFlyingDoctors;II[J)I" } : Jvm.MethodName)) ∈ lw_all := lw_g (lw_at lw_m7 224 rfl) rfl
theorem q1792 : (Jvm.Cond.codeWith ({ cls := "FlyingDoctorsLaw", name := "misleads", desc := "(LFlyingDoctors;II[J)I" } : Jvm.MethodName) method_17_code (5 : Nat) (Option.some Jvm.ClassFile.FieldType.int) [((0 : Nat), (10 : Nat), (13 : Nat), (13 : Nat)), ((0 : Nat), (10 : Nat), (17 : Nat), (15 : Nat))]) ∈ lw_all := lw_g (lw_at lw_m7 225 rfl) rfl
theorem q1793 : (Jvm.Cond.methodLink "FlyingDoctorsLaw" (63 : Nat) ({ cls := "FlyingDoctors", name := "misleads", desc := "(II)I" } : Jvm.MethodName)) ∈ lw_all := lw_g (lw_at lw_m7 226 rfl) rfl
theorem q1794 : (Jvm.Cond.instanceMethod ({ cls := "FlyingDoctors", name := "misleads", desc := "(II)I" } : Jvm.MethodName)) ∈ lw_all := lw_g (lw_at lw_m7 227 rfl) rfl
theorem q1795 : (Jvm.Cond.selects "FlyingDoctors" ({ cls := "FlyingDoctors", name := "misleads", desc := "(II)I" } : Jvm.MethodName) ({ cls := "FlyingDoctors", name := "misleads", desc := "(II)I" } : Jvm.MethodName)) ∈ lw_all := lw_g (lw_at lw_m7 228 rfl) rfl
theorem q1796 : (Jvm.Cond.code ({ cls := "FlyingDoctors", name := "misleads", desc := "(II)I" } : Jvm.MethodName) prog_1_method_45_code (15 : Nat) (Option.some Jvm.ClassFile.FieldType.int)) ∈ lw_all := lw_g (lw_at lw_m7 229 rfl) rfl
theorem q1797 : (Jvm.Cond.methodLink "FlyingDoctors" (429 : Nat) ({ cls := "FlyingDoctors", name := "ways", desc := "(II)J" } : Jvm.MethodName)) ∈ lw_all := lw_g (lw_at lw_m7 230 rfl) rfl
theorem q1798 : (Jvm.Cond.static ({ cls := "FlyingDoctors", name := "ways", desc := "(II)J" } : Jvm.MethodName)) ∈ lw_all := lw_g (lw_at lw_m7 231 rfl) rfl
theorem q1799 : (Jvm.Cond.code ({ cls := "FlyingDoctors", name := "ways", desc := "(II)J" } : Jvm.MethodName) prog_1_method_44_code (5 : Nat) (Option.some Jvm.ClassFile.FieldType.long)) ∈ lw_all := lw_g (lw_at lw_m7 232 rfl) rfl
theorem q1800 : (Jvm.Cond.constantLong "FlyingDoctors" (433 : Nat) (10 : Int64)) ∈ lw_all := lw_g (lw_at lw_m7 233 rfl) rfl
theorem q1801 : (Jvm.Cond.methodLink "FlyingDoctorsLaw" (191 : Nat) ({ cls := "FlyingDoctorsLaw", name := "flight", desc := "(LFlyingDoctors;IIIIIIII[J)I" } : Jvm.MethodName)) ∈ lw_all := lw_g (lw_at lw_m7 234 rfl) rfl
theorem q1802 : (Jvm.Cond.static ({ cls := "FlyingDoctorsLaw", name := "flight", desc := "(LFlyingDoctors;IIIIIIII[J)I" } : Jvm.MethodName)) ∈ lw_all := lw_g (lw_at lw_m7 235 rfl) rfl
theorem q1803 : (Jvm.Cond.codeWith ({ cls := "FlyingDoctorsLaw", name := "flight", desc := "(LFlyingDoctors;IIIIIIII[J)I" } : Jvm.MethodName) method_18_code (11 : Nat) (Option.some Jvm.ClassFile.FieldType.int) [((0 : Nat), (22 : Nat), (25 : Nat), (13 : Nat))]) ∈ lw_all := lw_g (lw_at lw_m7 236 rfl) rfl
theorem q1804 : (Jvm.Cond.methodLink "FlyingDoctorsLaw" (66 : Nat) ({ cls := "FlyingDoctors", name := "flight", desc := "(IIIIIIII)I" } : Jvm.MethodName)) ∈ lw_all := lw_g (lw_at lw_m7 237 rfl) rfl
theorem q1805 : (Jvm.Cond.instanceMethod ({ cls := "FlyingDoctors", name := "flight", desc := "(IIIIIIII)I" } : Jvm.MethodName)) ∈ lw_all := lw_g (lw_at lw_m7 238 rfl) rfl
theorem q1806 : (Jvm.Cond.selects "FlyingDoctors" ({ cls := "FlyingDoctors", name := "flight", desc := "(IIIIIIII)I" } : Jvm.MethodName) ({ cls := "FlyingDoctors", name := "flight", desc := "(IIIIIIII)I" } : Jvm.MethodName)) ∈ lw_all := lw_g (lw_at lw_m7 239 rfl) rfl
theorem q1807 : (Jvm.Cond.code ({ cls := "FlyingDoctors", name := "flight", desc := "(IIIIIIII)I" } : Jvm.MethodName) prog_1_method_48_code (15 : Nat) (Option.some Jvm.ClassFile.FieldType.int)) ∈ lw_all := lw_g (lw_at lw_m8 0 rfl) rfl
theorem q1808 : (Jvm.Cond.methodLink "FlyingDoctors" (439 : Nat) ({ cls := "FlyingDoctors", name := "personAt", desc := "(I)LFlyingDoctors$Person;" } : Jvm.MethodName)) ∈ lw_all := lw_g (lw_at lw_m8 1 rfl) rfl
theorem q1810 : (Jvm.Cond.instanceMethod ({ cls := "FlyingDoctors", name := "personAt", desc := "(I)LFlyingDoctors$Person;" } : Jvm.MethodName)) ∈ lw_all := lw_g (lw_at lw_m8 3 rfl) rfl
theorem q1811 : (Jvm.Cond.code ({ cls := "FlyingDoctors", name := "personAt", desc := "(I)LFlyingDoctors$Person;" } : Jvm.MethodName) prog_1_method_22_code (2 : Nat) (Option.some (Jvm.ClassFile.FieldType.object "FlyingDoctors$Person"))) ∈ lw_all := lw_g (lw_at lw_m8 4 rfl) rfl
theorem q1812 : (Jvm.Cond.methodLink "FlyingDoctors" (443 : Nat) ({ cls := "FlyingDoctors", name := "isTold", desc := "(LFlyingDoctors$Plane;LFlyingDoctors$Person;IIIIII)Z" } : Jvm.MethodName)) ∈ lw_all := lw_g (lw_at lw_m8 5 rfl) rfl
theorem q1814 : (Jvm.Cond.instanceMethod ({ cls := "FlyingDoctors", name := "isTold", desc := "(LFlyingDoctors$Plane;LFlyingDoctors$Person;IIIIII)Z" } : Jvm.MethodName)) ∈ lw_all := lw_g (lw_at lw_m8 7 rfl) rfl
theorem q1815 : (Jvm.Cond.code ({ cls := "FlyingDoctors", name := "isTold", desc := "(LFlyingDoctors$Plane;LFlyingDoctors$Person;IIIIII)Z" } : Jvm.MethodName) prog_1_method_46_code (12 : Nat) (Option.some Jvm.ClassFile.FieldType.boolean)) ∈ lw_all := lw_g (lw_at lw_m8 8 rfl) rfl
theorem q1816 : (Jvm.Cond.methodLink "FlyingDoctors" (435 : Nat) ({ cls := "FlyingDoctors", name := "isOne", desc := "(II)Z" } : Jvm.MethodName)) ∈ lw_all := lw_g (lw_at lw_m8 9 rfl) rfl
theorem q1818 : (Jvm.Cond.instanceMethod ({ cls := "FlyingDoctors", name := "isOne", desc := "(II)Z" } : Jvm.MethodName)) ∈ lw_all := lw_g (lw_at lw_m8 11 rfl) rfl
theorem q1819 : (Jvm.Cond.code ({ cls := "FlyingDoctors", name := "isOne", desc := "(II)Z" } : Jvm.MethodName) prog_1_method_47_code (3 : Nat) (Option.some Jvm.ClassFile.FieldType.boolean)) ∈ lw_all := lw_g (lw_at lw_m8 12 rfl) rfl
theorem q1820 : (Jvm.Cond.classLink "FlyingDoctors" (141 : Nat) "FlyingDoctors$Flight") ∈ lw_all := lw_g (lw_at lw_m8 13 rfl) rfl
theorem q1821 : (Jvm.Cond.instantiable "FlyingDoctors$Flight" (13 : Nat)) ∈ lw_all := lw_g (lw_at lw_m8 14 rfl) rfl
theorem q1822 : (Jvm.Cond.methodLink "FlyingDoctors" (447 : Nat) ({ cls := "FlyingDoctors$Flight", name := "<init>", desc := "(LFlyingDoctors;LFlyingDoctors$Plane;LFlyingDoctors$Person;I)V" } : Jvm.MethodName)) ∈ lw_all := lw_g (lw_at lw_m8 15 rfl) rfl
theorem q1823 : (Jvm.Cond.instanceMethod ({ cls := "FlyingDoctors$Flight", name := "<init>", desc := "(LFlyingDoctors;LFlyingDoctors$Plane;LFlyingDoctors$Person;I)V" } : Jvm.MethodName)) ∈ lw_all := lw_g (lw_at lw_m8 16 rfl) rfl
theorem q1824 : (Jvm.Cond.code ({ cls := "FlyingDoctors$Flight", name := "<init>", desc := "(LFlyingDoctors;LFlyingDoctors$Plane;LFlyingDoctors$Person;I)V" } : Jvm.MethodName) prog_8_method_1_code (5 : Nat) (Option.none : Option Jvm.ClassFile.FieldType)) ∈ lw_all := lw_g (lw_at lw_m8 17 rfl) rfl
theorem q1825 : (Jvm.Cond.methodLink "FlyingDoctors$Flight" (9 : Nat) ({ cls := "java/lang/Object", name := "<init>", desc := "()V" } : Jvm.MethodName)) ∈ lw_all := lw_g (lw_at lw_m8 18 rfl) rfl
theorem q1826 : (Jvm.Cond.classLink "FlyingDoctors$Flight" (15 : Nat) "FlyingDoctors$Place") ∈ lw_all := lw_g (lw_at lw_m8 19 rfl) rfl
theorem q1827 : (Jvm.Cond.fieldLink "FlyingDoctors$Flight" (43 : Nat) "FlyingDoctors$Flight" "plane" "LFlyingDoctors$Plane;") ∈ lw_all := lw_g (lw_at lw_m8 20 rfl) rfl
theorem q1828 : (Jvm.Cond.fieldLinkNest "FlyingDoctors" (140 : Nat) "FlyingDoctors$Flight" "plane" "LFlyingDoctors$Plane;" "FlyingDoctors") ∈ lw_tbl := lw_at lw_m8 21 rfl
theorem q1829 : (Jvm.Cond.fieldLink "FlyingDoctors$Flight" (47 : Nat) "FlyingDoctors$Flight" "pilot" "LFlyingDoctors$Person;") ∈ lw_all := lw_g (lw_at lw_m8 22 rfl) rfl
theorem q1830 : (Jvm.Cond.fieldLinkNest "FlyingDoctors" (149 : Nat) "FlyingDoctors$Flight" "pilot" "LFlyingDoctors$Person;" "FlyingDoctors") ∈ lw_tbl := lw_at lw_m8 23 rfl
theorem q1831 : (Jvm.Cond.fieldLink "FlyingDoctors$Flight" (51 : Nat) "FlyingDoctors$Flight" "legs" "I") ∈ lw_all := lw_g (lw_at lw_m8 24 rfl) rfl
theorem q1832 : (Jvm.Cond.fieldLinkNest "FlyingDoctors" (182 : Nat) "FlyingDoctors$Flight" "legs" "I" "FlyingDoctors") ∈ lw_tbl := lw_at lw_m8 25 rfl
theorem q1833 : (Jvm.Cond.fieldLink "FlyingDoctors$Flight" (17 : Nat) "FlyingDoctors$Flight" "to" "[LFlyingDoctors$Place;") ∈ lw_all := lw_g (lw_at lw_m8 26 rfl) rfl
theorem q1834 : (Jvm.Cond.fieldLinkNest "FlyingDoctors" (189 : Nat) "FlyingDoctors$Flight" "to" "[LFlyingDoctors$Place;" "FlyingDoctors") ∈ lw_tbl := lw_at lw_m8 27 rfl
theorem q1835 : (Jvm.Cond.fieldLink "FlyingDoctors$Flight" (21 : Nat) "FlyingDoctors$Flight" "leaves" "[I") ∈ lw_all := lw_g (lw_at lw_m8 28 rfl) rfl
theorem q1836 : (Jvm.Cond.fieldLinkNest "FlyingDoctors" (468 : Nat) "FlyingDoctors$Flight" "leaves" "[I" "FlyingDoctors") ∈ lw_tbl := lw_at lw_m8 29 rfl
theorem q1837 : (Jvm.Cond.fieldLink "FlyingDoctors$Flight" (25 : Nat) "FlyingDoctors$Flight" "comes" "[I") ∈ lw_all := lw_g (lw_at lw_m8 30 rfl) rfl
theorem q1838 : (Jvm.Cond.fieldLinkNest "FlyingDoctors" (228 : Nat) "FlyingDoctors$Flight" "comes" "[I" "FlyingDoctors") ∈ lw_tbl := lw_at lw_m8 31 rfl
theorem q1839 : (Jvm.Cond.fieldLink "FlyingDoctors$Flight" (28 : Nat) "FlyingDoctors$Flight" "fuel" "[I") ∈ lw_all := lw_g (lw_at lw_m8 32 rfl) rfl
theorem q1840 : (Jvm.Cond.fieldLinkNest "FlyingDoctors" (196 : Nat) "FlyingDoctors$Flight" "fuel" "[I" "FlyingDoctors") ∈ lw_tbl := lw_at lw_m8 33 rfl
theorem q1841 : (Jvm.Cond.fieldLink "FlyingDoctors$Flight" (31 : Nat) "FlyingDoctors$Flight" "taken" "[I") ∈ lw_all := lw_g (lw_at lw_m8 34 rfl) rfl
theorem q1842 : (Jvm.Cond.fieldLinkNest "FlyingDoctors" (205 : Nat) "FlyingDoctors$Flight" "taken" "[I" "FlyingDoctors") ∈ lw_tbl := lw_at lw_m8 35 rfl
theorem q1843 : (Jvm.Cond.fieldLink "FlyingDoctors$Flight" (34 : Nat) "FlyingDoctors$Flight" "flown" "[I") ∈ lw_all := lw_g (lw_at lw_m8 36 rfl) rfl
theorem q1844 : (Jvm.Cond.fieldLinkNest "FlyingDoctors" (225 : Nat) "FlyingDoctors$Flight" "flown" "[I" "FlyingDoctors") ∈ lw_tbl := lw_at lw_m8 37 rfl
theorem q1845 : (Jvm.Cond.fieldLink "FlyingDoctors$Flight" (37 : Nat) "FlyingDoctors$Flight" "aboard" "[I") ∈ lw_all := lw_g (lw_at lw_m8 38 rfl) rfl
theorem q1846 : (Jvm.Cond.fieldLinkNest "FlyingDoctors" (208 : Nat) "FlyingDoctors$Flight" "aboard" "[I" "FlyingDoctors") ∈ lw_tbl := lw_at lw_m8 39 rfl
theorem q1847 : (Jvm.Cond.fieldLink "FlyingDoctors$Flight" (40 : Nat) "FlyingDoctors$Flight" "after" "[I") ∈ lw_all := lw_g (lw_at lw_m8 40 rfl) rfl
theorem q1848 : (Jvm.Cond.fieldLinkNest "FlyingDoctors" (246 : Nat) "FlyingDoctors$Flight" "after" "[I" "FlyingDoctors") ∈ lw_tbl := lw_at lw_m8 41 rfl
theorem q1849 : (Jvm.Cond.fieldLink "FlyingDoctors$Flight" (55 : Nat) "FlyingDoctors$Flight" "from" "LFlyingDoctors$Place;") ∈ lw_all := lw_g (lw_at lw_m8 42 rfl) rfl
theorem q1850 : (Jvm.Cond.fieldLinkNest "FlyingDoctors" (259 : Nat) "FlyingDoctors$Flight" "from" "LFlyingDoctors$Place;" "FlyingDoctors") ∈ lw_tbl := lw_at lw_m8 43 rfl
theorem q1851 : (Jvm.Cond.fieldLink "FlyingDoctors$Flight" (3 : Nat) "FlyingDoctors$Flight" "this$0" "LFlyingDoctors;") ∈ lw_all := lw_g (lw_at lw_m8 44 rfl) rfl
theorem q1879 : (Jvm.Cond.methodLink "FlyingDoctors" (450 : Nat) ({ cls := "FlyingDoctors", name := "ahead", desc := "(LFlyingDoctors$Flight;II)I" } : Jvm.MethodName)) ∈ lw_all := lw_g (lw_at lw_m8 72 rfl) rfl
theorem q1881 : (Jvm.Cond.instanceMethod ({ cls := "FlyingDoctors", name := "ahead", desc := "(LFlyingDoctors$Flight;II)I" } : Jvm.MethodName)) ∈ lw_all := lw_g (lw_at lw_m8 74 rfl) rfl
theorem q1882 : (Jvm.Cond.code ({ cls := "FlyingDoctors", name := "ahead", desc := "(LFlyingDoctors$Flight;II)I" } : Jvm.MethodName) prog_1_method_12_code (6 : Nat) (Option.some Jvm.ClassFile.FieldType.int)) ∈ lw_all := lw_g (lw_at lw_m8 75 rfl) rfl
theorem q1883 : (Jvm.Cond.methodLink "FlyingDoctors" (452 : Nat) ({ cls := "FlyingDoctors", name := "begin", desc := "(LFlyingDoctors$Flight;I)V" } : Jvm.MethodName)) ∈ lw_all := lw_g (lw_at lw_m8 76 rfl) rfl
theorem q1885 : (Jvm.Cond.instanceMethod ({ cls := "FlyingDoctors", name := "begin", desc := "(LFlyingDoctors$Flight;I)V" } : Jvm.MethodName)) ∈ lw_all := lw_g (lw_at lw_m8 78 rfl) rfl
theorem q1886 : (Jvm.Cond.code ({ cls := "FlyingDoctors", name := "begin", desc := "(LFlyingDoctors$Flight;I)V" } : Jvm.MethodName) prog_1_method_17_code (4 : Nat) (Option.none : Option Jvm.ClassFile.FieldType)) ∈ lw_all := lw_g (lw_at lw_m8 79 rfl) rfl
theorem q1887 : (Jvm.Cond.methodLink "FlyingDoctors" (456 : Nat) ({ cls := "FlyingDoctors", name := "tried", desc := "(LFlyingDoctors$Flight;IIII)I" } : Jvm.MethodName)) ∈ lw_all := lw_g (lw_at lw_m8 80 rfl) rfl
theorem q1889 : (Jvm.Cond.instanceMethod ({ cls := "FlyingDoctors", name := "tried", desc := "(LFlyingDoctors$Flight;IIII)I" } : Jvm.MethodName)) ∈ lw_all := lw_g (lw_at lw_m8 82 rfl) rfl
theorem q1890 : (Jvm.Cond.code ({ cls := "FlyingDoctors", name := "tried", desc := "(LFlyingDoctors$Flight;IIII)I" } : Jvm.MethodName) prog_1_method_14_code (10 : Nat) (Option.some Jvm.ClassFile.FieldType.int)) ∈ lw_all := lw_g (lw_at lw_m8 83 rfl) rfl
theorem q1891 : (Jvm.Cond.methodLink "FlyingDoctors" (185 : Nat) ({ cls := "FlyingDoctors$Flight", name := "ahead", desc := "(I)LFlyingDoctors$Place;" } : Jvm.MethodName)) ∈ lw_all := lw_g (lw_at lw_m8 84 rfl) rfl
theorem q1892 : (Jvm.Cond.instanceMethod ({ cls := "FlyingDoctors$Flight", name := "ahead", desc := "(I)LFlyingDoctors$Place;" } : Jvm.MethodName)) ∈ lw_all := lw_g (lw_at lw_m8 85 rfl) rfl
theorem q1893 : (Jvm.Cond.selects "FlyingDoctors$Flight" ({ cls := "FlyingDoctors$Flight", name := "ahead", desc := "(I)LFlyingDoctors$Place;" } : Jvm.MethodName) ({ cls := "FlyingDoctors$Flight", name := "ahead", desc := "(I)LFlyingDoctors$Place;" } : Jvm.MethodName)) ∈ lw_all := lw_g (lw_at lw_m8 86 rfl) rfl
theorem q1894 : (Jvm.Cond.code ({ cls := "FlyingDoctors$Flight", name := "ahead", desc := "(I)LFlyingDoctors$Place;" } : Jvm.MethodName) prog_8_method_2_code (2 : Nat) (Option.some (Jvm.ClassFile.FieldType.object "FlyingDoctors$Place"))) ∈ lw_all := lw_g (lw_at lw_m8 87 rfl) rfl
theorem q1895 : (Jvm.Cond.methodLink "FlyingDoctors" (201 : Nat) ({ cls := "FlyingDoctors$Flight", name := "fly", desc := "(IIII)V" } : Jvm.MethodName)) ∈ lw_all := lw_g (lw_at lw_m8 88 rfl) rfl
theorem q1896 : (Jvm.Cond.instanceMethod ({ cls := "FlyingDoctors$Flight", name := "fly", desc := "(IIII)V" } : Jvm.MethodName)) ∈ lw_all := lw_g (lw_at lw_m8 89 rfl) rfl
theorem q1897 : (Jvm.Cond.selects "FlyingDoctors$Flight" ({ cls := "FlyingDoctors$Flight", name := "fly", desc := "(IIII)V" } : Jvm.MethodName) ({ cls := "FlyingDoctors$Flight", name := "fly", desc := "(IIII)V" } : Jvm.MethodName)) ∈ lw_all := lw_g (lw_at lw_m8 90 rfl) rfl
theorem q1898 : (Jvm.Cond.code ({ cls := "FlyingDoctors$Flight", name := "fly", desc := "(IIII)V" } : Jvm.MethodName) prog_8_method_5_code (6 : Nat) (Option.none : Option Jvm.ClassFile.FieldType)) ∈ lw_all := lw_g (lw_at lw_m8 91 rfl) rfl
theorem q1899 : (Jvm.Cond.methodLink "FlyingDoctors$Flight" (79 : Nat) ({ cls := "FlyingDoctors$Flight", name := "ahead", desc := "(I)LFlyingDoctors$Place;" } : Jvm.MethodName)) ∈ lw_all := lw_g (lw_at lw_m8 92 rfl) rfl
theorem q1900 : (Jvm.Cond.methodLink "FlyingDoctors$Flight" (83 : Nat) ({ cls := "FlyingDoctors$Plane", name := "way", desc := "(LFlyingDoctors$Place;LFlyingDoctors$Place;)I" } : Jvm.MethodName)) ∈ lw_all := lw_g (lw_at lw_m8 93 rfl) rfl
theorem q1901 : (Jvm.Cond.instanceMethod ({ cls := "FlyingDoctors$Plane", name := "way", desc := "(LFlyingDoctors$Place;LFlyingDoctors$Place;)I" } : Jvm.MethodName)) ∈ lw_all := lw_g (lw_at lw_m8 94 rfl) rfl
theorem q1902 : (Jvm.Cond.selects "FlyingDoctors$Plane" ({ cls := "FlyingDoctors$Plane", name := "way", desc := "(LFlyingDoctors$Place;LFlyingDoctors$Place;)I" } : Jvm.MethodName) ({ cls := "FlyingDoctors$Plane", name := "way", desc := "(LFlyingDoctors$Place;LFlyingDoctors$Place;)I" } : Jvm.MethodName)) ∈ lw_all := lw_g (lw_at lw_m8 95 rfl) rfl
theorem q1903 : (Jvm.Cond.code ({ cls := "FlyingDoctors$Plane", name := "way", desc := "(LFlyingDoctors$Place;LFlyingDoctors$Place;)I" } : Jvm.MethodName) prog_15_method_2_code (3 : Nat) (Option.some Jvm.ClassFile.FieldType.int)) ∈ lw_all := lw_g (lw_at lw_m8 96 rfl) rfl
theorem q1904 : (Jvm.Cond.methodLink "FlyingDoctors$Plane" (32 : Nat) ({ cls := "FlyingDoctors$Place", name := "miles", desc := "(LFlyingDoctors$Place;)I" } : Jvm.MethodName)) ∈ lw_all := lw_g (lw_at lw_m8 97 rfl) rfl
theorem q1905 : (Jvm.Cond.methodLink "FlyingDoctors$Flight" (59 : Nat) ({ cls := "java/lang/Math", name := "min", desc := "(II)I" } : Jvm.MethodName)) ∈ lw_all := lw_g (lw_at lw_m8 98 rfl) rfl
theorem q1906 : (Jvm.Cond.methodLink "FlyingDoctors" (214 : Nat) ({ cls := "FlyingDoctors", name := "nearestBase", desc := "(LFlyingDoctors$Place;)LFlyingDoctors$Place;" } : Jvm.MethodName)) ∈ lw_all := lw_g (lw_at lw_m8 99 rfl) rfl
theorem q1907 : (Jvm.Cond.methodLink "FlyingDoctors" (218 : Nat) ({ cls := "FlyingDoctors$Plane", name := "way", desc := "(LFlyingDoctors$Place;LFlyingDoctors$Place;)I" } : Jvm.MethodName)) ∈ lw_all := lw_g (lw_at lw_m8 100 rfl) rfl
theorem q1908 : (Jvm.Cond.methodLink "FlyingDoctors" (231 : Nat) ({ cls := "FlyingDoctors", name := "flownUpTo", desc := "(LFlyingDoctors$Flight;II)I" } : Jvm.MethodName)) ∈ lw_all := lw_g (lw_at lw_m8 101 rfl) rfl
theorem q1910 : (Jvm.Cond.instanceMethod ({ cls := "FlyingDoctors", name := "flownUpTo", desc := "(LFlyingDoctors$Flight;II)I" } : Jvm.MethodName)) ∈ lw_all := lw_g (lw_at lw_m8 103 rfl) rfl
theorem q1911 : (Jvm.Cond.code ({ cls := "FlyingDoctors", name := "flownUpTo", desc := "(LFlyingDoctors$Flight;II)I" } : Jvm.MethodName) prog_1_method_13_code (8 : Nat) (Option.some Jvm.ClassFile.FieldType.int)) ∈ lw_all := lw_g (lw_at lw_m8 104 rfl) rfl
theorem q1912 : (Jvm.Cond.methodLink "FlyingDoctors" (176 : Nat) ({ cls := "FlyingDoctors$Flight", name := "within", desc := "(II)I" } : Jvm.MethodName)) ∈ lw_all := lw_g (lw_at lw_m8 105 rfl) rfl
theorem q1913 : (Jvm.Cond.instanceMethod ({ cls := "FlyingDoctors$Flight", name := "within", desc := "(II)I" } : Jvm.MethodName)) ∈ lw_all := lw_g (lw_at lw_m8 106 rfl) rfl
theorem q1914 : (Jvm.Cond.selects "FlyingDoctors$Flight" ({ cls := "FlyingDoctors$Flight", name := "within", desc := "(II)I" } : Jvm.MethodName) ({ cls := "FlyingDoctors$Flight", name := "within", desc := "(II)I" } : Jvm.MethodName)) ∈ lw_all := lw_g (lw_at lw_m8 107 rfl) rfl
theorem q1915 : (Jvm.Cond.code ({ cls := "FlyingDoctors$Flight", name := "within", desc := "(II)I" } : Jvm.MethodName) prog_8_method_3_code (3 : Nat) (Option.some Jvm.ClassFile.FieldType.int)) ∈ lw_all := lw_g (lw_at lw_m8 108 rfl) rfl
theorem q1916 : (Jvm.Cond.methodLink "FlyingDoctors$Flight" (65 : Nat) ({ cls := "java/lang/Math", name := "max", desc := "(II)I" } : Jvm.MethodName)) ∈ lw_all := lw_g (lw_at lw_m8 109 rfl) rfl
theorem q1917 : (Jvm.Cond.methodLink "FlyingDoctors" (239 : Nat) ({ cls := "FlyingDoctors", name := "left", desc := "(LFlyingDoctors$Flight;II)Z" } : Jvm.MethodName)) ∈ lw_all := lw_g (lw_at lw_m8 110 rfl) rfl
theorem q1919 : (Jvm.Cond.instanceMethod ({ cls := "FlyingDoctors", name := "left", desc := "(LFlyingDoctors$Flight;II)Z" } : Jvm.MethodName)) ∈ lw_all := lw_g (lw_at lw_m8 112 rfl) rfl
theorem q1920 : (Jvm.Cond.code ({ cls := "FlyingDoctors", name := "left", desc := "(LFlyingDoctors$Flight;II)Z" } : Jvm.MethodName) prog_1_method_15_code (5 : Nat) (Option.some Jvm.ClassFile.FieldType.boolean)) ∈ lw_all := lw_g (lw_at lw_m8 113 rfl) rfl
theorem q1921 : (Jvm.Cond.methodLink "FlyingDoctors" (243 : Nat) ({ cls := "FlyingDoctors", name := "fetched", desc := "(LFlyingDoctors$Flight;II)Z" } : Jvm.MethodName)) ∈ lw_all := lw_g (lw_at lw_m8 114 rfl) rfl
theorem q1923 : (Jvm.Cond.instanceMethod ({ cls := "FlyingDoctors", name := "fetched", desc := "(LFlyingDoctors$Flight;II)Z" } : Jvm.MethodName)) ∈ lw_all := lw_g (lw_at lw_m8 116 rfl) rfl
theorem q1924 : (Jvm.Cond.code ({ cls := "FlyingDoctors", name := "fetched", desc := "(LFlyingDoctors$Flight;II)Z" } : Jvm.MethodName) prog_1_method_16_code (5 : Nat) (Option.some Jvm.ClassFile.FieldType.boolean)) ∈ lw_all := lw_g (lw_at lw_m8 117 rfl) rfl
theorem q1925 : (Jvm.Cond.methodLink "FlyingDoctors" (460 : Nat) ({ cls := "FlyingDoctors", name := "done", desc := "(LFlyingDoctors$Flight;)V" } : Jvm.MethodName)) ∈ lw_all := lw_g (lw_at lw_m8 118 rfl) rfl
theorem q1927 : (Jvm.Cond.instanceMethod ({ cls := "FlyingDoctors", name := "done", desc := "(LFlyingDoctors$Flight;)V" } : Jvm.MethodName)) ∈ lw_all := lw_g (lw_at lw_m8 120 rfl) rfl
theorem q1928 : (Jvm.Cond.code ({ cls := "FlyingDoctors", name := "done", desc := "(LFlyingDoctors$Flight;)V" } : Jvm.MethodName) prog_1_method_18_code (7 : Nat) (Option.none : Option Jvm.ClassFile.FieldType)) ∈ lw_all := lw_g (lw_at lw_m8 121 rfl) rfl
theorem q1929 : (Jvm.Cond.methodLink "FlyingDoctorsLaw" (199 : Nat) ({ cls := "FlyingDoctorsLaw", name := "leg", desc := "(LFlyingDoctors;III[J)I" } : Jvm.MethodName)) ∈ lw_all := lw_g (lw_at lw_m8 122 rfl) rfl
theorem q1930 : (Jvm.Cond.static ({ cls := "FlyingDoctorsLaw", name := "leg", desc := "(LFlyingDoctors;III[J)I" } : Jvm.MethodName)) ∈ lw_all := lw_g (lw_at lw_m8 123 rfl) rfl
theorem q1931 : (Jvm.Cond.codeWith ({ cls := "FlyingDoctorsLaw", name := "leg", desc := "(LFlyingDoctors;III[J)I" } : Jvm.MethodName) method_19_code (6 : Nat) (Option.some Jvm.ClassFile.FieldType.int) [((0 : Nat), (12 : Nat), (15 : Nat), (13 : Nat))]) ∈ lw_all := lw_g (lw_at lw_m8 124 rfl) rfl
theorem q1932 : (Jvm.Cond.methodLink "FlyingDoctorsLaw" (70 : Nat) ({ cls := "FlyingDoctors", name := "leg", desc := "(III)I" } : Jvm.MethodName)) ∈ lw_all := lw_g (lw_at lw_m8 125 rfl) rfl
theorem q1933 : (Jvm.Cond.instanceMethod ({ cls := "FlyingDoctors", name := "leg", desc := "(III)I" } : Jvm.MethodName)) ∈ lw_all := lw_g (lw_at lw_m8 126 rfl) rfl
theorem q1934 : (Jvm.Cond.selects "FlyingDoctors" ({ cls := "FlyingDoctors", name := "leg", desc := "(III)I" } : Jvm.MethodName) ({ cls := "FlyingDoctors", name := "leg", desc := "(III)I" } : Jvm.MethodName)) ∈ lw_all := lw_g (lw_at lw_m8 127 rfl) rfl
theorem q1935 : (Jvm.Cond.code ({ cls := "FlyingDoctors", name := "leg", desc := "(III)I" } : Jvm.MethodName) prog_1_method_51_code (5 : Nat) (Option.some Jvm.ClassFile.FieldType.int)) ∈ lw_all := lw_g (lw_at lw_m8 128 rfl) rfl
theorem q1936 : (Jvm.Cond.methodLink "FlyingDoctors" (464 : Nat) ({ cls := "FlyingDoctors", name := "flightAt", desc := "(I)LFlyingDoctors$Flight;" } : Jvm.MethodName)) ∈ lw_all := lw_g (lw_at lw_m8 129 rfl) rfl
theorem q1938 : (Jvm.Cond.instanceMethod ({ cls := "FlyingDoctors", name := "flightAt", desc := "(I)LFlyingDoctors$Flight;" } : Jvm.MethodName)) ∈ lw_all := lw_g (lw_at lw_m8 131 rfl) rfl
theorem q1939 : (Jvm.Cond.code ({ cls := "FlyingDoctors", name := "flightAt", desc := "(I)LFlyingDoctors$Flight;" } : Jvm.MethodName) prog_1_method_50_code (2 : Nat) (Option.some (Jvm.ClassFile.FieldType.object "FlyingDoctors$Flight"))) ∈ lw_all := lw_g (lw_at lw_m8 132 rfl) rfl
theorem q1940 : (Jvm.Cond.methodLink "FlyingDoctorsLaw" (202 : Nat) ({ cls := "FlyingDoctorsLaw", name := "holds", desc := "(LFlyingDoctors;I[J)I" } : Jvm.MethodName)) ∈ lw_all := lw_g (lw_at lw_m8 133 rfl) rfl
theorem q1941 : (Jvm.Cond.static ({ cls := "FlyingDoctorsLaw", name := "holds", desc := "(LFlyingDoctors;I[J)I" } : Jvm.MethodName)) ∈ lw_all := lw_g (lw_at lw_m8 134 rfl) rfl
theorem q1942 : (Jvm.Cond.codeWith ({ cls := "FlyingDoctorsLaw", name := "holds", desc := "(LFlyingDoctors;I[J)I" } : Jvm.MethodName) method_20_code (4 : Nat) (Option.some Jvm.ClassFile.FieldType.int) [((0 : Nat), (9 : Nat), (12 : Nat), (13 : Nat))]) ∈ lw_all := lw_g (lw_at lw_m8 135 rfl) rfl
theorem q1943 : (Jvm.Cond.methodLink "FlyingDoctorsLaw" (73 : Nat) ({ cls := "FlyingDoctors", name := "holds", desc := "(I)I" } : Jvm.MethodName)) ∈ lw_all := lw_g (lw_at lw_m8 136 rfl) rfl
theorem q1944 : (Jvm.Cond.instanceMethod ({ cls := "FlyingDoctors", name := "holds", desc := "(I)I" } : Jvm.MethodName)) ∈ lw_all := lw_g (lw_at lw_m8 137 rfl) rfl
theorem q1945 : (Jvm.Cond.selects "FlyingDoctors" ({ cls := "FlyingDoctors", name := "holds", desc := "(I)I" } : Jvm.MethodName) ({ cls := "FlyingDoctors", name := "holds", desc := "(I)I" } : Jvm.MethodName)) ∈ lw_all := lw_g (lw_at lw_m8 138 rfl) rfl
theorem q1946 : (Jvm.Cond.code ({ cls := "FlyingDoctors", name := "holds", desc := "(I)I" } : Jvm.MethodName) prog_1_method_52_code (4 : Nat) (Option.some Jvm.ClassFile.FieldType.int)) ∈ lw_all := lw_g (lw_at lw_m8 139 rfl) rfl
theorem q1947 : (Jvm.Cond.methodLink "FlyingDoctorsLaw" (205 : Nat) ({ cls := "FlyingDoctorsLaw", name := "where", desc := "(LFlyingDoctors;III[J)I" } : Jvm.MethodName)) ∈ lw_all := lw_g (lw_at lw_m8 140 rfl) rfl
theorem q1948 : (Jvm.Cond.static ({ cls := "FlyingDoctorsLaw", name := "where", desc := "(LFlyingDoctors;III[J)I" } : Jvm.MethodName)) ∈ lw_all := lw_g (lw_at lw_m8 141 rfl) rfl
theorem q1949 : (Jvm.Cond.codeWith ({ cls := "FlyingDoctorsLaw", name := "where", desc := "(LFlyingDoctors;III[J)I" } : Jvm.MethodName) method_21_code (6 : Nat) (Option.some Jvm.ClassFile.FieldType.int) [((0 : Nat), (12 : Nat), (15 : Nat), (13 : Nat)), ((0 : Nat), (12 : Nat), (19 : Nat), (15 : Nat))]) ∈ lw_all := lw_g (lw_at lw_m8 142 rfl) rfl
theorem q1950 : (Jvm.Cond.methodLink "FlyingDoctorsLaw" (76 : Nat) ({ cls := "FlyingDoctors", name := "where", desc := "(III)I" } : Jvm.MethodName)) ∈ lw_all := lw_g (lw_at lw_m8 143 rfl) rfl
theorem q1951 : (Jvm.Cond.instanceMethod ({ cls := "FlyingDoctors", name := "where", desc := "(III)I" } : Jvm.MethodName)) ∈ lw_all := lw_g (lw_at lw_m8 144 rfl) rfl
theorem q1952 : (Jvm.Cond.selects "FlyingDoctors" ({ cls := "FlyingDoctors", name := "where", desc := "(III)I" } : Jvm.MethodName) ({ cls := "FlyingDoctors", name := "where", desc := "(III)I" } : Jvm.MethodName)) ∈ lw_all := lw_g (lw_at lw_m8 145 rfl) rfl
theorem q1953 : (Jvm.Cond.code ({ cls := "FlyingDoctors", name := "where", desc := "(III)I" } : Jvm.MethodName) prog_1_method_55_code (6 : Nat) (Option.some Jvm.ClassFile.FieldType.int)) ∈ lw_all := lw_g (lw_at lw_m8 146 rfl) rfl
theorem q1954 : (Jvm.Cond.methodLink "FlyingDoctors" (475 : Nat) ({ cls := "FlyingDoctors", name := "wherePlane", desc := "(LFlyingDoctors$Plane;I)I" } : Jvm.MethodName)) ∈ lw_all := lw_g (lw_at lw_m8 147 rfl) rfl
theorem q1956 : (Jvm.Cond.instanceMethod ({ cls := "FlyingDoctors", name := "wherePlane", desc := "(LFlyingDoctors$Plane;I)I" } : Jvm.MethodName)) ∈ lw_all := lw_g (lw_at lw_m8 149 rfl) rfl
theorem q1957 : (Jvm.Cond.code ({ cls := "FlyingDoctors", name := "wherePlane", desc := "(LFlyingDoctors$Plane;I)I" } : Jvm.MethodName) prog_1_method_53_code (7 : Nat) (Option.some Jvm.ClassFile.FieldType.int)) ∈ lw_all := lw_g (lw_at lw_m8 150 rfl) rfl
theorem q1958 : (Jvm.Cond.methodLink "FlyingDoctors" (479 : Nat) ({ cls := "FlyingDoctors", name := "wherePerson", desc := "(LFlyingDoctors$Person;I)I" } : Jvm.MethodName)) ∈ lw_all := lw_g (lw_at lw_m8 151 rfl) rfl
theorem q1960 : (Jvm.Cond.instanceMethod ({ cls := "FlyingDoctors", name := "wherePerson", desc := "(LFlyingDoctors$Person;I)I" } : Jvm.MethodName)) ∈ lw_all := lw_g (lw_at lw_m8 153 rfl) rfl
theorem q1961 : (Jvm.Cond.code ({ cls := "FlyingDoctors", name := "wherePerson", desc := "(LFlyingDoctors$Person;I)I" } : Jvm.MethodName) prog_1_method_54_code (7 : Nat) (Option.some Jvm.ClassFile.FieldType.int)) ∈ lw_all := lw_g (lw_at lw_m8 154 rfl) rfl
theorem q1962 : (Jvm.Cond.methodLink "FlyingDoctorsLaw" (208 : Nat) ({ cls := "FlyingDoctorsLaw", name := "planeOf", desc := "(LFlyingDoctors;II[J)I" } : Jvm.MethodName)) ∈ lw_all := lw_g (lw_at lw_m8 155 rfl) rfl
theorem q1963 : (Jvm.Cond.static ({ cls := "FlyingDoctorsLaw", name := "planeOf", desc := "(LFlyingDoctors;II[J)I" } : Jvm.MethodName)) ∈ lw_all := lw_g (lw_at lw_m8 156 rfl) rfl
theorem q1964 : (Jvm.Cond.codeWith ({ cls := "FlyingDoctorsLaw", name := "planeOf", desc := "(LFlyingDoctors;II[J)I" } : Jvm.MethodName) method_22_code (5 : Nat) (Option.some Jvm.ClassFile.FieldType.int) [((0 : Nat), (10 : Nat), (13 : Nat), (13 : Nat))]) ∈ lw_all := lw_g (lw_at lw_m8 157 rfl) rfl
theorem q1965 : (Jvm.Cond.methodLink "FlyingDoctorsLaw" (79 : Nat) ({ cls := "FlyingDoctors", name := "planeOf", desc := "(II)I" } : Jvm.MethodName)) ∈ lw_all := lw_g (lw_at lw_m8 158 rfl) rfl
theorem q1966 : (Jvm.Cond.instanceMethod ({ cls := "FlyingDoctors", name := "planeOf", desc := "(II)I" } : Jvm.MethodName)) ∈ lw_all := lw_g (lw_at lw_m8 159 rfl) rfl
theorem q1967 : (Jvm.Cond.selects "FlyingDoctors" ({ cls := "FlyingDoctors", name := "planeOf", desc := "(II)I" } : Jvm.MethodName) ({ cls := "FlyingDoctors", name := "planeOf", desc := "(II)I" } : Jvm.MethodName)) ∈ lw_all := lw_g (lw_at lw_m8 160 rfl) rfl
theorem q1968 : (Jvm.Cond.code ({ cls := "FlyingDoctors", name := "planeOf", desc := "(II)I" } : Jvm.MethodName) prog_1_method_56_code (4 : Nat) (Option.some Jvm.ClassFile.FieldType.int)) ∈ lw_all := lw_g (lw_at lw_m8 161 rfl) rfl
theorem q1969 : (Jvm.Cond.methodLink "FlyingDoctorsLaw" (211 : Nat) ({ cls := "FlyingDoctorsLaw", name := "overdue", desc := "(LFlyingDoctors;I[J)I" } : Jvm.MethodName)) ∈ lw_all := lw_g (lw_at lw_m8 162 rfl) rfl
theorem q1970 : (Jvm.Cond.static ({ cls := "FlyingDoctorsLaw", name := "overdue", desc := "(LFlyingDoctors;I[J)I" } : Jvm.MethodName)) ∈ lw_all := lw_g (lw_at lw_m8 163 rfl) rfl
theorem q1971 : (Jvm.Cond.codeWith ({ cls := "FlyingDoctorsLaw", name := "overdue", desc := "(LFlyingDoctors;I[J)I" } : Jvm.MethodName) method_23_code (4 : Nat) (Option.some Jvm.ClassFile.FieldType.int) [((0 : Nat), (9 : Nat), (12 : Nat), (13 : Nat))]) ∈ lw_all := lw_g (lw_at lw_m8 164 rfl) rfl
theorem q1972 : (Jvm.Cond.methodLink "FlyingDoctorsLaw" (82 : Nat) ({ cls := "FlyingDoctors", name := "overdue", desc := "(I)I" } : Jvm.MethodName)) ∈ lw_all := lw_g (lw_at lw_m8 165 rfl) rfl
theorem q1973 : (Jvm.Cond.instanceMethod ({ cls := "FlyingDoctors", name := "overdue", desc := "(I)I" } : Jvm.MethodName)) ∈ lw_all := lw_g (lw_at lw_m8 166 rfl) rfl
theorem q1974 : (Jvm.Cond.selects "FlyingDoctors" ({ cls := "FlyingDoctors", name := "overdue", desc := "(I)I" } : Jvm.MethodName) ({ cls := "FlyingDoctors", name := "overdue", desc := "(I)I" } : Jvm.MethodName)) ∈ lw_all := lw_g (lw_at lw_m8 167 rfl) rfl
theorem q1975 : (Jvm.Cond.code ({ cls := "FlyingDoctors", name := "overdue", desc := "(I)I" } : Jvm.MethodName) prog_1_method_59_code (5 : Nat) (Option.some Jvm.ClassFile.FieldType.int)) ∈ lw_all := lw_g (lw_at lw_m8 168 rfl) rfl
theorem q1976 : (Jvm.Cond.methodLink "FlyingDoctors" (489 : Nat) ({ cls := "FlyingDoctors", name := "isOverdue", desc := "(LFlyingDoctors$Person;)Z" } : Jvm.MethodName)) ∈ lw_all := lw_g (lw_at lw_m8 169 rfl) rfl
theorem q1978 : (Jvm.Cond.instanceMethod ({ cls := "FlyingDoctors", name := "isOverdue", desc := "(LFlyingDoctors$Person;)Z" } : Jvm.MethodName)) ∈ lw_all := lw_g (lw_at lw_m8 171 rfl) rfl
theorem q1979 : (Jvm.Cond.code ({ cls := "FlyingDoctors", name := "isOverdue", desc := "(LFlyingDoctors$Person;)Z" } : Jvm.MethodName) prog_1_method_58_code (4 : Nat) (Option.some Jvm.ClassFile.FieldType.boolean)) ∈ lw_all := lw_g (lw_at lw_m8 172 rfl) rfl
theorem q1980 : (Jvm.Cond.methodLink "FlyingDoctors" (483 : Nat) ({ cls := "FlyingDoctors", name := "since", desc := "(LFlyingDoctors$Person;)I" } : Jvm.MethodName)) ∈ lw_all := lw_g (lw_at lw_m8 173 rfl) rfl
theorem q1982 : (Jvm.Cond.instanceMethod ({ cls := "FlyingDoctors", name := "since", desc := "(LFlyingDoctors$Person;)I" } : Jvm.MethodName)) ∈ lw_all := lw_g (lw_at lw_m8 175 rfl) rfl
theorem q1983 : (Jvm.Cond.code ({ cls := "FlyingDoctors", name := "since", desc := "(LFlyingDoctors$Person;)I" } : Jvm.MethodName) prog_1_method_57_code (8 : Nat) (Option.some Jvm.ClassFile.FieldType.int)) ∈ lw_all := lw_g (lw_at lw_m8 176 rfl) rfl
theorem q1984 : (Jvm.Cond.constantLong "FlyingDoctors" (487 : Nat) (96 : Int64)) ∈ lw_all := lw_g (lw_at lw_m8 177 rfl) rfl
theorem q1985 : (Jvm.Cond.methodLink "FlyingDoctorsLaw" (218 : Nat) ({ cls := "FlyingDoctorsLaw", name := "week", desc := "(LFlyingDoctors;IIII[J)I" } : Jvm.MethodName)) ∈ lw_all := lw_g (lw_at lw_m8 178 rfl) rfl
theorem q1986 : (Jvm.Cond.static ({ cls := "FlyingDoctorsLaw", name := "week", desc := "(LFlyingDoctors;IIII[J)I" } : Jvm.MethodName)) ∈ lw_all := lw_g (lw_at lw_m8 179 rfl) rfl
theorem q1987 : (Jvm.Cond.codeWith ({ cls := "FlyingDoctorsLaw", name := "week", desc := "(LFlyingDoctors;IIII[J)I" } : Jvm.MethodName) method_24_code (7 : Nat) (Option.some Jvm.ClassFile.FieldType.int) [((0 : Nat), (14 : Nat), (17 : Nat), (13 : Nat)), ((0 : Nat), (14 : Nat), (21 : Nat), (15 : Nat))]) ∈ lw_all := lw_g (lw_at lw_m8 180 rfl) rfl
theorem q1988 : (Jvm.Cond.methodLink "FlyingDoctorsLaw" (85 : Nat) ({ cls := "FlyingDoctors", name := "week", desc := "(IIII)I" } : Jvm.MethodName)) ∈ lw_all := lw_g (lw_at lw_m8 181 rfl) rfl
theorem q1989 : (Jvm.Cond.instanceMethod ({ cls := "FlyingDoctors", name := "week", desc := "(IIII)I" } : Jvm.MethodName)) ∈ lw_all := lw_g (lw_at lw_m8 182 rfl) rfl
theorem q1990 : (Jvm.Cond.selects "FlyingDoctors" ({ cls := "FlyingDoctors", name := "week", desc := "(IIII)I" } : Jvm.MethodName) ({ cls := "FlyingDoctors", name := "week", desc := "(IIII)I" } : Jvm.MethodName)) ∈ lw_all := lw_g (lw_at lw_m8 183 rfl) rfl
theorem q1991 : (Jvm.Cond.code ({ cls := "FlyingDoctors", name := "week", desc := "(IIII)I" } : Jvm.MethodName) prog_1_method_61_code (16 : Nat) (Option.some Jvm.ClassFile.FieldType.int)) ∈ lw_all := lw_g (lw_at lw_m8 184 rfl) rfl
theorem q1992 : (Jvm.Cond.classLink "FlyingDoctors" (502 : Nat) "FlyingDoctors$Rounds") ∈ lw_all := lw_g (lw_at lw_m8 185 rfl) rfl
theorem q1993 : (Jvm.Cond.instantiable "FlyingDoctors$Rounds" (8 : Nat)) ∈ lw_all := lw_g (lw_at lw_m8 186 rfl) rfl
theorem q1994 : (Jvm.Cond.methodLink "FlyingDoctors" (504 : Nat) ({ cls := "FlyingDoctors$Rounds", name := "<init>", desc := "(LFlyingDoctors;LFlyingDoctors$Plane;LFlyingDoctors$Place;)V" } : Jvm.MethodName)) ∈ lw_all := lw_g (lw_at lw_m8 187 rfl) rfl
theorem q1995 : (Jvm.Cond.instanceMethod ({ cls := "FlyingDoctors$Rounds", name := "<init>", desc := "(LFlyingDoctors;LFlyingDoctors$Plane;LFlyingDoctors$Place;)V" } : Jvm.MethodName)) ∈ lw_all := lw_g (lw_at lw_m8 188 rfl) rfl
theorem q1996 : (Jvm.Cond.code ({ cls := "FlyingDoctors$Rounds", name := "<init>", desc := "(LFlyingDoctors;LFlyingDoctors$Plane;LFlyingDoctors$Place;)V" } : Jvm.MethodName) prog_17_method_1_code (6 : Nat) (Option.none : Option Jvm.ClassFile.FieldType)) ∈ lw_all := lw_g (lw_at lw_m8 189 rfl) rfl
theorem q1997 : (Jvm.Cond.methodLink "FlyingDoctors$Rounds" (9 : Nat) ({ cls := "java/lang/Object", name := "<init>", desc := "()V" } : Jvm.MethodName)) ∈ lw_all := lw_g (lw_at lw_m8 190 rfl) rfl
theorem q1999 : (Jvm.Cond.methodLink "FlyingDoctors$Rounds" (19 : Nat) ({ cls := "java/util/List", name := "size", desc := "()I" } : Jvm.MethodName)) ∈ lw_all := lw_g (lw_at lw_m8 192 rfl) rfl
theorem q2000 : (Jvm.Cond.classLink "FlyingDoctors$Rounds" (29 : Nat) "[[I") ∈ lw_all := lw_g (lw_at lw_m8 193 rfl) rfl
theorem q2001 : (Jvm.Cond.arrayOver (Jvm.ClassFile.FieldType.array Jvm.ClassFile.FieldType.int)) ∈ lw_tbl := lw_at lw_m8 194 rfl
theorem q2002 : (Jvm.Cond.constant "FlyingDoctors$Rounds" (52 : Nat) (1000000 : Int32)) ∈ lw_all := lw_g (lw_at lw_m8 195 rfl) rfl
theorem q2003 : (Jvm.Cond.methodLink "FlyingDoctors$Rounds" (53 : Nat) ({ cls := "FlyingDoctors$Rounds", name := "come", desc := "(II)I" } : Jvm.MethodName)) ∈ lw_all := lw_g (lw_at lw_m8 196 rfl) rfl
theorem q2005 : (Jvm.Cond.instanceMethod ({ cls := "FlyingDoctors$Rounds", name := "come", desc := "(II)I" } : Jvm.MethodName)) ∈ lw_all := lw_g (lw_at lw_m8 198 rfl) rfl
theorem q2006 : (Jvm.Cond.code ({ cls := "FlyingDoctors$Rounds", name := "come", desc := "(II)I" } : Jvm.MethodName) prog_17_method_2_code (6 : Nat) (Option.some Jvm.ClassFile.FieldType.int)) ∈ lw_all := lw_g (lw_at lw_m8 199 rfl) rfl
theorem q2008 : (Jvm.Cond.methodLink "FlyingDoctors$Rounds" (57 : Nat) ({ cls := "java/util/List", name := "get", desc := "(I)Ljava/lang/Object;" } : Jvm.MethodName)) ∈ lw_all := lw_g (lw_at lw_m8 201 rfl) rfl
theorem q2009 : (Jvm.Cond.classLink "FlyingDoctors$Rounds" (61 : Nat) "FlyingDoctors$Clinic") ∈ lw_all := lw_g (lw_at lw_m8 202 rfl) rfl
theorem q2010 : (Jvm.Cond.methodLink "FlyingDoctors$Rounds" (69 : Nat) ({ cls := "FlyingDoctors$Plane", name := "way", desc := "(LFlyingDoctors$Place;LFlyingDoctors$Place;)I" } : Jvm.MethodName)) ∈ lw_all := lw_g (lw_at lw_m8 203 rfl) rfl
theorem q2011 : (Jvm.Cond.methodLink "FlyingDoctors$Rounds" (75 : Nat) ({ cls := "java/lang/Math", name := "min", desc := "(II)I" } : Jvm.MethodName)) ∈ lw_all := lw_g (lw_at lw_m8 204 rfl) rfl
theorem q2012 : (Jvm.Cond.fieldLink "FlyingDoctors$Rounds" (44 : Nat) "FlyingDoctors$Rounds" "plane" "LFlyingDoctors$Plane;") ∈ lw_all := lw_g (lw_at lw_m8 205 rfl) rfl
theorem q2013 : (Jvm.Cond.fieldLink "FlyingDoctors$Rounds" (48 : Nat) "FlyingDoctors$Rounds" "base" "LFlyingDoctors$Place;") ∈ lw_all := lw_g (lw_at lw_m8 206 rfl) rfl
theorem q2014 : (Jvm.Cond.fieldLink "FlyingDoctors$Rounds" (25 : Nat) "FlyingDoctors$Rounds" "n" "I") ∈ lw_all := lw_g (lw_at lw_m8 207 rfl) rfl
theorem q2015 : (Jvm.Cond.fieldLink "FlyingDoctors$Rounds" (31 : Nat) "FlyingDoctors$Rounds" "least" "[[I") ∈ lw_all := lw_g (lw_at lw_m8 208 rfl) rfl
theorem q2016 : (Jvm.Cond.fieldLink "FlyingDoctors$Rounds" (34 : Nat) "FlyingDoctors$Rounds" "round" "[I") ∈ lw_all := lw_g (lw_at lw_m8 209 rfl) rfl
theorem q2017 : (Jvm.Cond.fieldLinkNest "FlyingDoctors" (524 : Nat) "FlyingDoctors$Rounds" "round" "[I" "FlyingDoctors") ∈ lw_tbl := lw_at lw_m8 210 rfl
theorem q2018 : (Jvm.Cond.fieldLink "FlyingDoctors$Rounds" (38 : Nat) "FlyingDoctors$Rounds" "price" "[[I") ∈ lw_all := lw_g (lw_at lw_m8 211 rfl) rfl
theorem q2019 : (Jvm.Cond.fieldLinkNest "FlyingDoctors" (511 : Nat) "FlyingDoctors$Rounds" "price" "[[I" "FlyingDoctors") ∈ lw_tbl := lw_at lw_m8 212 rfl
theorem q2020 : (Jvm.Cond.fieldLink "FlyingDoctors$Rounds" (41 : Nat) "FlyingDoctors$Rounds" "cost" "[[I") ∈ lw_all := lw_g (lw_at lw_m8 213 rfl) rfl
theorem q2021 : (Jvm.Cond.fieldLink "FlyingDoctors$Rounds" (3 : Nat) "FlyingDoctors$Rounds" "this$0" "LFlyingDoctors;") ∈ lw_all := lw_g (lw_at lw_m8 214 rfl) rfl
theorem q2039 : (Jvm.Cond.methodLink "FlyingDoctors" (507 : Nat) ({ cls := "FlyingDoctors$Rounds", name := "reckon", desc := "([I[I)V" } : Jvm.MethodName)) ∈ lw_all := lw_g (lw_at lw_m8 232 rfl) rfl
theorem q2040 : (Jvm.Cond.instanceMethod ({ cls := "FlyingDoctors$Rounds", name := "reckon", desc := "([I[I)V" } : Jvm.MethodName)) ∈ lw_all := lw_g (lw_at lw_m8 233 rfl) rfl
theorem q2041 : (Jvm.Cond.selects "FlyingDoctors$Rounds" ({ cls := "FlyingDoctors$Rounds", name := "reckon", desc := "([I[I)V" } : Jvm.MethodName) ({ cls := "FlyingDoctors$Rounds", name := "reckon", desc := "([I[I)V" } : Jvm.MethodName)) ∈ lw_all := lw_g (lw_at lw_m8 234 rfl) rfl
theorem q2042 : (Jvm.Cond.code ({ cls := "FlyingDoctors$Rounds", name := "reckon", desc := "([I[I)V" } : Jvm.MethodName) prog_17_method_5_code (5 : Nat) (Option.none : Option Jvm.ClassFile.FieldType)) ∈ lw_all := lw_g (lw_at lw_m8 235 rfl) rfl
theorem q2043 : (Jvm.Cond.constant "FlyingDoctors$Rounds" (83 : Nat) (1600000 : Int32)) ∈ lw_all := lw_g (lw_at lw_m8 236 rfl) rfl
theorem q2044 : (Jvm.Cond.methodLink "FlyingDoctors$Rounds" (88 : Nat) ({ cls := "FlyingDoctors$Rounds", name := "costOf", desc := "(IIII)I" } : Jvm.MethodName)) ∈ lw_all := lw_g (lw_at lw_m8 237 rfl) rfl
theorem q2046 : (Jvm.Cond.instanceMethod ({ cls := "FlyingDoctors$Rounds", name := "costOf", desc := "(IIII)I" } : Jvm.MethodName)) ∈ lw_all := lw_g (lw_at lw_m8 239 rfl) rfl
theorem q2047 : (Jvm.Cond.code ({ cls := "FlyingDoctors$Rounds", name := "costOf", desc := "(IIII)I" } : Jvm.MethodName) prog_17_method_4_code (5 : Nat) (Option.some Jvm.ClassFile.FieldType.int)) ∈ lw_all := lw_g (lw_at lw_m9 0 rfl) rfl
theorem q2048 : (Jvm.Cond.constant "FlyingDoctors$Rounds" (84 : Nat) (100000 : Int32)) ∈ lw_all := lw_g (lw_at lw_m9 1 rfl) rfl
theorem q2049 : (Jvm.Cond.methodLink "FlyingDoctors$Rounds" (85 : Nat) ({ cls := "FlyingDoctors$Rounds", name := "moved", desc := "(II)I" } : Jvm.MethodName)) ∈ lw_all := lw_g (lw_at lw_m9 2 rfl) rfl
theorem q2051 : (Jvm.Cond.instanceMethod ({ cls := "FlyingDoctors$Rounds", name := "moved", desc := "(II)I" } : Jvm.MethodName)) ∈ lw_all := lw_g (lw_at lw_m9 4 rfl) rfl
theorem q2052 : (Jvm.Cond.code ({ cls := "FlyingDoctors$Rounds", name := "moved", desc := "(II)I" } : Jvm.MethodName) prog_17_method_3_code (5 : Nat) (Option.some Jvm.ClassFile.FieldType.int)) ∈ lw_all := lw_g (lw_at lw_m9 5 rfl) rfl
theorem q2053 : (Jvm.Cond.methodLink "FlyingDoctors$Rounds" (92 : Nat) ({ cls := "FlyingDoctors$Rounds", name := "best", desc := "(IIZ)I" } : Jvm.MethodName)) ∈ lw_all := lw_g (lw_at lw_m9 6 rfl) rfl
theorem q2055 : (Jvm.Cond.instanceMethod ({ cls := "FlyingDoctors$Rounds", name := "best", desc := "(IIZ)I" } : Jvm.MethodName)) ∈ lw_all := lw_g (lw_at lw_m9 8 rfl) rfl
theorem q2056 : (Jvm.Cond.code ({ cls := "FlyingDoctors$Rounds", name := "best", desc := "(IIZ)I" } : Jvm.MethodName) prog_17_method_6_code (8 : Nat) (Option.some Jvm.ClassFile.FieldType.int)) ∈ lw_all := lw_g (lw_at lw_m9 9 rfl) rfl
theorem q2057 : (Jvm.Cond.constant "FlyingDoctors" (515 : Nat) (1600000 : Int32)) ∈ lw_all := lw_g (lw_at lw_m9 10 rfl) rfl
theorem q2058 : (Jvm.Cond.methodLinkNest "FlyingDoctors" (516 : Nat) ({ cls := "FlyingDoctors$Rounds", name := "best", desc := "(IIZ)I" } : Jvm.MethodName) "FlyingDoctors") ∈ lw_tbl := lw_at lw_m9 11 rfl
theorem q2059 : (Jvm.Cond.constant "FlyingDoctors" (520 : Nat) (100000 : Int32)) ∈ lw_all := lw_g (lw_at lw_m9 12 rfl) rfl
theorem q2060 : (Jvm.Cond.methodLink "FlyingDoctorsLaw" (222 : Nat) ({ cls := "FlyingDoctorsLaw", name := "weekOf", desc := "(LFlyingDoctors;I[J)I" } : Jvm.MethodName)) ∈ lw_all := lw_g (lw_at lw_m9 13 rfl) rfl
theorem q2061 : (Jvm.Cond.static ({ cls := "FlyingDoctorsLaw", name := "weekOf", desc := "(LFlyingDoctors;I[J)I" } : Jvm.MethodName)) ∈ lw_all := lw_g (lw_at lw_m9 14 rfl) rfl
theorem q2062 : (Jvm.Cond.codeWith ({ cls := "FlyingDoctorsLaw", name := "weekOf", desc := "(LFlyingDoctors;I[J)I" } : Jvm.MethodName) method_25_code (4 : Nat) (Option.some Jvm.ClassFile.FieldType.int) [((0 : Nat), (9 : Nat), (12 : Nat), (13 : Nat))]) ∈ lw_all := lw_g (lw_at lw_m9 15 rfl) rfl
theorem q2063 : (Jvm.Cond.methodLink "FlyingDoctorsLaw" (89 : Nat) ({ cls := "FlyingDoctors", name := "weekOf", desc := "(I)I" } : Jvm.MethodName)) ∈ lw_all := lw_g (lw_at lw_m9 16 rfl) rfl
theorem q2064 : (Jvm.Cond.instanceMethod ({ cls := "FlyingDoctors", name := "weekOf", desc := "(I)I" } : Jvm.MethodName)) ∈ lw_all := lw_g (lw_at lw_m9 17 rfl) rfl
theorem q2065 : (Jvm.Cond.selects "FlyingDoctors" ({ cls := "FlyingDoctors", name := "weekOf", desc := "(I)I" } : Jvm.MethodName) ({ cls := "FlyingDoctors", name := "weekOf", desc := "(I)I" } : Jvm.MethodName)) ∈ lw_all := lw_g (lw_at lw_m9 18 rfl) rfl
theorem q2066 : (Jvm.Cond.code ({ cls := "FlyingDoctors", name := "weekOf", desc := "(I)I" } : Jvm.MethodName) prog_1_method_62_code (2 : Nat) (Option.some Jvm.ClassFile.FieldType.int)) ∈ lw_all := lw_g (lw_at lw_m9 19 rfl) rfl
theorem q2067 : (Jvm.Cond.methodLink "FlyingDoctorsLaw" (225 : Nat) ({ cls := "FlyingDoctorsLaw", name := "round", desc := "(LFlyingDoctors;III[J)I" } : Jvm.MethodName)) ∈ lw_all := lw_g (lw_at lw_m9 20 rfl) rfl
theorem q2068 : (Jvm.Cond.static ({ cls := "FlyingDoctorsLaw", name := "round", desc := "(LFlyingDoctors;III[J)I" } : Jvm.MethodName)) ∈ lw_all := lw_g (lw_at lw_m9 21 rfl) rfl
theorem q2069 : (Jvm.Cond.codeWith ({ cls := "FlyingDoctorsLaw", name := "round", desc := "(LFlyingDoctors;III[J)I" } : Jvm.MethodName) method_26_code (6 : Nat) (Option.some Jvm.ClassFile.FieldType.int) [((0 : Nat), (12 : Nat), (15 : Nat), (13 : Nat))]) ∈ lw_all := lw_g (lw_at lw_m9 22 rfl) rfl
theorem q2070 : (Jvm.Cond.methodLink "FlyingDoctorsLaw" (92 : Nat) ({ cls := "FlyingDoctors", name := "round", desc := "(III)I" } : Jvm.MethodName)) ∈ lw_all := lw_g (lw_at lw_m9 23 rfl) rfl
theorem q2071 : (Jvm.Cond.instanceMethod ({ cls := "FlyingDoctors", name := "round", desc := "(III)I" } : Jvm.MethodName)) ∈ lw_all := lw_g (lw_at lw_m9 24 rfl) rfl
theorem q2072 : (Jvm.Cond.selects "FlyingDoctors" ({ cls := "FlyingDoctors", name := "round", desc := "(III)I" } : Jvm.MethodName) ({ cls := "FlyingDoctors", name := "round", desc := "(III)I" } : Jvm.MethodName)) ∈ lw_all := lw_g (lw_at lw_m9 25 rfl) rfl
theorem q2073 : (Jvm.Cond.code ({ cls := "FlyingDoctors", name := "round", desc := "(III)I" } : Jvm.MethodName) prog_1_method_63_code (6 : Nat) (Option.some Jvm.ClassFile.FieldType.int)) ∈ lw_all := lw_g (lw_at lw_m9 26 rfl) rfl
theorem q2074 : (Jvm.Cond.methodLink "FlyingDoctorsLaw" (228 : Nat) ({ cls := "FlyingDoctorsLaw", name := "chest", desc := "(LFlyingDoctors;III[J)I" } : Jvm.MethodName)) ∈ lw_all := lw_g (lw_at lw_m9 27 rfl) rfl
theorem q2075 : (Jvm.Cond.static ({ cls := "FlyingDoctorsLaw", name := "chest", desc := "(LFlyingDoctors;III[J)I" } : Jvm.MethodName)) ∈ lw_all := lw_g (lw_at lw_m9 28 rfl) rfl
theorem q2076 : (Jvm.Cond.codeWith ({ cls := "FlyingDoctorsLaw", name := "chest", desc := "(LFlyingDoctors;III[J)I" } : Jvm.MethodName) method_27_code (6 : Nat) (Option.some Jvm.ClassFile.FieldType.int) [((0 : Nat), (12 : Nat), (15 : Nat), (13 : Nat)), ((0 : Nat), (12 : Nat), (19 : Nat), (15 : Nat))]) ∈ lw_all := lw_g (lw_at lw_m9 29 rfl) rfl
theorem q2077 : (Jvm.Cond.methodLink "FlyingDoctorsLaw" (95 : Nat) ({ cls := "FlyingDoctors", name := "chest", desc := "(III)I" } : Jvm.MethodName)) ∈ lw_all := lw_g (lw_at lw_m9 30 rfl) rfl
theorem q2078 : (Jvm.Cond.instanceMethod ({ cls := "FlyingDoctors", name := "chest", desc := "(III)I" } : Jvm.MethodName)) ∈ lw_all := lw_g (lw_at lw_m9 31 rfl) rfl
theorem q2079 : (Jvm.Cond.selects "FlyingDoctors" ({ cls := "FlyingDoctors", name := "chest", desc := "(III)I" } : Jvm.MethodName) ({ cls := "FlyingDoctors", name := "chest", desc := "(III)I" } : Jvm.MethodName)) ∈ lw_all := lw_g (lw_at lw_m9 32 rfl) rfl
theorem q2080 : (Jvm.Cond.code ({ cls := "FlyingDoctors", name := "chest", desc := "(III)I" } : Jvm.MethodName) prog_1_method_65_code (6 : Nat) (Option.some Jvm.ClassFile.FieldType.int)) ∈ lw_all := lw_g (lw_at lw_m9 33 rfl) rfl
theorem q2081 : (Jvm.Cond.methodLink "FlyingDoctors" (527 : Nat) ({ cls := "FlyingDoctors", name := "number", desc := "(I)V" } : Jvm.MethodName)) ∈ lw_all := lw_g (lw_at lw_m9 34 rfl) rfl
theorem q2082 : (Jvm.Cond.static ({ cls := "FlyingDoctors", name := "number", desc := "(I)V" } : Jvm.MethodName)) ∈ lw_all := lw_g (lw_at lw_m9 35 rfl) rfl
theorem q2083 : (Jvm.Cond.code ({ cls := "FlyingDoctors", name := "number", desc := "(I)V" } : Jvm.MethodName) prog_1_method_64_code (1 : Nat) (Option.none : Option Jvm.ClassFile.FieldType)) ∈ lw_all := lw_g (lw_at lw_m9 36 rfl) rfl
theorem q2084 : (Jvm.Cond.methodLink "FlyingDoctorsLaw" (231 : Nat) ({ cls := "FlyingDoctorsLaw", name := "dose", desc := "(LFlyingDoctors;III[J)I" } : Jvm.MethodName)) ∈ lw_all := lw_g (lw_at lw_m9 37 rfl) rfl
theorem q2085 : (Jvm.Cond.static ({ cls := "FlyingDoctorsLaw", name := "dose", desc := "(LFlyingDoctors;III[J)I" } : Jvm.MethodName)) ∈ lw_all := lw_g (lw_at lw_m9 38 rfl) rfl
theorem q2086 : (Jvm.Cond.codeWith ({ cls := "FlyingDoctorsLaw", name := "dose", desc := "(LFlyingDoctors;III[J)I" } : Jvm.MethodName) method_28_code (6 : Nat) (Option.some Jvm.ClassFile.FieldType.int) [((0 : Nat), (12 : Nat), (15 : Nat), (13 : Nat))]) ∈ lw_all := lw_g (lw_at lw_m9 39 rfl) rfl
theorem q2087 : (Jvm.Cond.methodLink "FlyingDoctorsLaw" (98 : Nat) ({ cls := "FlyingDoctors", name := "dose", desc := "(III)I" } : Jvm.MethodName)) ∈ lw_all := lw_g (lw_at lw_m9 40 rfl) rfl
theorem q2088 : (Jvm.Cond.instanceMethod ({ cls := "FlyingDoctors", name := "dose", desc := "(III)I" } : Jvm.MethodName)) ∈ lw_all := lw_g (lw_at lw_m9 41 rfl) rfl
theorem q2089 : (Jvm.Cond.selects "FlyingDoctors" ({ cls := "FlyingDoctors", name := "dose", desc := "(III)I" } : Jvm.MethodName) ({ cls := "FlyingDoctors", name := "dose", desc := "(III)I" } : Jvm.MethodName)) ∈ lw_all := lw_g (lw_at lw_m9 42 rfl) rfl
theorem q2090 : (Jvm.Cond.code ({ cls := "FlyingDoctors", name := "dose", desc := "(III)I" } : Jvm.MethodName) prog_1_method_67_code (5 : Nat) (Option.some Jvm.ClassFile.FieldType.int)) ∈ lw_all := lw_g (lw_at lw_m9 43 rfl) rfl
theorem q2091 : (Jvm.Cond.methodLink "FlyingDoctors" (542 : Nat) ({ cls := "FlyingDoctors", name := "mayBe", desc := "(LFlyingDoctors$Place;II)Z" } : Jvm.MethodName)) ∈ lw_all := lw_g (lw_at lw_m9 44 rfl) rfl
theorem q2093 : (Jvm.Cond.instanceMethod ({ cls := "FlyingDoctors", name := "mayBe", desc := "(LFlyingDoctors$Place;II)Z" } : Jvm.MethodName)) ∈ lw_all := lw_g (lw_at lw_m9 46 rfl) rfl
theorem q2094 : (Jvm.Cond.code ({ cls := "FlyingDoctors", name := "mayBe", desc := "(LFlyingDoctors$Place;II)Z" } : Jvm.MethodName) prog_1_method_66_code (8 : Nat) (Option.some Jvm.ClassFile.FieldType.boolean)) ∈ lw_all := lw_g (lw_at lw_m9 47 rfl) rfl
theorem q2095 : (Jvm.Cond.classLink "FlyingDoctors" (533 : Nat) "FlyingDoctors$Dose") ∈ lw_all := lw_g (lw_at lw_m9 48 rfl) rfl
theorem q2096 : (Jvm.Cond.methodLink "FlyingDoctors" (535 : Nat) ({ cls := "FlyingDoctors$Dose", name := "isFor", desc := "(II)Z" } : Jvm.MethodName)) ∈ lw_all := lw_g (lw_at lw_m9 49 rfl) rfl
theorem q2097 : (Jvm.Cond.instanceMethod ({ cls := "FlyingDoctors$Dose", name := "isFor", desc := "(II)Z" } : Jvm.MethodName)) ∈ lw_all := lw_g (lw_at lw_m9 50 rfl) rfl
theorem q2098 : (Jvm.Cond.selects "FlyingDoctors$Dose" ({ cls := "FlyingDoctors$Dose", name := "isFor", desc := "(II)Z" } : Jvm.MethodName) ({ cls := "FlyingDoctors$Dose", name := "isFor", desc := "(II)Z" } : Jvm.MethodName)) ∈ lw_all := lw_g (lw_at lw_m9 51 rfl) rfl
theorem q2099 : (Jvm.Cond.code ({ cls := "FlyingDoctors$Dose", name := "isFor", desc := "(II)Z" } : Jvm.MethodName) prog_6_method_2_code (3 : Nat) (Option.some Jvm.ClassFile.FieldType.boolean)) ∈ lw_all := lw_g (lw_at lw_m9 52 rfl) rfl
theorem q2100 : (Jvm.Cond.methodLink "FlyingDoctorsLaw" (234 : Nat) ({ cls := "FlyingDoctorsLaw", name := "counted", desc := "(LFlyingDoctors;III[J)I" } : Jvm.MethodName)) ∈ lw_all := lw_g (lw_at lw_m9 53 rfl) rfl
theorem q2101 : (Jvm.Cond.static ({ cls := "FlyingDoctorsLaw", name := "counted", desc := "(LFlyingDoctors;III[J)I" } : Jvm.MethodName)) ∈ lw_all := lw_g (lw_at lw_m9 54 rfl) rfl
theorem q2102 : (Jvm.Cond.codeWith ({ cls := "FlyingDoctorsLaw", name := "counted", desc := "(LFlyingDoctors;III[J)I" } : Jvm.MethodName) method_29_code (6 : Nat) (Option.some Jvm.ClassFile.FieldType.int) [((0 : Nat), (12 : Nat), (15 : Nat), (13 : Nat)), ((0 : Nat), (12 : Nat), (19 : Nat), (15 : Nat))]) ∈ lw_all := lw_g (lw_at lw_m9 55 rfl) rfl
theorem q2103 : (Jvm.Cond.methodLink "FlyingDoctorsLaw" (101 : Nat) ({ cls := "FlyingDoctors", name := "counted", desc := "(III)I" } : Jvm.MethodName)) ∈ lw_all := lw_g (lw_at lw_m9 56 rfl) rfl
theorem q2104 : (Jvm.Cond.instanceMethod ({ cls := "FlyingDoctors", name := "counted", desc := "(III)I" } : Jvm.MethodName)) ∈ lw_all := lw_g (lw_at lw_m9 57 rfl) rfl
theorem q2105 : (Jvm.Cond.selects "FlyingDoctors" ({ cls := "FlyingDoctors", name := "counted", desc := "(III)I" } : Jvm.MethodName) ({ cls := "FlyingDoctors", name := "counted", desc := "(III)I" } : Jvm.MethodName)) ∈ lw_all := lw_g (lw_at lw_m9 58 rfl) rfl
theorem q2106 : (Jvm.Cond.code ({ cls := "FlyingDoctors", name := "counted", desc := "(III)I" } : Jvm.MethodName) prog_1_method_68_code (6 : Nat) (Option.some Jvm.ClassFile.FieldType.int)) ∈ lw_all := lw_g (lw_at lw_m9 59 rfl) rfl
theorem q2107 : (Jvm.Cond.methodLink "FlyingDoctorsLaw" (246 : Nat) ({ cls := "FlyingDoctorsLaw", name := "giftLeft", desc := "(LFlyingDoctors;I[J)I" } : Jvm.MethodName)) ∈ lw_all := lw_g (lw_at lw_m9 60 rfl) rfl
theorem q2108 : (Jvm.Cond.static ({ cls := "FlyingDoctorsLaw", name := "giftLeft", desc := "(LFlyingDoctors;I[J)I" } : Jvm.MethodName)) ∈ lw_all := lw_g (lw_at lw_m9 61 rfl) rfl
theorem q2109 : (Jvm.Cond.codeWith ({ cls := "FlyingDoctorsLaw", name := "giftLeft", desc := "(LFlyingDoctors;I[J)I" } : Jvm.MethodName) method_30_code (4 : Nat) (Option.some Jvm.ClassFile.FieldType.int) [((0 : Nat), (9 : Nat), (12 : Nat), (13 : Nat))]) ∈ lw_all := lw_g (lw_at lw_m9 62 rfl) rfl
theorem q2110 : (Jvm.Cond.methodLink "FlyingDoctorsLaw" (104 : Nat) ({ cls := "FlyingDoctors", name := "giftLeft", desc := "(I)I" } : Jvm.MethodName)) ∈ lw_all := lw_g (lw_at lw_m9 63 rfl) rfl
theorem q2111 : (Jvm.Cond.instanceMethod ({ cls := "FlyingDoctors", name := "giftLeft", desc := "(I)I" } : Jvm.MethodName)) ∈ lw_all := lw_g (lw_at lw_m9 64 rfl) rfl
theorem q2112 : (Jvm.Cond.selects "FlyingDoctors" ({ cls := "FlyingDoctors", name := "giftLeft", desc := "(I)I" } : Jvm.MethodName) ({ cls := "FlyingDoctors", name := "giftLeft", desc := "(I)I" } : Jvm.MethodName)) ∈ lw_all := lw_g (lw_at lw_m9 65 rfl) rfl
theorem q2113 : (Jvm.Cond.code ({ cls := "FlyingDoctors", name := "giftLeft", desc := "(I)I" } : Jvm.MethodName) prog_1_method_73_code (2 : Nat) (Option.some Jvm.ClassFile.FieldType.int)) ∈ lw_all := lw_g (lw_at lw_m9 66 rfl) rfl
theorem q2114 : (Jvm.Cond.methodLink "FlyingDoctorsLaw" (249 : Nat) ({ cls := "FlyingDoctorsLaw", name := "count", desc := "(LFlyingDoctors;I[J)I" } : Jvm.MethodName)) ∈ lw_all := lw_g (lw_at lw_m9 67 rfl) rfl
theorem q2115 : (Jvm.Cond.static ({ cls := "FlyingDoctorsLaw", name := "count", desc := "(LFlyingDoctors;I[J)I" } : Jvm.MethodName)) ∈ lw_all := lw_g (lw_at lw_m9 68 rfl) rfl
theorem q2116 : (Jvm.Cond.codeWith ({ cls := "FlyingDoctorsLaw", name := "count", desc := "(LFlyingDoctors;I[J)I" } : Jvm.MethodName) method_31_code (4 : Nat) (Option.some Jvm.ClassFile.FieldType.int) [((0 : Nat), (9 : Nat), (12 : Nat), (13 : Nat))]) ∈ lw_all := lw_g (lw_at lw_m9 69 rfl) rfl
theorem q2117 : (Jvm.Cond.methodLink "FlyingDoctorsLaw" (107 : Nat) ({ cls := "FlyingDoctors", name := "count", desc := "(I)I" } : Jvm.MethodName)) ∈ lw_all := lw_g (lw_at lw_m9 70 rfl) rfl
theorem q2118 : (Jvm.Cond.instanceMethod ({ cls := "FlyingDoctors", name := "count", desc := "(I)I" } : Jvm.MethodName)) ∈ lw_all := lw_g (lw_at lw_m9 71 rfl) rfl
theorem q2119 : (Jvm.Cond.selects "FlyingDoctors" ({ cls := "FlyingDoctors", name := "count", desc := "(I)I" } : Jvm.MethodName) ({ cls := "FlyingDoctors", name := "count", desc := "(I)I" } : Jvm.MethodName)) ∈ lw_all := lw_g (lw_at lw_m9 72 rfl) rfl
theorem q2120 : (Jvm.Cond.code ({ cls := "FlyingDoctors", name := "count", desc := "(I)I" } : Jvm.MethodName) prog_1_method_74_code (2 : Nat) (Option.some Jvm.ClassFile.FieldType.int)) ∈ lw_all := lw_g (lw_at lw_m9 73 rfl) rfl
theorem q2121 : (Jvm.Cond.methodLink "FlyingDoctorsLaw" (133 : Nat) ({ cls := "FlyingDoctorsModel", name := "thrown", desc := "()I" } : Jvm.MethodName)) ∈ lw_all := lw_g (lw_at lw_m9 74 rfl) rfl
theorem q2122 : (Jvm.Cond.instanceMethod ({ cls := "FlyingDoctorsModel", name := "thrown", desc := "()I" } : Jvm.MethodName)) ∈ lw_all := lw_g (lw_at lw_m9 75 rfl) rfl
theorem q2123 : (Jvm.Cond.selects "FlyingDoctorsModel" ({ cls := "FlyingDoctorsModel", name := "thrown", desc := "()I" } : Jvm.MethodName) ({ cls := "FlyingDoctorsModel", name := "thrown", desc := "()I" } : Jvm.MethodName)) ∈ lw_all := lw_g (lw_at lw_m9 76 rfl) rfl
theorem q2124 : (Jvm.Cond.code ({ cls := "FlyingDoctorsModel", name := "thrown", desc := "()I" } : Jvm.MethodName) prog_24_method_1_code (1 : Nat) (Option.some Jvm.ClassFile.FieldType.int)) ∈ lw_all := lw_g (lw_at lw_m9 77 rfl) rfl
theorem q2125 : (Jvm.Cond.methodLink "FlyingDoctorsLaw" (117 : Nat) ({ cls := "FlyingDoctorsModel", name := "place", desc := "(IIII)I" } : Jvm.MethodName)) ∈ lw_all := lw_g (lw_at lw_m9 78 rfl) rfl
theorem q2126 : (Jvm.Cond.instanceMethod ({ cls := "FlyingDoctorsModel", name := "place", desc := "(IIII)I" } : Jvm.MethodName)) ∈ lw_all := lw_g (lw_at lw_m9 79 rfl) rfl
theorem q2127 : (Jvm.Cond.selects "FlyingDoctorsModel" ({ cls := "FlyingDoctorsModel", name := "place", desc := "(IIII)I" } : Jvm.MethodName) ({ cls := "FlyingDoctorsModel", name := "place", desc := "(IIII)I" } : Jvm.MethodName)) ∈ lw_all := lw_g (lw_at lw_m9 80 rfl) rfl
theorem q2128 : (Jvm.Cond.code ({ cls := "FlyingDoctorsModel", name := "place", desc := "(IIII)I" } : Jvm.MethodName) prog_24_method_11_code (5 : Nat) (Option.some Jvm.ClassFile.FieldType.int)) ∈ lw_all := lw_g (lw_at lw_m9 81 rfl) rfl
theorem q2129 : (Jvm.Cond.methodLink "FlyingDoctorsLaw" (122 : Nat) ({ cls := "FlyingDoctorsModel", name := "plane", desc := "(IIIII)I" } : Jvm.MethodName)) ∈ lw_all := lw_g (lw_at lw_m9 82 rfl) rfl
theorem q2130 : (Jvm.Cond.instanceMethod ({ cls := "FlyingDoctorsModel", name := "plane", desc := "(IIIII)I" } : Jvm.MethodName)) ∈ lw_all := lw_g (lw_at lw_m9 83 rfl) rfl
theorem q2131 : (Jvm.Cond.selects "FlyingDoctorsModel" ({ cls := "FlyingDoctorsModel", name := "plane", desc := "(IIIII)I" } : Jvm.MethodName) ({ cls := "FlyingDoctorsModel", name := "plane", desc := "(IIIII)I" } : Jvm.MethodName)) ∈ lw_all := lw_g (lw_at lw_m9 84 rfl) rfl
theorem q2132 : (Jvm.Cond.code ({ cls := "FlyingDoctorsModel", name := "plane", desc := "(IIIII)I" } : Jvm.MethodName) prog_24_method_12_code (7 : Nat) (Option.some Jvm.ClassFile.FieldType.int)) ∈ lw_all := lw_g (lw_at lw_m9 85 rfl) rfl
theorem q2133 : (Jvm.Cond.methodLink "FlyingDoctorsModel" (38 : Nat) ({ cls := "FlyingDoctorsModel", name := "isBase", desc := "(I)Z" } : Jvm.MethodName)) ∈ lw_all := lw_g (lw_at lw_m9 86 rfl) rfl
theorem q2135 : (Jvm.Cond.instanceMethod ({ cls := "FlyingDoctorsModel", name := "isBase", desc := "(I)Z" } : Jvm.MethodName)) ∈ lw_all := lw_g (lw_at lw_m9 88 rfl) rfl
theorem q2136 : (Jvm.Cond.instantiable "FlyingDoctorsModel" (117 : Nat)) ∈ lw_all := lw_g (lw_at lw_m9 89 rfl) rfl
theorem q2137 : (Jvm.Cond.code ({ cls := "FlyingDoctorsModel", name := "isBase", desc := "(I)Z" } : Jvm.MethodName) prog_24_method_9_code (2 : Nat) (Option.some Jvm.ClassFile.FieldType.boolean)) ∈ lw_all := lw_g (lw_at lw_m9 90 rfl) rfl
theorem q2138 : (Jvm.Cond.methodLink "FlyingDoctorsLaw" (126 : Nat) ({ cls := "FlyingDoctorsModel", name := "person", desc := "(II)I" } : Jvm.MethodName)) ∈ lw_all := lw_g (lw_at lw_m9 91 rfl) rfl
theorem q2139 : (Jvm.Cond.instanceMethod ({ cls := "FlyingDoctorsModel", name := "person", desc := "(II)I" } : Jvm.MethodName)) ∈ lw_all := lw_g (lw_at lw_m9 92 rfl) rfl
theorem q2140 : (Jvm.Cond.selects "FlyingDoctorsModel" ({ cls := "FlyingDoctorsModel", name := "person", desc := "(II)I" } : Jvm.MethodName) ({ cls := "FlyingDoctorsModel", name := "person", desc := "(II)I" } : Jvm.MethodName)) ∈ lw_all := lw_g (lw_at lw_m9 93 rfl) rfl
theorem q2141 : (Jvm.Cond.code ({ cls := "FlyingDoctorsModel", name := "person", desc := "(II)I" } : Jvm.MethodName) prog_24_method_13_code (3 : Nat) (Option.some Jvm.ClassFile.FieldType.int)) ∈ lw_all := lw_g (lw_at lw_m9 94 rfl) rfl
theorem q2142 : (Jvm.Cond.methodLink "FlyingDoctorsLaw" (132 : Nat) ({ cls := "FlyingDoctorsModel", name := "drums", desc := "(II)I" } : Jvm.MethodName)) ∈ lw_all := lw_g (lw_at lw_m9 95 rfl) rfl
theorem q2143 : (Jvm.Cond.instanceMethod ({ cls := "FlyingDoctorsModel", name := "drums", desc := "(II)I" } : Jvm.MethodName)) ∈ lw_all := lw_g (lw_at lw_m9 96 rfl) rfl
theorem q2144 : (Jvm.Cond.selects "FlyingDoctorsModel" ({ cls := "FlyingDoctorsModel", name := "drums", desc := "(II)I" } : Jvm.MethodName) ({ cls := "FlyingDoctorsModel", name := "drums", desc := "(II)I" } : Jvm.MethodName)) ∈ lw_all := lw_g (lw_at lw_m9 97 rfl) rfl
theorem q2145 : (Jvm.Cond.code ({ cls := "FlyingDoctorsModel", name := "drums", desc := "(II)I" } : Jvm.MethodName) prog_24_method_14_code (4 : Nat) (Option.some Jvm.ClassFile.FieldType.int)) ∈ lw_all := lw_g (lw_at lw_m9 98 rfl) rfl
theorem q2146 : (Jvm.Cond.methodLink "FlyingDoctorsModel" (75 : Nat) ({ cls := "FlyingDoctorsModel", name := "isPlace", desc := "(I)Z" } : Jvm.MethodName)) ∈ lw_all := lw_g (lw_at lw_m9 99 rfl) rfl
theorem q2148 : (Jvm.Cond.instanceMethod ({ cls := "FlyingDoctorsModel", name := "isPlace", desc := "(I)Z" } : Jvm.MethodName)) ∈ lw_all := lw_g (lw_at lw_m9 101 rfl) rfl
theorem q2149 : (Jvm.Cond.code ({ cls := "FlyingDoctorsModel", name := "isPlace", desc := "(I)Z" } : Jvm.MethodName) prog_24_method_3_code (2 : Nat) (Option.some Jvm.ClassFile.FieldType.boolean)) ∈ lw_all := lw_g (lw_at lw_m9 102 rfl) rfl
theorem q2150 : (Jvm.Cond.methodLink "FlyingDoctorsModel" (10 : Nat) ({ cls := "FlyingDoctorsModel", name := "right", desc := "(ZI)Z" } : Jvm.MethodName)) ∈ lw_all := lw_g (lw_at lw_m9 103 rfl) rfl
theorem q2152 : (Jvm.Cond.instanceMethod ({ cls := "FlyingDoctorsModel", name := "right", desc := "(ZI)Z" } : Jvm.MethodName)) ∈ lw_all := lw_g (lw_at lw_m9 105 rfl) rfl
theorem q2153 : (Jvm.Cond.code ({ cls := "FlyingDoctorsModel", name := "right", desc := "(ZI)Z" } : Jvm.MethodName) prog_24_method_2_code (3 : Nat) (Option.some Jvm.ClassFile.FieldType.boolean)) ∈ lw_all := lw_g (lw_at lw_m9 106 rfl) rfl
theorem q2154 : (Jvm.Cond.methodLink "FlyingDoctorsLaw" (154 : Nat) ({ cls := "FlyingDoctorsModel", name := "quarters", desc := "(I)I" } : Jvm.MethodName)) ∈ lw_all := lw_g (lw_at lw_m9 107 rfl) rfl
theorem q2155 : (Jvm.Cond.instanceMethod ({ cls := "FlyingDoctorsModel", name := "quarters", desc := "(I)I" } : Jvm.MethodName)) ∈ lw_all := lw_g (lw_at lw_m9 108 rfl) rfl
theorem q2156 : (Jvm.Cond.selects "FlyingDoctorsModel" ({ cls := "FlyingDoctorsModel", name := "quarters", desc := "(I)I" } : Jvm.MethodName) ({ cls := "FlyingDoctorsModel", name := "quarters", desc := "(I)I" } : Jvm.MethodName)) ∈ lw_all := lw_g (lw_at lw_m9 109 rfl) rfl
theorem q2157 : (Jvm.Cond.code ({ cls := "FlyingDoctorsModel", name := "quarters", desc := "(I)I" } : Jvm.MethodName) prog_24_method_15_code (2 : Nat) (Option.some Jvm.ClassFile.FieldType.int)) ∈ lw_all := lw_g (lw_at lw_m9 110 rfl) rfl
theorem q2158 : (Jvm.Cond.methodLink "FlyingDoctorsLaw" (140 : Nat) ({ cls := "FlyingDoctorsModel", name := "feed", desc := "(IIIII)I" } : Jvm.MethodName)) ∈ lw_all := lw_g (lw_at lw_m9 111 rfl) rfl
theorem q2159 : (Jvm.Cond.instanceMethod ({ cls := "FlyingDoctorsModel", name := "feed", desc := "(IIIII)I" } : Jvm.MethodName)) ∈ lw_all := lw_g (lw_at lw_m9 112 rfl) rfl
theorem q2160 : (Jvm.Cond.selects "FlyingDoctorsModel" ({ cls := "FlyingDoctorsModel", name := "feed", desc := "(IIIII)I" } : Jvm.MethodName) ({ cls := "FlyingDoctorsModel", name := "feed", desc := "(IIIII)I" } : Jvm.MethodName)) ∈ lw_all := lw_g (lw_at lw_m9 113 rfl) rfl
theorem q2161 : (Jvm.Cond.code ({ cls := "FlyingDoctorsModel", name := "feed", desc := "(IIIII)I" } : Jvm.MethodName) prog_24_method_16_code (6 : Nat) (Option.some Jvm.ClassFile.FieldType.int)) ∈ lw_all := lw_g (lw_at lw_m9 114 rfl) rfl
theorem q2162 : (Jvm.Cond.methodLink "FlyingDoctorsModel" (87 : Nat) ({ cls := "FlyingDoctorsModel", name := "lays", desc := "(I)V" } : Jvm.MethodName)) ∈ lw_all := lw_g (lw_at lw_m9 115 rfl) rfl
theorem q2164 : (Jvm.Cond.instanceMethod ({ cls := "FlyingDoctorsModel", name := "lays", desc := "(I)V" } : Jvm.MethodName)) ∈ lw_all := lw_g (lw_at lw_m9 117 rfl) rfl
theorem q2165 : (Jvm.Cond.code ({ cls := "FlyingDoctorsModel", name := "lays", desc := "(I)V" } : Jvm.MethodName) prog_24_method_17_code (3 : Nat) (Option.none : Option Jvm.ClassFile.FieldType)) ∈ lw_all := lw_g (lw_at lw_m9 118 rfl) rfl
theorem q2166 : (Jvm.Cond.classLink "FlyingDoctorsLaw" (111 : Nat) "FlyingDoctorsModel") ∈ lw_all := lw_g (lw_at lw_m9 119 rfl) rfl
theorem q2167 : (Jvm.Cond.methodLink "FlyingDoctorsLaw" (113 : Nat) ({ cls := "FlyingDoctorsModel", name := "<init>", desc := "()V" } : Jvm.MethodName)) ∈ lw_all := lw_g (lw_at lw_m9 120 rfl) rfl
theorem q2168 : (Jvm.Cond.instanceMethod ({ cls := "FlyingDoctorsModel", name := "<init>", desc := "()V" } : Jvm.MethodName)) ∈ lw_all := lw_g (lw_at lw_m9 121 rfl) rfl
theorem q2169 : (Jvm.Cond.code ({ cls := "FlyingDoctorsModel", name := "<init>", desc := "()V" } : Jvm.MethodName) prog_24_method_23_code (1 : Nat) (Option.none : Option Jvm.ClassFile.FieldType)) ∈ lw_all := lw_g (lw_at lw_m9 122 rfl) rfl
theorem q2170 : (Jvm.Cond.methodLink "FlyingDoctorsModel" (128 : Nat) ({ cls := "java/lang/Object", name := "<init>", desc := "()V" } : Jvm.MethodName)) ∈ lw_all := lw_g (lw_at lw_m9 123 rfl) rfl
theorem q2171 : (Jvm.Cond.methodLink "FlyingDoctorsModel" (340 : Nat) ({ cls := "FlyingDoctorsModel", name := "spelled", desc := "(IIIIIII)J" } : Jvm.MethodName)) ∈ lw_all := lw_g (lw_at lw_m9 124 rfl) rfl
theorem q2172 : (Jvm.Cond.static ({ cls := "FlyingDoctorsModel", name := "spelled", desc := "(IIIIIII)J" } : Jvm.MethodName)) ∈ lw_all := lw_g (lw_at lw_m9 125 rfl) rfl
theorem q2173 : (Jvm.Cond.code ({ cls := "FlyingDoctorsModel", name := "spelled", desc := "(IIIIIII)J" } : Jvm.MethodName) prog_24_method_22_code (9 : Nat) (Option.some Jvm.ClassFile.FieldType.long)) ∈ lw_all := lw_g (lw_at lw_m9 126 rfl) rfl
theorem q2174 : (Jvm.Cond.fieldLink "FlyingDoctorsModel" (1 : Nat) "FlyingDoctorsModel" "thrown" "I") ∈ lw_all := lw_g (lw_at lw_m9 127 rfl) rfl
theorem q2175 : (Jvm.Cond.fieldLink "FlyingDoctorsModel" (81 : Nat) "FlyingDoctorsModel" "now" "I") ∈ lw_all := lw_g (lw_at lw_m9 128 rfl) rfl
theorem q2176 : (Jvm.Cond.fieldLink "FlyingDoctorsModel" (7 : Nat) "FlyingDoctorsModel" "places" "I") ∈ lw_all := lw_g (lw_at lw_m9 129 rfl) rfl
theorem q2177 : (Jvm.Cond.fieldLink "FlyingDoctorsModel" (14 : Nat) "FlyingDoctorsModel" "planes" "I") ∈ lw_all := lw_g (lw_at lw_m9 130 rfl) rfl
theorem q2178 : (Jvm.Cond.fieldLink "FlyingDoctorsModel" (60 : Nat) "FlyingDoctorsModel" "people" "I") ∈ lw_all := lw_g (lw_at lw_m9 131 rfl) rfl
theorem q2179 : (Jvm.Cond.fieldLink "FlyingDoctorsModel" (17 : Nat) "FlyingDoctorsModel" "x" "[I") ∈ lw_all := lw_g (lw_at lw_m9 132 rfl) rfl
theorem q2180 : (Jvm.Cond.fieldLink "FlyingDoctorsModel" (25 : Nat) "FlyingDoctorsModel" "y" "[I") ∈ lw_all := lw_g (lw_at lw_m9 133 rfl) rfl
theorem q2181 : (Jvm.Cond.fieldLink "FlyingDoctorsModel" (42 : Nat) "FlyingDoctorsModel" "strip" "[I") ∈ lw_all := lw_g (lw_at lw_m9 134 rfl) rfl
theorem q2182 : (Jvm.Cond.fieldLink "FlyingDoctorsModel" (35 : Nat) "FlyingDoctorsModel" "is" "[I") ∈ lw_all := lw_g (lw_at lw_m9 135 rfl) rfl
theorem q2183 : (Jvm.Cond.fieldLink "FlyingDoctorsModel" (78 : Nat) "FlyingDoctorsModel" "drums" "[I") ∈ lw_all := lw_g (lw_at lw_m9 136 rfl) rfl
theorem q2184 : (Jvm.Cond.fieldLink "FlyingDoctorsModel" (32 : Nat) "FlyingDoctorsModel" "pace" "[I") ∈ lw_all := lw_g (lw_at lw_m9 137 rfl) rfl
theorem q2185 : (Jvm.Cond.fieldLink "FlyingDoctorsModel" (45 : Nat) "FlyingDoctorsModel" "tank" "[I") ∈ lw_all := lw_g (lw_at lw_m9 138 rfl) rfl
theorem q2186 : (Jvm.Cond.fieldLink "FlyingDoctorsModel" (48 : Nat) "FlyingDoctorsModel" "thirst" "[I") ∈ lw_all := lw_g (lw_at lw_m9 139 rfl) rfl
theorem q2187 : (Jvm.Cond.fieldLink "FlyingDoctorsModel" (51 : Nat) "FlyingDoctorsModel" "needs" "[I") ∈ lw_all := lw_g (lw_at lw_m9 140 rfl) rfl
theorem q2188 : (Jvm.Cond.fieldLink "FlyingDoctorsModel" (54 : Nat) "FlyingDoctorsModel" "planeAt" "[I") ∈ lw_all := lw_g (lw_at lw_m9 141 rfl) rfl
theorem q2189 : (Jvm.Cond.fieldLink "FlyingDoctorsModel" (57 : Nat) "FlyingDoctorsModel" "fuel" "[I") ∈ lw_all := lw_g (lw_at lw_m9 142 rfl) rfl
theorem q2190 : (Jvm.Cond.fieldLink "FlyingDoctorsModel" (134 : Nat) "FlyingDoctorsModel" "planeOver" "[I") ∈ lw_all := lw_g (lw_at lw_m9 143 rfl) rfl
theorem q2191 : (Jvm.Cond.fieldLink "FlyingDoctorsModel" (63 : Nat) "FlyingDoctorsModel" "kind" "[I") ∈ lw_all := lw_g (lw_at lw_m9 144 rfl) rfl
theorem q2192 : (Jvm.Cond.fieldLink "FlyingDoctorsModel" (66 : Nat) "FlyingDoctorsModel" "firstAt" "[I") ∈ lw_all := lw_g (lw_at lw_m9 145 rfl) rfl
theorem q2193 : (Jvm.Cond.fieldLink "FlyingDoctorsModel" (69 : Nat) "FlyingDoctorsModel" "personAt" "[I") ∈ lw_all := lw_g (lw_at lw_m9 146 rfl) rfl
theorem q2194 : (Jvm.Cond.fieldLink "FlyingDoctorsModel" (137 : Nat) "FlyingDoctorsModel" "personOver" "[I") ∈ lw_all := lw_g (lw_at lw_m9 147 rfl) rfl
theorem q2195 : (Jvm.Cond.fieldLink "FlyingDoctorsModel" (72 : Nat) "FlyingDoctorsModel" "pilotOver" "[I") ∈ lw_all := lw_g (lw_at lw_m9 148 rfl) rfl
theorem q2196 : (Jvm.Cond.fieldLink "FlyingDoctorsModel" (91 : Nat) "FlyingDoctorsModel" "tape" "[I") ∈ lw_all := lw_g (lw_at lw_m9 149 rfl) rfl
theorem q2197 : (Jvm.Cond.fieldLink "FlyingDoctorsModel" (84 : Nat) "FlyingDoctorsModel" "taped" "I") ∈ lw_all := lw_g (lw_at lw_m9 150 rfl) rfl
theorem q2198 : (Jvm.Cond.fieldLink "FlyingDoctorsModel" (344 : Nat) "FlyingDoctorsModel" "faultKind" "I") ∈ lw_all := lw_g (lw_at lw_m9 151 rfl) rfl
theorem q2199 : (Jvm.Cond.fieldLink "FlyingDoctorsModel" (140 : Nat) "FlyingDoctorsModel" "faultPlace" "I") ∈ lw_all := lw_g (lw_at lw_m9 152 rfl) rfl
theorem q2200 : (Jvm.Cond.fieldLink "FlyingDoctorsModel" (94 : Nat) "FlyingDoctorsModel" "size" "I") ∈ lw_all := lw_g (lw_at lw_m9 153 rfl) rfl
theorem q2201 : (Jvm.Cond.fieldLink "FlyingDoctorsModel" (97 : Nat) "FlyingDoctorsModel" "next" "I") ∈ lw_all := lw_g (lw_at lw_m9 154 rfl) rfl
theorem q2202 : (Jvm.Cond.fieldLink "FlyingDoctorsModel" (116 : Nat) "FlyingDoctorsModel" "sort" "I") ∈ lw_all := lw_g (lw_at lw_m9 155 rfl) rfl
theorem q2203 : (Jvm.Cond.fieldLink "FlyingDoctorsModel" (103 : Nat) "FlyingDoctorsModel" "place" "I") ∈ lw_all := lw_g (lw_at lw_m9 156 rfl) rfl
theorem q2204 : (Jvm.Cond.fieldLink "FlyingDoctorsModel" (125 : Nat) "FlyingDoctorsModel" "long0" "I") ∈ lw_all := lw_g (lw_at lw_m9 157 rfl) rfl
theorem q2205 : (Jvm.Cond.fieldLink "FlyingDoctorsModel" (110 : Nat) "FlyingDoctorsModel" "value" "I") ∈ lw_all := lw_g (lw_at lw_m9 158 rfl) rfl
theorem q2206 : (Jvm.Cond.fieldLink "FlyingDoctorsModel" (113 : Nat) "FlyingDoctorsModel" "sign" "I") ∈ lw_all := lw_g (lw_at lw_m9 159 rfl) rfl
theorem q2207 : (Jvm.Cond.fieldLink "FlyingDoctorsModel" (106 : Nat) "FlyingDoctorsModel" "word" "J") ∈ lw_all := lw_g (lw_at lw_m9 160 rfl) rfl
theorem q2208 : (Jvm.Cond.fieldLink "FlyingDoctorsModel" (143 : Nat) "FlyingDoctorsModel" "known" "[J") ∈ lw_all := lw_g (lw_at lw_m9 161 rfl) rfl
theorem q2209 : (Jvm.Cond.fieldLink "FlyingDoctorsModel" (404 : Nat) "FlyingDoctorsModel" "texts" "I") ∈ lw_all := lw_g (lw_at lw_m9 162 rfl) rfl
theorem q2210 : (Jvm.Cond.fieldLink "FlyingDoctorsModel" (426 : Nat) "FlyingDoctorsModel" "wordsEver" "I") ∈ lw_all := lw_g (lw_at lw_m9 163 rfl) rfl
theorem q2211 : (Jvm.Cond.fieldLink "FlyingDoctorsModel" (401 : Nat) "FlyingDoctorsModel" "wordsNew" "I") ∈ lw_all := lw_g (lw_at lw_m9 164 rfl) rfl
theorem q2212 : (Jvm.Cond.fieldLink "FlyingDoctorsModel" (372 : Nat) "FlyingDoctorsModel" "wordsHere" "I") ∈ lw_all := lw_g (lw_at lw_m9 165 rfl) rfl
theorem q2213 : (Jvm.Cond.fieldLink "FlyingDoctorsModel" (413 : Nat) "FlyingDoctorsModel" "clauses" "I") ∈ lw_all := lw_g (lw_at lw_m9 166 rfl) rfl
theorem q2214 : (Jvm.Cond.fieldLink "FlyingDoctorsModel" (147 : Nat) "FlyingDoctorsModel" "told" "[I") ∈ lw_all := lw_g (lw_at lw_m9 167 rfl) rfl
theorem q2215 : (Jvm.Cond.fieldLink "FlyingDoctorsModel" (150 : Nat) "FlyingDoctorsModel" "param" "[I") ∈ lw_all := lw_g (lw_at lw_m9 168 rfl) rfl
theorem q2216 : (Jvm.Cond.fieldLink "FlyingDoctorsModel" (153 : Nat) "FlyingDoctorsModel" "first" "[I") ∈ lw_all := lw_g (lw_at lw_m9 169 rfl) rfl
theorem q2217 : (Jvm.Cond.fieldLink "FlyingDoctorsModel" (156 : Nat) "FlyingDoctorsModel" "flies" "[I") ∈ lw_all := lw_g (lw_at lw_m9 170 rfl) rfl
theorem q2218 : (Jvm.Cond.fieldLink "FlyingDoctorsModel" (159 : Nat) "FlyingDoctorsModel" "fly" "[I") ∈ lw_all := lw_g (lw_at lw_m9 171 rfl) rfl
theorem q2219 : (Jvm.Cond.fieldLink "FlyingDoctorsModel" (162 : Nat) "FlyingDoctorsModel" "chests" "[I") ∈ lw_all := lw_g (lw_at lw_m9 172 rfl) rfl
theorem q2220 : (Jvm.Cond.fieldLink "FlyingDoctorsModel" (165 : Nat) "FlyingDoctorsModel" "chestNumber" "[I") ∈ lw_all := lw_g (lw_at lw_m9 173 rfl) rfl
theorem q2221 : (Jvm.Cond.fieldLink "FlyingDoctorsModel" (168 : Nat) "FlyingDoctorsModel" "chestWho" "[I") ∈ lw_all := lw_g (lw_at lw_m9 174 rfl) rfl
theorem q2222 : (Jvm.Cond.fieldLink "FlyingDoctorsModel" (171 : Nat) "FlyingDoctorsModel" "chestIf" "[I") ∈ lw_all := lw_g (lw_at lw_m9 175 rfl) rfl
theorem q2223 : (Jvm.Cond.fieldLink "FlyingDoctorsModel" (174 : Nat) "FlyingDoctorsModel" "spelling" "[J") ∈ lw_all := lw_g (lw_at lw_m9 176 rfl) rfl
theorem q2224 : (Jvm.Cond.fieldLink "FlyingDoctorsModel" (177 : Nat) "FlyingDoctorsModel" "wordHere" "[I") ∈ lw_all := lw_g (lw_at lw_m9 177 rfl) rfl
theorem q2225 : (Jvm.Cond.fieldLink "FlyingDoctorsModel" (180 : Nat) "FlyingDoctorsModel" "code" "[I") ∈ lw_all := lw_g (lw_at lw_m9 178 rfl) rfl
theorem q2226 : (Jvm.Cond.fieldLink "FlyingDoctorsModel" (360 : Nat) "FlyingDoctorsModel" "top" "I") ∈ lw_all := lw_g (lw_at lw_m9 179 rfl) rfl
theorem q2227 : (Jvm.Cond.fieldLink "FlyingDoctorsModel" (183 : Nat) "FlyingDoctorsModel" "waits" "[I") ∈ lw_all := lw_g (lw_at lw_m9 180 rfl) rfl
theorem q2228 : (Jvm.Cond.fieldLink "FlyingDoctorsModel" (363 : Nat) "FlyingDoctorsModel" "waiting" "I") ∈ lw_all := lw_g (lw_at lw_m9 181 rfl) rfl
theorem q2229 : (Jvm.Cond.fieldLink "FlyingDoctorsModel" (382 : Nat) "FlyingDoctorsModel" "depth" "I") ∈ lw_all := lw_g (lw_at lw_m9 182 rfl) rfl
theorem q2230 : (Jvm.Cond.fieldLink "FlyingDoctorsModel" (186 : Nat) "FlyingDoctorsModel" "tested" "[Z") ∈ lw_all := lw_g (lw_at lw_m9 183 rfl) rfl
theorem q2231 : (Jvm.Cond.fieldLink "FlyingDoctorsModel" (190 : Nat) "FlyingDoctorsModel" "values" "[I") ∈ lw_all := lw_g (lw_at lw_m9 184 rfl) rfl
theorem q2232 : (Jvm.Cond.fieldLink "FlyingDoctorsModel" (193 : Nat) "FlyingDoctorsModel" "pile" "[I") ∈ lw_all := lw_g (lw_at lw_m9 185 rfl) rfl
theorem q2233 : (Jvm.Cond.fieldLink "FlyingDoctorsModel" (441 : Nat) "FlyingDoctorsModel" "saidBits" "I") ∈ lw_all := lw_g (lw_at lw_m9 186 rfl) rfl
theorem q2234 : (Jvm.Cond.fieldLink "FlyingDoctorsModel" (448 : Nat) "FlyingDoctorsModel" "rains" "I") ∈ lw_all := lw_g (lw_at lw_m9 187 rfl) rfl
theorem q2235 : (Jvm.Cond.fieldLink "FlyingDoctorsModel" (196 : Nat) "FlyingDoctorsModel" "rainAt" "[I") ∈ lw_all := lw_g (lw_at lw_m9 188 rfl) rfl
theorem q2236 : (Jvm.Cond.fieldLink "FlyingDoctorsModel" (199 : Nat) "FlyingDoctorsModel" "rainDay" "[I") ∈ lw_all := lw_g (lw_at lw_m9 189 rfl) rfl
theorem q2237 : (Jvm.Cond.fieldLink "FlyingDoctorsModel" (202 : Nat) "FlyingDoctorsModel" "rainOf" "[I") ∈ lw_all := lw_g (lw_at lw_m9 190 rfl) rfl
theorem q2238 : (Jvm.Cond.fieldLink "FlyingDoctorsModel" (205 : Nat) "FlyingDoctorsModel" "rainTold" "[I") ∈ lw_all := lw_g (lw_at lw_m9 191 rfl) rfl
theorem q2239 : (Jvm.Cond.fieldLink "FlyingDoctorsModel" (208 : Nat) "FlyingDoctorsModel" "hours" "[I") ∈ lw_all := lw_g (lw_at lw_m9 192 rfl) rfl
theorem q2240 : (Jvm.Cond.fieldLink "FlyingDoctorsModel" (211 : Nat) "FlyingDoctorsModel" "range" "[I") ∈ lw_all := lw_g (lw_at lw_m9 193 rfl) rfl
theorem q2241 : (Jvm.Cond.fieldLink "FlyingDoctorsModel" (214 : Nat) "FlyingDoctorsModel" "has" "[Z") ∈ lw_all := lw_g (lw_at lw_m9 194 rfl) rfl
theorem q2242 : (Jvm.Cond.fieldLink "FlyingDoctorsModel" (217 : Nat) "FlyingDoctorsModel" "gets" "[Z") ∈ lw_all := lw_g (lw_at lw_m9 195 rfl) rfl
theorem q2243 : (Jvm.Cond.fieldLink "FlyingDoctorsModel" (497 : Nat) "FlyingDoctorsModel" "calls" "I") ∈ lw_all := lw_g (lw_at lw_m9 196 rfl) rfl
theorem q2244 : (Jvm.Cond.fieldLink "FlyingDoctorsModel" (220 : Nat) "FlyingDoctorsModel" "callAt" "[I") ∈ lw_all := lw_g (lw_at lw_m9 197 rfl) rfl
theorem q2245 : (Jvm.Cond.fieldLink "FlyingDoctorsModel" (223 : Nat) "FlyingDoctorsModel" "callWords" "[I") ∈ lw_all := lw_g (lw_at lw_m9 198 rfl) rfl
theorem q2246 : (Jvm.Cond.fieldLink "FlyingDoctorsModel" (226 : Nat) "FlyingDoctorsModel" "callTold" "[I") ∈ lw_all := lw_g (lw_at lw_m9 199 rfl) rfl
theorem q2247 : (Jvm.Cond.fieldLink "FlyingDoctorsModel" (229 : Nat) "FlyingDoctorsModel" "callHeard" "[I") ∈ lw_all := lw_g (lw_at lw_m9 200 rfl) rfl
theorem q2248 : (Jvm.Cond.fieldLink "FlyingDoctorsModel" (232 : Nat) "FlyingDoctorsModel" "ordered" "[I") ∈ lw_all := lw_g (lw_at lw_m9 201 rfl) rfl
theorem q2249 : (Jvm.Cond.fieldLink "FlyingDoctorsModel" (235 : Nat) "FlyingDoctorsModel" "weight" "[I") ∈ lw_all := lw_g (lw_at lw_m9 202 rfl) rfl
theorem q2250 : (Jvm.Cond.fieldLink "FlyingDoctorsModel" (521 : Nat) "FlyingDoctorsModel" "finds" "I") ∈ lw_all := lw_g (lw_at lw_m9 203 rfl) rfl
theorem q2251 : (Jvm.Cond.fieldLink "FlyingDoctorsModel" (238 : Nat) "FlyingDoctorsModel" "findOf" "[I") ∈ lw_all := lw_g (lw_at lw_m9 204 rfl) rfl
theorem q2252 : (Jvm.Cond.fieldLink "FlyingDoctorsModel" (241 : Nat) "FlyingDoctorsModel" "findTold" "[I") ∈ lw_all := lw_g (lw_at lw_m9 205 rfl) rfl
theorem q2253 : (Jvm.Cond.fieldLink "FlyingDoctorsModel" (244 : Nat) "FlyingDoctorsModel" "findGrave" "[Z") ∈ lw_all := lw_g (lw_at lw_m9 206 rfl) rfl
theorem q2254 : (Jvm.Cond.fieldLink "FlyingDoctorsModel" (550 : Nat) "FlyingDoctorsModel" "flights" "I") ∈ lw_all := lw_g (lw_at lw_m9 207 rfl) rfl
theorem q2255 : (Jvm.Cond.fieldLink "FlyingDoctorsModel" (247 : Nat) "FlyingDoctorsModel" "failedAt" "I") ∈ lw_all := lw_g (lw_at lw_m9 208 rfl) rfl
theorem q2256 : (Jvm.Cond.fieldLink "FlyingDoctorsModel" (250 : Nat) "FlyingDoctorsModel" "planeOf" "[I") ∈ lw_all := lw_g (lw_at lw_m9 209 rfl) rfl
theorem q2257 : (Jvm.Cond.fieldLink "FlyingDoctorsModel" (253 : Nat) "FlyingDoctorsModel" "pilotOf" "[I") ∈ lw_all := lw_g (lw_at lw_m9 210 rfl) rfl
theorem q2258 : (Jvm.Cond.fieldLink "FlyingDoctorsModel" (256 : Nat) "FlyingDoctorsModel" "legs" "[I") ∈ lw_all := lw_g (lw_at lw_m9 211 rfl) rfl
theorem q2259 : (Jvm.Cond.fieldLink "FlyingDoctorsModel" (259 : Nat) "FlyingDoctorsModel" "startAt" "[I") ∈ lw_all := lw_g (lw_at lw_m9 212 rfl) rfl
theorem q2260 : (Jvm.Cond.fieldLink "FlyingDoctorsModel" (262 : Nat) "FlyingDoctorsModel" "leftLeg" "[I") ∈ lw_all := lw_g (lw_at lw_m9 213 rfl) rfl
theorem q2261 : (Jvm.Cond.fieldLink "FlyingDoctorsModel" (265 : Nat) "FlyingDoctorsModel" "leftWho" "[I") ∈ lw_all := lw_g (lw_at lw_m9 214 rfl) rfl
theorem q2262 : (Jvm.Cond.fieldLink "FlyingDoctorsModel" (268 : Nat) "FlyingDoctorsModel" "takenLeg" "[I") ∈ lw_all := lw_g (lw_at lw_m9 215 rfl) rfl
theorem q2263 : (Jvm.Cond.fieldLink "FlyingDoctorsModel" (271 : Nat) "FlyingDoctorsModel" "takenWho" "[I") ∈ lw_all := lw_g (lw_at lw_m9 216 rfl) rfl
theorem q2264 : (Jvm.Cond.fieldLink "FlyingDoctorsModel" (274 : Nat) "FlyingDoctorsModel" "legPlace" "[I") ∈ lw_all := lw_g (lw_at lw_m9 217 rfl) rfl
theorem q2265 : (Jvm.Cond.fieldLink "FlyingDoctorsModel" (277 : Nat) "FlyingDoctorsModel" "legLeave" "[I") ∈ lw_all := lw_g (lw_at lw_m9 218 rfl) rfl
theorem q2266 : (Jvm.Cond.fieldLink "FlyingDoctorsModel" (280 : Nat) "FlyingDoctorsModel" "legCome" "[I") ∈ lw_all := lw_g (lw_at lw_m9 219 rfl) rfl
theorem q2267 : (Jvm.Cond.fieldLink "FlyingDoctorsModel" (283 : Nat) "FlyingDoctorsModel" "legFuel" "[I") ∈ lw_all := lw_g (lw_at lw_m9 220 rfl) rfl
theorem q2268 : (Jvm.Cond.fieldLink "FlyingDoctorsModel" (286 : Nat) "FlyingDoctorsModel" "legTaken" "[I") ∈ lw_all := lw_g (lw_at lw_m9 221 rfl) rfl
theorem q2269 : (Jvm.Cond.fieldLink "FlyingDoctorsModel" (289 : Nat) "FlyingDoctorsModel" "legFlown" "[I") ∈ lw_all := lw_g (lw_at lw_m9 222 rfl) rfl
theorem q2270 : (Jvm.Cond.fieldLink "FlyingDoctorsModel" (292 : Nat) "FlyingDoctorsModel" "legBoard" "[I") ∈ lw_all := lw_g (lw_at lw_m9 223 rfl) rfl
theorem q2271 : (Jvm.Cond.fieldLink "FlyingDoctorsModel" (295 : Nat) "FlyingDoctorsModel" "drummed" "[I") ∈ lw_all := lw_g (lw_at lw_m9 224 rfl) rfl
theorem q2272 : (Jvm.Cond.fieldLink "FlyingDoctorsModel" (577 : Nat) "FlyingDoctorsModel" "clinics" "I") ∈ lw_all := lw_g (lw_at lw_m9 225 rfl) rfl
theorem q2273 : (Jvm.Cond.fieldLink "FlyingDoctorsModel" (593 : Nat) "FlyingDoctorsModel" "weekMany" "I") ∈ lw_all := lw_g (lw_at lw_m9 226 rfl) rfl
theorem q2274 : (Jvm.Cond.fieldLink "FlyingDoctorsModel" (596 : Nat) "FlyingDoctorsModel" "weekQuarters" "I") ∈ lw_all := lw_g (lw_at lw_m9 227 rfl) rfl
theorem q2275 : (Jvm.Cond.fieldLink "FlyingDoctorsModel" (298 : Nat) "FlyingDoctorsModel" "clinicAt" "[I") ∈ lw_all := lw_g (lw_at lw_m9 228 rfl) rfl
theorem q2276 : (Jvm.Cond.fieldLink "FlyingDoctorsModel" (301 : Nat) "FlyingDoctorsModel" "standing" "[I") ∈ lw_all := lw_g (lw_at lw_m9 229 rfl) rfl
theorem q2277 : (Jvm.Cond.fieldLink "FlyingDoctorsModel" (304 : Nat) "FlyingDoctorsModel" "stays" "[I") ∈ lw_all := lw_g (lw_at lw_m9 230 rfl) rfl
theorem q2278 : (Jvm.Cond.fieldLink "FlyingDoctorsModel" (307 : Nat) "FlyingDoctorsModel" "weekDay" "[I") ∈ lw_all := lw_g (lw_at lw_m9 231 rfl) rfl
theorem q2279 : (Jvm.Cond.fieldLink "FlyingDoctorsModel" (310 : Nat) "FlyingDoctorsModel" "rounds" "[I") ∈ lw_all := lw_g (lw_at lw_m9 232 rfl) rfl
theorem q2280 : (Jvm.Cond.fieldLink "FlyingDoctorsModel" (313 : Nat) "FlyingDoctorsModel" "least" "[I") ∈ lw_all := lw_g (lw_at lw_m9 233 rfl) rfl
theorem q2281 : (Jvm.Cond.fieldLink "FlyingDoctorsModel" (316 : Nat) "FlyingDoctorsModel" "moved" "[I") ∈ lw_all := lw_g (lw_at lw_m9 234 rfl) rfl
theorem q2282 : (Jvm.Cond.fieldLink "FlyingDoctorsModel" (319 : Nat) "FlyingDoctorsModel" "spent" "[I") ∈ lw_all := lw_g (lw_at lw_m9 235 rfl) rfl
theorem q2283 : (Jvm.Cond.fieldLink "FlyingDoctorsModel" (322 : Nat) "FlyingDoctorsModel" "open" "[I") ∈ lw_all := lw_g (lw_at lw_m9 236 rfl) rfl
theorem q2284 : (Jvm.Cond.fieldLink "FlyingDoctorsModel" (325 : Nat) "FlyingDoctorsModel" "room" "[I") ∈ lw_all := lw_g (lw_at lw_m9 237 rfl) rfl
theorem q2285 : (Jvm.Cond.fieldLink "FlyingDoctorsModel" (608 : Nat) "FlyingDoctorsModel" "differences" "I") ∈ lw_all := lw_g (lw_at lw_m9 238 rfl) rfl
theorem q2286 : (Jvm.Cond.fieldLink "FlyingDoctorsModel" (328 : Nat) "FlyingDoctorsModel" "chestLeft" "[I") ∈ lw_all := lw_g (lw_at lw_m9 239 rfl) rfl
theorem q2287 : (Jvm.Cond.fieldLink "FlyingDoctorsModel" (611 : Nat) "FlyingDoctorsModel" "gifts" "I") ∈ lw_all := lw_g (lw_at lw_m10 0 rfl) rfl
theorem q2288 : (Jvm.Cond.fieldLink "FlyingDoctorsModel" (331 : Nat) "FlyingDoctorsModel" "giftPence" "[I") ∈ lw_all := lw_g (lw_at lw_m10 1 rfl) rfl
theorem q2289 : (Jvm.Cond.fieldLink "FlyingDoctorsModel" (334 : Nat) "FlyingDoctorsModel" "purpose" "[I") ∈ lw_all := lw_g (lw_at lw_m10 2 rfl) rfl
theorem q2290 : (Jvm.Cond.fieldLink "FlyingDoctorsModel" (337 : Nat) "FlyingDoctorsModel" "until" "[I") ∈ lw_all := lw_g (lw_at lw_m10 3 rfl) rfl
theorem q2526 : (Jvm.Cond.arrayClass Jvm.ClassFile.FieldType.long) ∈ lw_all := lw_g (lw_at lw_m10 239 rfl) rfl
theorem q2527 : (Jvm.Cond.arrayClass Jvm.ClassFile.FieldType.boolean) ∈ lw_all := lw_g (lw_at lw_m11 0 rfl) rfl
theorem q2528 : (Jvm.Cond.methodLink "FlyingDoctorsLaw" (144 : Nat) ({ cls := "FlyingDoctorsModel", name := "rules", desc := "(I)I" } : Jvm.MethodName)) ∈ lw_all := lw_g (lw_at lw_m11 1 rfl) rfl
theorem q2529 : (Jvm.Cond.instanceMethod ({ cls := "FlyingDoctorsModel", name := "rules", desc := "(I)I" } : Jvm.MethodName)) ∈ lw_all := lw_g (lw_at lw_m11 2 rfl) rfl
theorem q2530 : (Jvm.Cond.selects "FlyingDoctorsModel" ({ cls := "FlyingDoctorsModel", name := "rules", desc := "(I)I" } : Jvm.MethodName) ({ cls := "FlyingDoctorsModel", name := "rules", desc := "(I)I" } : Jvm.MethodName)) ∈ lw_all := lw_g (lw_at lw_m11 3 rfl) rfl
theorem q2531 : (Jvm.Cond.code ({ cls := "FlyingDoctorsModel", name := "rules", desc := "(I)I" } : Jvm.MethodName) prog_24_method_42_code (2 : Nat) (Option.some Jvm.ClassFile.FieldType.int)) ∈ lw_all := lw_g (lw_at lw_m11 4 rfl) rfl
theorem q2532 : (Jvm.Cond.methodLink "FlyingDoctorsModel" (429 : Nat) ({ cls := "FlyingDoctorsModel", name := "defaults", desc := "(I)V" } : Jvm.MethodName)) ∈ lw_all := lw_g (lw_at lw_m11 5 rfl) rfl
theorem q2534 : (Jvm.Cond.instanceMethod ({ cls := "FlyingDoctorsModel", name := "defaults", desc := "(I)V" } : Jvm.MethodName)) ∈ lw_all := lw_g (lw_at lw_m11 7 rfl) rfl
theorem q2535 : (Jvm.Cond.code ({ cls := "FlyingDoctorsModel", name := "defaults", desc := "(I)V" } : Jvm.MethodName) prog_24_method_43_code (2 : Nat) (Option.none : Option Jvm.ClassFile.FieldType)) ∈ lw_all := lw_g (lw_at lw_m11 8 rfl) rfl
theorem q2536 : (Jvm.Cond.methodLink "FlyingDoctorsModel" (354 : Nat) ({ cls := "FlyingDoctorsModel", name := "goes", desc := "()V" } : Jvm.MethodName)) ∈ lw_all := lw_g (lw_at lw_m11 9 rfl) rfl
theorem q2538 : (Jvm.Cond.instanceMethod ({ cls := "FlyingDoctorsModel", name := "goes", desc := "()V" } : Jvm.MethodName)) ∈ lw_all := lw_g (lw_at lw_m11 11 rfl) rfl
theorem q2539 : (Jvm.Cond.code ({ cls := "FlyingDoctorsModel", name := "goes", desc := "()V" } : Jvm.MethodName) prog_24_method_21_code (2 : Nat) (Option.none : Option Jvm.ClassFile.FieldType)) ∈ lw_all := lw_g (lw_at lw_m11 12 rfl) rfl
theorem q2540 : (Jvm.Cond.methodLink "FlyingDoctorsModel" (100 : Nat) ({ cls := "FlyingDoctorsModel", name := "byteAt", desc := "(I)I" } : Jvm.MethodName)) ∈ lw_all := lw_g (lw_at lw_m11 13 rfl) rfl
theorem q2542 : (Jvm.Cond.instanceMethod ({ cls := "FlyingDoctorsModel", name := "byteAt", desc := "(I)I" } : Jvm.MethodName)) ∈ lw_all := lw_g (lw_at lw_m11 15 rfl) rfl
theorem q2543 : (Jvm.Cond.code ({ cls := "FlyingDoctorsModel", name := "byteAt", desc := "(I)I" } : Jvm.MethodName) prog_24_method_18_code (2 : Nat) (Option.some Jvm.ClassFile.FieldType.int)) ∈ lw_all := lw_g (lw_at lw_m11 16 rfl) rfl
theorem q2544 : (Jvm.Cond.methodLink "FlyingDoctorsModel" (119 : Nat) ({ cls := "FlyingDoctorsModel", name := "isLetter", desc := "(I)Z" } : Jvm.MethodName)) ∈ lw_all := lw_g (lw_at lw_m11 17 rfl) rfl
theorem q2545 : (Jvm.Cond.static ({ cls := "FlyingDoctorsModel", name := "isLetter", desc := "(I)Z" } : Jvm.MethodName)) ∈ lw_all := lw_g (lw_at lw_m11 18 rfl) rfl
theorem q2546 : (Jvm.Cond.code ({ cls := "FlyingDoctorsModel", name := "isLetter", desc := "(I)Z" } : Jvm.MethodName) prog_24_method_19_code (1 : Nat) (Option.some Jvm.ClassFile.FieldType.boolean)) ∈ lw_all := lw_g (lw_at lw_m11 19 rfl) rfl
theorem q2547 : (Jvm.Cond.methodLink "FlyingDoctorsModel" (122 : Nat) ({ cls := "FlyingDoctorsModel", name := "isDigit", desc := "(I)Z" } : Jvm.MethodName)) ∈ lw_all := lw_g (lw_at lw_m11 20 rfl) rfl
theorem q2548 : (Jvm.Cond.static ({ cls := "FlyingDoctorsModel", name := "isDigit", desc := "(I)Z" } : Jvm.MethodName)) ∈ lw_all := lw_g (lw_at lw_m11 21 rfl) rfl
theorem q2549 : (Jvm.Cond.code ({ cls := "FlyingDoctorsModel", name := "isDigit", desc := "(I)Z" } : Jvm.MethodName) prog_24_method_20_code (1 : Nat) (Option.some Jvm.ClassFile.FieldType.boolean)) ∈ lw_all := lw_g (lw_at lw_m11 22 rfl) rfl
theorem q2550 : (Jvm.Cond.methodLink "FlyingDoctorsModel" (347 : Nat) ({ cls := "FlyingDoctorsModel", name := "isGood", desc := "()Z" } : Jvm.MethodName)) ∈ lw_all := lw_g (lw_at lw_m11 23 rfl) rfl
theorem q2552 : (Jvm.Cond.instanceMethod ({ cls := "FlyingDoctorsModel", name := "isGood", desc := "()Z" } : Jvm.MethodName)) ∈ lw_all := lw_g (lw_at lw_m11 25 rfl) rfl
theorem q2553 : (Jvm.Cond.code ({ cls := "FlyingDoctorsModel", name := "isGood", desc := "()Z" } : Jvm.MethodName) prog_24_method_26_code (1 : Nat) (Option.some Jvm.ClassFile.FieldType.boolean)) ∈ lw_all := lw_g (lw_at lw_m11 26 rfl) rfl
theorem q2554 : (Jvm.Cond.methodLink "FlyingDoctorsModel" (432 : Nat) ({ cls := "FlyingDoctorsModel", name := "clause", desc := "()V" } : Jvm.MethodName)) ∈ lw_all := lw_g (lw_at lw_m11 27 rfl) rfl
theorem q2556 : (Jvm.Cond.instanceMethod ({ cls := "FlyingDoctorsModel", name := "clause", desc := "()V" } : Jvm.MethodName)) ∈ lw_all := lw_g (lw_at lw_m11 29 rfl) rfl
theorem q2557 : (Jvm.Cond.code ({ cls := "FlyingDoctorsModel", name := "clause", desc := "()V" } : Jvm.MethodName) prog_24_method_41_code (4 : Nat) (Option.none : Option Jvm.ClassFile.FieldType)) ∈ lw_all := lw_g (lw_at lw_m11 30 rfl) rfl
theorem q2558 : (Jvm.Cond.methodLink "FlyingDoctorsModel" (375 : Nat) ({ cls := "FlyingDoctorsModel", name := "knownWord", desc := "()I" } : Jvm.MethodName)) ∈ lw_all := lw_g (lw_at lw_m11 31 rfl) rfl
theorem q2560 : (Jvm.Cond.instanceMethod ({ cls := "FlyingDoctorsModel", name := "knownWord", desc := "()I" } : Jvm.MethodName)) ∈ lw_all := lw_g (lw_at lw_m11 33 rfl) rfl
theorem q2561 : (Jvm.Cond.code ({ cls := "FlyingDoctorsModel", name := "knownWord", desc := "()I" } : Jvm.MethodName) prog_24_method_24_code (2 : Nat) (Option.some Jvm.ClassFile.FieldType.int)) ∈ lw_all := lw_g (lw_at lw_m11 34 rfl) rfl
theorem q2562 : (Jvm.Cond.methodLink "FlyingDoctorsModel" (357 : Nat) ({ cls := "FlyingDoctorsModel", name := "wrong", desc := "(I)V" } : Jvm.MethodName)) ∈ lw_all := lw_g (lw_at lw_m11 35 rfl) rfl
theorem q2564 : (Jvm.Cond.instanceMethod ({ cls := "FlyingDoctorsModel", name := "wrong", desc := "(I)V" } : Jvm.MethodName)) ∈ lw_all := lw_g (lw_at lw_m11 37 rfl) rfl
theorem q2565 : (Jvm.Cond.code ({ cls := "FlyingDoctorsModel", name := "wrong", desc := "(I)V" } : Jvm.MethodName) prog_24_method_25_code (2 : Nat) (Option.none : Option Jvm.ClassFile.FieldType)) ∈ lw_all := lw_g (lw_at lw_m11 38 rfl) rfl
theorem q2566 : (Jvm.Cond.methodLink "FlyingDoctorsModel" (416 : Nat) ({ cls := "FlyingDoctorsModel", name := "newWord", desc := "()V" } : Jvm.MethodName)) ∈ lw_all := lw_g (lw_at lw_m11 39 rfl) rfl
theorem q2568 : (Jvm.Cond.instanceMethod ({ cls := "FlyingDoctorsModel", name := "newWord", desc := "()V" } : Jvm.MethodName)) ∈ lw_all := lw_g (lw_at lw_m11 41 rfl) rfl
theorem q2569 : (Jvm.Cond.code ({ cls := "FlyingDoctorsModel", name := "newWord", desc := "()V" } : Jvm.MethodName) prog_24_method_38_code (2 : Nat) (Option.none : Option Jvm.ClassFile.FieldType)) ∈ lw_all := lw_g (lw_at lw_m11 42 rfl) rfl
theorem q2570 : (Jvm.Cond.methodLink "FlyingDoctorsModel" (379 : Nat) ({ cls := "FlyingDoctorsModel", name := "findWord", desc := "()I" } : Jvm.MethodName)) ∈ lw_all := lw_g (lw_at lw_m11 43 rfl) rfl
theorem q2572 : (Jvm.Cond.instanceMethod ({ cls := "FlyingDoctorsModel", name := "findWord", desc := "()I" } : Jvm.MethodName)) ∈ lw_all := lw_g (lw_at lw_m11 45 rfl) rfl
theorem q2573 : (Jvm.Cond.code ({ cls := "FlyingDoctorsModel", name := "findWord", desc := "()I" } : Jvm.MethodName) prog_24_method_33_code (2 : Nat) (Option.some Jvm.ClassFile.FieldType.int)) ∈ lw_all := lw_g (lw_at lw_m11 46 rfl) rfl
theorem q2574 : (Jvm.Cond.methodLink "FlyingDoctorsModel" (410 : Nat) ({ cls := "FlyingDoctorsModel", name := "expression", desc := "()I" } : Jvm.MethodName)) ∈ lw_all := lw_g (lw_at lw_m11 47 rfl) rfl
theorem q2576 : (Jvm.Cond.instanceMethod ({ cls := "FlyingDoctorsModel", name := "expression", desc := "()I" } : Jvm.MethodName)) ∈ lw_all := lw_g (lw_at lw_m11 49 rfl) rfl
theorem q2577 : (Jvm.Cond.code ({ cls := "FlyingDoctorsModel", name := "expression", desc := "()I" } : Jvm.MethodName) prog_24_method_37_code (4 : Nat) (Option.some Jvm.ClassFile.FieldType.int)) ∈ lw_all := lw_g (lw_at lw_m11 50 rfl) rfl
theorem q2578 : (Jvm.Cond.methodLink "FlyingDoctorsModel" (388 : Nat) ({ cls := "FlyingDoctorsModel", name := "begins", desc := "()V" } : Jvm.MethodName)) ∈ lw_all := lw_g (lw_at lw_m11 51 rfl) rfl
theorem q2580 : (Jvm.Cond.instanceMethod ({ cls := "FlyingDoctorsModel", name := "begins", desc := "()V" } : Jvm.MethodName)) ∈ lw_all := lw_g (lw_at lw_m11 53 rfl) rfl
theorem q2581 : (Jvm.Cond.code ({ cls := "FlyingDoctorsModel", name := "begins", desc := "()V" } : Jvm.MethodName) prog_24_method_35_code (1 : Nat) (Option.none : Option Jvm.ClassFile.FieldType)) ∈ lw_all := lw_g (lw_at lw_m11 54 rfl) rfl
theorem q2582 : (Jvm.Cond.methodLink "FlyingDoctorsModel" (351 : Nat) ({ cls := "FlyingDoctorsModel", name := "isSign", desc := "(I)Z" } : Jvm.MethodName)) ∈ lw_all := lw_g (lw_at lw_m11 55 rfl) rfl
theorem q2584 : (Jvm.Cond.instanceMethod ({ cls := "FlyingDoctorsModel", name := "isSign", desc := "(I)Z" } : Jvm.MethodName)) ∈ lw_all := lw_g (lw_at lw_m11 57 rfl) rfl
theorem q2585 : (Jvm.Cond.code ({ cls := "FlyingDoctorsModel", name := "isSign", desc := "(I)Z" } : Jvm.MethodName) prog_24_method_27_code (2 : Nat) (Option.some Jvm.ClassFile.FieldType.boolean)) ∈ lw_all := lw_g (lw_at lw_m11 58 rfl) rfl
theorem q2586 : (Jvm.Cond.methodLink "FlyingDoctorsModel" (394 : Nat) ({ cls := "FlyingDoctorsModel", name := "operand", desc := "(Z)V" } : Jvm.MethodName)) ∈ lw_all := lw_g (lw_at lw_m11 59 rfl) rfl
theorem q2588 : (Jvm.Cond.instanceMethod ({ cls := "FlyingDoctorsModel", name := "operand", desc := "(Z)V" } : Jvm.MethodName)) ∈ lw_all := lw_g (lw_at lw_m11 61 rfl) rfl
theorem q2589 : (Jvm.Cond.code ({ cls := "FlyingDoctorsModel", name := "operand", desc := "(Z)V" } : Jvm.MethodName) prog_24_method_36_code (5 : Nat) (Option.none : Option Jvm.ClassFile.FieldType)) ∈ lw_all := lw_g (lw_at lw_m11 62 rfl) rfl
theorem q2590 : (Jvm.Cond.methodLink "FlyingDoctorsModel" (385 : Nat) ({ cls := "FlyingDoctorsModel", name := "waitsFor", desc := "(I)V" } : Jvm.MethodName)) ∈ lw_all := lw_g (lw_at lw_m11 63 rfl) rfl
theorem q2592 : (Jvm.Cond.instanceMethod ({ cls := "FlyingDoctorsModel", name := "waitsFor", desc := "(I)V" } : Jvm.MethodName)) ∈ lw_all := lw_g (lw_at lw_m11 65 rfl) rfl
theorem q2593 : (Jvm.Cond.code ({ cls := "FlyingDoctorsModel", name := "waitsFor", desc := "(I)V" } : Jvm.MethodName) prog_24_method_32_code (2 : Nat) (Option.none : Option Jvm.ClassFile.FieldType)) ∈ lw_all := lw_g (lw_at lw_m11 66 rfl) rfl
theorem q2594 : (Jvm.Cond.methodLink "FlyingDoctorsModel" (391 : Nat) ({ cls := "FlyingDoctorsModel", name := "part", desc := "()V" } : Jvm.MethodName)) ∈ lw_all := lw_g (lw_at lw_m11 67 rfl) rfl
theorem q2596 : (Jvm.Cond.instanceMethod ({ cls := "FlyingDoctorsModel", name := "part", desc := "()V" } : Jvm.MethodName)) ∈ lw_all := lw_g (lw_at lw_m11 69 rfl) rfl
theorem q2597 : (Jvm.Cond.code ({ cls := "FlyingDoctorsModel", name := "part", desc := "()V" } : Jvm.MethodName) prog_24_method_34_code (3 : Nat) (Option.none : Option Jvm.ClassFile.FieldType)) ∈ lw_all := lw_g (lw_at lw_m11 70 rfl) rfl
theorem q2598 : (Jvm.Cond.methodLink "FlyingDoctorsModel" (369 : Nat) ({ cls := "FlyingDoctorsModel", name := "puts", desc := "(I)V" } : Jvm.MethodName)) ∈ lw_all := lw_g (lw_at lw_m11 71 rfl) rfl
theorem q2600 : (Jvm.Cond.instanceMethod ({ cls := "FlyingDoctorsModel", name := "puts", desc := "(I)V" } : Jvm.MethodName)) ∈ lw_all := lw_g (lw_at lw_m11 73 rfl) rfl
theorem q2601 : (Jvm.Cond.code ({ cls := "FlyingDoctorsModel", name := "puts", desc := "(I)V" } : Jvm.MethodName) prog_24_method_29_code (2 : Nat) (Option.none : Option Jvm.ClassFile.FieldType)) ∈ lw_all := lw_g (lw_at lw_m11 74 rfl) rfl
theorem q2602 : (Jvm.Cond.methodLink "FlyingDoctorsModel" (398 : Nat) ({ cls := "FlyingDoctorsModel", name := "drops", desc := "(I)V" } : Jvm.MethodName)) ∈ lw_all := lw_g (lw_at lw_m11 75 rfl) rfl
theorem q2604 : (Jvm.Cond.instanceMethod ({ cls := "FlyingDoctorsModel", name := "drops", desc := "(I)V" } : Jvm.MethodName)) ∈ lw_all := lw_g (lw_at lw_m11 77 rfl) rfl
theorem q2605 : (Jvm.Cond.code ({ cls := "FlyingDoctorsModel", name := "drops", desc := "(I)V" } : Jvm.MethodName) prog_24_method_31_code (2 : Nat) (Option.none : Option Jvm.ClassFile.FieldType)) ∈ lw_all := lw_g (lw_at lw_m11 78 rfl) rfl
theorem q2606 : (Jvm.Cond.methodLink "FlyingDoctorsModel" (366 : Nat) ({ cls := "FlyingDoctorsModel", name := "strength", desc := "(I)I" } : Jvm.MethodName)) ∈ lw_all := lw_g (lw_at lw_m11 79 rfl) rfl
theorem q2607 : (Jvm.Cond.static ({ cls := "FlyingDoctorsModel", name := "strength", desc := "(I)I" } : Jvm.MethodName)) ∈ lw_all := lw_g (lw_at lw_m11 80 rfl) rfl
theorem q2608 : (Jvm.Cond.code ({ cls := "FlyingDoctorsModel", name := "strength", desc := "(I)I" } : Jvm.MethodName) prog_24_method_30_code (1 : Nat) (Option.some Jvm.ClassFile.FieldType.int)) ∈ lw_all := lw_g (lw_at lw_m11 81 rfl) rfl
theorem q2609 : (Jvm.Cond.methodLink "FlyingDoctorsModel" (419 : Nat) ({ cls := "FlyingDoctorsModel", name := "chest", desc := "()V" } : Jvm.MethodName)) ∈ lw_all := lw_g (lw_at lw_m11 82 rfl) rfl
theorem q2611 : (Jvm.Cond.instanceMethod ({ cls := "FlyingDoctorsModel", name := "chest", desc := "()V" } : Jvm.MethodName)) ∈ lw_all := lw_g (lw_at lw_m11 84 rfl) rfl
theorem q2612 : (Jvm.Cond.code ({ cls := "FlyingDoctorsModel", name := "chest", desc := "()V" } : Jvm.MethodName) prog_24_method_40_code (4 : Nat) (Option.none : Option Jvm.ClassFile.FieldType)) ∈ lw_all := lw_g (lw_at lw_m11 85 rfl) rfl
theorem q2613 : (Jvm.Cond.methodLink "FlyingDoctorsModel" (407 : Nat) ({ cls := "FlyingDoctorsModel", name := "number", desc := "(II)I" } : Jvm.MethodName)) ∈ lw_all := lw_g (lw_at lw_m11 86 rfl) rfl
theorem q2615 : (Jvm.Cond.instanceMethod ({ cls := "FlyingDoctorsModel", name := "number", desc := "(II)I" } : Jvm.MethodName)) ∈ lw_all := lw_g (lw_at lw_m11 88 rfl) rfl
theorem q2616 : (Jvm.Cond.code ({ cls := "FlyingDoctorsModel", name := "number", desc := "(II)I" } : Jvm.MethodName) prog_24_method_39_code (4 : Nat) (Option.some Jvm.ClassFile.FieldType.int)) ∈ lw_all := lw_g (lw_at lw_m11 89 rfl) rfl
theorem q2617 : (Jvm.Cond.constant "FlyingDoctorsModel" (422 : Nat) (99999 : Int32)) ∈ lw_all := lw_g (lw_at lw_m11 90 rfl) rfl
theorem q2618 : (Jvm.Cond.methodLink "FlyingDoctorsModel" (423 : Nat) ({ cls := "FlyingDoctorsModel", name := "needSign", desc := "(I)V" } : Jvm.MethodName)) ∈ lw_all := lw_g (lw_at lw_m11 91 rfl) rfl
theorem q2620 : (Jvm.Cond.instanceMethod ({ cls := "FlyingDoctorsModel", name := "needSign", desc := "(I)V" } : Jvm.MethodName)) ∈ lw_all := lw_g (lw_at lw_m11 93 rfl) rfl
theorem q2621 : (Jvm.Cond.code ({ cls := "FlyingDoctorsModel", name := "needSign", desc := "(I)V" } : Jvm.MethodName) prog_24_method_28_code (2 : Nat) (Option.none : Option Jvm.ClassFile.FieldType)) ∈ lw_all := lw_g (lw_at lw_m11 94 rfl) rfl
theorem q2622 : (Jvm.Cond.methodLink "FlyingDoctorsLaw" (148 : Nat) ({ cls := "FlyingDoctorsModel", name := "fault", desc := "()I" } : Jvm.MethodName)) ∈ lw_all := lw_g (lw_at lw_m11 95 rfl) rfl
theorem q2623 : (Jvm.Cond.instanceMethod ({ cls := "FlyingDoctorsModel", name := "fault", desc := "()I" } : Jvm.MethodName)) ∈ lw_all := lw_g (lw_at lw_m11 96 rfl) rfl
theorem q2624 : (Jvm.Cond.selects "FlyingDoctorsModel" ({ cls := "FlyingDoctorsModel", name := "fault", desc := "()I" } : Jvm.MethodName) ({ cls := "FlyingDoctorsModel", name := "fault", desc := "()I" } : Jvm.MethodName)) ∈ lw_all := lw_g (lw_at lw_m11 97 rfl) rfl
theorem q2625 : (Jvm.Cond.code ({ cls := "FlyingDoctorsModel", name := "fault", desc := "()I" } : Jvm.MethodName) prog_24_method_44_code (1 : Nat) (Option.some Jvm.ClassFile.FieldType.int)) ∈ lw_all := lw_g (lw_at lw_m11 98 rfl) rfl
theorem q2626 : (Jvm.Cond.methodLink "FlyingDoctorsLaw" (151 : Nat) ({ cls := "FlyingDoctorsModel", name := "law", desc := "(I)I" } : Jvm.MethodName)) ∈ lw_all := lw_g (lw_at lw_m11 99 rfl) rfl
theorem q2627 : (Jvm.Cond.instanceMethod ({ cls := "FlyingDoctorsModel", name := "law", desc := "(I)I" } : Jvm.MethodName)) ∈ lw_all := lw_g (lw_at lw_m11 100 rfl) rfl
theorem q2628 : (Jvm.Cond.selects "FlyingDoctorsModel" ({ cls := "FlyingDoctorsModel", name := "law", desc := "(I)I" } : Jvm.MethodName) ({ cls := "FlyingDoctorsModel", name := "law", desc := "(I)I" } : Jvm.MethodName)) ∈ lw_all := lw_g (lw_at lw_m11 101 rfl) rfl
theorem q2629 : (Jvm.Cond.code ({ cls := "FlyingDoctorsModel", name := "law", desc := "(I)I" } : Jvm.MethodName) prog_24_method_47_code (3 : Nat) (Option.some Jvm.ClassFile.FieldType.int)) ∈ lw_all := lw_g (lw_at lw_m11 102 rfl) rfl
theorem q2630 : (Jvm.Cond.methodLink "FlyingDoctorsModel" (435 : Nat) ({ cls := "FlyingDoctorsModel", name := "textBy", desc := "(I)I" } : Jvm.MethodName)) ∈ lw_all := lw_g (lw_at lw_m11 103 rfl) rfl
theorem q2632 : (Jvm.Cond.instanceMethod ({ cls := "FlyingDoctorsModel", name := "textBy", desc := "(I)I" } : Jvm.MethodName)) ∈ lw_all := lw_g (lw_at lw_m11 105 rfl) rfl
theorem q2633 : (Jvm.Cond.code ({ cls := "FlyingDoctorsModel", name := "textBy", desc := "(I)I" } : Jvm.MethodName) prog_24_method_45_code (4 : Nat) (Option.some Jvm.ClassFile.FieldType.int)) ∈ lw_all := lw_g (lw_at lw_m11 106 rfl) rfl
theorem q2634 : (Jvm.Cond.methodLink "FlyingDoctorsModel" (438 : Nat) ({ cls := "FlyingDoctorsModel", name := "paramOf", desc := "(II)I" } : Jvm.MethodName)) ∈ lw_all := lw_g (lw_at lw_m11 107 rfl) rfl
theorem q2636 : (Jvm.Cond.instanceMethod ({ cls := "FlyingDoctorsModel", name := "paramOf", desc := "(II)I" } : Jvm.MethodName)) ∈ lw_all := lw_g (lw_at lw_m11 109 rfl) rfl
theorem q2637 : (Jvm.Cond.code ({ cls := "FlyingDoctorsModel", name := "paramOf", desc := "(II)I" } : Jvm.MethodName) prog_24_method_46_code (3 : Nat) (Option.some Jvm.ClassFile.FieldType.int)) ∈ lw_all := lw_g (lw_at lw_m11 110 rfl) rfl
theorem q2638 : (Jvm.Cond.methodLink "FlyingDoctorsLaw" (158 : Nat) ({ cls := "FlyingDoctorsModel", name := "rain", desc := "(III)Z" } : Jvm.MethodName)) ∈ lw_all := lw_g (lw_at lw_m11 111 rfl) rfl
theorem q2639 : (Jvm.Cond.instanceMethod ({ cls := "FlyingDoctorsModel", name := "rain", desc := "(III)Z" } : Jvm.MethodName)) ∈ lw_all := lw_g (lw_at lw_m11 112 rfl) rfl
theorem q2640 : (Jvm.Cond.selects "FlyingDoctorsModel" ({ cls := "FlyingDoctorsModel", name := "rain", desc := "(III)Z" } : Jvm.MethodName) ({ cls := "FlyingDoctorsModel", name := "rain", desc := "(III)Z" } : Jvm.MethodName)) ∈ lw_all := lw_g (lw_at lw_m11 113 rfl) rfl
theorem q2641 : (Jvm.Cond.code ({ cls := "FlyingDoctorsModel", name := "rain", desc := "(III)Z" } : Jvm.MethodName) prog_24_method_52_code (4 : Nat) (Option.some Jvm.ClassFile.FieldType.boolean)) ∈ lw_all := lw_g (lw_at lw_m11 114 rfl) rfl
theorem q2642 : (Jvm.Cond.methodLink "FlyingDoctorsModel" (451 : Nat) ({ cls := "FlyingDoctorsModel", name := "isDay", desc := "(I)Z" } : Jvm.MethodName)) ∈ lw_all := lw_g (lw_at lw_m11 115 rfl) rfl
theorem q2643 : (Jvm.Cond.static ({ cls := "FlyingDoctorsModel", name := "isDay", desc := "(I)Z" } : Jvm.MethodName)) ∈ lw_all := lw_g (lw_at lw_m11 116 rfl) rfl
theorem q2644 : (Jvm.Cond.code ({ cls := "FlyingDoctorsModel", name := "isDay", desc := "(I)Z" } : Jvm.MethodName) prog_24_method_51_code (1 : Nat) (Option.some Jvm.ClassFile.FieldType.boolean)) ∈ lw_all := lw_g (lw_at lw_m11 117 rfl) rfl
theorem q2645 : (Jvm.Cond.methodLink "FlyingDoctorsLaw" (161 : Nat) ({ cls := "FlyingDoctorsModel", name := "wet", desc := "(III)I" } : Jvm.MethodName)) ∈ lw_all := lw_g (lw_at lw_m11 118 rfl) rfl
theorem q2646 : (Jvm.Cond.instanceMethod ({ cls := "FlyingDoctorsModel", name := "wet", desc := "(III)I" } : Jvm.MethodName)) ∈ lw_all := lw_g (lw_at lw_m11 119 rfl) rfl
theorem q2647 : (Jvm.Cond.selects "FlyingDoctorsModel" ({ cls := "FlyingDoctorsModel", name := "wet", desc := "(III)I" } : Jvm.MethodName) ({ cls := "FlyingDoctorsModel", name := "wet", desc := "(III)I" } : Jvm.MethodName)) ∈ lw_all := lw_g (lw_at lw_m11 120 rfl) rfl
theorem q2648 : (Jvm.Cond.code ({ cls := "FlyingDoctorsModel", name := "wet", desc := "(III)I" } : Jvm.MethodName) prog_24_method_56_code (4 : Nat) (Option.some Jvm.ClassFile.FieldType.int)) ∈ lw_all := lw_g (lw_at lw_m11 121 rfl) rfl
theorem q2649 : (Jvm.Cond.methodLink "FlyingDoctorsModel" (457 : Nat) ({ cls := "FlyingDoctorsModel", name := "isTime", desc := "(I)Z" } : Jvm.MethodName)) ∈ lw_all := lw_g (lw_at lw_m11 122 rfl) rfl
theorem q2651 : (Jvm.Cond.instanceMethod ({ cls := "FlyingDoctorsModel", name := "isTime", desc := "(I)Z" } : Jvm.MethodName)) ∈ lw_all := lw_g (lw_at lw_m11 124 rfl) rfl
theorem q2652 : (Jvm.Cond.code ({ cls := "FlyingDoctorsModel", name := "isTime", desc := "(I)Z" } : Jvm.MethodName) prog_24_method_55_code (2 : Nat) (Option.some Jvm.ClassFile.FieldType.boolean)) ∈ lw_all := lw_g (lw_at lw_m11 125 rfl) rfl
theorem q2653 : (Jvm.Cond.methodLink "FlyingDoctorsModel" (460 : Nat) ({ cls := "FlyingDoctorsModel", name := "wetOf", desc := "(III)I" } : Jvm.MethodName)) ∈ lw_all := lw_g (lw_at lw_m11 126 rfl) rfl
theorem q2655 : (Jvm.Cond.instanceMethod ({ cls := "FlyingDoctorsModel", name := "wetOf", desc := "(III)I" } : Jvm.MethodName)) ∈ lw_all := lw_g (lw_at lw_m11 128 rfl) rfl
theorem q2656 : (Jvm.Cond.code ({ cls := "FlyingDoctorsModel", name := "wetOf", desc := "(III)I" } : Jvm.MethodName) prog_24_method_54_code (4 : Nat) (Option.some Jvm.ClassFile.FieldType.int)) ∈ lw_all := lw_g (lw_at lw_m11 129 rfl) rfl
theorem q2657 : (Jvm.Cond.methodLink "FlyingDoctorsModel" (454 : Nat) ({ cls := "FlyingDoctorsModel", name := "rainOn", desc := "(III)I" } : Jvm.MethodName)) ∈ lw_all := lw_g (lw_at lw_m11 130 rfl) rfl
theorem q2659 : (Jvm.Cond.instanceMethod ({ cls := "FlyingDoctorsModel", name := "rainOn", desc := "(III)I" } : Jvm.MethodName)) ∈ lw_all := lw_g (lw_at lw_m11 132 rfl) rfl
theorem q2660 : (Jvm.Cond.code ({ cls := "FlyingDoctorsModel", name := "rainOn", desc := "(III)I" } : Jvm.MethodName) prog_24_method_53_code (6 : Nat) (Option.some Jvm.ClassFile.FieldType.int)) ∈ lw_all := lw_g (lw_at lw_m11 133 rfl) rfl
theorem q2661 : (Jvm.Cond.methodLink "FlyingDoctorsLaw" (165 : Nat) ({ cls := "FlyingDoctorsModel", name := "may", desc := "(IIIIIII)I" } : Jvm.MethodName)) ∈ lw_all := lw_g (lw_at lw_m11 134 rfl) rfl
theorem q2662 : (Jvm.Cond.instanceMethod ({ cls := "FlyingDoctorsModel", name := "may", desc := "(IIIIIII)I" } : Jvm.MethodName)) ∈ lw_all := lw_g (lw_at lw_m11 135 rfl) rfl
theorem q2663 : (Jvm.Cond.selects "FlyingDoctorsModel" ({ cls := "FlyingDoctorsModel", name := "may", desc := "(IIIIIII)I" } : Jvm.MethodName) ({ cls := "FlyingDoctorsModel", name := "may", desc := "(IIIIIII)I" } : Jvm.MethodName)) ∈ lw_all := lw_g (lw_at lw_m11 136 rfl) rfl
theorem q2664 : (Jvm.Cond.code ({ cls := "FlyingDoctorsModel", name := "may", desc := "(IIIIIII)I" } : Jvm.MethodName) prog_24_method_60_code (8 : Nat) (Option.some Jvm.ClassFile.FieldType.int)) ∈ lw_all := lw_g (lw_at lw_m11 137 rfl) rfl
theorem q2665 : (Jvm.Cond.methodLink "FlyingDoctorsModel" (475 : Nat) ({ cls := "FlyingDoctorsModel", name := "isPlane", desc := "(I)Z" } : Jvm.MethodName)) ∈ lw_all := lw_g (lw_at lw_m11 138 rfl) rfl
theorem q2667 : (Jvm.Cond.instanceMethod ({ cls := "FlyingDoctorsModel", name := "isPlane", desc := "(I)Z" } : Jvm.MethodName)) ∈ lw_all := lw_g (lw_at lw_m11 140 rfl) rfl
theorem q2668 : (Jvm.Cond.code ({ cls := "FlyingDoctorsModel", name := "isPlane", desc := "(I)Z" } : Jvm.MethodName) prog_24_method_4_code (2 : Nat) (Option.some Jvm.ClassFile.FieldType.boolean)) ∈ lw_all := lw_g (lw_at lw_m11 141 rfl) rfl
theorem q2669 : (Jvm.Cond.methodLink "FlyingDoctorsModel" (478 : Nat) ({ cls := "FlyingDoctorsModel", name := "isFar", desc := "(I)Z" } : Jvm.MethodName)) ∈ lw_all := lw_g (lw_at lw_m11 142 rfl) rfl
theorem q2670 : (Jvm.Cond.static ({ cls := "FlyingDoctorsModel", name := "isFar", desc := "(I)Z" } : Jvm.MethodName)) ∈ lw_all := lw_g (lw_at lw_m11 143 rfl) rfl
theorem q2671 : (Jvm.Cond.code ({ cls := "FlyingDoctorsModel", name := "isFar", desc := "(I)Z" } : Jvm.MethodName) prog_24_method_59_code (1 : Nat) (Option.some Jvm.ClassFile.FieldType.boolean)) ∈ lw_all := lw_g (lw_at lw_m11 144 rfl) rfl
theorem q2672 : (Jvm.Cond.methodLink "FlyingDoctorsModel" (481 : Nat) ({ cls := "FlyingDoctorsModel", name := "mayNot", desc := "(IIIIIII)I" } : Jvm.MethodName)) ∈ lw_all := lw_g (lw_at lw_m11 145 rfl) rfl
theorem q2674 : (Jvm.Cond.instanceMethod ({ cls := "FlyingDoctorsModel", name := "mayNot", desc := "(IIIIIII)I" } : Jvm.MethodName)) ∈ lw_all := lw_g (lw_at lw_m11 147 rfl) rfl
theorem q2675 : (Jvm.Cond.code ({ cls := "FlyingDoctorsModel", name := "mayNot", desc := "(IIIIIII)I" } : Jvm.MethodName) prog_24_method_58_code (10 : Nat) (Option.some Jvm.ClassFile.FieldType.int)) ∈ lw_all := lw_g (lw_at lw_m11 148 rfl) rfl
theorem q2676 : (Jvm.Cond.methodLink "FlyingDoctorsModel" (469 : Nat) ({ cls := "FlyingDoctorsModel", name := "place", desc := "(III)V" } : Jvm.MethodName)) ∈ lw_all := lw_g (lw_at lw_m11 149 rfl) rfl
theorem q2678 : (Jvm.Cond.instanceMethod ({ cls := "FlyingDoctorsModel", name := "place", desc := "(III)V" } : Jvm.MethodName)) ∈ lw_all := lw_g (lw_at lw_m11 151 rfl) rfl
theorem q2679 : (Jvm.Cond.code ({ cls := "FlyingDoctorsModel", name := "place", desc := "(III)V" } : Jvm.MethodName) prog_24_method_57_code (4 : Nat) (Option.none : Option Jvm.ClassFile.FieldType)) ∈ lw_all := lw_g (lw_at lw_m11 152 rfl) rfl
theorem q2680 : (Jvm.Cond.methodLink "FlyingDoctorsModel" (463 : Nat) ({ cls := "FlyingDoctorsModel", name := "clears", desc := "()V" } : Jvm.MethodName)) ∈ lw_all := lw_g (lw_at lw_m11 153 rfl) rfl
theorem q2682 : (Jvm.Cond.instanceMethod ({ cls := "FlyingDoctorsModel", name := "clears", desc := "()V" } : Jvm.MethodName)) ∈ lw_all := lw_g (lw_at lw_m11 155 rfl) rfl
theorem q2683 : (Jvm.Cond.code ({ cls := "FlyingDoctorsModel", name := "clears", desc := "()V" } : Jvm.MethodName) prog_24_method_48_code (2 : Nat) (Option.none : Option Jvm.ClassFile.FieldType)) ∈ lw_all := lw_g (lw_at lw_m11 156 rfl) rfl
theorem q2684 : (Jvm.Cond.methodLink "FlyingDoctorsModel" (466 : Nat) ({ cls := "FlyingDoctorsModel", name := "isNight", desc := "(I)Z" } : Jvm.MethodName)) ∈ lw_all := lw_g (lw_at lw_m11 157 rfl) rfl
theorem q2685 : (Jvm.Cond.static ({ cls := "FlyingDoctorsModel", name := "isNight", desc := "(I)Z" } : Jvm.MethodName)) ∈ lw_all := lw_g (lw_at lw_m11 158 rfl) rfl
theorem q2686 : (Jvm.Cond.code ({ cls := "FlyingDoctorsModel", name := "isNight", desc := "(I)Z" } : Jvm.MethodName) prog_24_method_5_code (1 : Nat) (Option.some Jvm.ClassFile.FieldType.boolean)) ∈ lw_all := lw_g (lw_at lw_m11 159 rfl) rfl
theorem q2687 : (Jvm.Cond.methodLink "FlyingDoctorsModel" (28 : Nat) ({ cls := "FlyingDoctorsModel", name := "miles", desc := "(II)I" } : Jvm.MethodName)) ∈ lw_all := lw_g (lw_at lw_m11 160 rfl) rfl
theorem q2689 : (Jvm.Cond.instanceMethod ({ cls := "FlyingDoctorsModel", name := "miles", desc := "(II)I" } : Jvm.MethodName)) ∈ lw_all := lw_g (lw_at lw_m11 162 rfl) rfl
theorem q2690 : (Jvm.Cond.code ({ cls := "FlyingDoctorsModel", name := "miles", desc := "(II)I" } : Jvm.MethodName) prog_24_method_7_code (3 : Nat) (Option.some Jvm.ClassFile.FieldType.int)) ∈ lw_all := lw_g (lw_at lw_m11 163 rfl) rfl
theorem q2691 : (Jvm.Cond.methodLink "FlyingDoctorsModel" (21 : Nat) ({ cls := "FlyingDoctorsModel", name := "abs", desc := "(I)I" } : Jvm.MethodName)) ∈ lw_all := lw_g (lw_at lw_m11 164 rfl) rfl
theorem q2692 : (Jvm.Cond.static ({ cls := "FlyingDoctorsModel", name := "abs", desc := "(I)I" } : Jvm.MethodName)) ∈ lw_all := lw_g (lw_at lw_m11 165 rfl) rfl
theorem q2693 : (Jvm.Cond.code ({ cls := "FlyingDoctorsModel", name := "abs", desc := "(I)I" } : Jvm.MethodName) prog_24_method_6_code (1 : Nat) (Option.some Jvm.ClassFile.FieldType.int)) ∈ lw_all := lw_g (lw_at lw_m11 166 rfl) rfl
theorem q2694 : (Jvm.Cond.methodLink "FlyingDoctorsModel" (472 : Nat) ({ cls := "FlyingDoctorsModel", name := "worth", desc := "(II)I" } : Jvm.MethodName)) ∈ lw_all := lw_g (lw_at lw_m11 167 rfl) rfl
theorem q2696 : (Jvm.Cond.instanceMethod ({ cls := "FlyingDoctorsModel", name := "worth", desc := "(II)I" } : Jvm.MethodName)) ∈ lw_all := lw_g (lw_at lw_m11 169 rfl) rfl
theorem q2697 : (Jvm.Cond.code ({ cls := "FlyingDoctorsModel", name := "worth", desc := "(II)I" } : Jvm.MethodName) prog_24_method_50_code (7 : Nat) (Option.some Jvm.ClassFile.FieldType.int)) ∈ lw_all := lw_g (lw_at lw_m11 170 rfl) rfl
theorem q2698 : (Jvm.Cond.methodLink "FlyingDoctorsModel" (444 : Nat) ({ cls := "FlyingDoctorsModel", name := "works", desc := "(III)I" } : Jvm.MethodName)) ∈ lw_all := lw_g (lw_at lw_m11 171 rfl) rfl
theorem q2699 : (Jvm.Cond.static ({ cls := "FlyingDoctorsModel", name := "works", desc := "(III)I" } : Jvm.MethodName)) ∈ lw_all := lw_g (lw_at lw_m11 172 rfl) rfl
theorem q2700 : (Jvm.Cond.code ({ cls := "FlyingDoctorsModel", name := "works", desc := "(III)I" } : Jvm.MethodName) prog_24_method_49_code (3 : Nat) (Option.some Jvm.ClassFile.FieldType.int)) ∈ lw_all := lw_g (lw_at lw_m11 173 rfl) rfl
theorem q2701 : (Jvm.Cond.methodLink "FlyingDoctorsLaw" (168 : Nat) ({ cls := "FlyingDoctorsModel", name := "radio", desc := "(III)Z" } : Jvm.MethodName)) ∈ lw_all := lw_g (lw_at lw_m11 174 rfl) rfl
theorem q2702 : (Jvm.Cond.instanceMethod ({ cls := "FlyingDoctorsModel", name := "radio", desc := "(III)Z" } : Jvm.MethodName)) ∈ lw_all := lw_g (lw_at lw_m11 175 rfl) rfl
theorem q2703 : (Jvm.Cond.selects "FlyingDoctorsModel" ({ cls := "FlyingDoctorsModel", name := "radio", desc := "(III)Z" } : Jvm.MethodName) ({ cls := "FlyingDoctorsModel", name := "radio", desc := "(III)Z" } : Jvm.MethodName)) ∈ lw_all := lw_g (lw_at lw_m11 176 rfl) rfl
theorem q2704 : (Jvm.Cond.code ({ cls := "FlyingDoctorsModel", name := "radio", desc := "(III)Z" } : Jvm.MethodName) prog_24_method_61_code (4 : Nat) (Option.some Jvm.ClassFile.FieldType.boolean)) ∈ lw_all := lw_g (lw_at lw_m11 177 rfl) rfl
theorem q2705 : (Jvm.Cond.constant "FlyingDoctorsModel" (485 : Nat) (16777216 : Int32)) ∈ lw_all := lw_g (lw_at lw_m11 178 rfl) rfl
theorem q2706 : (Jvm.Cond.methodLink "FlyingDoctorsLaw" (171 : Nat) ({ cls := "FlyingDoctorsModel", name := "heard", desc := "(II)I" } : Jvm.MethodName)) ∈ lw_all := lw_g (lw_at lw_m11 179 rfl) rfl
theorem q2707 : (Jvm.Cond.instanceMethod ({ cls := "FlyingDoctorsModel", name := "heard", desc := "(II)I" } : Jvm.MethodName)) ∈ lw_all := lw_g (lw_at lw_m11 180 rfl) rfl
theorem q2708 : (Jvm.Cond.selects "FlyingDoctorsModel" ({ cls := "FlyingDoctorsModel", name := "heard", desc := "(II)I" } : Jvm.MethodName) ({ cls := "FlyingDoctorsModel", name := "heard", desc := "(II)I" } : Jvm.MethodName)) ∈ lw_all := lw_g (lw_at lw_m11 181 rfl) rfl
theorem q2709 : (Jvm.Cond.code ({ cls := "FlyingDoctorsModel", name := "heard", desc := "(II)I" } : Jvm.MethodName) prog_24_method_65_code (3 : Nat) (Option.some Jvm.ClassFile.FieldType.int)) ∈ lw_all := lw_g (lw_at lw_m11 182 rfl) rfl
theorem q2710 : (Jvm.Cond.methodLink "FlyingDoctorsModel" (494 : Nat) ({ cls := "FlyingDoctorsModel", name := "heardOf", desc := "(II)I" } : Jvm.MethodName)) ∈ lw_all := lw_g (lw_at lw_m11 183 rfl) rfl
theorem q2712 : (Jvm.Cond.instanceMethod ({ cls := "FlyingDoctorsModel", name := "heardOf", desc := "(II)I" } : Jvm.MethodName)) ∈ lw_all := lw_g (lw_at lw_m11 185 rfl) rfl
theorem q2713 : (Jvm.Cond.code ({ cls := "FlyingDoctorsModel", name := "heardOf", desc := "(II)I" } : Jvm.MethodName) prog_24_method_64_code (7 : Nat) (Option.some Jvm.ClassFile.FieldType.int)) ∈ lw_all := lw_g (lw_at lw_m11 186 rfl) rfl
theorem q2714 : (Jvm.Cond.methodLink "FlyingDoctorsModel" (490 : Nat) ({ cls := "FlyingDoctorsModel", name := "hears", desc := "(III)Z" } : Jvm.MethodName)) ∈ lw_all := lw_g (lw_at lw_m11 187 rfl) rfl
theorem q2716 : (Jvm.Cond.instanceMethod ({ cls := "FlyingDoctorsModel", name := "hears", desc := "(III)Z" } : Jvm.MethodName)) ∈ lw_all := lw_g (lw_at lw_m11 189 rfl) rfl
theorem q2717 : (Jvm.Cond.code ({ cls := "FlyingDoctorsModel", name := "hears", desc := "(III)Z" } : Jvm.MethodName) prog_24_method_63_code (4 : Nat) (Option.some Jvm.ClassFile.FieldType.boolean)) ∈ lw_all := lw_g (lw_at lw_m11 190 rfl) rfl
theorem q2718 : (Jvm.Cond.methodLink "FlyingDoctorsModel" (486 : Nat) ({ cls := "FlyingDoctorsModel", name := "isOn", desc := "(II)Z" } : Jvm.MethodName)) ∈ lw_all := lw_g (lw_at lw_m11 191 rfl) rfl
theorem q2720 : (Jvm.Cond.instanceMethod ({ cls := "FlyingDoctorsModel", name := "isOn", desc := "(II)Z" } : Jvm.MethodName)) ∈ lw_all := lw_g (lw_at lw_m11 193 rfl) rfl
theorem q2721 : (Jvm.Cond.code ({ cls := "FlyingDoctorsModel", name := "isOn", desc := "(II)Z" } : Jvm.MethodName) prog_24_method_62_code (3 : Nat) (Option.some Jvm.ClassFile.FieldType.boolean)) ∈ lw_all := lw_g (lw_at lw_m11 194 rfl) rfl
theorem q2722 : (Jvm.Cond.methodLink "FlyingDoctorsLaw" (174 : Nat) ({ cls := "FlyingDoctorsModel", name := "call", desc := "(II)I" } : Jvm.MethodName)) ∈ lw_all := lw_g (lw_at lw_m11 195 rfl) rfl
theorem q2723 : (Jvm.Cond.instanceMethod ({ cls := "FlyingDoctorsModel", name := "call", desc := "(II)I" } : Jvm.MethodName)) ∈ lw_all := lw_g (lw_at lw_m11 196 rfl) rfl
theorem q2724 : (Jvm.Cond.selects "FlyingDoctorsModel" ({ cls := "FlyingDoctorsModel", name := "call", desc := "(II)I" } : Jvm.MethodName) ({ cls := "FlyingDoctorsModel", name := "call", desc := "(II)I" } : Jvm.MethodName)) ∈ lw_all := lw_g (lw_at lw_m11 197 rfl) rfl
theorem q2725 : (Jvm.Cond.code ({ cls := "FlyingDoctorsModel", name := "call", desc := "(II)I" } : Jvm.MethodName) prog_24_method_66_code (3 : Nat) (Option.some Jvm.ClassFile.FieldType.int)) ∈ lw_all := lw_g (lw_at lw_m11 198 rfl) rfl
theorem q2726 : (Jvm.Cond.methodLink "FlyingDoctorsLaw" (177 : Nat) ({ cls := "FlyingDoctorsModel", name := "callOf", desc := "(II)I" } : Jvm.MethodName)) ∈ lw_all := lw_g (lw_at lw_m11 199 rfl) rfl
theorem q2727 : (Jvm.Cond.instanceMethod ({ cls := "FlyingDoctorsModel", name := "callOf", desc := "(II)I" } : Jvm.MethodName)) ∈ lw_all := lw_g (lw_at lw_m11 200 rfl) rfl
theorem q2728 : (Jvm.Cond.selects "FlyingDoctorsModel" ({ cls := "FlyingDoctorsModel", name := "callOf", desc := "(II)I" } : Jvm.MethodName) ({ cls := "FlyingDoctorsModel", name := "callOf", desc := "(II)I" } : Jvm.MethodName)) ∈ lw_all := lw_g (lw_at lw_m11 201 rfl) rfl
theorem q2729 : (Jvm.Cond.code ({ cls := "FlyingDoctorsModel", name := "callOf", desc := "(II)I" } : Jvm.MethodName) prog_24_method_69_code (3 : Nat) (Option.some Jvm.ClassFile.FieldType.int)) ∈ lw_all := lw_g (lw_at lw_m11 202 rfl) rfl
theorem q2730 : (Jvm.Cond.methodLink "FlyingDoctorsModel" (500 : Nat) ({ cls := "FlyingDoctorsModel", name := "isCall", desc := "(I)Z" } : Jvm.MethodName)) ∈ lw_all := lw_g (lw_at lw_m11 203 rfl) rfl
theorem q2732 : (Jvm.Cond.instanceMethod ({ cls := "FlyingDoctorsModel", name := "isCall", desc := "(I)Z" } : Jvm.MethodName)) ∈ lw_all := lw_g (lw_at lw_m11 205 rfl) rfl
theorem q2733 : (Jvm.Cond.code ({ cls := "FlyingDoctorsModel", name := "isCall", desc := "(I)Z" } : Jvm.MethodName) prog_24_method_67_code (2 : Nat) (Option.some Jvm.ClassFile.FieldType.boolean)) ∈ lw_all := lw_g (lw_at lw_m11 206 rfl) rfl
theorem q2734 : (Jvm.Cond.methodLink "FlyingDoctorsModel" (503 : Nat) ({ cls := "FlyingDoctorsModel", name := "served", desc := "(I)I" } : Jvm.MethodName)) ∈ lw_all := lw_g (lw_at lw_m11 207 rfl) rfl
theorem q2736 : (Jvm.Cond.instanceMethod ({ cls := "FlyingDoctorsModel", name := "served", desc := "(I)I" } : Jvm.MethodName)) ∈ lw_all := lw_g (lw_at lw_m11 209 rfl) rfl
theorem q2737 : (Jvm.Cond.code ({ cls := "FlyingDoctorsModel", name := "served", desc := "(I)I" } : Jvm.MethodName) prog_24_method_93_code (8 : Nat) (Option.some Jvm.ClassFile.FieldType.int)) ∈ lw_all := lw_g (lw_at lw_m11 210 rfl) rfl
theorem q2738 : (Jvm.Cond.methodLink "FlyingDoctorsLaw" (180 : Nat) ({ cls := "FlyingDoctorsModel", name := "priority", desc := "(I)I" } : Jvm.MethodName)) ∈ lw_all := lw_g (lw_at lw_m11 211 rfl) rfl
theorem q2739 : (Jvm.Cond.instanceMethod ({ cls := "FlyingDoctorsModel", name := "priority", desc := "(I)I" } : Jvm.MethodName)) ∈ lw_all := lw_g (lw_at lw_m11 212 rfl) rfl
theorem q2740 : (Jvm.Cond.selects "FlyingDoctorsModel" ({ cls := "FlyingDoctorsModel", name := "priority", desc := "(I)I" } : Jvm.MethodName) ({ cls := "FlyingDoctorsModel", name := "priority", desc := "(I)I" } : Jvm.MethodName)) ∈ lw_all := lw_g (lw_at lw_m11 213 rfl) rfl
theorem q2741 : (Jvm.Cond.code ({ cls := "FlyingDoctorsModel", name := "priority", desc := "(I)I" } : Jvm.MethodName) prog_24_method_71_code (2 : Nat) (Option.some Jvm.ClassFile.FieldType.int)) ∈ lw_all := lw_g (lw_at lw_m11 214 rfl) rfl
theorem q2742 : (Jvm.Cond.methodLink "FlyingDoctorsModel" (509 : Nat) ({ cls := "FlyingDoctorsModel", name := "isHeard", desc := "(I)Z" } : Jvm.MethodName)) ∈ lw_all := lw_g (lw_at lw_m11 215 rfl) rfl
theorem q2744 : (Jvm.Cond.instanceMethod ({ cls := "FlyingDoctorsModel", name := "isHeard", desc := "(I)Z" } : Jvm.MethodName)) ∈ lw_all := lw_g (lw_at lw_m11 217 rfl) rfl
theorem q2745 : (Jvm.Cond.code ({ cls := "FlyingDoctorsModel", name := "isHeard", desc := "(I)Z" } : Jvm.MethodName) prog_24_method_68_code (2 : Nat) (Option.some Jvm.ClassFile.FieldType.boolean)) ∈ lw_all := lw_g (lw_at lw_m11 218 rfl) rfl
theorem q2746 : (Jvm.Cond.methodLink "FlyingDoctorsModel" (512 : Nat) ({ cls := "FlyingDoctorsModel", name := "priorityOf", desc := "(I)I" } : Jvm.MethodName)) ∈ lw_all := lw_g (lw_at lw_m11 219 rfl) rfl
theorem q2748 : (Jvm.Cond.instanceMethod ({ cls := "FlyingDoctorsModel", name := "priorityOf", desc := "(I)I" } : Jvm.MethodName)) ∈ lw_all := lw_g (lw_at lw_m11 221 rfl) rfl
theorem q2749 : (Jvm.Cond.code ({ cls := "FlyingDoctorsModel", name := "priorityOf", desc := "(I)I" } : Jvm.MethodName) prog_24_method_70_code (4 : Nat) (Option.some Jvm.ClassFile.FieldType.int)) ∈ lw_all := lw_g (lw_at lw_m11 222 rfl) rfl
theorem q2750 : (Jvm.Cond.methodLink "FlyingDoctorsModel" (506 : Nat) ({ cls := "FlyingDoctorsModel", name := "toBase", desc := "(I)I" } : Jvm.MethodName)) ∈ lw_all := lw_g (lw_at lw_m11 223 rfl) rfl
theorem q2752 : (Jvm.Cond.instanceMethod ({ cls := "FlyingDoctorsModel", name := "toBase", desc := "(I)I" } : Jvm.MethodName)) ∈ lw_all := lw_g (lw_at lw_m11 225 rfl) rfl
theorem q2753 : (Jvm.Cond.code ({ cls := "FlyingDoctorsModel", name := "toBase", desc := "(I)I" } : Jvm.MethodName) prog_24_method_10_code (4 : Nat) (Option.some Jvm.ClassFile.FieldType.int)) ∈ lw_all := lw_g (lw_at lw_m11 226 rfl) rfl
theorem q2754 : (Jvm.Cond.methodLink "FlyingDoctorsLaw" (183 : Nat) ({ cls := "FlyingDoctorsModel", name := "order", desc := "(I)I" } : Jvm.MethodName)) ∈ lw_all := lw_g (lw_at lw_m11 227 rfl) rfl
theorem q2755 : (Jvm.Cond.instanceMethod ({ cls := "FlyingDoctorsModel", name := "order", desc := "(I)I" } : Jvm.MethodName)) ∈ lw_all := lw_g (lw_at lw_m11 228 rfl) rfl
theorem q2756 : (Jvm.Cond.selects "FlyingDoctorsModel" ({ cls := "FlyingDoctorsModel", name := "order", desc := "(I)I" } : Jvm.MethodName) ({ cls := "FlyingDoctorsModel", name := "order", desc := "(I)I" } : Jvm.MethodName)) ∈ lw_all := lw_g (lw_at lw_m11 229 rfl) rfl
theorem q2757 : (Jvm.Cond.code ({ cls := "FlyingDoctorsModel", name := "order", desc := "(I)I" } : Jvm.MethodName) prog_24_method_74_code (3 : Nat) (Option.some Jvm.ClassFile.FieldType.int)) ∈ lw_all := lw_g (lw_at lw_m11 230 rfl) rfl
theorem q2758 : (Jvm.Cond.methodLink "FlyingDoctorsModel" (518 : Nat) ({ cls := "FlyingDoctorsModel", name := "orders", desc := "()I" } : Jvm.MethodName)) ∈ lw_all := lw_g (lw_at lw_m11 231 rfl) rfl
theorem q2760 : (Jvm.Cond.instanceMethod ({ cls := "FlyingDoctorsModel", name := "orders", desc := "()I" } : Jvm.MethodName)) ∈ lw_all := lw_g (lw_at lw_m11 233 rfl) rfl
theorem q2761 : (Jvm.Cond.code ({ cls := "FlyingDoctorsModel", name := "orders", desc := "()I" } : Jvm.MethodName) prog_24_method_72_code (5 : Nat) (Option.some Jvm.ClassFile.FieldType.int)) ∈ lw_all := lw_g (lw_at lw_m11 234 rfl) rfl
theorem q2762 : (Jvm.Cond.methodLink "FlyingDoctorsModel" (515 : Nat) ({ cls := "FlyingDoctorsModel", name := "isAhead", desc := "(II)Z" } : Jvm.MethodName)) ∈ lw_all := lw_g (lw_at lw_m11 235 rfl) rfl
theorem q2764 : (Jvm.Cond.instanceMethod ({ cls := "FlyingDoctorsModel", name := "isAhead", desc := "(II)Z" } : Jvm.MethodName)) ∈ lw_all := lw_g (lw_at lw_m11 237 rfl) rfl
theorem q2765 : (Jvm.Cond.code ({ cls := "FlyingDoctorsModel", name := "isAhead", desc := "(II)Z" } : Jvm.MethodName) prog_24_method_73_code (3 : Nat) (Option.some Jvm.ClassFile.FieldType.boolean)) ∈ lw_all := lw_g (lw_at lw_m11 238 rfl) rfl
theorem q2766 : (Jvm.Cond.methodLink "FlyingDoctorsLaw" (187 : Nat) ({ cls := "FlyingDoctorsModel", name := "find", desc := "(IZ)Z" } : Jvm.MethodName)) ∈ lw_all := lw_g (lw_at lw_m11 239 rfl) rfl
theorem q2767 : (Jvm.Cond.instanceMethod ({ cls := "FlyingDoctorsModel", name := "find", desc := "(IZ)Z" } : Jvm.MethodName)) ∈ lw_all := lw_g (lw_at lw_m12 0 rfl) rfl
theorem q2768 : (Jvm.Cond.selects "FlyingDoctorsModel" ({ cls := "FlyingDoctorsModel", name := "find", desc := "(IZ)Z" } : Jvm.MethodName) ({ cls := "FlyingDoctorsModel", name := "find", desc := "(IZ)Z" } : Jvm.MethodName)) ∈ lw_all := lw_g (lw_at lw_m12 1 rfl) rfl
theorem q2769 : (Jvm.Cond.code ({ cls := "FlyingDoctorsModel", name := "find", desc := "(IZ)Z" } : Jvm.MethodName) prog_24_method_75_code (3 : Nat) (Option.some Jvm.ClassFile.FieldType.boolean)) ∈ lw_all := lw_g (lw_at lw_m12 2 rfl) rfl
theorem q2770 : (Jvm.Cond.methodLink "FlyingDoctorsLaw" (190 : Nat) ({ cls := "FlyingDoctorsModel", name := "misleads", desc := "(II)I" } : Jvm.MethodName)) ∈ lw_all := lw_g (lw_at lw_m12 3 rfl) rfl
theorem q2771 : (Jvm.Cond.instanceMethod ({ cls := "FlyingDoctorsModel", name := "misleads", desc := "(II)I" } : Jvm.MethodName)) ∈ lw_all := lw_g (lw_at lw_m12 4 rfl) rfl
theorem q2772 : (Jvm.Cond.selects "FlyingDoctorsModel" ({ cls := "FlyingDoctorsModel", name := "misleads", desc := "(II)I" } : Jvm.MethodName) ({ cls := "FlyingDoctorsModel", name := "misleads", desc := "(II)I" } : Jvm.MethodName)) ∈ lw_all := lw_g (lw_at lw_m12 5 rfl) rfl
theorem q2773 : (Jvm.Cond.code ({ cls := "FlyingDoctorsModel", name := "misleads", desc := "(II)I" } : Jvm.MethodName) prog_24_method_77_code (15 : Nat) (Option.some Jvm.ClassFile.FieldType.int)) ∈ lw_all := lw_g (lw_at lw_m12 6 rfl) rfl
theorem q2774 : (Jvm.Cond.methodLink "FlyingDoctorsModel" (524 : Nat) ({ cls := "FlyingDoctorsModel", name := "ways", desc := "(II)J" } : Jvm.MethodName)) ∈ lw_all := lw_g (lw_at lw_m12 7 rfl) rfl
theorem q2775 : (Jvm.Cond.static ({ cls := "FlyingDoctorsModel", name := "ways", desc := "(II)J" } : Jvm.MethodName)) ∈ lw_all := lw_g (lw_at lw_m12 8 rfl) rfl
theorem q2776 : (Jvm.Cond.code ({ cls := "FlyingDoctorsModel", name := "ways", desc := "(II)J" } : Jvm.MethodName) prog_24_method_76_code (5 : Nat) (Option.some Jvm.ClassFile.FieldType.long)) ∈ lw_all := lw_g (lw_at lw_m12 9 rfl) rfl
theorem q2777 : (Jvm.Cond.constant "FlyingDoctorsModel" (528 : Nat) (1000000 : Int32)) ∈ lw_all := lw_g (lw_at lw_m12 10 rfl) rfl
theorem q2778 : (Jvm.Cond.constantLong "FlyingDoctorsModel" (529 : Nat) (10 : Int64)) ∈ lw_all := lw_g (lw_at lw_m12 11 rfl) rfl
theorem q2779 : (Jvm.Cond.methodLink "FlyingDoctorsLaw" (194 : Nat) ({ cls := "FlyingDoctorsModel", name := "flight", desc := "(IIIIIIII)I" } : Jvm.MethodName)) ∈ lw_all := lw_g (lw_at lw_m12 12 rfl) rfl
theorem q2780 : (Jvm.Cond.instanceMethod ({ cls := "FlyingDoctorsModel", name := "flight", desc := "(IIIIIIII)I" } : Jvm.MethodName)) ∈ lw_all := lw_g (lw_at lw_m12 13 rfl) rfl
theorem q2781 : (Jvm.Cond.selects "FlyingDoctorsModel" ({ cls := "FlyingDoctorsModel", name := "flight", desc := "(IIIIIIII)I" } : Jvm.MethodName) ({ cls := "FlyingDoctorsModel", name := "flight", desc := "(IIIIIIII)I" } : Jvm.MethodName)) ∈ lw_all := lw_g (lw_at lw_m12 14 rfl) rfl
theorem q2782 : (Jvm.Cond.code ({ cls := "FlyingDoctorsModel", name := "flight", desc := "(IIIIIIII)I" } : Jvm.MethodName) prog_24_method_86_code (14 : Nat) (Option.some Jvm.ClassFile.FieldType.int)) ∈ lw_all := lw_g (lw_at lw_m12 15 rfl) rfl
theorem q2783 : (Jvm.Cond.methodLink "FlyingDoctorsModel" (553 : Nat) ({ cls := "FlyingDoctorsModel", name := "isOrder", desc := "(II)Z" } : Jvm.MethodName)) ∈ lw_all := lw_g (lw_at lw_m12 16 rfl) rfl
theorem q2785 : (Jvm.Cond.instanceMethod ({ cls := "FlyingDoctorsModel", name := "isOrder", desc := "(II)Z" } : Jvm.MethodName)) ∈ lw_all := lw_g (lw_at lw_m12 18 rfl) rfl
theorem q2786 : (Jvm.Cond.code ({ cls := "FlyingDoctorsModel", name := "isOrder", desc := "(II)Z" } : Jvm.MethodName) prog_24_method_85_code (3 : Nat) (Option.some Jvm.ClassFile.FieldType.boolean)) ∈ lw_all := lw_g (lw_at lw_m12 19 rfl) rfl
theorem q2787 : (Jvm.Cond.methodLink "FlyingDoctorsModel" (556 : Nat) ({ cls := "FlyingDoctorsModel", name := "crew", desc := "(IIII)I" } : Jvm.MethodName)) ∈ lw_all := lw_g (lw_at lw_m12 20 rfl) rfl
theorem q2789 : (Jvm.Cond.instanceMethod ({ cls := "FlyingDoctorsModel", name := "crew", desc := "(IIII)I" } : Jvm.MethodName)) ∈ lw_all := lw_g (lw_at lw_m12 22 rfl) rfl
theorem q2790 : (Jvm.Cond.code ({ cls := "FlyingDoctorsModel", name := "crew", desc := "(IIII)I" } : Jvm.MethodName) prog_24_method_81_code (6 : Nat) (Option.some Jvm.ClassFile.FieldType.int)) ∈ lw_all := lw_g (lw_at lw_m12 23 rfl) rfl
theorem q2791 : (Jvm.Cond.methodLink "FlyingDoctorsModel" (534 : Nat) ({ cls := "FlyingDoctorsModel", name := "isReady", desc := "(III)Z" } : Jvm.MethodName)) ∈ lw_all := lw_g (lw_at lw_m12 24 rfl) rfl
theorem q2793 : (Jvm.Cond.instanceMethod ({ cls := "FlyingDoctorsModel", name := "isReady", desc := "(III)Z" } : Jvm.MethodName)) ∈ lw_all := lw_g (lw_at lw_m12 26 rfl) rfl
theorem q2794 : (Jvm.Cond.code ({ cls := "FlyingDoctorsModel", name := "isReady", desc := "(III)Z" } : Jvm.MethodName) prog_24_method_80_code (4 : Nat) (Option.some Jvm.ClassFile.FieldType.boolean)) ∈ lw_all := lw_g (lw_at lw_m12 27 rfl) rfl
theorem q2795 : (Jvm.Cond.methodLink "FlyingDoctorsModel" (560 : Nat) ({ cls := "FlyingDoctorsModel", name := "flies", desc := "(III)I" } : Jvm.MethodName)) ∈ lw_all := lw_g (lw_at lw_m12 28 rfl) rfl
theorem q2797 : (Jvm.Cond.instanceMethod ({ cls := "FlyingDoctorsModel", name := "flies", desc := "(III)I" } : Jvm.MethodName)) ∈ lw_all := lw_g (lw_at lw_m12 30 rfl) rfl
theorem q2798 : (Jvm.Cond.code ({ cls := "FlyingDoctorsModel", name := "flies", desc := "(III)I" } : Jvm.MethodName) prog_24_method_87_code (13 : Nat) (Option.some Jvm.ClassFile.FieldType.int)) ∈ lw_all := lw_g (lw_at lw_m12 31 rfl) rfl
theorem q2799 : (Jvm.Cond.methodLink "FlyingDoctorsModel" (562 : Nat) ({ cls := "FlyingDoctorsModel", name := "leg", desc := "(IIIIII)I" } : Jvm.MethodName)) ∈ lw_all := lw_g (lw_at lw_m12 32 rfl) rfl
theorem q2801 : (Jvm.Cond.instanceMethod ({ cls := "FlyingDoctorsModel", name := "leg", desc := "(IIIIII)I" } : Jvm.MethodName)) ∈ lw_all := lw_g (lw_at lw_m12 34 rfl) rfl
theorem q2802 : (Jvm.Cond.code ({ cls := "FlyingDoctorsModel", name := "leg", desc := "(IIIIII)I" } : Jvm.MethodName) prog_24_method_82_code (16 : Nat) (Option.some Jvm.ClassFile.FieldType.int)) ∈ lw_all := lw_g (lw_at lw_m12 35 rfl) rfl
theorem q2803 : (Jvm.Cond.methodLink "FlyingDoctorsModel" (537 : Nat) ({ cls := "FlyingDoctorsModel", name := "way", desc := "(III)I" } : Jvm.MethodName)) ∈ lw_all := lw_g (lw_at lw_m12 36 rfl) rfl
theorem q2805 : (Jvm.Cond.instanceMethod ({ cls := "FlyingDoctorsModel", name := "way", desc := "(III)I" } : Jvm.MethodName)) ∈ lw_all := lw_g (lw_at lw_m12 38 rfl) rfl
theorem q2806 : (Jvm.Cond.code ({ cls := "FlyingDoctorsModel", name := "way", desc := "(III)I" } : Jvm.MethodName) prog_24_method_8_code (4 : Nat) (Option.some Jvm.ClassFile.FieldType.int)) ∈ lw_all := lw_g (lw_at lw_m12 39 rfl) rfl
theorem q2807 : (Jvm.Cond.methodLink "FlyingDoctorsModel" (540 : Nat) ({ cls := "FlyingDoctorsModel", name := "flownBy", desc := "(III)I" } : Jvm.MethodName)) ∈ lw_all := lw_g (lw_at lw_m12 40 rfl) rfl
theorem q2809 : (Jvm.Cond.instanceMethod ({ cls := "FlyingDoctorsModel", name := "flownBy", desc := "(III)I" } : Jvm.MethodName)) ∈ lw_all := lw_g (lw_at lw_m12 42 rfl) rfl
theorem q2810 : (Jvm.Cond.code ({ cls := "FlyingDoctorsModel", name := "flownBy", desc := "(III)I" } : Jvm.MethodName) prog_24_method_78_code (7 : Nat) (Option.some Jvm.ClassFile.FieldType.int)) ∈ lw_all := lw_g (lw_at lw_m12 43 rfl) rfl
theorem q2811 : (Jvm.Cond.methodLink "FlyingDoctorsModel" (531 : Nat) ({ cls := "FlyingDoctorsModel", name := "within", desc := "(III)I" } : Jvm.MethodName)) ∈ lw_all := lw_g (lw_at lw_m12 44 rfl) rfl
theorem q2812 : (Jvm.Cond.static ({ cls := "FlyingDoctorsModel", name := "within", desc := "(III)I" } : Jvm.MethodName)) ∈ lw_all := lw_g (lw_at lw_m12 45 rfl) rfl
theorem q2813 : (Jvm.Cond.code ({ cls := "FlyingDoctorsModel", name := "within", desc := "(III)I" } : Jvm.MethodName) prog_24_method_79_code (5 : Nat) (Option.some Jvm.ClassFile.FieldType.int)) ∈ lw_all := lw_g (lw_at lw_m12 46 rfl) rfl
theorem q2814 : (Jvm.Cond.methodLink "FlyingDoctorsModel" (543 : Nat) ({ cls := "FlyingDoctorsModel", name := "flownHere", desc := "(II)I" } : Jvm.MethodName)) ∈ lw_all := lw_g (lw_at lw_m12 47 rfl) rfl
theorem q2816 : (Jvm.Cond.instanceMethod ({ cls := "FlyingDoctorsModel", name := "flownHere", desc := "(II)I" } : Jvm.MethodName)) ∈ lw_all := lw_g (lw_at lw_m12 49 rfl) rfl
theorem q2817 : (Jvm.Cond.code ({ cls := "FlyingDoctorsModel", name := "flownHere", desc := "(II)I" } : Jvm.MethodName) prog_24_method_84_code (5 : Nat) (Option.some Jvm.ClassFile.FieldType.int)) ∈ lw_all := lw_g (lw_at lw_m12 50 rfl) rfl
theorem q2818 : (Jvm.Cond.methodLink "FlyingDoctorsModel" (546 : Nat) ({ cls := "FlyingDoctorsModel", name := "isThere", desc := "(IIII)Z" } : Jvm.MethodName)) ∈ lw_all := lw_g (lw_at lw_m12 51 rfl) rfl
theorem q2820 : (Jvm.Cond.instanceMethod ({ cls := "FlyingDoctorsModel", name := "isThere", desc := "(IIII)Z" } : Jvm.MethodName)) ∈ lw_all := lw_g (lw_at lw_m12 53 rfl) rfl
theorem q2821 : (Jvm.Cond.code ({ cls := "FlyingDoctorsModel", name := "isThere", desc := "(IIII)Z" } : Jvm.MethodName) prog_24_method_83_code (6 : Nat) (Option.some Jvm.ClassFile.FieldType.boolean)) ∈ lw_all := lw_g (lw_at lw_m12 54 rfl) rfl
theorem q2822 : (Jvm.Cond.methodLink "FlyingDoctorsModel" (566 : Nat) ({ cls := "FlyingDoctorsModel", name := "ends", desc := "(III)V" } : Jvm.MethodName)) ∈ lw_all := lw_g (lw_at lw_m12 55 rfl) rfl
theorem q2824 : (Jvm.Cond.instanceMethod ({ cls := "FlyingDoctorsModel", name := "ends", desc := "(III)V" } : Jvm.MethodName)) ∈ lw_all := lw_g (lw_at lw_m12 57 rfl) rfl
theorem q2825 : (Jvm.Cond.code ({ cls := "FlyingDoctorsModel", name := "ends", desc := "(III)V" } : Jvm.MethodName) prog_24_method_88_code (7 : Nat) (Option.none : Option Jvm.ClassFile.FieldType)) ∈ lw_all := lw_g (lw_at lw_m12 58 rfl) rfl
theorem q2826 : (Jvm.Cond.methodLink "FlyingDoctorsLaw" (198 : Nat) ({ cls := "FlyingDoctorsModel", name := "failed", desc := "()I" } : Jvm.MethodName)) ∈ lw_all := lw_g (lw_at lw_m12 59 rfl) rfl
theorem q2827 : (Jvm.Cond.instanceMethod ({ cls := "FlyingDoctorsModel", name := "failed", desc := "()I" } : Jvm.MethodName)) ∈ lw_all := lw_g (lw_at lw_m12 60 rfl) rfl
theorem q2828 : (Jvm.Cond.selects "FlyingDoctorsModel" ({ cls := "FlyingDoctorsModel", name := "failed", desc := "()I" } : Jvm.MethodName) ({ cls := "FlyingDoctorsModel", name := "failed", desc := "()I" } : Jvm.MethodName)) ∈ lw_all := lw_g (lw_at lw_m12 61 rfl) rfl
theorem q2829 : (Jvm.Cond.code ({ cls := "FlyingDoctorsModel", name := "failed", desc := "()I" } : Jvm.MethodName) prog_24_method_89_code (1 : Nat) (Option.some Jvm.ClassFile.FieldType.int)) ∈ lw_all := lw_g (lw_at lw_m12 62 rfl) rfl
theorem q2830 : (Jvm.Cond.methodLink "FlyingDoctorsLaw" (201 : Nat) ({ cls := "FlyingDoctorsModel", name := "leg", desc := "(III)I" } : Jvm.MethodName)) ∈ lw_all := lw_g (lw_at lw_m12 63 rfl) rfl
theorem q2831 : (Jvm.Cond.instanceMethod ({ cls := "FlyingDoctorsModel", name := "leg", desc := "(III)I" } : Jvm.MethodName)) ∈ lw_all := lw_g (lw_at lw_m12 64 rfl) rfl
theorem q2832 : (Jvm.Cond.selects "FlyingDoctorsModel" ({ cls := "FlyingDoctorsModel", name := "leg", desc := "(III)I" } : Jvm.MethodName) ({ cls := "FlyingDoctorsModel", name := "leg", desc := "(III)I" } : Jvm.MethodName)) ∈ lw_all := lw_g (lw_at lw_m12 65 rfl) rfl
theorem q2833 : (Jvm.Cond.code ({ cls := "FlyingDoctorsModel", name := "leg", desc := "(III)I" } : Jvm.MethodName) prog_24_method_91_code (5 : Nat) (Option.some Jvm.ClassFile.FieldType.int)) ∈ lw_all := lw_g (lw_at lw_m12 66 rfl) rfl
theorem q2834 : (Jvm.Cond.methodLink "FlyingDoctorsModel" (569 : Nat) ({ cls := "FlyingDoctorsModel", name := "isFlight", desc := "(I)Z" } : Jvm.MethodName)) ∈ lw_all := lw_g (lw_at lw_m12 67 rfl) rfl
theorem q2836 : (Jvm.Cond.instanceMethod ({ cls := "FlyingDoctorsModel", name := "isFlight", desc := "(I)Z" } : Jvm.MethodName)) ∈ lw_all := lw_g (lw_at lw_m12 69 rfl) rfl
theorem q2837 : (Jvm.Cond.code ({ cls := "FlyingDoctorsModel", name := "isFlight", desc := "(I)Z" } : Jvm.MethodName) prog_24_method_90_code (2 : Nat) (Option.some Jvm.ClassFile.FieldType.boolean)) ∈ lw_all := lw_g (lw_at lw_m12 70 rfl) rfl
theorem q2838 : (Jvm.Cond.methodLink "FlyingDoctorsLaw" (204 : Nat) ({ cls := "FlyingDoctorsModel", name := "holds", desc := "(I)I" } : Jvm.MethodName)) ∈ lw_all := lw_g (lw_at lw_m12 71 rfl) rfl
theorem q2839 : (Jvm.Cond.instanceMethod ({ cls := "FlyingDoctorsModel", name := "holds", desc := "(I)I" } : Jvm.MethodName)) ∈ lw_all := lw_g (lw_at lw_m12 72 rfl) rfl
theorem q2840 : (Jvm.Cond.selects "FlyingDoctorsModel" ({ cls := "FlyingDoctorsModel", name := "holds", desc := "(I)I" } : Jvm.MethodName) ({ cls := "FlyingDoctorsModel", name := "holds", desc := "(I)I" } : Jvm.MethodName)) ∈ lw_all := lw_g (lw_at lw_m12 73 rfl) rfl
theorem q2841 : (Jvm.Cond.code ({ cls := "FlyingDoctorsModel", name := "holds", desc := "(I)I" } : Jvm.MethodName) prog_24_method_92_code (5 : Nat) (Option.some Jvm.ClassFile.FieldType.int)) ∈ lw_all := lw_g (lw_at lw_m12 74 rfl) rfl
theorem q2842 : (Jvm.Cond.methodLink "FlyingDoctorsLaw" (207 : Nat) ({ cls := "FlyingDoctorsModel", name := "where", desc := "(III)I" } : Jvm.MethodName)) ∈ lw_all := lw_g (lw_at lw_m12 75 rfl) rfl
theorem q2843 : (Jvm.Cond.instanceMethod ({ cls := "FlyingDoctorsModel", name := "where", desc := "(III)I" } : Jvm.MethodName)) ∈ lw_all := lw_g (lw_at lw_m12 76 rfl) rfl
theorem q2844 : (Jvm.Cond.selects "FlyingDoctorsModel" ({ cls := "FlyingDoctorsModel", name := "where", desc := "(III)I" } : Jvm.MethodName) ({ cls := "FlyingDoctorsModel", name := "where", desc := "(III)I" } : Jvm.MethodName)) ∈ lw_all := lw_g (lw_at lw_m12 77 rfl) rfl
theorem q2845 : (Jvm.Cond.code ({ cls := "FlyingDoctorsModel", name := "where", desc := "(III)I" } : Jvm.MethodName) prog_24_method_94_code (10 : Nat) (Option.some Jvm.ClassFile.FieldType.int)) ∈ lw_all := lw_g (lw_at lw_m12 78 rfl) rfl
theorem q2846 : (Jvm.Cond.methodLink "FlyingDoctorsLaw" (210 : Nat) ({ cls := "FlyingDoctorsModel", name := "planeOf", desc := "(II)I" } : Jvm.MethodName)) ∈ lw_all := lw_g (lw_at lw_m12 79 rfl) rfl
theorem q2847 : (Jvm.Cond.instanceMethod ({ cls := "FlyingDoctorsModel", name := "planeOf", desc := "(II)I" } : Jvm.MethodName)) ∈ lw_all := lw_g (lw_at lw_m12 80 rfl) rfl
theorem q2848 : (Jvm.Cond.selects "FlyingDoctorsModel" ({ cls := "FlyingDoctorsModel", name := "planeOf", desc := "(II)I" } : Jvm.MethodName) ({ cls := "FlyingDoctorsModel", name := "planeOf", desc := "(II)I" } : Jvm.MethodName)) ∈ lw_all := lw_g (lw_at lw_m12 81 rfl) rfl
theorem q2849 : (Jvm.Cond.code ({ cls := "FlyingDoctorsModel", name := "planeOf", desc := "(II)I" } : Jvm.MethodName) prog_24_method_95_code (3 : Nat) (Option.some Jvm.ClassFile.FieldType.int)) ∈ lw_all := lw_g (lw_at lw_m12 82 rfl) rfl
theorem q2850 : (Jvm.Cond.methodLink "FlyingDoctorsLaw" (213 : Nat) ({ cls := "FlyingDoctorsModel", name := "overdue", desc := "(I)I" } : Jvm.MethodName)) ∈ lw_all := lw_g (lw_at lw_m12 83 rfl) rfl
theorem q2851 : (Jvm.Cond.instanceMethod ({ cls := "FlyingDoctorsModel", name := "overdue", desc := "(I)I" } : Jvm.MethodName)) ∈ lw_all := lw_g (lw_at lw_m12 84 rfl) rfl
theorem q2852 : (Jvm.Cond.selects "FlyingDoctorsModel" ({ cls := "FlyingDoctorsModel", name := "overdue", desc := "(I)I" } : Jvm.MethodName) ({ cls := "FlyingDoctorsModel", name := "overdue", desc := "(I)I" } : Jvm.MethodName)) ∈ lw_all := lw_g (lw_at lw_m12 85 rfl) rfl
theorem q2853 : (Jvm.Cond.code ({ cls := "FlyingDoctorsModel", name := "overdue", desc := "(I)I" } : Jvm.MethodName) prog_24_method_97_code (5 : Nat) (Option.some Jvm.ClassFile.FieldType.int)) ∈ lw_all := lw_g (lw_at lw_m12 86 rfl) rfl
theorem q2854 : (Jvm.Cond.methodLink "FlyingDoctorsModel" (574 : Nat) ({ cls := "FlyingDoctorsModel", name := "isOverdue", desc := "(I)Z" } : Jvm.MethodName)) ∈ lw_all := lw_g (lw_at lw_m12 87 rfl) rfl
theorem q2856 : (Jvm.Cond.instanceMethod ({ cls := "FlyingDoctorsModel", name := "isOverdue", desc := "(I)Z" } : Jvm.MethodName)) ∈ lw_all := lw_g (lw_at lw_m12 89 rfl) rfl
theorem q2857 : (Jvm.Cond.code ({ cls := "FlyingDoctorsModel", name := "isOverdue", desc := "(I)Z" } : Jvm.MethodName) prog_24_method_96_code (9 : Nat) (Option.some Jvm.ClassFile.FieldType.boolean)) ∈ lw_all := lw_g (lw_at lw_m12 90 rfl) rfl
theorem q2858 : (Jvm.Cond.constantLong "FlyingDoctorsModel" (572 : Nat) (96 : Int64)) ∈ lw_all := lw_g (lw_at lw_m12 91 rfl) rfl
theorem q2859 : (Jvm.Cond.methodLink "FlyingDoctorsLaw" (217 : Nat) ({ cls := "FlyingDoctorsModel", name := "clinic", desc := "(III)I" } : Jvm.MethodName)) ∈ lw_all := lw_g (lw_at lw_m12 92 rfl) rfl
theorem q2860 : (Jvm.Cond.instanceMethod ({ cls := "FlyingDoctorsModel", name := "clinic", desc := "(III)I" } : Jvm.MethodName)) ∈ lw_all := lw_g (lw_at lw_m12 93 rfl) rfl
theorem q2861 : (Jvm.Cond.selects "FlyingDoctorsModel" ({ cls := "FlyingDoctorsModel", name := "clinic", desc := "(III)I" } : Jvm.MethodName) ({ cls := "FlyingDoctorsModel", name := "clinic", desc := "(III)I" } : Jvm.MethodName)) ∈ lw_all := lw_g (lw_at lw_m12 94 rfl) rfl
theorem q2862 : (Jvm.Cond.code ({ cls := "FlyingDoctorsModel", name := "clinic", desc := "(III)I" } : Jvm.MethodName) prog_24_method_98_code (6 : Nat) (Option.some Jvm.ClassFile.FieldType.int)) ∈ lw_all := lw_g (lw_at lw_m12 95 rfl) rfl
theorem q2863 : (Jvm.Cond.methodLink "FlyingDoctorsLaw" (227 : Nat) ({ cls := "FlyingDoctorsModel", name := "round", desc := "(III)I" } : Jvm.MethodName)) ∈ lw_all := lw_g (lw_at lw_m12 96 rfl) rfl
theorem q2864 : (Jvm.Cond.instanceMethod ({ cls := "FlyingDoctorsModel", name := "round", desc := "(III)I" } : Jvm.MethodName)) ∈ lw_all := lw_g (lw_at lw_m12 97 rfl) rfl
theorem q2865 : (Jvm.Cond.selects "FlyingDoctorsModel" ({ cls := "FlyingDoctorsModel", name := "round", desc := "(III)I" } : Jvm.MethodName) ({ cls := "FlyingDoctorsModel", name := "round", desc := "(III)I" } : Jvm.MethodName)) ∈ lw_all := lw_g (lw_at lw_m12 98 rfl) rfl
theorem q2866 : (Jvm.Cond.code ({ cls := "FlyingDoctorsModel", name := "round", desc := "(III)I" } : Jvm.MethodName) prog_24_method_100_code (4 : Nat) (Option.some Jvm.ClassFile.FieldType.int)) ∈ lw_all := lw_g (lw_at lw_m12 99 rfl) rfl
theorem q2867 : (Jvm.Cond.methodLink "FlyingDoctorsModel" (580 : Nat) ({ cls := "FlyingDoctorsModel", name := "roundsOf", desc := "(II)V" } : Jvm.MethodName)) ∈ lw_all := lw_g (lw_at lw_m12 100 rfl) rfl
theorem q2869 : (Jvm.Cond.instanceMethod ({ cls := "FlyingDoctorsModel", name := "roundsOf", desc := "(II)V" } : Jvm.MethodName)) ∈ lw_all := lw_g (lw_at lw_m12 102 rfl) rfl
theorem q2870 : (Jvm.Cond.code ({ cls := "FlyingDoctorsModel", name := "roundsOf", desc := "(II)V" } : Jvm.MethodName) prog_24_method_99_code (9 : Nat) (Option.none : Option Jvm.ClassFile.FieldType)) ∈ lw_all := lw_g (lw_at lw_m12 103 rfl) rfl
theorem q2871 : (Jvm.Cond.methodLink "FlyingDoctorsLaw" (221 : Nat) ({ cls := "FlyingDoctorsModel", name := "week", desc := "(IIII)I" } : Jvm.MethodName)) ∈ lw_all := lw_g (lw_at lw_m12 104 rfl) rfl
theorem q2872 : (Jvm.Cond.instanceMethod ({ cls := "FlyingDoctorsModel", name := "week", desc := "(IIII)I" } : Jvm.MethodName)) ∈ lw_all := lw_g (lw_at lw_m12 105 rfl) rfl
theorem q2873 : (Jvm.Cond.selects "FlyingDoctorsModel" ({ cls := "FlyingDoctorsModel", name := "week", desc := "(IIII)I" } : Jvm.MethodName) ({ cls := "FlyingDoctorsModel", name := "week", desc := "(IIII)I" } : Jvm.MethodName)) ∈ lw_all := lw_g (lw_at lw_m12 106 rfl) rfl
theorem q2874 : (Jvm.Cond.code ({ cls := "FlyingDoctorsModel", name := "week", desc := "(IIII)I" } : Jvm.MethodName) prog_24_method_104_code (10 : Nat) (Option.some Jvm.ClassFile.FieldType.int)) ∈ lw_all := lw_g (lw_at lw_m12 107 rfl) rfl
theorem q2875 : (Jvm.Cond.methodLink "FlyingDoctorsModel" (590 : Nat) ({ cls := "FlyingDoctorsModel", name := "weeks", desc := "()V" } : Jvm.MethodName)) ∈ lw_all := lw_g (lw_at lw_m12 108 rfl) rfl
theorem q2877 : (Jvm.Cond.instanceMethod ({ cls := "FlyingDoctorsModel", name := "weeks", desc := "()V" } : Jvm.MethodName)) ∈ lw_all := lw_g (lw_at lw_m12 110 rfl) rfl
theorem q2878 : (Jvm.Cond.code ({ cls := "FlyingDoctorsModel", name := "weeks", desc := "()V" } : Jvm.MethodName) prog_24_method_103_code (9 : Nat) (Option.none : Option Jvm.ClassFile.FieldType)) ∈ lw_all := lw_g (lw_at lw_m12 111 rfl) rfl
theorem q2879 : (Jvm.Cond.methodLink "FlyingDoctorsModel" (584 : Nat) ({ cls := "FlyingDoctorsModel", name := "fits", desc := "(II)Z" } : Jvm.MethodName)) ∈ lw_all := lw_g (lw_at lw_m12 112 rfl) rfl
theorem q2881 : (Jvm.Cond.instanceMethod ({ cls := "FlyingDoctorsModel", name := "fits", desc := "(II)Z" } : Jvm.MethodName)) ∈ lw_all := lw_g (lw_at lw_m12 114 rfl) rfl
theorem q2882 : (Jvm.Cond.code ({ cls := "FlyingDoctorsModel", name := "fits", desc := "(II)Z" } : Jvm.MethodName) prog_24_method_102_code (3 : Nat) (Option.some Jvm.ClassFile.FieldType.boolean)) ∈ lw_all := lw_g (lw_at lw_m12 115 rfl) rfl
theorem q2883 : (Jvm.Cond.methodLink "FlyingDoctorsModel" (587 : Nat) ({ cls := "FlyingDoctorsModel", name := "movedOn", desc := "(II)I" } : Jvm.MethodName)) ∈ lw_all := lw_g (lw_at lw_m12 116 rfl) rfl
theorem q2885 : (Jvm.Cond.instanceMethod ({ cls := "FlyingDoctorsModel", name := "movedOn", desc := "(II)I" } : Jvm.MethodName)) ∈ lw_all := lw_g (lw_at lw_m12 118 rfl) rfl
theorem q2886 : (Jvm.Cond.code ({ cls := "FlyingDoctorsModel", name := "movedOn", desc := "(II)I" } : Jvm.MethodName) prog_24_method_101_code (5 : Nat) (Option.some Jvm.ClassFile.FieldType.int)) ∈ lw_all := lw_g (lw_at lw_m12 119 rfl) rfl
theorem q2887 : (Jvm.Cond.methodLink "FlyingDoctorsModel" (599 : Nat) ({ cls := "FlyingDoctorsModel", name := "isBest", desc := "(III)Z" } : Jvm.MethodName)) ∈ lw_all := lw_g (lw_at lw_m12 120 rfl) rfl
theorem q2889 : (Jvm.Cond.instanceMethod ({ cls := "FlyingDoctorsModel", name := "isBest", desc := "(III)Z" } : Jvm.MethodName)) ∈ lw_all := lw_g (lw_at lw_m12 122 rfl) rfl
theorem q2890 : (Jvm.Cond.code ({ cls := "FlyingDoctorsModel", name := "isBest", desc := "(III)Z" } : Jvm.MethodName) prog_24_method_105_code (6 : Nat) (Option.some Jvm.ClassFile.FieldType.boolean)) ∈ lw_all := lw_g (lw_at lw_m12 123 rfl) rfl
theorem q2891 : (Jvm.Cond.methodLink "FlyingDoctorsLaw" (224 : Nat) ({ cls := "FlyingDoctorsModel", name := "weekOf", desc := "(I)I" } : Jvm.MethodName)) ∈ lw_all := lw_g (lw_at lw_m12 124 rfl) rfl
theorem q2892 : (Jvm.Cond.instanceMethod ({ cls := "FlyingDoctorsModel", name := "weekOf", desc := "(I)I" } : Jvm.MethodName)) ∈ lw_all := lw_g (lw_at lw_m12 125 rfl) rfl
theorem q2893 : (Jvm.Cond.selects "FlyingDoctorsModel" ({ cls := "FlyingDoctorsModel", name := "weekOf", desc := "(I)I" } : Jvm.MethodName) ({ cls := "FlyingDoctorsModel", name := "weekOf", desc := "(I)I" } : Jvm.MethodName)) ∈ lw_all := lw_g (lw_at lw_m12 126 rfl) rfl
theorem q2894 : (Jvm.Cond.code ({ cls := "FlyingDoctorsModel", name := "weekOf", desc := "(I)I" } : Jvm.MethodName) prog_24_method_106_code (2 : Nat) (Option.some Jvm.ClassFile.FieldType.int)) ∈ lw_all := lw_g (lw_at lw_m12 127 rfl) rfl
theorem q2895 : (Jvm.Cond.methodLink "FlyingDoctorsLaw" (230 : Nat) ({ cls := "FlyingDoctorsModel", name := "chest", desc := "(III)I" } : Jvm.MethodName)) ∈ lw_all := lw_g (lw_at lw_m12 128 rfl) rfl
theorem q2896 : (Jvm.Cond.instanceMethod ({ cls := "FlyingDoctorsModel", name := "chest", desc := "(III)I" } : Jvm.MethodName)) ∈ lw_all := lw_g (lw_at lw_m12 129 rfl) rfl
theorem q2897 : (Jvm.Cond.selects "FlyingDoctorsModel" ({ cls := "FlyingDoctorsModel", name := "chest", desc := "(III)I" } : Jvm.MethodName) ({ cls := "FlyingDoctorsModel", name := "chest", desc := "(III)I" } : Jvm.MethodName)) ∈ lw_all := lw_g (lw_at lw_m12 130 rfl) rfl
theorem q2898 : (Jvm.Cond.code ({ cls := "FlyingDoctorsModel", name := "chest", desc := "(III)I" } : Jvm.MethodName) prog_24_method_108_code (5 : Nat) (Option.some Jvm.ClassFile.FieldType.int)) ∈ lw_all := lw_g (lw_at lw_m12 131 rfl) rfl
theorem q2899 : (Jvm.Cond.methodLink "FlyingDoctorsModel" (602 : Nat) ({ cls := "FlyingDoctorsModel", name := "isChest", desc := "(II)Z" } : Jvm.MethodName)) ∈ lw_all := lw_g (lw_at lw_m12 132 rfl) rfl
theorem q2901 : (Jvm.Cond.instanceMethod ({ cls := "FlyingDoctorsModel", name := "isChest", desc := "(II)Z" } : Jvm.MethodName)) ∈ lw_all := lw_g (lw_at lw_m12 134 rfl) rfl
theorem q2902 : (Jvm.Cond.code ({ cls := "FlyingDoctorsModel", name := "isChest", desc := "(II)Z" } : Jvm.MethodName) prog_24_method_107_code (3 : Nat) (Option.some Jvm.ClassFile.FieldType.boolean)) ∈ lw_all := lw_g (lw_at lw_m12 135 rfl) rfl
theorem q2903 : (Jvm.Cond.methodLink "FlyingDoctorsLaw" (233 : Nat) ({ cls := "FlyingDoctorsModel", name := "dose", desc := "(III)I" } : Jvm.MethodName)) ∈ lw_all := lw_g (lw_at lw_m12 136 rfl) rfl
theorem q2904 : (Jvm.Cond.instanceMethod ({ cls := "FlyingDoctorsModel", name := "dose", desc := "(III)I" } : Jvm.MethodName)) ∈ lw_all := lw_g (lw_at lw_m12 137 rfl) rfl
theorem q2905 : (Jvm.Cond.selects "FlyingDoctorsModel" ({ cls := "FlyingDoctorsModel", name := "dose", desc := "(III)I" } : Jvm.MethodName) ({ cls := "FlyingDoctorsModel", name := "dose", desc := "(III)I" } : Jvm.MethodName)) ∈ lw_all := lw_g (lw_at lw_m12 138 rfl) rfl
theorem q2906 : (Jvm.Cond.code ({ cls := "FlyingDoctorsModel", name := "dose", desc := "(III)I" } : Jvm.MethodName) prog_24_method_110_code (4 : Nat) (Option.some Jvm.ClassFile.FieldType.int)) ∈ lw_all := lw_g (lw_at lw_m12 139 rfl) rfl
theorem q2907 : (Jvm.Cond.methodLink "FlyingDoctorsModel" (605 : Nat) ({ cls := "FlyingDoctorsModel", name := "mayUse", desc := "(III)Z" } : Jvm.MethodName)) ∈ lw_all := lw_g (lw_at lw_m12 140 rfl) rfl
theorem q2909 : (Jvm.Cond.instanceMethod ({ cls := "FlyingDoctorsModel", name := "mayUse", desc := "(III)Z" } : Jvm.MethodName)) ∈ lw_all := lw_g (lw_at lw_m12 142 rfl) rfl
theorem q2910 : (Jvm.Cond.code ({ cls := "FlyingDoctorsModel", name := "mayUse", desc := "(III)Z" } : Jvm.MethodName) prog_24_method_109_code (7 : Nat) (Option.some Jvm.ClassFile.FieldType.boolean)) ∈ lw_all := lw_g (lw_at lw_m12 143 rfl) rfl
theorem q2911 : (Jvm.Cond.methodLink "FlyingDoctorsLaw" (236 : Nat) ({ cls := "FlyingDoctorsModel", name := "counted", desc := "(III)I" } : Jvm.MethodName)) ∈ lw_all := lw_g (lw_at lw_m12 144 rfl) rfl
theorem q2912 : (Jvm.Cond.instanceMethod ({ cls := "FlyingDoctorsModel", name := "counted", desc := "(III)I" } : Jvm.MethodName)) ∈ lw_all := lw_g (lw_at lw_m12 145 rfl) rfl
theorem q2913 : (Jvm.Cond.selects "FlyingDoctorsModel" ({ cls := "FlyingDoctorsModel", name := "counted", desc := "(III)I" } : Jvm.MethodName) ({ cls := "FlyingDoctorsModel", name := "counted", desc := "(III)I" } : Jvm.MethodName)) ∈ lw_all := lw_g (lw_at lw_m12 146 rfl) rfl
theorem q2914 : (Jvm.Cond.code ({ cls := "FlyingDoctorsModel", name := "counted", desc := "(III)I" } : Jvm.MethodName) prog_24_method_111_code (5 : Nat) (Option.some Jvm.ClassFile.FieldType.int)) ∈ lw_all := lw_g (lw_at lw_m12 147 rfl) rfl
theorem q2915 : (Jvm.Cond.methodLink "FlyingDoctorsLaw" (240 : Nat) ({ cls := "FlyingDoctorsModel", name := "gift", desc := "(III)I" } : Jvm.MethodName)) ∈ lw_all := lw_g (lw_at lw_m12 148 rfl) rfl
theorem q2916 : (Jvm.Cond.instanceMethod ({ cls := "FlyingDoctorsModel", name := "gift", desc := "(III)I" } : Jvm.MethodName)) ∈ lw_all := lw_g (lw_at lw_m12 149 rfl) rfl
theorem q2917 : (Jvm.Cond.selects "FlyingDoctorsModel" ({ cls := "FlyingDoctorsModel", name := "gift", desc := "(III)I" } : Jvm.MethodName) ({ cls := "FlyingDoctorsModel", name := "gift", desc := "(III)I" } : Jvm.MethodName)) ∈ lw_all := lw_g (lw_at lw_m12 150 rfl) rfl
theorem q2918 : (Jvm.Cond.code ({ cls := "FlyingDoctorsModel", name := "gift", desc := "(III)I" } : Jvm.MethodName) prog_24_method_112_code (4 : Nat) (Option.some Jvm.ClassFile.FieldType.int)) ∈ lw_all := lw_g (lw_at lw_m12 151 rfl) rfl
theorem q2919 : (Jvm.Cond.methodLink "FlyingDoctorsLaw" (245 : Nat) ({ cls := "FlyingDoctorsModel", name := "spend", desc := "(II)Z" } : Jvm.MethodName)) ∈ lw_all := lw_g (lw_at lw_m12 152 rfl) rfl
theorem q2920 : (Jvm.Cond.instanceMethod ({ cls := "FlyingDoctorsModel", name := "spend", desc := "(II)Z" } : Jvm.MethodName)) ∈ lw_all := lw_g (lw_at lw_m12 153 rfl) rfl
theorem q2921 : (Jvm.Cond.selects "FlyingDoctorsModel" ({ cls := "FlyingDoctorsModel", name := "spend", desc := "(II)Z" } : Jvm.MethodName) ({ cls := "FlyingDoctorsModel", name := "spend", desc := "(II)Z" } : Jvm.MethodName)) ∈ lw_all := lw_g (lw_at lw_m12 154 rfl) rfl
theorem q2922 : (Jvm.Cond.code ({ cls := "FlyingDoctorsModel", name := "spend", desc := "(II)Z" } : Jvm.MethodName) prog_24_method_114_code (7 : Nat) (Option.some Jvm.ClassFile.FieldType.boolean)) ∈ lw_all := lw_g (lw_at lw_m12 155 rfl) rfl
theorem q2923 : (Jvm.Cond.methodLink "FlyingDoctorsModel" (614 : Nat) ({ cls := "FlyingDoctorsModel", name := "nextGift", desc := "(I)I" } : Jvm.MethodName)) ∈ lw_all := lw_g (lw_at lw_m12 156 rfl) rfl
theorem q2925 : (Jvm.Cond.instanceMethod ({ cls := "FlyingDoctorsModel", name := "nextGift", desc := "(I)I" } : Jvm.MethodName)) ∈ lw_all := lw_g (lw_at lw_m12 158 rfl) rfl
theorem q2926 : (Jvm.Cond.code ({ cls := "FlyingDoctorsModel", name := "nextGift", desc := "(I)I" } : Jvm.MethodName) prog_24_method_113_code (4 : Nat) (Option.some Jvm.ClassFile.FieldType.int)) ∈ lw_all := lw_g (lw_at lw_m12 159 rfl) rfl
theorem q2927 : (Jvm.Cond.methodLink "FlyingDoctorsLaw" (248 : Nat) ({ cls := "FlyingDoctorsModel", name := "giftLeft", desc := "(I)I" } : Jvm.MethodName)) ∈ lw_all := lw_g (lw_at lw_m12 160 rfl) rfl
theorem q2928 : (Jvm.Cond.instanceMethod ({ cls := "FlyingDoctorsModel", name := "giftLeft", desc := "(I)I" } : Jvm.MethodName)) ∈ lw_all := lw_g (lw_at lw_m12 161 rfl) rfl
theorem q2929 : (Jvm.Cond.selects "FlyingDoctorsModel" ({ cls := "FlyingDoctorsModel", name := "giftLeft", desc := "(I)I" } : Jvm.MethodName) ({ cls := "FlyingDoctorsModel", name := "giftLeft", desc := "(I)I" } : Jvm.MethodName)) ∈ lw_all := lw_g (lw_at lw_m12 162 rfl) rfl
theorem q2930 : (Jvm.Cond.code ({ cls := "FlyingDoctorsModel", name := "giftLeft", desc := "(I)I" } : Jvm.MethodName) prog_24_method_115_code (2 : Nat) (Option.some Jvm.ClassFile.FieldType.int)) ∈ lw_all := lw_g (lw_at lw_m12 163 rfl) rfl
theorem q2931 : (Jvm.Cond.methodLink "FlyingDoctorsLaw" (251 : Nat) ({ cls := "FlyingDoctorsModel", name := "count", desc := "(I)I" } : Jvm.MethodName)) ∈ lw_all := lw_g (lw_at lw_m12 164 rfl) rfl
theorem q2932 : (Jvm.Cond.instanceMethod ({ cls := "FlyingDoctorsModel", name := "count", desc := "(I)I" } : Jvm.MethodName)) ∈ lw_all := lw_g (lw_at lw_m12 165 rfl) rfl
theorem q2933 : (Jvm.Cond.selects "FlyingDoctorsModel" ({ cls := "FlyingDoctorsModel", name := "count", desc := "(I)I" } : Jvm.MethodName) ({ cls := "FlyingDoctorsModel", name := "count", desc := "(I)I" } : Jvm.MethodName)) ∈ lw_all := lw_g (lw_at lw_m12 166 rfl) rfl
theorem q2934 : (Jvm.Cond.code ({ cls := "FlyingDoctorsModel", name := "count", desc := "(I)I" } : Jvm.MethodName) prog_24_method_116_code (2 : Nat) (Option.some Jvm.ClassFile.FieldType.int)) ∈ lw_all := lw_g (lw_at lw_m12 167 rfl) rfl
theorem q2936 : (Jvm.Cond.sameMethod "java/lang/AbstractStringBuilder" "java/lang/AbstractStringBuilder" "append" "(C)Ljava/lang/AbstractStringBuilder;") ∈ lw_all := lw_g (lw_at lw_m12 169 rfl) rfl
theorem q2937 : (Jvm.Cond.sameMethod "java/lang/AbstractStringBuilder" "java/lang/AbstractStringBuilder" "ensureCapacityInternal" "(I)V") ∈ lw_all := lw_g (lw_at lw_m12 170 rfl) rfl
theorem q2938 : (Jvm.Cond.sameMethod "java/lang/AbstractStringBuilder" "java/lang/AbstractStringBuilder" "newCapacity" "(I)I") ∈ lw_all := lw_g (lw_at lw_m12 171 rfl) rfl
theorem q2945 : (Jvm.Cond.sameMethod "java/lang/AbstractStringBuilder" "java/lang/AbstractStringBuilder" "charAt" "(I)C") ∈ lw_all := lw_g (lw_at lw_m12 178 rfl) rfl
theorem q2946 : (Jvm.Cond.castable "FlyingDoctors$Chain" "FlyingDoctors$Ex") ∈ lw_tbl := lw_at lw_m12 179 rfl
theorem q2947 : (Jvm.Cond.castable "FlyingDoctors$Not" "FlyingDoctors$Ex") ∈ lw_tbl := lw_at lw_m12 180 rfl
theorem q2948 : (Jvm.Cond.castable "FlyingDoctors$Number" "FlyingDoctors$Ex") ∈ lw_tbl := lw_at lw_m12 181 rfl
theorem q2949 : (Jvm.Cond.castable "FlyingDoctors$Param" "FlyingDoctors$Ex") ∈ lw_tbl := lw_at lw_m12 182 rfl
theorem q2950 : (Jvm.Cond.castable "FlyingDoctors$Said" "FlyingDoctors$Ex") ∈ lw_tbl := lw_at lw_m12 183 rfl
theorem q2951 : (Jvm.Cond.castable "FlyingDoctors$Value" "FlyingDoctors$Ex") ∈ lw_tbl := lw_at lw_m12 184 rfl
theorem q2952 : (Jvm.Cond.castable "FlyingDoctors$Place" "java/lang/Object") ∈ lw_tbl := lw_at lw_m12 185 rfl
theorem q2953 : (Jvm.Cond.castable "FlyingDoctors$Call" "java/lang/Object") ∈ lw_tbl := lw_at lw_m12 186 rfl
theorem q2954 : (Jvm.Cond.castable "FlyingDoctors" "java/lang/Object") ∈ lw_tbl := lw_at lw_m12 187 rfl
theorem q2955 : (Jvm.Cond.castable "java/util/ArrayList" "java/lang/Object") ∈ lw_tbl := lw_at lw_m12 188 rfl
theorem q2956 : (Jvm.Cond.castable "FlyingDoctors$Rules" "java/lang/Object") ∈ lw_tbl := lw_at lw_m12 189 rfl
theorem q2957 : (Jvm.Cond.castable "FlyingDoctors$Asked" "java/lang/Object") ∈ lw_tbl := lw_at lw_m12 190 rfl
theorem q2958 : (Jvm.Cond.castable "FlyingDoctorsModel" "java/lang/Object") ∈ lw_tbl := lw_at lw_m12 191 rfl
theorem q2959 : (Jvm.Cond.castable "FlyingDoctors$Plane" "java/lang/Object") ∈ lw_tbl := lw_at lw_m12 192 rfl
theorem q2960 : (Jvm.Cond.castable "FlyingDoctors$Person" "java/lang/Object") ∈ lw_tbl := lw_at lw_m12 193 rfl
theorem q2961 : (Jvm.Cond.castable "java/util/NoSuchElementException" "java/lang/Object") ∈ lw_tbl := lw_at lw_m12 194 rfl
theorem q2962 : (Jvm.Cond.castable "java/lang/IllegalArgumentException" "java/lang/Object") ∈ lw_tbl := lw_at lw_m12 195 rfl
theorem q2963 : (Jvm.Cond.castable "FlyingDoctors$Reader" "java/lang/Object") ∈ lw_tbl := lw_at lw_m12 196 rfl
theorem q2964 : (Jvm.Cond.castable "FlyingDoctors$Wrong" "java/lang/Object") ∈ lw_tbl := lw_at lw_m12 197 rfl
theorem q2965 : (Jvm.Cond.castable "java/lang/StringBuilder" "java/lang/Object") ∈ lw_tbl := lw_at lw_m12 198 rfl
theorem q2966 : (Jvm.Cond.castable "java/lang/String" "java/lang/Object") ∈ lw_tbl := lw_at lw_m12 199 rfl
theorem q2967 : (Jvm.Cond.castable "FlyingDoctors$Chain" "java/lang/Object") ∈ lw_tbl := lw_at lw_m12 200 rfl
theorem q2968 : (Jvm.Cond.castable "FlyingDoctors$Number" "java/lang/Object") ∈ lw_tbl := lw_at lw_m12 201 rfl
theorem q2969 : (Jvm.Cond.castable "FlyingDoctors$Value" "java/lang/Object") ∈ lw_tbl := lw_at lw_m12 202 rfl
theorem q2970 : (Jvm.Cond.castable "FlyingDoctors$Param" "java/lang/Object") ∈ lw_tbl := lw_at lw_m12 203 rfl
theorem q2971 : (Jvm.Cond.castable "FlyingDoctors$Said" "java/lang/Object") ∈ lw_tbl := lw_at lw_m12 204 rfl
theorem q2972 : (Jvm.Cond.castable "FlyingDoctors$Not" "java/lang/Object") ∈ lw_tbl := lw_at lw_m12 205 rfl
theorem q2973 : (Jvm.Cond.castable "FlyingDoctors$Dose" "java/lang/Object") ∈ lw_tbl := lw_at lw_m12 206 rfl
theorem q2974 : (Jvm.Cond.castable "FlyingDoctors$Told" "java/lang/Object") ∈ lw_tbl := lw_at lw_m12 207 rfl
theorem q2975 : (Jvm.Cond.castable "java/lang/IllegalStateException" "java/lang/Object") ∈ lw_tbl := lw_at lw_m12 208 rfl
theorem q2976 : (Jvm.Cond.castable "FlyingDoctors$Flight" "java/lang/Object") ∈ lw_tbl := lw_at lw_m12 209 rfl
theorem q2977 : (Jvm.Cond.castable "FlyingDoctors$Clinic" "java/lang/Object") ∈ lw_tbl := lw_at lw_m12 210 rfl
theorem q2978 : (Jvm.Cond.castable "FlyingDoctors$Rounds" "java/lang/Object") ∈ lw_tbl := lw_at lw_m12 211 rfl
theorem q2979 : (Jvm.Cond.castable "FlyingDoctors$Gift" "java/lang/Object") ∈ lw_tbl := lw_at lw_m12 212 rfl
theorem q2982 : (Jvm.Cond.selects "[Ljava/lang/Object;" ({ cls := "java/lang/Object", name := "getClass", desc := "()Ljava/lang/Class;" } : Jvm.MethodName) ({ cls := "java/lang/Object", name := "getClass", desc := "()Ljava/lang/Class;" } : Jvm.MethodName)) ∈ lw_all := lw_g (lw_at lw_m12 215 rfl) rfl
theorem q2983 : (Jvm.Cond.declares ({ cls := "java/lang/Object", name := "getClass", desc := "()Ljava/lang/Class;" } : Jvm.MethodName)) ∈ lw_tbl := lw_at lw_m12 216 rfl
theorem flJ13_15_43 : Fl "java/lang/String" 15 43 1 := ⟨by decide, by decide, Or.inl q1220⟩
theorem flJ13_9_43 : Fl "java/lang/String" 9 43 0 := ⟨by decide, by decide, Or.inl q1219⟩
theorem flJ17_15_48 : Fl "java/lang/AbstractStringBuilder" 15 48 0 := ⟨by decide, by decide, Or.inl q1028⟩
theorem flJ17_22_48 : Fl "java/lang/AbstractStringBuilder" 22 48 1 := ⟨by decide, by decide, Or.inl q1029⟩
theorem flJ17_79_48 : Fl "java/lang/AbstractStringBuilder" 79 48 3 := ⟨by decide, by decide, Or.inl q1031⟩
theorem flJ1_7_32 : Fl "java/util/AbstractList" 7 32 0 := ⟨by decide, by decide, Or.inl q200⟩
theorem flJ2_48_32 : Fl "java/util/ArrayList" 48 32 2 := ⟨by decide, by decide, Or.inl q199⟩
theorem flJ2_63_32 : Fl "java/util/ArrayList" 63 32 0 := ⟨by decide, by decide, Or.inr (Or.inl ⟨_, q201, q202⟩)⟩
theorem flJ2_9_32 : Fl "java/util/ArrayList" 9 32 1 := ⟨by decide, by decide, Or.inl q198⟩
theorem flJ8_17_9 : Fl "java/lang/Throwable" 17 9 1 := ⟨by decide, by decide, Or.inl q744⟩
theorem flJ8_24_9 : Fl "java/lang/Throwable" 24 9 2 := ⟨by decide, by decide, Or.inl q745⟩
theorem flJ8_31_9 : Fl "java/lang/Throwable" 31 9 3 := ⟨by decide, by decide, Or.inl q742⟩
theorem flJ8_7_9 : Fl "java/lang/Throwable" 7 9 0 := ⟨by decide, by decide, Or.inl q743⟩
theorem flX11_10_11 : Fl "FlyingDoctors$Chain" 10 11 0 := ⟨by decide, by decide, Or.inl q1404⟩
theorem flX11_19_11 : Fl "FlyingDoctors$Chain" 19 11 1 := ⟨by decide, by decide, Or.inl q1405⟩
theorem flX12_7_12 : Fl "FlyingDoctors$Number" 7 12 0 := ⟨by decide, by decide, Or.inl q1338⟩
theorem flX13_13_3 : Fl "FlyingDoctors$Value" 13 3 0 := ⟨by decide, by decide, Or.inr (Or.inr ⟨_, q250⟩)⟩
theorem flX13_7_13 : Fl "FlyingDoctors$Value" 7 13 0 := ⟨by decide, by decide, Or.inl q1352⟩
theorem flX14_13_3 : Fl "FlyingDoctors$Param" 13 3 1 := ⟨by decide, by decide, Or.inr (Or.inr ⟨_, q254⟩)⟩
theorem flX14_7_14 : Fl "FlyingDoctors$Param" 7 14 0 := ⟨by decide, by decide, Or.inl q1362⟩
theorem flX15_13_3 : Fl "FlyingDoctors$Said" 13 3 2 := ⟨by decide, by decide, Or.inr (Or.inr ⟨_, q256⟩)⟩
theorem flX15_7_15 : Fl "FlyingDoctors$Said" 7 15 0 := ⟨by decide, by decide, Or.inl q1390⟩
theorem flX16_7_16 : Fl "FlyingDoctors$Not" 7 16 0 := ⟨by decide, by decide, Or.inl q1422⟩
theorem flX17_15_17 : Fl "FlyingDoctors$Dose" 15 17 1 := ⟨by decide, by decide, Or.inl q1442⟩
theorem flX17_9_17 : Fl "FlyingDoctors$Dose" 9 17 0 := ⟨by decide, by decide, Or.inl q1441⟩
theorem flX18_13_18 : Fl "FlyingDoctors$Told" 13 18 1 := ⟨by decide, by decide, Or.inl q1510⟩
theorem flX18_16_18 : Fl "FlyingDoctors$Told" 16 18 2 := ⟨by decide, by decide, Or.inl q1512⟩
theorem flX18_19_18 : Fl "FlyingDoctors$Told" 19 18 3 := ⟨by decide, by decide, Or.inl q1514⟩
theorem flX18_7_18 : Fl "FlyingDoctors$Told" 7 18 0 := ⟨by decide, by decide, Or.inl q1508⟩
theorem flX19_114_19 : Fl "FlyingDoctors$Call" 114 19 5 := ⟨by decide, by decide, Or.inl q1680⟩
theorem flX19_15_19 : Fl "FlyingDoctors$Call" 15 19 0 := ⟨by decide, by decide, Or.inl q1668⟩
theorem flX19_19_19 : Fl "FlyingDoctors$Call" 19 19 4 := ⟨by decide, by decide, Or.inl q1677⟩
theorem flX19_23_19 : Fl "FlyingDoctors$Call" 23 19 1 := ⟨by decide, by decide, Or.inl q1670⟩
theorem flX19_26_1 : Fl "FlyingDoctors$Call" 26 1 20 := ⟨by decide, by decide, Or.inr (Or.inr ⟨_, q292⟩)⟩
theorem flX19_29_19 : Fl "FlyingDoctors$Call" 29 19 2 := ⟨by decide, by decide, Or.inl q1672⟩
theorem flX19_36_19 : Fl "FlyingDoctors$Call" 36 19 3 := ⟨by decide, by decide, Or.inl q1674⟩
theorem flX19_39_1 : Fl "FlyingDoctors$Call" 39 1 12 := ⟨by decide, by decide, Or.inr (Or.inr ⟨_, q281⟩)⟩
theorem flX19_3_19 : Fl "FlyingDoctors$Call" 3 19 6 := ⟨by decide, by decide, Or.inl q1682⟩
theorem flX19_66_2 : Fl "FlyingDoctors$Call" 66 2 3 := ⟨by decide, by decide, Or.inr (Or.inr ⟨_, q228⟩)⟩
theorem flX19_76_3 : Fl "FlyingDoctors$Call" 76 3 2 := ⟨by decide, by decide, Or.inr (Or.inr ⟨_, q258⟩)⟩
theorem flX19_79_3 : Fl "FlyingDoctors$Call" 79 3 0 := ⟨by decide, by decide, Or.inr (Or.inr ⟨_, q251⟩)⟩
theorem flX19_87_5 : Fl "FlyingDoctors$Call" 87 5 3 := ⟨by decide, by decide, Or.inr (Or.inr ⟨_, q386⟩)⟩
theorem flX19_92_5 : Fl "FlyingDoctors$Call" 92 5 4 := ⟨by decide, by decide, Or.inr (Or.inr ⟨_, q389⟩)⟩
theorem flX1_105_3 : Fl "FlyingDoctors" 105 3 0 := ⟨by decide, by decide, Or.inr (Or.inr ⟨_, q252⟩)⟩
theorem flX1_112_5 : Fl "FlyingDoctors" 112 5 3 := ⟨by decide, by decide, Or.inr (Or.inr ⟨_, q387⟩)⟩
theorem flX1_115_6 : Fl "FlyingDoctors" 115 6 3 := ⟨by decide, by decide, Or.inr (Or.inr ⟨_, q538⟩)⟩
theorem flX1_120_5 : Fl "FlyingDoctors" 120 5 4 := ⟨by decide, by decide, Or.inr (Or.inr ⟨_, q390⟩)⟩
theorem flX1_127_2 : Fl "FlyingDoctors" 127 2 1 := ⟨by decide, by decide, Or.inr (Or.inr ⟨_, q223⟩)⟩
theorem flX1_12_1 : Fl "FlyingDoctors" 12 1 4 := ⟨by decide, by decide, Or.inl q272⟩
theorem flX1_140_20 : Fl "FlyingDoctors" 140 20 0 := ⟨by decide, by decide, Or.inr (Or.inr ⟨_, q1828⟩)⟩
theorem flX1_146_6 : Fl "FlyingDoctors" 146 6 7 := ⟨by decide, by decide, Or.inr (Or.inr ⟨_, q545⟩)⟩
theorem flX1_149_20 : Fl "FlyingDoctors" 149 20 1 := ⟨by decide, by decide, Or.inr (Or.inr ⟨_, q1830⟩)⟩
theorem flX1_153_7 : Fl "FlyingDoctors" 153 7 1 := ⟨by decide, by decide, Or.inr (Or.inr ⟨_, q576⟩)⟩
theorem flX1_158_1 : Fl "FlyingDoctors" 158 1 6 := ⟨by decide, by decide, Or.inl q274⟩
theorem flX1_164_7 : Fl "FlyingDoctors" 164 7 3 := ⟨by decide, by decide, Or.inr (Or.inr ⟨_, q580⟩)⟩
theorem flX1_168_6 : Fl "FlyingDoctors" 168 6 5 := ⟨by decide, by decide, Or.inr (Or.inr ⟨_, q542⟩)⟩
theorem flX1_169_7 : Fl "FlyingDoctors" 169 7 4 := ⟨by decide, by decide, Or.inr (Or.inr ⟨_, q581⟩)⟩
theorem flX1_170_7 : Fl "FlyingDoctors" 170 7 5 := ⟨by decide, by decide, Or.inr (Or.inr ⟨_, q582⟩)⟩
theorem flX1_173_1 : Fl "FlyingDoctors" 173 1 20 := ⟨by decide, by decide, Or.inl q293⟩
theorem flX1_179_1 : Fl "FlyingDoctors" 179 1 12 := ⟨by decide, by decide, Or.inl q282⟩
theorem flX1_182_20 : Fl "FlyingDoctors" 182 20 2 := ⟨by decide, by decide, Or.inr (Or.inr ⟨_, q1832⟩)⟩
theorem flX1_189_20 : Fl "FlyingDoctors" 189 20 3 := ⟨by decide, by decide, Or.inr (Or.inr ⟨_, q1834⟩)⟩
theorem flX1_193_6 : Fl "FlyingDoctors" 193 6 6 := ⟨by decide, by decide, Or.inr (Or.inr ⟨_, q544⟩)⟩
theorem flX1_196_20 : Fl "FlyingDoctors" 196 20 6 := ⟨by decide, by decide, Or.inr (Or.inr ⟨_, q1840⟩)⟩
theorem flX1_198_1 : Fl "FlyingDoctors" 198 1 0 := ⟨by decide, by decide, Or.inl q268⟩
theorem flX1_205_20 : Fl "FlyingDoctors" 205 20 7 := ⟨by decide, by decide, Or.inr (Or.inr ⟨_, q1842⟩)⟩
theorem flX1_208_20 : Fl "FlyingDoctors" 208 20 9 := ⟨by decide, by decide, Or.inr (Or.inr ⟨_, q1846⟩)⟩
theorem flX1_211_1 : Fl "FlyingDoctors" 211 1 3 := ⟨by decide, by decide, Or.inl q271⟩
theorem flX1_222_6 : Fl "FlyingDoctors" 222 6 2 := ⟨by decide, by decide, Or.inr (Or.inr ⟨_, q536⟩)⟩
theorem flX1_225_20 : Fl "FlyingDoctors" 225 20 8 := ⟨by decide, by decide, Or.inr (Or.inr ⟨_, q1844⟩)⟩
theorem flX1_228_20 : Fl "FlyingDoctors" 228 20 5 := ⟨by decide, by decide, Or.inr (Or.inr ⟨_, q1838⟩)⟩
theorem flX1_246_20 : Fl "FlyingDoctors" 246 20 10 := ⟨by decide, by decide, Or.inr (Or.inr ⟨_, q1848⟩)⟩
theorem flX1_249_1 : Fl "FlyingDoctors" 249 1 2 := ⟨by decide, by decide, Or.inl q270⟩
theorem flX1_252_7 : Fl "FlyingDoctors" 252 7 0 := ⟨by decide, by decide, Or.inr (Or.inr ⟨_, q574⟩)⟩
theorem flX1_253_1 : Fl "FlyingDoctors" 253 1 1 := ⟨by decide, by decide, Or.inl q269⟩
theorem flX1_256_5 : Fl "FlyingDoctors" 256 5 7 := ⟨by decide, by decide, Or.inr (Or.inr ⟨_, q395⟩)⟩
theorem flX1_259_20 : Fl "FlyingDoctors" 259 20 11 := ⟨by decide, by decide, Or.inr (Or.inr ⟨_, q1850⟩)⟩
theorem flX1_272_1 : Fl "FlyingDoctors" 272 1 5 := ⟨by decide, by decide, Or.inl q273⟩
theorem flX1_275_1 : Fl "FlyingDoctors" 275 1 8 := ⟨by decide, by decide, Or.inl q277⟩
theorem flX1_278_1 : Fl "FlyingDoctors" 278 1 10 := ⟨by decide, by decide, Or.inl q279⟩
theorem flX1_281_1 : Fl "FlyingDoctors" 281 1 11 := ⟨by decide, by decide, Or.inl q280⟩
theorem flX1_284_1 : Fl "FlyingDoctors" 284 1 13 := ⟨by decide, by decide, Or.inl q284⟩
theorem flX1_287_1 : Fl "FlyingDoctors" 287 1 14 := ⟨by decide, by decide, Or.inl q285⟩
theorem flX1_28_5 : Fl "FlyingDoctors" 28 5 5 := ⟨by decide, by decide, Or.inr (Or.inr ⟨_, q392⟩)⟩
theorem flX1_290_1 : Fl "FlyingDoctors" 290 1 15 := ⟨by decide, by decide, Or.inl q287⟩
theorem flX1_296_1 : Fl "FlyingDoctors" 296 1 18 := ⟨by decide, by decide, Or.inl q290⟩
theorem flX1_301_1 : Fl "FlyingDoctors" 301 1 19 := ⟨by decide, by decide, Or.inl q291⟩
theorem flX1_305_1 : Fl "FlyingDoctors" 305 1 22 := ⟨by decide, by decide, Or.inl q295⟩
theorem flX1_308_1 : Fl "FlyingDoctors" 308 1 24 := ⟨by decide, by decide, Or.inl q298⟩
theorem flX1_311_1 : Fl "FlyingDoctors" 311 1 25 := ⟨by decide, by decide, Or.inl q299⟩
theorem flX1_331_1 : Fl "FlyingDoctors" 331 1 23 := ⟨by decide, by decide, Or.inl q297⟩
theorem flX1_340_1 : Fl "FlyingDoctors" 340 1 21 := ⟨by decide, by decide, Or.inl q294⟩
theorem flX1_352_8 : Fl "FlyingDoctors" 352 8 1 := ⟨by decide, by decide, Or.inr (Or.inr ⟨_, q790⟩)⟩
theorem flX1_361_8 : Fl "FlyingDoctors" 361 8 5 := ⟨by decide, by decide, Or.inr (Or.inr ⟨_, q795⟩)⟩
theorem flX1_364_9 : Fl "FlyingDoctors" 364 9 6 := ⟨by decide, by decide, Or.inr (Or.inr ⟨_, q984⟩)⟩
theorem flX1_365_2 : Fl "FlyingDoctors" 365 2 2 := ⟨by decide, by decide, Or.inr (Or.inr ⟨_, q227⟩)⟩
theorem flX1_36_1 : Fl "FlyingDoctors" 36 1 16 := ⟨by decide, by decide, Or.inl q288⟩
theorem flX1_375_5 : Fl "FlyingDoctors" 375 5 8 := ⟨by decide, by decide, Or.inr (Or.inr ⟨_, q397⟩)⟩
theorem flX1_378_5 : Fl "FlyingDoctors" 378 5 9 := ⟨by decide, by decide, Or.inr (Or.inr ⟨_, q399⟩)⟩
theorem flX1_392_19 : Fl "FlyingDoctors" 392 19 4 := ⟨by decide, by decide, Or.inr (Or.inr ⟨_, q1679⟩)⟩
theorem flX1_393_19 : Fl "FlyingDoctors" 393 19 1 := ⟨by decide, by decide, Or.inr (Or.inr ⟨_, q1671⟩)⟩
theorem flX1_395_19 : Fl "FlyingDoctors" 395 19 2 := ⟨by decide, by decide, Or.inr (Or.inr ⟨_, q1673⟩)⟩
theorem flX1_396_19 : Fl "FlyingDoctors" 396 19 3 := ⟨by decide, by decide, Or.inr (Or.inr ⟨_, q1676⟩)⟩
theorem flX1_40_1 : Fl "FlyingDoctors" 40 1 7 := ⟨by decide, by decide, Or.inl q275⟩
theorem flX1_415_19 : Fl "FlyingDoctors" 415 19 5 := ⟨by decide, by decide, Or.inr (Or.inr ⟨_, q1681⟩)⟩
theorem flX1_421_19 : Fl "FlyingDoctors" 421 19 0 := ⟨by decide, by decide, Or.inr (Or.inr ⟨_, q1669⟩)⟩
theorem flX1_45_2 : Fl "FlyingDoctors" 45 2 4 := ⟨by decide, by decide, Or.inr (Or.inr ⟨_, q230⟩)⟩
theorem flX1_468_20 : Fl "FlyingDoctors" 468 20 4 := ⟨by decide, by decide, Or.inr (Or.inr ⟨_, q1836⟩)⟩
theorem flX1_471_6 : Fl "FlyingDoctors" 471 6 4 := ⟨by decide, by decide, Or.inr (Or.inr ⟨_, q540⟩)⟩
theorem flX1_474_7 : Fl "FlyingDoctors" 474 7 2 := ⟨by decide, by decide, Or.inr (Or.inr ⟨_, q578⟩)⟩
theorem flX1_495_21 : Fl "FlyingDoctors" 495 21 0 := ⟨by decide, by decide, Or.inr (Or.inr ⟨_, q624⟩)⟩
theorem flX1_499_6 : Fl "FlyingDoctors" 499 6 1 := ⟨by decide, by decide, Or.inr (Or.inr ⟨_, q533⟩)⟩
theorem flX1_49_1 : Fl "FlyingDoctors" 49 1 17 := ⟨by decide, by decide, Or.inl q289⟩
theorem flX1_511_22 : Fl "FlyingDoctors" 511 22 5 := ⟨by decide, by decide, Or.inr (Or.inr ⟨_, q2019⟩)⟩
theorem flX1_521_1 : Fl "FlyingDoctors" 521 1 26 := ⟨by decide, by decide, Or.inl q300⟩
theorem flX1_524_22 : Fl "FlyingDoctors" 524 22 4 := ⟨by decide, by decide, Or.inr (Or.inr ⟨_, q2017⟩)⟩
theorem flX1_530_5 : Fl "FlyingDoctors" 530 5 6 := ⟨by decide, by decide, Or.inr (Or.inr ⟨_, q394⟩)⟩
theorem flX1_538_17 : Fl "FlyingDoctors" 538 17 2 := ⟨by decide, by decide, Or.inr (Or.inr ⟨_, q1444⟩)⟩
theorem flX1_546_1 : Fl "FlyingDoctors" 546 1 27 := ⟨by decide, by decide, Or.inl q301⟩
theorem flX1_555_23 : Fl "FlyingDoctors" 555 23 0 := ⟨by decide, by decide, Or.inr (Or.inr ⟨_, q648⟩)⟩
theorem flX1_558_23 : Fl "FlyingDoctors" 558 23 1 := ⟨by decide, by decide, Or.inr (Or.inr ⟨_, q650⟩)⟩
theorem flX1_561_23 : Fl "FlyingDoctors" 561 23 2 := ⟨by decide, by decide, Or.inr (Or.inr ⟨_, q652⟩)⟩
theorem flX1_58_2 : Fl "FlyingDoctors" 58 2 0 := ⟨by decide, by decide, Or.inr (Or.inr ⟨_, q220⟩)⟩
theorem flX1_62_3 : Fl "FlyingDoctors" 62 3 1 := ⟨by decide, by decide, Or.inr (Or.inr ⟨_, q255⟩)⟩
theorem flX1_71_18 : Fl "FlyingDoctors" 71 18 0 := ⟨by decide, by decide, Or.inr (Or.inr ⟨_, q1509⟩)⟩
theorem flX1_74_18 : Fl "FlyingDoctors" 74 18 1 := ⟨by decide, by decide, Or.inr (Or.inr ⟨_, q1511⟩)⟩
theorem flX1_77_18 : Fl "FlyingDoctors" 77 18 3 := ⟨by decide, by decide, Or.inr (Or.inr ⟨_, q1515⟩)⟩
theorem flX1_78_18 : Fl "FlyingDoctors" 78 18 2 := ⟨by decide, by decide, Or.inr (Or.inr ⟨_, q1513⟩)⟩
theorem flX1_81_1 : Fl "FlyingDoctors" 81 1 9 := ⟨by decide, by decide, Or.inl q278⟩
theorem flX1_84_5 : Fl "FlyingDoctors" 84 5 0 := ⟨by decide, by decide, Or.inr (Or.inr ⟨_, q382⟩)⟩
theorem flX20_17_20 : Fl "FlyingDoctors$Flight" 17 20 3 := ⟨by decide, by decide, Or.inl q1833⟩
theorem flX20_21_20 : Fl "FlyingDoctors$Flight" 21 20 4 := ⟨by decide, by decide, Or.inl q1835⟩
theorem flX20_25_20 : Fl "FlyingDoctors$Flight" 25 20 5 := ⟨by decide, by decide, Or.inl q1837⟩
theorem flX20_28_20 : Fl "FlyingDoctors$Flight" 28 20 6 := ⟨by decide, by decide, Or.inl q1839⟩
theorem flX20_31_20 : Fl "FlyingDoctors$Flight" 31 20 7 := ⟨by decide, by decide, Or.inl q1841⟩
theorem flX20_34_20 : Fl "FlyingDoctors$Flight" 34 20 8 := ⟨by decide, by decide, Or.inl q1843⟩
theorem flX20_37_20 : Fl "FlyingDoctors$Flight" 37 20 9 := ⟨by decide, by decide, Or.inl q1845⟩
theorem flX20_3_20 : Fl "FlyingDoctors$Flight" 3 20 12 := ⟨by decide, by decide, Or.inl q1851⟩
theorem flX20_40_20 : Fl "FlyingDoctors$Flight" 40 20 10 := ⟨by decide, by decide, Or.inl q1847⟩
theorem flX20_43_20 : Fl "FlyingDoctors$Flight" 43 20 0 := ⟨by decide, by decide, Or.inl q1827⟩
theorem flX20_47_20 : Fl "FlyingDoctors$Flight" 47 20 1 := ⟨by decide, by decide, Or.inl q1829⟩
theorem flX20_51_20 : Fl "FlyingDoctors$Flight" 51 20 2 := ⟨by decide, by decide, Or.inl q1831⟩
theorem flX20_55_20 : Fl "FlyingDoctors$Flight" 55 20 11 := ⟨by decide, by decide, Or.inl q1849⟩
theorem flX20_68_19 : Fl "FlyingDoctors$Flight" 68 19 4 := ⟨by decide, by decide, Or.inr (Or.inr ⟨_, q1678⟩)⟩
theorem flX20_73_19 : Fl "FlyingDoctors$Flight" 73 19 3 := ⟨by decide, by decide, Or.inr (Or.inr ⟨_, q1675⟩)⟩
theorem flX20_76_1 : Fl "FlyingDoctors$Flight" 76 1 23 := ⟨by decide, by decide, Or.inr (Or.inr ⟨_, q296⟩)⟩
theorem flX20_89_6 : Fl "FlyingDoctors$Flight" 89 6 1 := ⟨by decide, by decide, Or.inr (Or.inr ⟨_, q532⟩)⟩
theorem flX20_92_6 : Fl "FlyingDoctors$Flight" 92 6 2 := ⟨by decide, by decide, Or.inr (Or.inr ⟨_, q535⟩)⟩
theorem flX21_13_21 : Fl "FlyingDoctors$Clinic" 13 21 1 := ⟨by decide, by decide, Or.inl q625⟩
theorem flX21_17_21 : Fl "FlyingDoctors$Clinic" 17 21 2 := ⟨by decide, by decide, Or.inl q627⟩
theorem flX21_7_21 : Fl "FlyingDoctors$Clinic" 7 21 0 := ⟨by decide, by decide, Or.inl q622⟩
theorem flX22_15_1 : Fl "FlyingDoctors$Rounds" 15 1 13 := ⟨by decide, by decide, Or.inr (Or.inr ⟨_, q283⟩)⟩
theorem flX22_25_22 : Fl "FlyingDoctors$Rounds" 25 22 2 := ⟨by decide, by decide, Or.inl q2014⟩
theorem flX22_31_22 : Fl "FlyingDoctors$Rounds" 31 22 3 := ⟨by decide, by decide, Or.inl q2015⟩
theorem flX22_34_22 : Fl "FlyingDoctors$Rounds" 34 22 4 := ⟨by decide, by decide, Or.inl q2016⟩
theorem flX22_38_22 : Fl "FlyingDoctors$Rounds" 38 22 5 := ⟨by decide, by decide, Or.inl q2018⟩
theorem flX22_3_22 : Fl "FlyingDoctors$Rounds" 3 22 7 := ⟨by decide, by decide, Or.inl q2021⟩
theorem flX22_41_22 : Fl "FlyingDoctors$Rounds" 41 22 6 := ⟨by decide, by decide, Or.inl q2020⟩
theorem flX22_44_22 : Fl "FlyingDoctors$Rounds" 44 22 0 := ⟨by decide, by decide, Or.inl q2012⟩
theorem flX22_48_22 : Fl "FlyingDoctors$Rounds" 48 22 1 := ⟨by decide, by decide, Or.inl q2013⟩
theorem flX22_63_21 : Fl "FlyingDoctors$Rounds" 63 21 2 := ⟨by decide, by decide, Or.inr (Or.inr ⟨_, q628⟩)⟩
theorem flX22_66_21 : Fl "FlyingDoctors$Rounds" 66 21 0 := ⟨by decide, by decide, Or.inr (Or.inr ⟨_, q623⟩)⟩
theorem flX22_80_21 : Fl "FlyingDoctors$Rounds" 80 21 1 := ⟨by decide, by decide, Or.inr (Or.inr ⟨_, q626⟩)⟩
theorem flX23_13_23 : Fl "FlyingDoctors$Gift" 13 23 0 := ⟨by decide, by decide, Or.inl q647⟩
theorem flX23_16_23 : Fl "FlyingDoctors$Gift" 16 23 1 := ⟨by decide, by decide, Or.inl q649⟩
theorem flX23_7_23 : Fl "FlyingDoctors$Gift" 7 23 2 := ⟨by decide, by decide, Or.inl q651⟩
theorem flX2_16_2 : Fl "FlyingDoctors$Rules" 16 2 1 := ⟨by decide, by decide, Or.inl q222⟩
theorem flX2_20_2 : Fl "FlyingDoctors$Rules" 20 2 2 := ⟨by decide, by decide, Or.inl q225⟩
theorem flX2_7_2 : Fl "FlyingDoctors$Rules" 7 2 0 := ⟨by decide, by decide, Or.inl q219⟩
theorem flX3_15_3 : Fl "FlyingDoctors$Asked" 15 3 1 := ⟨by decide, by decide, Or.inl q253⟩
theorem flX3_18_3 : Fl "FlyingDoctors$Asked" 18 3 2 := ⟨by decide, by decide, Or.inl q257⟩
theorem flX3_9_3 : Fl "FlyingDoctors$Asked" 9 3 0 := ⟨by decide, by decide, Or.inl q249⟩
theorem flX4_103_4 : Fl "FlyingDoctorsModel" 103 4 29 := ⟨by decide, by decide, Or.inl q2203⟩
theorem flX4_106_4 : Fl "FlyingDoctorsModel" 106 4 33 := ⟨by decide, by decide, Or.inl q2207⟩
theorem flX4_110_4 : Fl "FlyingDoctorsModel" 110 4 31 := ⟨by decide, by decide, Or.inl q2205⟩
theorem flX4_113_4 : Fl "FlyingDoctorsModel" 113 4 32 := ⟨by decide, by decide, Or.inl q2206⟩
theorem flX4_116_4 : Fl "FlyingDoctorsModel" 116 4 28 := ⟨by decide, by decide, Or.inl q2202⟩
theorem flX4_125_4 : Fl "FlyingDoctorsModel" 125 4 30 := ⟨by decide, by decide, Or.inl q2204⟩
theorem flX4_134_4 : Fl "FlyingDoctorsModel" 134 4 16 := ⟨by decide, by decide, Or.inl q2190⟩
theorem flX4_137_4 : Fl "FlyingDoctorsModel" 137 4 20 := ⟨by decide, by decide, Or.inl q2194⟩
theorem flX4_140_4 : Fl "FlyingDoctorsModel" 140 4 25 := ⟨by decide, by decide, Or.inl q2199⟩
theorem flX4_143_4 : Fl "FlyingDoctorsModel" 143 4 34 := ⟨by decide, by decide, Or.inl q2208⟩
theorem flX4_147_4 : Fl "FlyingDoctorsModel" 147 4 40 := ⟨by decide, by decide, Or.inl q2214⟩
theorem flX4_14_4 : Fl "FlyingDoctorsModel" 14 4 3 := ⟨by decide, by decide, Or.inl q2177⟩
theorem flX4_150_4 : Fl "FlyingDoctorsModel" 150 4 41 := ⟨by decide, by decide, Or.inl q2215⟩
theorem flX4_153_4 : Fl "FlyingDoctorsModel" 153 4 42 := ⟨by decide, by decide, Or.inl q2216⟩
theorem flX4_156_4 : Fl "FlyingDoctorsModel" 156 4 43 := ⟨by decide, by decide, Or.inl q2217⟩
theorem flX4_159_4 : Fl "FlyingDoctorsModel" 159 4 44 := ⟨by decide, by decide, Or.inl q2218⟩
theorem flX4_162_4 : Fl "FlyingDoctorsModel" 162 4 45 := ⟨by decide, by decide, Or.inl q2219⟩
theorem flX4_165_4 : Fl "FlyingDoctorsModel" 165 4 46 := ⟨by decide, by decide, Or.inl q2220⟩
theorem flX4_168_4 : Fl "FlyingDoctorsModel" 168 4 47 := ⟨by decide, by decide, Or.inl q2221⟩
theorem flX4_171_4 : Fl "FlyingDoctorsModel" 171 4 48 := ⟨by decide, by decide, Or.inl q2222⟩
theorem flX4_174_4 : Fl "FlyingDoctorsModel" 174 4 49 := ⟨by decide, by decide, Or.inl q2223⟩
theorem flX4_177_4 : Fl "FlyingDoctorsModel" 177 4 50 := ⟨by decide, by decide, Or.inl q2224⟩
theorem flX4_17_4 : Fl "FlyingDoctorsModel" 17 4 5 := ⟨by decide, by decide, Or.inl q2179⟩
theorem flX4_180_4 : Fl "FlyingDoctorsModel" 180 4 51 := ⟨by decide, by decide, Or.inl q2225⟩
theorem flX4_183_4 : Fl "FlyingDoctorsModel" 183 4 53 := ⟨by decide, by decide, Or.inl q2227⟩
theorem flX4_186_4 : Fl "FlyingDoctorsModel" 186 4 56 := ⟨by decide, by decide, Or.inl q2230⟩
theorem flX4_190_4 : Fl "FlyingDoctorsModel" 190 4 57 := ⟨by decide, by decide, Or.inl q2231⟩
theorem flX4_193_4 : Fl "FlyingDoctorsModel" 193 4 58 := ⟨by decide, by decide, Or.inl q2232⟩
theorem flX4_196_4 : Fl "FlyingDoctorsModel" 196 4 61 := ⟨by decide, by decide, Or.inl q2235⟩
theorem flX4_199_4 : Fl "FlyingDoctorsModel" 199 4 62 := ⟨by decide, by decide, Or.inl q2236⟩
theorem flX4_1_4 : Fl "FlyingDoctorsModel" 1 4 0 := ⟨by decide, by decide, Or.inl q2174⟩
theorem flX4_202_4 : Fl "FlyingDoctorsModel" 202 4 63 := ⟨by decide, by decide, Or.inl q2237⟩
theorem flX4_205_4 : Fl "FlyingDoctorsModel" 205 4 64 := ⟨by decide, by decide, Or.inl q2238⟩
theorem flX4_208_4 : Fl "FlyingDoctorsModel" 208 4 65 := ⟨by decide, by decide, Or.inl q2239⟩
theorem flX4_211_4 : Fl "FlyingDoctorsModel" 211 4 66 := ⟨by decide, by decide, Or.inl q2240⟩
theorem flX4_214_4 : Fl "FlyingDoctorsModel" 214 4 67 := ⟨by decide, by decide, Or.inl q2241⟩
theorem flX4_217_4 : Fl "FlyingDoctorsModel" 217 4 68 := ⟨by decide, by decide, Or.inl q2242⟩
theorem flX4_220_4 : Fl "FlyingDoctorsModel" 220 4 70 := ⟨by decide, by decide, Or.inl q2244⟩
theorem flX4_223_4 : Fl "FlyingDoctorsModel" 223 4 71 := ⟨by decide, by decide, Or.inl q2245⟩
theorem flX4_226_4 : Fl "FlyingDoctorsModel" 226 4 72 := ⟨by decide, by decide, Or.inl q2246⟩
theorem flX4_229_4 : Fl "FlyingDoctorsModel" 229 4 73 := ⟨by decide, by decide, Or.inl q2247⟩
theorem flX4_232_4 : Fl "FlyingDoctorsModel" 232 4 74 := ⟨by decide, by decide, Or.inl q2248⟩
theorem flX4_235_4 : Fl "FlyingDoctorsModel" 235 4 75 := ⟨by decide, by decide, Or.inl q2249⟩
theorem flX4_238_4 : Fl "FlyingDoctorsModel" 238 4 77 := ⟨by decide, by decide, Or.inl q2251⟩
theorem flX4_241_4 : Fl "FlyingDoctorsModel" 241 4 78 := ⟨by decide, by decide, Or.inl q2252⟩
theorem flX4_244_4 : Fl "FlyingDoctorsModel" 244 4 79 := ⟨by decide, by decide, Or.inl q2253⟩
theorem flX4_247_4 : Fl "FlyingDoctorsModel" 247 4 81 := ⟨by decide, by decide, Or.inl q2255⟩
theorem flX4_250_4 : Fl "FlyingDoctorsModel" 250 4 82 := ⟨by decide, by decide, Or.inl q2256⟩
theorem flX4_253_4 : Fl "FlyingDoctorsModel" 253 4 83 := ⟨by decide, by decide, Or.inl q2257⟩
theorem flX4_256_4 : Fl "FlyingDoctorsModel" 256 4 84 := ⟨by decide, by decide, Or.inl q2258⟩
theorem flX4_259_4 : Fl "FlyingDoctorsModel" 259 4 85 := ⟨by decide, by decide, Or.inl q2259⟩
theorem flX4_25_4 : Fl "FlyingDoctorsModel" 25 4 6 := ⟨by decide, by decide, Or.inl q2180⟩
theorem flX4_262_4 : Fl "FlyingDoctorsModel" 262 4 86 := ⟨by decide, by decide, Or.inl q2260⟩
theorem flX4_265_4 : Fl "FlyingDoctorsModel" 265 4 87 := ⟨by decide, by decide, Or.inl q2261⟩
theorem flX4_268_4 : Fl "FlyingDoctorsModel" 268 4 88 := ⟨by decide, by decide, Or.inl q2262⟩
theorem flX4_271_4 : Fl "FlyingDoctorsModel" 271 4 89 := ⟨by decide, by decide, Or.inl q2263⟩
theorem flX4_274_4 : Fl "FlyingDoctorsModel" 274 4 90 := ⟨by decide, by decide, Or.inl q2264⟩
theorem flX4_277_4 : Fl "FlyingDoctorsModel" 277 4 91 := ⟨by decide, by decide, Or.inl q2265⟩
theorem flX4_280_4 : Fl "FlyingDoctorsModel" 280 4 92 := ⟨by decide, by decide, Or.inl q2266⟩
theorem flX4_283_4 : Fl "FlyingDoctorsModel" 283 4 93 := ⟨by decide, by decide, Or.inl q2267⟩
theorem flX4_286_4 : Fl "FlyingDoctorsModel" 286 4 94 := ⟨by decide, by decide, Or.inl q2268⟩
theorem flX4_289_4 : Fl "FlyingDoctorsModel" 289 4 95 := ⟨by decide, by decide, Or.inl q2269⟩
theorem flX4_292_4 : Fl "FlyingDoctorsModel" 292 4 96 := ⟨by decide, by decide, Or.inl q2270⟩
theorem flX4_295_4 : Fl "FlyingDoctorsModel" 295 4 97 := ⟨by decide, by decide, Or.inl q2271⟩
theorem flX4_298_4 : Fl "FlyingDoctorsModel" 298 4 101 := ⟨by decide, by decide, Or.inl q2275⟩
theorem flX4_301_4 : Fl "FlyingDoctorsModel" 301 4 102 := ⟨by decide, by decide, Or.inl q2276⟩
theorem flX4_304_4 : Fl "FlyingDoctorsModel" 304 4 103 := ⟨by decide, by decide, Or.inl q2277⟩
theorem flX4_307_4 : Fl "FlyingDoctorsModel" 307 4 104 := ⟨by decide, by decide, Or.inl q2278⟩
theorem flX4_310_4 : Fl "FlyingDoctorsModel" 310 4 105 := ⟨by decide, by decide, Or.inl q2279⟩
theorem flX4_313_4 : Fl "FlyingDoctorsModel" 313 4 106 := ⟨by decide, by decide, Or.inl q2280⟩
theorem flX4_316_4 : Fl "FlyingDoctorsModel" 316 4 107 := ⟨by decide, by decide, Or.inl q2281⟩
theorem flX4_319_4 : Fl "FlyingDoctorsModel" 319 4 108 := ⟨by decide, by decide, Or.inl q2282⟩
theorem flX4_322_4 : Fl "FlyingDoctorsModel" 322 4 109 := ⟨by decide, by decide, Or.inl q2283⟩
theorem flX4_325_4 : Fl "FlyingDoctorsModel" 325 4 110 := ⟨by decide, by decide, Or.inl q2284⟩
theorem flX4_328_4 : Fl "FlyingDoctorsModel" 328 4 112 := ⟨by decide, by decide, Or.inl q2286⟩
theorem flX4_32_4 : Fl "FlyingDoctorsModel" 32 4 10 := ⟨by decide, by decide, Or.inl q2184⟩
theorem flX4_331_4 : Fl "FlyingDoctorsModel" 331 4 114 := ⟨by decide, by decide, Or.inl q2288⟩
theorem flX4_334_4 : Fl "FlyingDoctorsModel" 334 4 115 := ⟨by decide, by decide, Or.inl q2289⟩
theorem flX4_337_4 : Fl "FlyingDoctorsModel" 337 4 116 := ⟨by decide, by decide, Or.inl q2290⟩
theorem flX4_344_4 : Fl "FlyingDoctorsModel" 344 4 24 := ⟨by decide, by decide, Or.inl q2198⟩
theorem flX4_35_4 : Fl "FlyingDoctorsModel" 35 4 8 := ⟨by decide, by decide, Or.inl q2182⟩
theorem flX4_360_4 : Fl "FlyingDoctorsModel" 360 4 52 := ⟨by decide, by decide, Or.inl q2226⟩
theorem flX4_363_4 : Fl "FlyingDoctorsModel" 363 4 54 := ⟨by decide, by decide, Or.inl q2228⟩
theorem flX4_372_4 : Fl "FlyingDoctorsModel" 372 4 38 := ⟨by decide, by decide, Or.inl q2212⟩
theorem flX4_382_4 : Fl "FlyingDoctorsModel" 382 4 55 := ⟨by decide, by decide, Or.inl q2229⟩
theorem flX4_401_4 : Fl "FlyingDoctorsModel" 401 4 37 := ⟨by decide, by decide, Or.inl q2211⟩
theorem flX4_404_4 : Fl "FlyingDoctorsModel" 404 4 35 := ⟨by decide, by decide, Or.inl q2209⟩
theorem flX4_413_4 : Fl "FlyingDoctorsModel" 413 4 39 := ⟨by decide, by decide, Or.inl q2213⟩
theorem flX4_426_4 : Fl "FlyingDoctorsModel" 426 4 36 := ⟨by decide, by decide, Or.inl q2210⟩
theorem flX4_42_4 : Fl "FlyingDoctorsModel" 42 4 7 := ⟨by decide, by decide, Or.inl q2181⟩
theorem flX4_441_4 : Fl "FlyingDoctorsModel" 441 4 59 := ⟨by decide, by decide, Or.inl q2233⟩
theorem flX4_448_4 : Fl "FlyingDoctorsModel" 448 4 60 := ⟨by decide, by decide, Or.inl q2234⟩
theorem flX4_45_4 : Fl "FlyingDoctorsModel" 45 4 11 := ⟨by decide, by decide, Or.inl q2185⟩
theorem flX4_48_4 : Fl "FlyingDoctorsModel" 48 4 12 := ⟨by decide, by decide, Or.inl q2186⟩
theorem flX4_497_4 : Fl "FlyingDoctorsModel" 497 4 69 := ⟨by decide, by decide, Or.inl q2243⟩
theorem flX4_51_4 : Fl "FlyingDoctorsModel" 51 4 13 := ⟨by decide, by decide, Or.inl q2187⟩
theorem flX4_521_4 : Fl "FlyingDoctorsModel" 521 4 76 := ⟨by decide, by decide, Or.inl q2250⟩
theorem flX4_54_4 : Fl "FlyingDoctorsModel" 54 4 14 := ⟨by decide, by decide, Or.inl q2188⟩
theorem flX4_550_4 : Fl "FlyingDoctorsModel" 550 4 80 := ⟨by decide, by decide, Or.inl q2254⟩
theorem flX4_577_4 : Fl "FlyingDoctorsModel" 577 4 98 := ⟨by decide, by decide, Or.inl q2272⟩
theorem flX4_57_4 : Fl "FlyingDoctorsModel" 57 4 15 := ⟨by decide, by decide, Or.inl q2189⟩
theorem flX4_593_4 : Fl "FlyingDoctorsModel" 593 4 99 := ⟨by decide, by decide, Or.inl q2273⟩
theorem flX4_596_4 : Fl "FlyingDoctorsModel" 596 4 100 := ⟨by decide, by decide, Or.inl q2274⟩
theorem flX4_608_4 : Fl "FlyingDoctorsModel" 608 4 111 := ⟨by decide, by decide, Or.inl q2285⟩
theorem flX4_60_4 : Fl "FlyingDoctorsModel" 60 4 4 := ⟨by decide, by decide, Or.inl q2178⟩
theorem flX4_611_4 : Fl "FlyingDoctorsModel" 611 4 113 := ⟨by decide, by decide, Or.inl q2287⟩
theorem flX4_63_4 : Fl "FlyingDoctorsModel" 63 4 17 := ⟨by decide, by decide, Or.inl q2191⟩
theorem flX4_66_4 : Fl "FlyingDoctorsModel" 66 4 18 := ⟨by decide, by decide, Or.inl q2192⟩
theorem flX4_69_4 : Fl "FlyingDoctorsModel" 69 4 19 := ⟨by decide, by decide, Or.inl q2193⟩
theorem flX4_72_4 : Fl "FlyingDoctorsModel" 72 4 21 := ⟨by decide, by decide, Or.inl q2195⟩
theorem flX4_78_4 : Fl "FlyingDoctorsModel" 78 4 9 := ⟨by decide, by decide, Or.inl q2183⟩
theorem flX4_7_4 : Fl "FlyingDoctorsModel" 7 4 2 := ⟨by decide, by decide, Or.inl q2176⟩
theorem flX4_81_4 : Fl "FlyingDoctorsModel" 81 4 1 := ⟨by decide, by decide, Or.inl q2175⟩
theorem flX4_84_4 : Fl "FlyingDoctorsModel" 84 4 23 := ⟨by decide, by decide, Or.inl q2197⟩
theorem flX4_91_4 : Fl "FlyingDoctorsModel" 91 4 22 := ⟨by decide, by decide, Or.inl q2196⟩
theorem flX4_94_4 : Fl "FlyingDoctorsModel" 94 4 26 := ⟨by decide, by decide, Or.inl q2200⟩
theorem flX4_97_4 : Fl "FlyingDoctorsModel" 97 4 27 := ⟨by decide, by decide, Or.inl q2201⟩
theorem flX5_15_5 : Fl "FlyingDoctors$Place" 15 5 0 := ⟨by decide, by decide, Or.inl q381⟩
theorem flX5_19_5 : Fl "FlyingDoctors$Place" 19 5 1 := ⟨by decide, by decide, Or.inl q383⟩
theorem flX5_22_5 : Fl "FlyingDoctors$Place" 22 5 2 := ⟨by decide, by decide, Or.inl q384⟩
theorem flX5_25_5 : Fl "FlyingDoctors$Place" 25 5 3 := ⟨by decide, by decide, Or.inl q385⟩
theorem flX5_28_5 : Fl "FlyingDoctors$Place" 28 5 4 := ⟨by decide, by decide, Or.inl q388⟩
theorem flX5_32_5 : Fl "FlyingDoctors$Place" 32 5 5 := ⟨by decide, by decide, Or.inl q391⟩
theorem flX5_41_5 : Fl "FlyingDoctors$Place" 41 5 8 := ⟨by decide, by decide, Or.inl q396⟩
theorem flX5_55_5 : Fl "FlyingDoctors$Place" 55 5 9 := ⟨by decide, by decide, Or.inl q398⟩
theorem flX5_9_5 : Fl "FlyingDoctors$Place" 9 5 6 := ⟨by decide, by decide, Or.inl q393⟩
theorem flX6_13_6 : Fl "FlyingDoctors$Plane" 13 6 1 := ⟨by decide, by decide, Or.inl q531⟩
theorem flX6_16_6 : Fl "FlyingDoctors$Plane" 16 6 2 := ⟨by decide, by decide, Or.inl q534⟩
theorem flX6_19_6 : Fl "FlyingDoctors$Plane" 19 6 3 := ⟨by decide, by decide, Or.inl q537⟩
theorem flX6_22_6 : Fl "FlyingDoctors$Plane" 22 6 4 := ⟨by decide, by decide, Or.inl q539⟩
theorem flX6_26_6 : Fl "FlyingDoctors$Plane" 26 6 5 := ⟨by decide, by decide, Or.inl q541⟩
theorem flX6_29_6 : Fl "FlyingDoctors$Plane" 29 6 6 := ⟨by decide, by decide, Or.inl q543⟩
theorem flX6_7_6 : Fl "FlyingDoctors$Plane" 7 6 0 := ⟨by decide, by decide, Or.inl q530⟩
theorem flX7_13_7 : Fl "FlyingDoctors$Person" 13 7 1 := ⟨by decide, by decide, Or.inl q575⟩
theorem flX7_16_7 : Fl "FlyingDoctors$Person" 16 7 2 := ⟨by decide, by decide, Or.inl q577⟩
theorem flX7_20_7 : Fl "FlyingDoctors$Person" 20 7 3 := ⟨by decide, by decide, Or.inl q579⟩
theorem flX7_7_7 : Fl "FlyingDoctors$Person" 7 7 0 := ⟨by decide, by decide, Or.inl q573⟩
theorem flX8_134_1 : Fl "FlyingDoctors$Reader" 134 1 8 := ⟨by decide, by decide, Or.inr (Or.inr ⟨_, q276⟩)⟩
theorem flX8_18_8 : Fl "FlyingDoctors$Reader" 18 8 1 := ⟨by decide, by decide, Or.inl q789⟩
theorem flX8_22_8 : Fl "FlyingDoctors$Reader" 22 8 2 := ⟨by decide, by decide, Or.inl q791⟩
theorem flX8_230_17 : Fl "FlyingDoctors$Reader" 230 17 2 := ⟨by decide, by decide, Or.inr (Or.inr ⟨_, q1443⟩)⟩
theorem flX8_234_2 : Fl "FlyingDoctors$Reader" 234 2 2 := ⟨by decide, by decide, Or.inr (Or.inr ⟨_, q226⟩)⟩
theorem flX8_239_2 : Fl "FlyingDoctors$Reader" 239 2 0 := ⟨by decide, by decide, Or.inr (Or.inr ⟨_, q221⟩)⟩
theorem flX8_253_8 : Fl "FlyingDoctors$Reader" 253 8 8 := ⟨by decide, by decide, Or.inl q798⟩
theorem flX8_25_8 : Fl "FlyingDoctors$Reader" 25 8 0 := ⟨by decide, by decide, Or.inl q788⟩
theorem flX8_261_2 : Fl "FlyingDoctors$Reader" 261 2 3 := ⟨by decide, by decide, Or.inr (Or.inr ⟨_, q229⟩)⟩
theorem flX8_263_2 : Fl "FlyingDoctors$Reader" 263 2 1 := ⟨by decide, by decide, Or.inr (Or.inr ⟨_, q224⟩)⟩
theorem flX8_29_8 : Fl "FlyingDoctors$Reader" 29 8 3 := ⟨by decide, by decide, Or.inl q792⟩
theorem flX8_32_1 : Fl "FlyingDoctors$Reader" 32 1 15 := ⟨by decide, by decide, Or.inr (Or.inr ⟨_, q286⟩)⟩
theorem flX8_3_8 : Fl "FlyingDoctors$Reader" 3 8 9 := ⟨by decide, by decide, Or.inl q799⟩
theorem flX8_44_8 : Fl "FlyingDoctors$Reader" 44 8 5 := ⟨by decide, by decide, Or.inl q794⟩
theorem flX8_47_8 : Fl "FlyingDoctors$Reader" 47 8 4 := ⟨by decide, by decide, Or.inl q793⟩
theorem flX8_57_8 : Fl "FlyingDoctors$Reader" 57 8 7 := ⟨by decide, by decide, Or.inl q797⟩
theorem flX8_75_8 : Fl "FlyingDoctors$Reader" 75 8 6 := ⟨by decide, by decide, Or.inl q796⟩
theorem flX9_7_9 : Fl "FlyingDoctors$Wrong" 7 9 6 := ⟨by decide, by decide, Or.inl q983⟩
theorem lkJ13_1059 : Lk "java/lang/String" 1059 ⟨"jdk/internal/util/Preconditions", "checkIndex", "(IILjava/util/function/BiFunction;)I"⟩ := Or.inl q949
theorem lkJ13_335 : Lk "java/lang/String" 335 ⟨"java/lang/String", "coder", "()B"⟩ := Or.inl q865
theorem lkJ13_489 : Lk "java/lang/String" 489 ⟨"java/lang/String", "<init>", "(Ljava/lang/AbstractStringBuilder;Ljava/lang/Void;)V"⟩ := Or.inl q1110
theorem lkJ13_492 : Lk "java/lang/String" 492 ⟨"java/lang/String", "isLatin1", "()Z"⟩ := Or.inl q855
theorem lkJ13_495 : Lk "java/lang/String" 495 ⟨"java/lang/StringLatin1", "charAt", "([BI)C"⟩ := Or.inl q943
theorem lkJ13_505 : Lk "java/lang/String" 505 ⟨"java/lang/String", "length", "()I"⟩ := Or.inl q861
theorem lkJ13_54 : Lk "java/lang/String" 54 ⟨"java/util/Arrays", "copyOfRange", "([BII)[B"⟩ := Or.inl q1128
theorem lkJ13_541 : Lk "java/lang/String" 541 ⟨"java/lang/StringLatin1", "equals", "([B[B)Z"⟩ := Or.inl q1279
theorem lkJ13_633 : Lk "java/lang/String" 633 ⟨"java/lang/String", "indexOf", "(II)I"⟩ := Or.inl q851
theorem lkJ13_637 : Lk "java/lang/String" 637 ⟨"java/lang/StringLatin1", "indexOf", "([BIII)I"⟩ := Or.inl q869
theorem lkJ14_38 : Lk "java/lang/StringLatin1" 38 ⟨"java/lang/Math", "min", "(II)I"⟩ := Or.inl q876
theorem lkJ14_88 : Lk "java/lang/StringLatin1" 88 ⟨"java/lang/StringLatin1", "canEncode", "(I)Z"⟩ := Or.inl q872
theorem lkJ14_9 : Lk "java/lang/StringLatin1" 9 ⟨"java/lang/String", "checkIndex", "(II)V"⟩ := Or.inl q946
theorem lkJ14_92 : Lk "java/lang/StringLatin1" 92 ⟨"java/lang/Math", "max", "(II)I"⟩ := Or.inl q875
theorem lkJ14_95 : Lk "java/lang/StringLatin1" 95 ⟨"java/lang/StringLatin1", "indexOfChar", "([BIII)I"⟩ := Or.inl q877
theorem lkJ17_108 : Lk "java/lang/AbstractStringBuilder" 108 ⟨"java/util/Arrays", "copyOf", "([BI)[B"⟩ := Or.inl q1058
theorem lkJ17_114 : Lk "java/lang/AbstractStringBuilder" 114 ⟨"jdk/internal/util/ArraysSupport", "newLength", "(III)I"⟩ := Or.inl q1056
theorem lkJ17_138 : Lk "java/lang/AbstractStringBuilder" 138 ⟨"java/lang/Math", "min", "(II)I"⟩ := Or.inl q1615
theorem lkJ17_144 : Lk "java/lang/AbstractStringBuilder" 144 ⟨"java/lang/String", "checkIndex", "(II)V"⟩ := Or.inl q1616
theorem lkJ17_191 : Lk "java/lang/AbstractStringBuilder" 191 ⟨"java/lang/StringLatin1", "canEncode", "(C)Z"⟩ := Or.inl q1073
theorem lkJ18_1 : Lk "java/lang/StringBuilder" 1 ⟨"java/lang/AbstractStringBuilder", "<init>", "(I)V"⟩ := Or.inl q1016
theorem lkJ18_137 : Lk "java/lang/StringBuilder" 137 ⟨"java/lang/String", "<init>", "(Ljava/lang/StringBuilder;)V"⟩ := Or.inl q1107
theorem lkJ1_1 : Lk "java/util/AbstractList" 1 ⟨"java/util/AbstractCollection", "<init>", "()V"⟩ := Or.inl q192
theorem lkJ2_1 : Lk "java/util/ArrayList" 1 ⟨"java/util/AbstractList", "<init>", "()V"⟩ := Or.inl q189
theorem lkJ2_118 : Lk "java/util/ArrayList" 118 ⟨"java/util/Objects", "checkIndex", "(II)I"⟩ := Or.inl q514
theorem lkJ2_123 : Lk "java/util/ArrayList" 123 ⟨"java/util/ArrayList", "elementData", "(I)Ljava/lang/Object;"⟩ := Or.inl q520
theorem lkJ2_129 : Lk "java/util/ArrayList" 129 ⟨"java/util/ArrayList", "grow", "()[Ljava/lang/Object;"⟩ := Or.inl q434
theorem lkJ2_131 : Lk "java/util/ArrayList" 131 ⟨"java/util/ArrayList", "add", "(Ljava/lang/Object;[Ljava/lang/Object;I)V"⟩ := Or.inl q430
theorem lkJ2_66 : Lk "java/util/ArrayList" 66 ⟨"java/util/Arrays", "copyOf", "([Ljava/lang/Object;I)[Ljava/lang/Object;"⟩ := Or.inl q452
theorem lkJ2_69 : Lk "java/util/ArrayList" 69 ⟨"java/util/ArrayList", "grow", "(I)[Ljava/lang/Object;"⟩ := Or.inl q438
theorem lkJ2_73 : Lk "java/util/ArrayList" 73 ⟨"jdk/internal/util/ArraysSupport", "newLength", "(III)I"⟩ := Or.inl q442
theorem lkJ2_79 : Lk "java/util/ArrayList" 79 ⟨"java/lang/Math", "max", "(II)I"⟩ := Or.inl q499
theorem lkJ2_85 : Lk "java/util/ArrayList" 85 ⟨"java/util/ArrayList", "indexOf", "(Ljava/lang/Object;)I"⟩ := Or.inl q1239
theorem lkJ2_89 : Lk "java/util/ArrayList" 89 ⟨"java/util/ArrayList", "indexOfRange", "(Ljava/lang/Object;II)I"⟩ := Or.inl q1243
theorem lkJ3_194 : Lk "jdk/internal/util/ArraysSupport" 194 ⟨"java/lang/Math", "max", "(II)I"⟩ := Or.inl q445
theorem lkJ5_300 : Lk "java/util/Arrays" 300 ⟨"java/util/Arrays", "copyOf", "([Ljava/lang/Object;ILjava/lang/Class;)[Ljava/lang/Object;"⟩ := Or.inl q487
theorem lkJ5_304 : Lk "java/util/Arrays" 304 ⟨"java/lang/Math", "min", "(II)I"⟩ := Or.inl q493
theorem lkJ5_339 : Lk "java/util/Arrays" 339 ⟨"java/util/Arrays", "copyOfRangeByte", "([BII)[B"⟩ := Or.inl q1131
theorem lkJ5_343 : Lk "java/util/Arrays" 343 ⟨"java/util/Arrays", "checkLength", "(II)V"⟩ := Or.inl q1134
theorem lkJ6_105 : Lk "java/util/Objects" 105 ⟨"jdk/internal/util/Preconditions", "checkIndex", "(IILjava/util/function/BiFunction;)I"⟩ := Or.inl q517
theorem lkJ9_16 : Lk "java/lang/Exception" 16 ⟨"java/lang/Throwable", "<init>", "(Ljava/lang/String;Ljava/lang/Throwable;ZZ)V"⟩ := Or.inl q980
theorem lkL_110 : Lk "FlyingDoctorsLaw" 110 ⟨"FlyingDoctors", "<init>", "()V"⟩ := Or.inl q176
theorem lkL_113 : Lk "FlyingDoctorsLaw" 113 ⟨"FlyingDoctorsModel", "<init>", "()V"⟩ := Or.inl q2167
theorem lkL_114 : Lk "FlyingDoctorsLaw" 114 ⟨"FlyingDoctors", "place", "(IIII)I"⟩ := Or.inl q359
theorem lkL_117 : Lk "FlyingDoctorsLaw" 117 ⟨"FlyingDoctorsModel", "place", "(IIII)I"⟩ := Or.inl q2125
theorem lkL_118 : Lk "FlyingDoctorsLaw" 118 ⟨"FlyingDoctors", "plane", "(IIIII)I"⟩ := Or.inl q501
theorem lkL_122 : Lk "FlyingDoctorsLaw" 122 ⟨"FlyingDoctorsModel", "plane", "(IIIII)I"⟩ := Or.inl q2129
theorem lkL_123 : Lk "FlyingDoctorsLaw" 123 ⟨"FlyingDoctors", "person", "(II)I"⟩ := Or.inl q563
theorem lkL_126 : Lk "FlyingDoctorsLaw" 126 ⟨"FlyingDoctorsModel", "person", "(II)I"⟩ := Or.inl q2138
theorem lkL_127 : Lk "FlyingDoctorsLaw" 127 ⟨"FlyingDoctorsLaw", "drums", "(LFlyingDoctors;II[J)I"⟩ := Or.inl q673
theorem lkL_132 : Lk "FlyingDoctorsLaw" 132 ⟨"FlyingDoctorsModel", "drums", "(II)I"⟩ := Or.inl q2142
theorem lkL_133 : Lk "FlyingDoctorsLaw" 133 ⟨"FlyingDoctorsModel", "thrown", "()I"⟩ := Or.inl q2121
theorem lkL_137 : Lk "FlyingDoctorsLaw" 137 ⟨"FlyingDoctors", "feed", "(IIIII)I"⟩ := Or.inl q600
theorem lkL_140 : Lk "FlyingDoctorsLaw" 140 ⟨"FlyingDoctorsModel", "feed", "(IIIII)I"⟩ := Or.inl q2158
theorem lkL_141 : Lk "FlyingDoctorsLaw" 141 ⟨"FlyingDoctorsLaw", "rules", "(LFlyingDoctors;I[J)I"⟩ := Or.inl q772
theorem lkL_144 : Lk "FlyingDoctorsLaw" 144 ⟨"FlyingDoctorsModel", "rules", "(I)I"⟩ := Or.inl q2528
theorem lkL_145 : Lk "FlyingDoctorsLaw" 145 ⟨"FlyingDoctors", "fault", "()I"⟩ := Or.inl q604
theorem lkL_148 : Lk "FlyingDoctorsLaw" 148 ⟨"FlyingDoctorsModel", "fault", "()I"⟩ := Or.inl q2622
theorem lkL_149 : Lk "FlyingDoctorsLaw" 149 ⟨"FlyingDoctorsLaw", "law", "(LFlyingDoctors;I[J)I"⟩ := Or.inl q1477
theorem lkL_151 : Lk "FlyingDoctorsLaw" 151 ⟨"FlyingDoctorsModel", "law", "(I)I"⟩ := Or.inl q2626
theorem lkL_152 : Lk "FlyingDoctorsLaw" 152 ⟨"FlyingDoctorsLaw", "quarters", "(LFlyingDoctors;I[J)I"⟩ := Or.inl q1488
theorem lkL_154 : Lk "FlyingDoctorsLaw" 154 ⟨"FlyingDoctorsModel", "quarters", "(I)I"⟩ := Or.inl q2154
theorem lkL_155 : Lk "FlyingDoctorsLaw" 155 ⟨"FlyingDoctorsLaw", "rain", "(LFlyingDoctors;III[J)I"⟩ := Or.inl q1495
theorem lkL_158 : Lk "FlyingDoctorsLaw" 158 ⟨"FlyingDoctorsModel", "rain", "(III)Z"⟩ := Or.inl q2638
theorem lkL_159 : Lk "FlyingDoctorsLaw" 159 ⟨"FlyingDoctorsLaw", "wet", "(LFlyingDoctors;III[J)I"⟩ := Or.inl q1525
theorem lkL_161 : Lk "FlyingDoctorsLaw" 161 ⟨"FlyingDoctorsModel", "wet", "(III)I"⟩ := Or.inl q2645
theorem lkL_162 : Lk "FlyingDoctorsLaw" 162 ⟨"FlyingDoctorsLaw", "may", "(LFlyingDoctors;IIIIIII[J)I"⟩ := Or.inl q1540
theorem lkL_165 : Lk "FlyingDoctorsLaw" 165 ⟨"FlyingDoctorsModel", "may", "(IIIIIII)I"⟩ := Or.inl q2661
theorem lkL_166 : Lk "FlyingDoctorsLaw" 166 ⟨"FlyingDoctorsLaw", "radio", "(LFlyingDoctors;III[J)I"⟩ := Or.inl q1626
theorem lkL_168 : Lk "FlyingDoctorsLaw" 168 ⟨"FlyingDoctorsModel", "radio", "(III)Z"⟩ := Or.inl q2701
theorem lkL_169 : Lk "FlyingDoctorsLaw" 169 ⟨"FlyingDoctorsLaw", "heard", "(LFlyingDoctors;II[J)I"⟩ := Or.inl q1634
theorem lkL_171 : Lk "FlyingDoctorsLaw" 171 ⟨"FlyingDoctorsModel", "heard", "(II)I"⟩ := Or.inl q2706
theorem lkL_172 : Lk "FlyingDoctorsLaw" 172 ⟨"FlyingDoctorsLaw", "call", "(LFlyingDoctors;II[J)I"⟩ := Or.inl q1655
theorem lkL_174 : Lk "FlyingDoctorsLaw" 174 ⟨"FlyingDoctorsModel", "call", "(II)I"⟩ := Or.inl q2722
theorem lkL_175 : Lk "FlyingDoctorsLaw" 175 ⟨"FlyingDoctorsLaw", "callOf", "(LFlyingDoctors;II[J)I"⟩ := Or.inl q1698
theorem lkL_177 : Lk "FlyingDoctorsLaw" 177 ⟨"FlyingDoctorsModel", "callOf", "(II)I"⟩ := Or.inl q2726
theorem lkL_178 : Lk "FlyingDoctorsLaw" 178 ⟨"FlyingDoctorsLaw", "priority", "(LFlyingDoctors;I[J)I"⟩ := Or.inl q1722
theorem lkL_180 : Lk "FlyingDoctorsLaw" 180 ⟨"FlyingDoctorsModel", "priority", "(I)I"⟩ := Or.inl q2738
theorem lkL_181 : Lk "FlyingDoctorsLaw" 181 ⟨"FlyingDoctorsLaw", "order", "(LFlyingDoctors;I[J)I"⟩ := Or.inl q1763
theorem lkL_183 : Lk "FlyingDoctorsLaw" 183 ⟨"FlyingDoctorsModel", "order", "(I)I"⟩ := Or.inl q2754
theorem lkL_184 : Lk "FlyingDoctorsLaw" 184 ⟨"FlyingDoctorsLaw", "find", "(LFlyingDoctors;IZ[J)I"⟩ := Or.inl q1783
theorem lkL_187 : Lk "FlyingDoctorsLaw" 187 ⟨"FlyingDoctorsModel", "find", "(IZ)Z"⟩ := Or.inl q2766
theorem lkL_188 : Lk "FlyingDoctorsLaw" 188 ⟨"FlyingDoctorsLaw", "misleads", "(LFlyingDoctors;II[J)I"⟩ := Or.inl q1790
theorem lkL_190 : Lk "FlyingDoctorsLaw" 190 ⟨"FlyingDoctorsModel", "misleads", "(II)I"⟩ := Or.inl q2770
theorem lkL_191 : Lk "FlyingDoctorsLaw" 191 ⟨"FlyingDoctorsLaw", "flight", "(LFlyingDoctors;IIIIIIII[J)I"⟩ := Or.inl q1801
theorem lkL_194 : Lk "FlyingDoctorsLaw" 194 ⟨"FlyingDoctorsModel", "flight", "(IIIIIIII)I"⟩ := Or.inl q2779
theorem lkL_195 : Lk "FlyingDoctorsLaw" 195 ⟨"FlyingDoctors", "failed", "()I"⟩ := Or.inl q608
theorem lkL_198 : Lk "FlyingDoctorsLaw" 198 ⟨"FlyingDoctorsModel", "failed", "()I"⟩ := Or.inl q2826
theorem lkL_199 : Lk "FlyingDoctorsLaw" 199 ⟨"FlyingDoctorsLaw", "leg", "(LFlyingDoctors;III[J)I"⟩ := Or.inl q1929
theorem lkL_201 : Lk "FlyingDoctorsLaw" 201 ⟨"FlyingDoctorsModel", "leg", "(III)I"⟩ := Or.inl q2830
theorem lkL_202 : Lk "FlyingDoctorsLaw" 202 ⟨"FlyingDoctorsLaw", "holds", "(LFlyingDoctors;I[J)I"⟩ := Or.inl q1940
theorem lkL_204 : Lk "FlyingDoctorsLaw" 204 ⟨"FlyingDoctorsModel", "holds", "(I)I"⟩ := Or.inl q2838
theorem lkL_205 : Lk "FlyingDoctorsLaw" 205 ⟨"FlyingDoctorsLaw", "where", "(LFlyingDoctors;III[J)I"⟩ := Or.inl q1947
theorem lkL_207 : Lk "FlyingDoctorsLaw" 207 ⟨"FlyingDoctorsModel", "where", "(III)I"⟩ := Or.inl q2842
theorem lkL_208 : Lk "FlyingDoctorsLaw" 208 ⟨"FlyingDoctorsLaw", "planeOf", "(LFlyingDoctors;II[J)I"⟩ := Or.inl q1962
theorem lkL_210 : Lk "FlyingDoctorsLaw" 210 ⟨"FlyingDoctorsModel", "planeOf", "(II)I"⟩ := Or.inl q2846
theorem lkL_211 : Lk "FlyingDoctorsLaw" 211 ⟨"FlyingDoctorsLaw", "overdue", "(LFlyingDoctors;I[J)I"⟩ := Or.inl q1969
theorem lkL_213 : Lk "FlyingDoctorsLaw" 213 ⟨"FlyingDoctorsModel", "overdue", "(I)I"⟩ := Or.inl q2850
theorem lkL_214 : Lk "FlyingDoctorsLaw" 214 ⟨"FlyingDoctors", "clinic", "(III)I"⟩ := Or.inl q612
theorem lkL_217 : Lk "FlyingDoctorsLaw" 217 ⟨"FlyingDoctorsModel", "clinic", "(III)I"⟩ := Or.inl q2859
theorem lkL_218 : Lk "FlyingDoctorsLaw" 218 ⟨"FlyingDoctorsLaw", "week", "(LFlyingDoctors;IIII[J)I"⟩ := Or.inl q1985
theorem lkL_221 : Lk "FlyingDoctorsLaw" 221 ⟨"FlyingDoctorsModel", "week", "(IIII)I"⟩ := Or.inl q2871
theorem lkL_222 : Lk "FlyingDoctorsLaw" 222 ⟨"FlyingDoctorsLaw", "weekOf", "(LFlyingDoctors;I[J)I"⟩ := Or.inl q2060
theorem lkL_224 : Lk "FlyingDoctorsLaw" 224 ⟨"FlyingDoctorsModel", "weekOf", "(I)I"⟩ := Or.inl q2891
theorem lkL_225 : Lk "FlyingDoctorsLaw" 225 ⟨"FlyingDoctorsLaw", "round", "(LFlyingDoctors;III[J)I"⟩ := Or.inl q2067
theorem lkL_227 : Lk "FlyingDoctorsLaw" 227 ⟨"FlyingDoctorsModel", "round", "(III)I"⟩ := Or.inl q2863
theorem lkL_228 : Lk "FlyingDoctorsLaw" 228 ⟨"FlyingDoctorsLaw", "chest", "(LFlyingDoctors;III[J)I"⟩ := Or.inl q2074
theorem lkL_230 : Lk "FlyingDoctorsLaw" 230 ⟨"FlyingDoctorsModel", "chest", "(III)I"⟩ := Or.inl q2895
theorem lkL_231 : Lk "FlyingDoctorsLaw" 231 ⟨"FlyingDoctorsLaw", "dose", "(LFlyingDoctors;III[J)I"⟩ := Or.inl q2084
theorem lkL_233 : Lk "FlyingDoctorsLaw" 233 ⟨"FlyingDoctorsModel", "dose", "(III)I"⟩ := Or.inl q2903
theorem lkL_234 : Lk "FlyingDoctorsLaw" 234 ⟨"FlyingDoctorsLaw", "counted", "(LFlyingDoctors;III[J)I"⟩ := Or.inl q2100
theorem lkL_236 : Lk "FlyingDoctorsLaw" 236 ⟨"FlyingDoctorsModel", "counted", "(III)I"⟩ := Or.inl q2911
theorem lkL_237 : Lk "FlyingDoctorsLaw" 237 ⟨"FlyingDoctors", "gift", "(III)I"⟩ := Or.inl q636
theorem lkL_240 : Lk "FlyingDoctorsLaw" 240 ⟨"FlyingDoctorsModel", "gift", "(III)I"⟩ := Or.inl q2915
theorem lkL_241 : Lk "FlyingDoctorsLaw" 241 ⟨"FlyingDoctors", "spend", "(II)Z"⟩ := Or.inl q660
theorem lkL_245 : Lk "FlyingDoctorsLaw" 245 ⟨"FlyingDoctorsModel", "spend", "(II)Z"⟩ := Or.inl q2919
theorem lkL_246 : Lk "FlyingDoctorsLaw" 246 ⟨"FlyingDoctorsLaw", "giftLeft", "(LFlyingDoctors;I[J)I"⟩ := Or.inl q2107
theorem lkL_248 : Lk "FlyingDoctorsLaw" 248 ⟨"FlyingDoctorsModel", "giftLeft", "(I)I"⟩ := Or.inl q2927
theorem lkL_249 : Lk "FlyingDoctorsLaw" 249 ⟨"FlyingDoctorsLaw", "count", "(LFlyingDoctors;I[J)I"⟩ := Or.inl q2114
theorem lkL_251 : Lk "FlyingDoctorsLaw" 251 ⟨"FlyingDoctorsModel", "count", "(I)I"⟩ := Or.inl q2931
theorem lkX0_101 : Lk "FlyingDoctorsLaw" 101 ⟨"FlyingDoctors", "counted", "(III)I"⟩ := Or.inl q2103
theorem lkX0_104 : Lk "FlyingDoctorsLaw" 104 ⟨"FlyingDoctors", "giftLeft", "(I)I"⟩ := Or.inl q2110
theorem lkX0_107 : Lk "FlyingDoctorsLaw" 107 ⟨"FlyingDoctors", "count", "(I)I"⟩ := Or.inl q2117
theorem lkX0_17 : Lk "FlyingDoctorsLaw" 17 ⟨"FlyingDoctors", "rules", "(I)I"⟩ := Or.inl q775
theorem lkX0_21 : Lk "FlyingDoctorsLaw" 21 ⟨"FlyingDoctors", "law", "(I)I"⟩ := Or.inl q1480
theorem lkX0_24 : Lk "FlyingDoctorsLaw" 24 ⟨"FlyingDoctors", "quarters", "(I)I"⟩ := Or.inl q1491
theorem lkX0_27 : Lk "FlyingDoctorsLaw" 27 ⟨"FlyingDoctors", "rain", "(III)Z"⟩ := Or.inl q1498
theorem lkX0_31 : Lk "FlyingDoctorsLaw" 31 ⟨"FlyingDoctors", "wet", "(III)I"⟩ := Or.inl q1528
theorem lkX0_35 : Lk "FlyingDoctorsLaw" 35 ⟨"FlyingDoctors", "may", "(IIIIIII)I"⟩ := Or.inl q1543
theorem lkX0_39 : Lk "FlyingDoctorsLaw" 39 ⟨"FlyingDoctors", "radio", "(III)Z"⟩ := Or.inl q1629
theorem lkX0_42 : Lk "FlyingDoctorsLaw" 42 ⟨"FlyingDoctors", "heard", "(II)I"⟩ := Or.inl q1637
theorem lkX0_45 : Lk "FlyingDoctorsLaw" 45 ⟨"FlyingDoctors", "call", "(II)I"⟩ := Or.inl q1658
theorem lkX0_48 : Lk "FlyingDoctorsLaw" 48 ⟨"FlyingDoctors", "callOf", "(II)I"⟩ := Or.inl q1701
theorem lkX0_51 : Lk "FlyingDoctorsLaw" 51 ⟨"FlyingDoctors", "priority", "(I)I"⟩ := Or.inl q1726
theorem lkX0_56 : Lk "FlyingDoctorsLaw" 56 ⟨"FlyingDoctors", "order", "(I)I"⟩ := Or.inl q1766
theorem lkX0_59 : Lk "FlyingDoctorsLaw" 59 ⟨"FlyingDoctors", "find", "(IZ)Z"⟩ := Or.inl q1786
theorem lkX0_63 : Lk "FlyingDoctorsLaw" 63 ⟨"FlyingDoctors", "misleads", "(II)I"⟩ := Or.inl q1793
theorem lkX0_66 : Lk "FlyingDoctorsLaw" 66 ⟨"FlyingDoctors", "flight", "(IIIIIIII)I"⟩ := Or.inl q1804
theorem lkX0_7 : Lk "FlyingDoctorsLaw" 7 ⟨"FlyingDoctors", "drums", "(II)I"⟩ := Or.inl q678
theorem lkX0_70 : Lk "FlyingDoctorsLaw" 70 ⟨"FlyingDoctors", "leg", "(III)I"⟩ := Or.inl q1932
theorem lkX0_73 : Lk "FlyingDoctorsLaw" 73 ⟨"FlyingDoctors", "holds", "(I)I"⟩ := Or.inl q1943
theorem lkX0_76 : Lk "FlyingDoctorsLaw" 76 ⟨"FlyingDoctors", "where", "(III)I"⟩ := Or.inl q1950
theorem lkX0_79 : Lk "FlyingDoctorsLaw" 79 ⟨"FlyingDoctors", "planeOf", "(II)I"⟩ := Or.inl q1965
theorem lkX0_82 : Lk "FlyingDoctorsLaw" 82 ⟨"FlyingDoctors", "overdue", "(I)I"⟩ := Or.inl q1972
theorem lkX0_85 : Lk "FlyingDoctorsLaw" 85 ⟨"FlyingDoctors", "week", "(IIII)I"⟩ := Or.inl q1988
theorem lkX0_89 : Lk "FlyingDoctorsLaw" 89 ⟨"FlyingDoctors", "weekOf", "(I)I"⟩ := Or.inl q2063
theorem lkX0_92 : Lk "FlyingDoctorsLaw" 92 ⟨"FlyingDoctors", "round", "(III)I"⟩ := Or.inl q2070
theorem lkX0_95 : Lk "FlyingDoctorsLaw" 95 ⟨"FlyingDoctors", "chest", "(III)I"⟩ := Or.inl q2077
theorem lkX0_98 : Lk "FlyingDoctorsLaw" 98 ⟨"FlyingDoctors", "dose", "(III)I"⟩ := Or.inl q2087
theorem lkX11_1 : Lk "FlyingDoctors$Chain" 1 ⟨"FlyingDoctors$Ex", "<init>", "()V"⟩ := Or.inr ⟨_, q1397⟩
theorem lkX11_18 : Lk "FlyingDoctors$Chain" 18 ⟨"java/lang/StringBuilder", "<init>", "()V"⟩ := Or.inl q1401
theorem lkX11_29 : Lk "FlyingDoctors$Chain" 29 ⟨"java/lang/StringBuilder", "append", "(C)Ljava/lang/StringBuilder;"⟩ := Or.inl q1415
theorem lkX11_45 : Lk "FlyingDoctors$Chain" 45 ⟨"java/lang/StringBuilder", "charAt", "(I)C"⟩ := Or.inl q1608
theorem lkX11_49 : Lk "FlyingDoctors$Chain" 49 ⟨"FlyingDoctors$Chain", "two", "(CII)I"⟩ := Or.inl q1618
theorem lkX11_9 : Lk "FlyingDoctors$Chain" 9 ⟨"java/util/ArrayList", "<init>", "()V"⟩ := Or.inl q1399
theorem lkX12_1 : Lk "FlyingDoctors$Number" 1 ⟨"FlyingDoctors$Ex", "<init>", "()V"⟩ := Or.inr ⟨_, q1334⟩
theorem lkX13_1 : Lk "FlyingDoctors$Value" 1 ⟨"FlyingDoctors$Ex", "<init>", "()V"⟩ := Or.inr ⟨_, q1351⟩
theorem lkX14_1 : Lk "FlyingDoctors$Param" 1 ⟨"FlyingDoctors$Ex", "<init>", "()V"⟩ := Or.inr ⟨_, q1361⟩
theorem lkX15_1 : Lk "FlyingDoctors$Said" 1 ⟨"FlyingDoctors$Ex", "<init>", "()V"⟩ := Or.inr ⟨_, q1389⟩
theorem lkX16_1 : Lk "FlyingDoctors$Not" 1 ⟨"FlyingDoctors$Ex", "<init>", "()V"⟩ := Or.inr ⟨_, q1421⟩
theorem lkX16_13 : Lk "FlyingDoctors$Not" 13 ⟨"FlyingDoctors$Ex", "holds", "(LFlyingDoctors$Asked;)Z"⟩ := Or.inl q1597
theorem lkX19_100 : Lk "FlyingDoctors$Call" 100 ⟨"FlyingDoctors", "nearestBase", "(LFlyingDoctors$Place;)LFlyingDoctors$Place;"⟩ := Or.inr ⟨_, q1757⟩
theorem lkX19_104 : Lk "FlyingDoctors$Call" 104 ⟨"FlyingDoctors$Place", "miles", "(LFlyingDoctors$Place;)I"⟩ := Or.inl q1761
theorem lkX19_32 : Lk "FlyingDoctors$Call" 32 ⟨"FlyingDoctors", "heardAt", "(LFlyingDoctors$Place;I)I"⟩ := Or.inr ⟨_, q1667⟩
theorem lkX19_55 : Lk "FlyingDoctors$Call" 55 ⟨"FlyingDoctors$Flight", "serves", "(LFlyingDoctors$Call;)I"⟩ := Or.inl q1718
theorem lkX19_59 : Lk "FlyingDoctors$Call" 59 ⟨"FlyingDoctors$Call", "served", "()I"⟩ := Or.inl q1774
theorem lkX19_62 : Lk "FlyingDoctors$Call" 62 ⟨"FlyingDoctors", "rulesAt", "(I)LFlyingDoctors$Rules;"⟩ := Or.inr ⟨_, q1753⟩
theorem lkX19_72 : Lk "FlyingDoctors$Call" 72 ⟨"FlyingDoctors", "asking", "(LFlyingDoctors$Rules;)LFlyingDoctors$Asked;"⟩ := Or.inr ⟨_, q1754⟩
theorem lkX19_83 : Lk "FlyingDoctors$Call" 83 ⟨"FlyingDoctors", "wetOf", "(LFlyingDoctors$Place;II)I"⟩ := Or.inr ⟨_, q1755⟩
theorem lkX19_96 : Lk "FlyingDoctors$Call" 96 ⟨"FlyingDoctors", "isNight", "(I)Z"⟩ := Or.inr ⟨_, q1756⟩
theorem lkX1_101 : Lk "FlyingDoctors" 101 ⟨"FlyingDoctors", "asking", "(LFlyingDoctors$Rules;)LFlyingDoctors$Asked;"⟩ := Or.inl q1555
theorem lkX1_108 : Lk "FlyingDoctors" 108 ⟨"FlyingDoctors", "wetOf", "(LFlyingDoctors$Place;II)I"⟩ := Or.inl q1532
theorem lkX1_123 : Lk "FlyingDoctors" 123 ⟨"FlyingDoctors", "isNight", "(I)Z"⟩ := Or.inl q1564
theorem lkX1_132 : Lk "FlyingDoctors" 132 ⟨"FlyingDoctors$Ex", "holds", "(LFlyingDoctors$Asked;)Z"⟩ := Or.inl q1575
theorem lkX1_136 : Lk "FlyingDoctors" 136 ⟨"FlyingDoctors$Place", "hears", "(LFlyingDoctors$Place;I)Z"⟩ := Or.inl q1645
theorem lkX1_161 : Lk "FlyingDoctors" 161 ⟨"FlyingDoctors$Person", "bit", "()I"⟩ := Or.inl q596
theorem lkX1_176 : Lk "FlyingDoctors" 176 ⟨"FlyingDoctors$Flight", "within", "(II)I"⟩ := Or.inl q1912
theorem lkX1_185 : Lk "FlyingDoctors" 185 ⟨"FlyingDoctors$Flight", "ahead", "(I)LFlyingDoctors$Place;"⟩ := Or.inl q1891
theorem lkX1_201 : Lk "FlyingDoctors" 201 ⟨"FlyingDoctors$Flight", "fly", "(IIII)V"⟩ := Or.inl q1895
theorem lkX1_214 : Lk "FlyingDoctors" 214 ⟨"FlyingDoctors", "nearestBase", "(LFlyingDoctors$Place;)LFlyingDoctors$Place;"⟩ := Or.inl q1906
theorem lkX1_218 : Lk "FlyingDoctors" 218 ⟨"FlyingDoctors$Plane", "way", "(LFlyingDoctors$Place;LFlyingDoctors$Place;)I"⟩ := Or.inl q1907
theorem lkX1_231 : Lk "FlyingDoctors" 231 ⟨"FlyingDoctors", "flownUpTo", "(LFlyingDoctors$Flight;II)I"⟩ := Or.inl q1908
theorem lkX1_235 : Lk "FlyingDoctors" 235 ⟨"FlyingDoctors", "mayNot", "(LFlyingDoctors$Plane;LFlyingDoctors$Place;IILFlyingDoctors$Place;II)I"⟩ := Or.inl q1551
theorem lkX1_239 : Lk "FlyingDoctors" 239 ⟨"FlyingDoctors", "left", "(LFlyingDoctors$Flight;II)Z"⟩ := Or.inl q1917
theorem lkX1_243 : Lk "FlyingDoctors" 243 ⟨"FlyingDoctors", "fetched", "(LFlyingDoctors$Flight;II)Z"⟩ := Or.inl q1921
theorem lkX1_271 : Lk "FlyingDoctors" 271 ⟨"java/util/ArrayList", "<init>", "()V"⟩ := Or.inl q186
theorem lkX1_294 : Lk "FlyingDoctors" 294 ⟨"FlyingDoctors$Rules", "<init>", "()V"⟩ := Or.inr ⟨_, q213⟩
theorem lkX1_295 : Lk "FlyingDoctors" 295 ⟨"FlyingDoctors$Asked", "<init>", "()V"⟩ := Or.inr ⟨_, q245⟩
theorem lkX1_314 : Lk "FlyingDoctors" 314 ⟨"FlyingDoctors", "in", "(III)Z"⟩ := Or.inl q373
theorem lkX1_318 : Lk "FlyingDoctors" 318 ⟨"FlyingDoctors", "found", "(Z)V"⟩ := Or.inl q686
theorem lkX1_32 : Lk "FlyingDoctors" 32 ⟨"FlyingDoctors$Place", "miles", "(LFlyingDoctors$Place;)I"⟩ := Or.inl q1567
theorem lkX1_322 : Lk "FlyingDoctors" 322 ⟨"FlyingDoctors$Place", "<init>", "(IIIII)V"⟩ := Or.inl q377
theorem lkX1_325 : Lk "FlyingDoctors" 325 ⟨"FlyingDoctors$Plane", "<init>", "(IIIILFlyingDoctors$Place;)V"⟩ := Or.inl q526
theorem lkX1_328 : Lk "FlyingDoctors" 328 ⟨"FlyingDoctors$Person", "<init>", "(IILFlyingDoctors$Place;)V"⟩ := Or.inl q569
theorem lkX1_334 : Lk "FlyingDoctors" 334 ⟨"FlyingDoctors", "placeAt", "(I)LFlyingDoctors$Place;"⟩ := Or.inl q682
theorem lkX1_337 : Lk "FlyingDoctors" 337 ⟨"FlyingDoctors", "right", "(Z)V"⟩ := Or.inl q754
theorem lkX1_345 : Lk "FlyingDoctors" 345 ⟨"FlyingDoctors$Reader", "<init>", "(LFlyingDoctors;I)V"⟩ := Or.inl q782
theorem lkX1_348 : Lk "FlyingDoctors" 348 ⟨"FlyingDoctors$Reader", "read", "()LFlyingDoctors$Rules;"⟩ := Or.inl q821
theorem lkX1_368 : Lk "FlyingDoctors" 368 ⟨"FlyingDoctors$Told", "<init>", "(IIII)V"⟩ := Or.inl q1504
theorem lkX1_370 : Lk "FlyingDoctors" 370 ⟨"FlyingDoctors", "planeAt", "(I)LFlyingDoctors$Plane;"⟩ := Or.inl q1547
theorem lkX1_381 : Lk "FlyingDoctors" 381 ⟨"FlyingDoctors", "heardAt", "(LFlyingDoctors$Place;I)I"⟩ := Or.inl q1641
theorem lkX1_385 : Lk "FlyingDoctors" 385 ⟨"FlyingDoctors$Call", "<init>", "(LFlyingDoctors;ILFlyingDoctors$Place;I)V"⟩ := Or.inl q1663
theorem lkX1_388 : Lk "FlyingDoctors" 388 ⟨"FlyingDoctors", "callAt", "(I)LFlyingDoctors$Call;"⟩ := Or.inl q1705
theorem lkX1_399 : Lk "FlyingDoctors" 399 ⟨"FlyingDoctors$Call", "served", "()I"⟩ := Or.inl q1709
theorem lkX1_402 : Lk "FlyingDoctors" 402 ⟨"FlyingDoctors$Call", "isHeard", "()Z"⟩ := Or.inl q1730
theorem lkX1_409 : Lk "FlyingDoctors" 409 ⟨"FlyingDoctors$Call", "priority", "()I"⟩ := Or.inl q1749
theorem lkX1_412 : Lk "FlyingDoctors" 412 ⟨"FlyingDoctors$Call", "isOpen", "()Z"⟩ := Or.inl q1770
theorem lkX1_418 : Lk "FlyingDoctors" 418 ⟨"FlyingDoctors", "ahead", "(LFlyingDoctors$Call;I)I"⟩ := Or.inl q1775
theorem lkX1_422 : Lk "FlyingDoctors" 422 ⟨"FlyingDoctors$Call", "isAhead", "(LFlyingDoctors$Call;)Z"⟩ := Or.inl q1779
theorem lkX1_426 : Lk "FlyingDoctors" 426 ⟨"java/lang/Math", "min", "(II)I"⟩ := Or.inl q672
theorem lkX1_429 : Lk "FlyingDoctors" 429 ⟨"FlyingDoctors", "ways", "(II)J"⟩ := Or.inl q1797
theorem lkX1_435 : Lk "FlyingDoctors" 435 ⟨"FlyingDoctors", "isOne", "(II)Z"⟩ := Or.inl q1816
theorem lkX1_439 : Lk "FlyingDoctors" 439 ⟨"FlyingDoctors", "personAt", "(I)LFlyingDoctors$Person;"⟩ := Or.inl q1808
theorem lkX1_443 : Lk "FlyingDoctors" 443 ⟨"FlyingDoctors", "isTold", "(LFlyingDoctors$Plane;LFlyingDoctors$Person;IIIIII)Z"⟩ := Or.inl q1812
theorem lkX1_447 : Lk "FlyingDoctors" 447 ⟨"FlyingDoctors$Flight", "<init>", "(LFlyingDoctors;LFlyingDoctors$Plane;LFlyingDoctors$Person;I)V"⟩ := Or.inl q1822
theorem lkX1_450 : Lk "FlyingDoctors" 450 ⟨"FlyingDoctors", "ahead", "(LFlyingDoctors$Flight;II)I"⟩ := Or.inl q1879
theorem lkX1_452 : Lk "FlyingDoctors" 452 ⟨"FlyingDoctors", "begin", "(LFlyingDoctors$Flight;I)V"⟩ := Or.inl q1883
theorem lkX1_456 : Lk "FlyingDoctors" 456 ⟨"FlyingDoctors", "tried", "(LFlyingDoctors$Flight;IIII)I"⟩ := Or.inl q1887
theorem lkX1_460 : Lk "FlyingDoctors" 460 ⟨"FlyingDoctors", "done", "(LFlyingDoctors$Flight;)V"⟩ := Or.inl q1925
theorem lkX1_464 : Lk "FlyingDoctors" 464 ⟨"FlyingDoctors", "flightAt", "(I)LFlyingDoctors$Flight;"⟩ := Or.inl q1936
theorem lkX1_475 : Lk "FlyingDoctors" 475 ⟨"FlyingDoctors", "wherePlane", "(LFlyingDoctors$Plane;I)I"⟩ := Or.inl q1954
theorem lkX1_479 : Lk "FlyingDoctors" 479 ⟨"FlyingDoctors", "wherePerson", "(LFlyingDoctors$Person;I)I"⟩ := Or.inl q1958
theorem lkX1_483 : Lk "FlyingDoctors" 483 ⟨"FlyingDoctors", "since", "(LFlyingDoctors$Person;)I"⟩ := Or.inl q1980
theorem lkX1_489 : Lk "FlyingDoctors" 489 ⟨"FlyingDoctors", "isOverdue", "(LFlyingDoctors$Person;)Z"⟩ := Or.inl q1976
theorem lkX1_496 : Lk "FlyingDoctors" 496 ⟨"FlyingDoctors$Clinic", "<init>", "(LFlyingDoctors$Place;II)V"⟩ := Or.inl q618
theorem lkX1_504 : Lk "FlyingDoctors" 504 ⟨"FlyingDoctors$Rounds", "<init>", "(LFlyingDoctors;LFlyingDoctors$Plane;LFlyingDoctors$Place;)V"⟩ := Or.inl q1994
theorem lkX1_507 : Lk "FlyingDoctors" 507 ⟨"FlyingDoctors$Rounds", "reckon", "([I[I)V"⟩ := Or.inl q2039
theorem lkX1_516 : Lk "FlyingDoctors" 516 ⟨"FlyingDoctors$Rounds", "best", "(IIZ)I"⟩ := Or.inr ⟨_, q2058⟩
theorem lkX1_527 : Lk "FlyingDoctors" 527 ⟨"FlyingDoctors", "number", "(I)V"⟩ := Or.inl q2081
theorem lkX1_53 : Lk "FlyingDoctors" 53 ⟨"FlyingDoctors$Asked", "clear", "()V"⟩ := Or.inl q1559
theorem lkX1_535 : Lk "FlyingDoctors" 535 ⟨"FlyingDoctors$Dose", "isFor", "(II)Z"⟩ := Or.inl q2096
theorem lkX1_542 : Lk "FlyingDoctors" 542 ⟨"FlyingDoctors", "mayBe", "(LFlyingDoctors$Place;II)Z"⟩ := Or.inl q2091
theorem lkX1_552 : Lk "FlyingDoctors" 552 ⟨"FlyingDoctors$Gift", "<init>", "(III)V"⟩ := Or.inl q643
theorem lkX1_564 : Lk "FlyingDoctors" 564 ⟨"FlyingDoctors", "isFor", "(LFlyingDoctors$Gift;I)Z"⟩ := Or.inl q664
theorem lkX1_567 : Lk "FlyingDoctors" 567 ⟨"FlyingDoctors", "next", "(I)LFlyingDoctors$Gift;"⟩ := Or.inl q668
theorem lkX1_87 : Lk "FlyingDoctors" 87 ⟨"FlyingDoctors", "latest", "(Ljava/util/List;III)I"⟩ := Or.inl q1536
theorem lkX1_91 : Lk "FlyingDoctors" 91 ⟨"java/lang/Math", "max", "(II)I"⟩ := Or.inl q1539
theorem lkX1_97 : Lk "FlyingDoctors" 97 ⟨"FlyingDoctors", "rulesAt", "(I)LFlyingDoctors$Rules;"⟩ := Or.inl q1484
theorem lkX20_59 : Lk "FlyingDoctors$Flight" 59 ⟨"java/lang/Math", "min", "(II)I"⟩ := Or.inl q1905
theorem lkX20_65 : Lk "FlyingDoctors$Flight" 65 ⟨"java/lang/Math", "max", "(II)I"⟩ := Or.inl q1916
theorem lkX20_79 : Lk "FlyingDoctors$Flight" 79 ⟨"FlyingDoctors$Flight", "ahead", "(I)LFlyingDoctors$Place;"⟩ := Or.inl q1899
theorem lkX20_83 : Lk "FlyingDoctors$Flight" 83 ⟨"FlyingDoctors$Plane", "way", "(LFlyingDoctors$Place;LFlyingDoctors$Place;)I"⟩ := Or.inl q1900
theorem lkX22_53 : Lk "FlyingDoctors$Rounds" 53 ⟨"FlyingDoctors$Rounds", "come", "(II)I"⟩ := Or.inl q2003
theorem lkX22_69 : Lk "FlyingDoctors$Rounds" 69 ⟨"FlyingDoctors$Plane", "way", "(LFlyingDoctors$Place;LFlyingDoctors$Place;)I"⟩ := Or.inl q2010
theorem lkX22_75 : Lk "FlyingDoctors$Rounds" 75 ⟨"java/lang/Math", "min", "(II)I"⟩ := Or.inl q2011
theorem lkX22_85 : Lk "FlyingDoctors$Rounds" 85 ⟨"FlyingDoctors$Rounds", "moved", "(II)I"⟩ := Or.inl q2049
theorem lkX22_88 : Lk "FlyingDoctors$Rounds" 88 ⟨"FlyingDoctors$Rounds", "costOf", "(IIII)I"⟩ := Or.inl q2044
theorem lkX22_92 : Lk "FlyingDoctors$Rounds" 92 ⟨"FlyingDoctors$Rounds", "best", "(IIZ)I"⟩ := Or.inl q2053
theorem lkX2_15 : Lk "FlyingDoctors$Rules" 15 ⟨"java/util/ArrayList", "<init>", "()V"⟩ := Or.inl q218
theorem lkX4_10 : Lk "FlyingDoctorsModel" 10 ⟨"FlyingDoctorsModel", "right", "(ZI)Z"⟩ := Or.inl q2150
theorem lkX4_100 : Lk "FlyingDoctorsModel" 100 ⟨"FlyingDoctorsModel", "byteAt", "(I)I"⟩ := Or.inl q2540
theorem lkX4_119 : Lk "FlyingDoctorsModel" 119 ⟨"FlyingDoctorsModel", "isLetter", "(I)Z"⟩ := Or.inl q2544
theorem lkX4_122 : Lk "FlyingDoctorsModel" 122 ⟨"FlyingDoctorsModel", "isDigit", "(I)Z"⟩ := Or.inl q2547
theorem lkX4_21 : Lk "FlyingDoctorsModel" 21 ⟨"FlyingDoctorsModel", "abs", "(I)I"⟩ := Or.inl q2691
theorem lkX4_28 : Lk "FlyingDoctorsModel" 28 ⟨"FlyingDoctorsModel", "miles", "(II)I"⟩ := Or.inl q2687
theorem lkX4_340 : Lk "FlyingDoctorsModel" 340 ⟨"FlyingDoctorsModel", "spelled", "(IIIIIII)J"⟩ := Or.inl q2171
theorem lkX4_347 : Lk "FlyingDoctorsModel" 347 ⟨"FlyingDoctorsModel", "isGood", "()Z"⟩ := Or.inl q2550
theorem lkX4_351 : Lk "FlyingDoctorsModel" 351 ⟨"FlyingDoctorsModel", "isSign", "(I)Z"⟩ := Or.inl q2582
theorem lkX4_354 : Lk "FlyingDoctorsModel" 354 ⟨"FlyingDoctorsModel", "goes", "()V"⟩ := Or.inl q2536
theorem lkX4_357 : Lk "FlyingDoctorsModel" 357 ⟨"FlyingDoctorsModel", "wrong", "(I)V"⟩ := Or.inl q2562
theorem lkX4_366 : Lk "FlyingDoctorsModel" 366 ⟨"FlyingDoctorsModel", "strength", "(I)I"⟩ := Or.inl q2606
theorem lkX4_369 : Lk "FlyingDoctorsModel" 369 ⟨"FlyingDoctorsModel", "puts", "(I)V"⟩ := Or.inl q2598
theorem lkX4_375 : Lk "FlyingDoctorsModel" 375 ⟨"FlyingDoctorsModel", "knownWord", "()I"⟩ := Or.inl q2558
theorem lkX4_379 : Lk "FlyingDoctorsModel" 379 ⟨"FlyingDoctorsModel", "findWord", "()I"⟩ := Or.inl q2570
theorem lkX4_38 : Lk "FlyingDoctorsModel" 38 ⟨"FlyingDoctorsModel", "isBase", "(I)Z"⟩ := Or.inl q2133
theorem lkX4_385 : Lk "FlyingDoctorsModel" 385 ⟨"FlyingDoctorsModel", "waitsFor", "(I)V"⟩ := Or.inl q2590
theorem lkX4_388 : Lk "FlyingDoctorsModel" 388 ⟨"FlyingDoctorsModel", "begins", "()V"⟩ := Or.inl q2578
theorem lkX4_391 : Lk "FlyingDoctorsModel" 391 ⟨"FlyingDoctorsModel", "part", "()V"⟩ := Or.inl q2594
theorem lkX4_394 : Lk "FlyingDoctorsModel" 394 ⟨"FlyingDoctorsModel", "operand", "(Z)V"⟩ := Or.inl q2586
theorem lkX4_398 : Lk "FlyingDoctorsModel" 398 ⟨"FlyingDoctorsModel", "drops", "(I)V"⟩ := Or.inl q2602
theorem lkX4_407 : Lk "FlyingDoctorsModel" 407 ⟨"FlyingDoctorsModel", "number", "(II)I"⟩ := Or.inl q2613
theorem lkX4_410 : Lk "FlyingDoctorsModel" 410 ⟨"FlyingDoctorsModel", "expression", "()I"⟩ := Or.inl q2574
theorem lkX4_416 : Lk "FlyingDoctorsModel" 416 ⟨"FlyingDoctorsModel", "newWord", "()V"⟩ := Or.inl q2566
theorem lkX4_419 : Lk "FlyingDoctorsModel" 419 ⟨"FlyingDoctorsModel", "chest", "()V"⟩ := Or.inl q2609
theorem lkX4_423 : Lk "FlyingDoctorsModel" 423 ⟨"FlyingDoctorsModel", "needSign", "(I)V"⟩ := Or.inl q2618
theorem lkX4_429 : Lk "FlyingDoctorsModel" 429 ⟨"FlyingDoctorsModel", "defaults", "(I)V"⟩ := Or.inl q2532
theorem lkX4_432 : Lk "FlyingDoctorsModel" 432 ⟨"FlyingDoctorsModel", "clause", "()V"⟩ := Or.inl q2554
theorem lkX4_435 : Lk "FlyingDoctorsModel" 435 ⟨"FlyingDoctorsModel", "textBy", "(I)I"⟩ := Or.inl q2630
theorem lkX4_438 : Lk "FlyingDoctorsModel" 438 ⟨"FlyingDoctorsModel", "paramOf", "(II)I"⟩ := Or.inl q2634
theorem lkX4_444 : Lk "FlyingDoctorsModel" 444 ⟨"FlyingDoctorsModel", "works", "(III)I"⟩ := Or.inl q2698
theorem lkX4_451 : Lk "FlyingDoctorsModel" 451 ⟨"FlyingDoctorsModel", "isDay", "(I)Z"⟩ := Or.inl q2642
theorem lkX4_454 : Lk "FlyingDoctorsModel" 454 ⟨"FlyingDoctorsModel", "rainOn", "(III)I"⟩ := Or.inl q2657
theorem lkX4_457 : Lk "FlyingDoctorsModel" 457 ⟨"FlyingDoctorsModel", "isTime", "(I)Z"⟩ := Or.inl q2649
theorem lkX4_460 : Lk "FlyingDoctorsModel" 460 ⟨"FlyingDoctorsModel", "wetOf", "(III)I"⟩ := Or.inl q2653
theorem lkX4_463 : Lk "FlyingDoctorsModel" 463 ⟨"FlyingDoctorsModel", "clears", "()V"⟩ := Or.inl q2680
theorem lkX4_466 : Lk "FlyingDoctorsModel" 466 ⟨"FlyingDoctorsModel", "isNight", "(I)Z"⟩ := Or.inl q2684
theorem lkX4_469 : Lk "FlyingDoctorsModel" 469 ⟨"FlyingDoctorsModel", "place", "(III)V"⟩ := Or.inl q2676
theorem lkX4_472 : Lk "FlyingDoctorsModel" 472 ⟨"FlyingDoctorsModel", "worth", "(II)I"⟩ := Or.inl q2694
theorem lkX4_475 : Lk "FlyingDoctorsModel" 475 ⟨"FlyingDoctorsModel", "isPlane", "(I)Z"⟩ := Or.inl q2665
theorem lkX4_478 : Lk "FlyingDoctorsModel" 478 ⟨"FlyingDoctorsModel", "isFar", "(I)Z"⟩ := Or.inl q2669
theorem lkX4_481 : Lk "FlyingDoctorsModel" 481 ⟨"FlyingDoctorsModel", "mayNot", "(IIIIIII)I"⟩ := Or.inl q2672
theorem lkX4_486 : Lk "FlyingDoctorsModel" 486 ⟨"FlyingDoctorsModel", "isOn", "(II)Z"⟩ := Or.inl q2718
theorem lkX4_490 : Lk "FlyingDoctorsModel" 490 ⟨"FlyingDoctorsModel", "hears", "(III)Z"⟩ := Or.inl q2714
theorem lkX4_494 : Lk "FlyingDoctorsModel" 494 ⟨"FlyingDoctorsModel", "heardOf", "(II)I"⟩ := Or.inl q2710
theorem lkX4_500 : Lk "FlyingDoctorsModel" 500 ⟨"FlyingDoctorsModel", "isCall", "(I)Z"⟩ := Or.inl q2730
theorem lkX4_503 : Lk "FlyingDoctorsModel" 503 ⟨"FlyingDoctorsModel", "served", "(I)I"⟩ := Or.inl q2734
theorem lkX4_506 : Lk "FlyingDoctorsModel" 506 ⟨"FlyingDoctorsModel", "toBase", "(I)I"⟩ := Or.inl q2750
theorem lkX4_509 : Lk "FlyingDoctorsModel" 509 ⟨"FlyingDoctorsModel", "isHeard", "(I)Z"⟩ := Or.inl q2742
theorem lkX4_512 : Lk "FlyingDoctorsModel" 512 ⟨"FlyingDoctorsModel", "priorityOf", "(I)I"⟩ := Or.inl q2746
theorem lkX4_515 : Lk "FlyingDoctorsModel" 515 ⟨"FlyingDoctorsModel", "isAhead", "(II)Z"⟩ := Or.inl q2762
theorem lkX4_518 : Lk "FlyingDoctorsModel" 518 ⟨"FlyingDoctorsModel", "orders", "()I"⟩ := Or.inl q2758
theorem lkX4_524 : Lk "FlyingDoctorsModel" 524 ⟨"FlyingDoctorsModel", "ways", "(II)J"⟩ := Or.inl q2774
theorem lkX4_531 : Lk "FlyingDoctorsModel" 531 ⟨"FlyingDoctorsModel", "within", "(III)I"⟩ := Or.inl q2811
theorem lkX4_534 : Lk "FlyingDoctorsModel" 534 ⟨"FlyingDoctorsModel", "isReady", "(III)Z"⟩ := Or.inl q2791
theorem lkX4_537 : Lk "FlyingDoctorsModel" 537 ⟨"FlyingDoctorsModel", "way", "(III)I"⟩ := Or.inl q2803
theorem lkX4_540 : Lk "FlyingDoctorsModel" 540 ⟨"FlyingDoctorsModel", "flownBy", "(III)I"⟩ := Or.inl q2807
theorem lkX4_543 : Lk "FlyingDoctorsModel" 543 ⟨"FlyingDoctorsModel", "flownHere", "(II)I"⟩ := Or.inl q2814
theorem lkX4_546 : Lk "FlyingDoctorsModel" 546 ⟨"FlyingDoctorsModel", "isThere", "(IIII)Z"⟩ := Or.inl q2818
theorem lkX4_553 : Lk "FlyingDoctorsModel" 553 ⟨"FlyingDoctorsModel", "isOrder", "(II)Z"⟩ := Or.inl q2783
theorem lkX4_556 : Lk "FlyingDoctorsModel" 556 ⟨"FlyingDoctorsModel", "crew", "(IIII)I"⟩ := Or.inl q2787
theorem lkX4_560 : Lk "FlyingDoctorsModel" 560 ⟨"FlyingDoctorsModel", "flies", "(III)I"⟩ := Or.inl q2795
theorem lkX4_562 : Lk "FlyingDoctorsModel" 562 ⟨"FlyingDoctorsModel", "leg", "(IIIIII)I"⟩ := Or.inl q2799
theorem lkX4_566 : Lk "FlyingDoctorsModel" 566 ⟨"FlyingDoctorsModel", "ends", "(III)V"⟩ := Or.inl q2822
theorem lkX4_569 : Lk "FlyingDoctorsModel" 569 ⟨"FlyingDoctorsModel", "isFlight", "(I)Z"⟩ := Or.inl q2834
theorem lkX4_574 : Lk "FlyingDoctorsModel" 574 ⟨"FlyingDoctorsModel", "isOverdue", "(I)Z"⟩ := Or.inl q2854
theorem lkX4_580 : Lk "FlyingDoctorsModel" 580 ⟨"FlyingDoctorsModel", "roundsOf", "(II)V"⟩ := Or.inl q2867
theorem lkX4_584 : Lk "FlyingDoctorsModel" 584 ⟨"FlyingDoctorsModel", "fits", "(II)Z"⟩ := Or.inl q2879
theorem lkX4_587 : Lk "FlyingDoctorsModel" 587 ⟨"FlyingDoctorsModel", "movedOn", "(II)I"⟩ := Or.inl q2883
theorem lkX4_590 : Lk "FlyingDoctorsModel" 590 ⟨"FlyingDoctorsModel", "weeks", "()V"⟩ := Or.inl q2875
theorem lkX4_599 : Lk "FlyingDoctorsModel" 599 ⟨"FlyingDoctorsModel", "isBest", "(III)Z"⟩ := Or.inl q2887
theorem lkX4_602 : Lk "FlyingDoctorsModel" 602 ⟨"FlyingDoctorsModel", "isChest", "(II)Z"⟩ := Or.inl q2899
theorem lkX4_605 : Lk "FlyingDoctorsModel" 605 ⟨"FlyingDoctorsModel", "mayUse", "(III)Z"⟩ := Or.inl q2907
theorem lkX4_614 : Lk "FlyingDoctorsModel" 614 ⟨"FlyingDoctorsModel", "nextGift", "(I)I"⟩ := Or.inl q2923
theorem lkX4_75 : Lk "FlyingDoctorsModel" 75 ⟨"FlyingDoctorsModel", "isPlace", "(I)Z"⟩ := Or.inl q2146
theorem lkX4_87 : Lk "FlyingDoctorsModel" 87 ⟨"FlyingDoctorsModel", "lays", "(I)V"⟩ := Or.inl q2162
theorem lkX5_35 : Lk "FlyingDoctors$Place" 35 ⟨"java/lang/Math", "abs", "(I)I"⟩ := Or.inl q1571
theorem lkX5_44 : Lk "FlyingDoctors$Place" 44 ⟨"FlyingDoctors$Place", "isOn", "(I)Z"⟩ := Or.inl q1649
theorem lkX5_48 : Lk "FlyingDoctors$Place" 48 ⟨"FlyingDoctors$Place", "miles", "(LFlyingDoctors$Place;)I"⟩ := Or.inl q1653
theorem lkX5_52 : Lk "FlyingDoctors$Place" 52 ⟨"FlyingDoctors", "isNight", "(I)Z"⟩ := Or.inr ⟨_, q1654⟩
theorem lkX6_32 : Lk "FlyingDoctors$Plane" 32 ⟨"FlyingDoctors$Place", "miles", "(LFlyingDoctors$Place;)I"⟩ := Or.inl q1904
theorem lkX8_104 : Lk "FlyingDoctors$Reader" 104 ⟨"FlyingDoctors$Wrong", "<init>", "(I)V"⟩ := Or.inl q974
theorem lkX8_107 : Lk "FlyingDoctors$Reader" 107 ⟨"FlyingDoctors$Reader", "isSign", "(I)Z"⟩ := Or.inl q1290
theorem lkX8_111 : Lk "FlyingDoctors$Reader" 111 ⟨"FlyingDoctors$Reader", "want", "(Z)V"⟩ := Or.inl q961
theorem lkX8_115 : Lk "FlyingDoctors$Reader" 115 ⟨"FlyingDoctors$Reader", "next", "()V"⟩ := Or.inl q827
theorem lkX8_126 : Lk "FlyingDoctors$Reader" 126 ⟨"FlyingDoctors$Reader", "is", "(Ljava/lang/String;)Z"⟩ := Or.inl q934
theorem lkX8_130 : Lk "FlyingDoctors$Reader" 130 ⟨"FlyingDoctors$Reader", "wordNumber", "(Ljava/lang/String;)I"⟩ := Or.inl q1373
theorem lkX8_142 : Lk "FlyingDoctors$Reader" 142 ⟨"FlyingDoctors$Reader", "number", "()I"⟩ := Or.inl q1327
theorem lkX8_144 : Lk "FlyingDoctors$Reader" 144 ⟨"FlyingDoctors$Number", "<init>", "(I)V"⟩ := Or.inl q1331
theorem lkX8_145 : Lk "FlyingDoctors$Reader" 145 ⟨"FlyingDoctors$Reader", "ofWord", "()LFlyingDoctors$Ex;"⟩ := Or.inl q1342
theorem lkX8_149 : Lk "FlyingDoctors$Reader" 149 ⟨"FlyingDoctors$Reader", "expression", "(I)LFlyingDoctors$Ex;"⟩ := Or.inl q1298
theorem lkX8_153 : Lk "FlyingDoctors$Reader" 153 ⟨"FlyingDoctors$Reader", "need", "(I)V"⟩ := Or.inl q1286
theorem lkX8_158 : Lk "FlyingDoctors$Reader" 158 ⟨"FlyingDoctors$Reader", "among", "(Ljava/lang/String;)I"⟩ := Or.inl q996
theorem lkX8_163 : Lk "FlyingDoctors$Reader" 163 ⟨"FlyingDoctors$Value", "<init>", "(I)V"⟩ := Or.inl q1348
theorem lkX8_168 : Lk "FlyingDoctors$Reader" 168 ⟨"FlyingDoctors$Param", "<init>", "(I)V"⟩ := Or.inl q1358
theorem lkX8_169 : Lk "FlyingDoctors$Reader" 169 ⟨"FlyingDoctors$Reader", "wordNow", "()I"⟩ := Or.inl q1366
theorem lkX8_17 : Lk "FlyingDoctors$Reader" 17 ⟨"java/util/ArrayList", "<init>", "()V"⟩ := Or.inl q787
theorem lkX8_174 : Lk "FlyingDoctors$Reader" 174 ⟨"FlyingDoctors$Said", "<init>", "(I)V"⟩ := Or.inl q1386
theorem lkX8_177 : Lk "FlyingDoctors$Reader" 177 ⟨"FlyingDoctors$Reader", "part", "(I)LFlyingDoctors$Ex;"⟩ := Or.inl q1321
theorem lkX8_180 : Lk "FlyingDoctors$Reader" 180 ⟨"FlyingDoctors$Chain", "<init>", "(LFlyingDoctors$Ex;)V"⟩ := Or.inl q1394
theorem lkX8_183 : Lk "FlyingDoctors$Reader" 183 ⟨"FlyingDoctors$Chain", "add", "(CLFlyingDoctors$Ex;)V"⟩ := Or.inl q1411
theorem lkX8_187 : Lk "FlyingDoctors$Reader" 187 ⟨"FlyingDoctors$Reader", "product", "(I)LFlyingDoctors$Ex;"⟩ := Or.inl q1317
theorem lkX8_192 : Lk "FlyingDoctors$Reader" 192 ⟨"FlyingDoctors$Reader", "sum", "(I)LFlyingDoctors$Ex;"⟩ := Or.inl q1313
theorem lkX8_197 : Lk "FlyingDoctors$Reader" 197 ⟨"FlyingDoctors$Not", "<init>", "(LFlyingDoctors$Ex;)V"⟩ := Or.inl q1418
theorem lkX8_198 : Lk "FlyingDoctors$Reader" 198 ⟨"FlyingDoctors$Reader", "not", "(I)LFlyingDoctors$Ex;"⟩ := Or.inl q1308
theorem lkX8_202 : Lk "FlyingDoctors$Reader" 202 ⟨"FlyingDoctors$Reader", "and", "(I)LFlyingDoctors$Ex;"⟩ := Or.inl q1304
theorem lkX8_208 : Lk "FlyingDoctors$Reader" 208 ⟨"FlyingDoctors$Reader", "text", "()Ljava/lang/String;"⟩ := Or.inl q1007
theorem lkX8_225 : Lk "FlyingDoctors$Reader" 225 ⟨"FlyingDoctors$Dose", "<init>", "(II)V"⟩ := Or.inl q1437
theorem lkX8_256 : Lk "FlyingDoctors$Reader" 256 ⟨"FlyingDoctors$Reader", "word", "()V"⟩ := Or.inl q989
theorem lkX8_258 : Lk "FlyingDoctors$Reader" 258 ⟨"FlyingDoctors$Reader", "clauseOf", "()LFlyingDoctors$Ex;"⟩ := Or.inl q1294
theorem lkX8_266 : Lk "FlyingDoctors$Reader" 266 ⟨"FlyingDoctors$Reader", "chest", "(LFlyingDoctors$Rules;)V"⟩ := Or.inl q1428
theorem lkX8_269 : Lk "FlyingDoctors$Reader" 269 ⟨"FlyingDoctors$Reader", "set", "(LFlyingDoctors$Rules;)V"⟩ := Or.inl q1453
theorem lkX8_271 : Lk "FlyingDoctors$Reader" 271 ⟨"FlyingDoctors$Rules", "<init>", "()V"⟩ := Or.inr ⟨_, q826⟩
theorem lkX8_272 : Lk "FlyingDoctors$Reader" 272 ⟨"FlyingDoctors$Reader", "clause", "(LFlyingDoctors$Rules;)V"⟩ := Or.inl q929
theorem lkX8_36 : Lk "FlyingDoctors$Reader" 36 ⟨"FlyingDoctors$Reader", "here", "()I"⟩ := Or.inl q831
theorem lkX8_40 : Lk "FlyingDoctors$Reader" 40 ⟨"FlyingDoctors", "in", "(III)Z"⟩ := Or.inr ⟨_, q839⟩
theorem lkX8_50 : Lk "FlyingDoctors$Reader" 50 ⟨"FlyingDoctors$Reader", "isLetter", "()Z"⟩ := Or.inl q835
theorem lkX8_54 : Lk "FlyingDoctors$Reader" 54 ⟨"FlyingDoctors$Reader", "isDigit", "()Z"⟩ := Or.inl q840
theorem lkX8_61 : Lk "FlyingDoctors$Reader" 61 ⟨"java/lang/Math", "min", "(II)I"⟩ := Or.inl q845
theorem lkX8_69 : Lk "FlyingDoctors$Reader" 69 ⟨"java/lang/String", "indexOf", "(I)I"⟩ := Or.inl q847
theorem lkX8_78 : Lk "FlyingDoctors$Reader" 78 ⟨"java/lang/String", "length", "()I"⟩ := Or.inl q938
theorem lkX8_81 : Lk "FlyingDoctors$Reader" 81 ⟨"java/lang/String", "charAt", "(I)C"⟩ := Or.inl q939
theorem lkX8_85 : Lk "FlyingDoctors$Reader" 85 ⟨"FlyingDoctors$Reader", "isThere", "(Ljava/lang/String;I)Z"⟩ := Or.inl q1000
theorem lkX8_89 : Lk "FlyingDoctors$Reader" 89 ⟨"java/lang/String", "indexOf", "(II)I"⟩ := Or.inl q1004
theorem lkX8_93 : Lk "FlyingDoctors$Reader" 93 ⟨"java/lang/StringBuilder", "<init>", "()V"⟩ := Or.inl q1013
theorem lkX8_94 : Lk "FlyingDoctors$Reader" 94 ⟨"java/lang/StringBuilder", "append", "(C)Ljava/lang/StringBuilder;"⟩ := Or.inl q1041
theorem lkX8_98 : Lk "FlyingDoctors$Reader" 98 ⟨"java/lang/StringBuilder", "toString", "()Ljava/lang/String;"⟩ := Or.inl q1101
theorem lkX9_1 : Lk "FlyingDoctors$Wrong" 1 ⟨"java/lang/Exception", "<init>", "(Ljava/lang/String;Ljava/lang/Throwable;ZZ)V"⟩ := Or.inl q977
