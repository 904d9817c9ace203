/-! the tables' words by their places -/
set_option maxRecDepth 100000
theorem q118 : (Jvm.Cond.initialized "PrairiePoolLaw") ∈ lw_all := lw_g (lw_at lw_m1 0 rfl) rfl
theorem q119 : (Jvm.Cond.initialized "PrairiePool") ∈ lw_all := lw_g (lw_at lw_m1 1 rfl) rfl
theorem q120 : (Jvm.Cond.initialized "PrairiePool$Play") ∈ lw_all := lw_g (lw_at lw_m1 2 rfl) rfl
theorem q121 : (Jvm.Cond.initialized "PrairiePool$Parts") ∈ lw_all := lw_g (lw_at lw_m1 3 rfl) rfl
theorem q122 : (Jvm.Cond.initialized "PrairiePool$Heap") ∈ lw_all := lw_g (lw_at lw_m1 4 rfl) rfl
theorem q123 : (Jvm.Cond.initialized "java/lang/Throwable") ∈ lw_all := lw_g (lw_at lw_m1 5 rfl) rfl
theorem q124 : (Jvm.Cond.initialized "java/lang/Exception") ∈ lw_all := lw_g (lw_at lw_m1 6 rfl) rfl
theorem q125 : (Jvm.Cond.initialized "java/lang/RuntimeException") ∈ lw_all := lw_g (lw_at lw_m1 7 rfl) rfl
theorem q126 : (Jvm.Cond.initialized "PrairiePool$Wrong") ∈ lw_all := lw_g (lw_at lw_m1 8 rfl) rfl
theorem q127 : (Jvm.Cond.initialized "PrairiePool$Reader") ∈ lw_all := lw_g (lw_at lw_m1 9 rfl) rfl
theorem q128 : (Jvm.Cond.initialized "PrairiePool$Asked") ∈ lw_all := lw_g (lw_at lw_m1 10 rfl) rfl
theorem q129 : (Jvm.Cond.initialized "PrairiePool$Tray") ∈ lw_all := lw_g (lw_at lw_m1 11 rfl) rfl
theorem q130 : (Jvm.Cond.initialized "PrairiePoolModel") ∈ lw_all := lw_g (lw_at lw_m1 12 rfl) rfl
theorem q131 : (Jvm.Cond.initialized "java/lang/NegativeArraySizeException") ∈ lw_all := lw_g (lw_at lw_m1 13 rfl) rfl
theorem q132 : (Jvm.Cond.initialized "java/lang/String") ∈ lw_all := lw_g (lw_at lw_m1 14 rfl) rfl
theorem q133 : (Jvm.Cond.initialized "java/lang/NullPointerException") ∈ lw_all := lw_g (lw_at lw_m1 15 rfl) rfl
theorem q134 : (Jvm.Cond.initialized "java/lang/IndexOutOfBoundsException") ∈ lw_all := lw_g (lw_at lw_m1 16 rfl) rfl
theorem q135 : (Jvm.Cond.initialized "java/lang/ArrayIndexOutOfBoundsException") ∈ lw_all := lw_g (lw_at lw_m1 17 rfl) rfl
theorem q136 : (Jvm.Cond.initialized "java/lang/System") ∈ lw_all := lw_g (lw_at lw_m1 18 rfl) rfl
theorem q137 : (Jvm.Cond.initialized "PrairiePool$Farm") ∈ lw_all := lw_g (lw_at lw_m1 19 rfl) rfl
theorem q138 : (Jvm.Cond.initialized "PrairiePool$Elevator") ∈ lw_all := lw_g (lw_at lw_m1 20 rfl) rfl
theorem q139 : (Jvm.Cond.initialized "PrairiePool$Event") ∈ lw_all := lw_g (lw_at lw_m1 21 rfl) rfl
theorem q140 : (Jvm.Cond.initialized "PrairiePool$Load") ∈ lw_all := lw_g (lw_at lw_m1 22 rfl) rfl
theorem q141 : (Jvm.Cond.initialized "PrairiePool$Taking") ∈ lw_all := lw_g (lw_at lw_m1 23 rfl) rfl
theorem q142 : (Jvm.Cond.initialized "PrairiePool$Spoil") ∈ lw_all := lw_g (lw_at lw_m1 24 rfl) rfl
theorem q143 : (Jvm.Cond.initialized "PrairiePool$Car") ∈ lw_all := lw_g (lw_at lw_m1 25 rfl) rfl
theorem q144 : (Jvm.Cond.initialized "PrairiePool$Sale") ∈ lw_all := lw_g (lw_at lw_m1 26 rfl) rfl
theorem q145 : (Jvm.Cond.initialized "java/lang/Math") ∈ lw_all := lw_g (lw_at lw_m1 27 rfl) rfl
theorem q146 : (Jvm.Cond.initialized "PrairiePool$Law") ∈ lw_all := lw_g (lw_at lw_m1 28 rfl) rfl
theorem q147 : (Jvm.Cond.initialized "java/lang/StringLatin1") ∈ lw_all := lw_g (lw_at lw_m1 29 rfl) rfl
theorem q148 : (Jvm.Cond.initialized "jdk/internal/util/Preconditions") ∈ lw_all := lw_g (lw_at lw_m1 30 rfl) rfl
theorem q149 : (Jvm.Cond.initialized "java/lang/StringUTF16") ∈ lw_all := lw_g (lw_at lw_m1 31 rfl) rfl
theorem q150 : (Jvm.Cond.initialized "PrairiePool$Term") ∈ lw_all := lw_g (lw_at lw_m1 32 rfl) rfl
theorem q151 : (Jvm.Cond.initialized "PrairiePool$Chain") ∈ lw_all := lw_g (lw_at lw_m1 33 rfl) rfl
theorem q152 : (Jvm.Cond.initialized "PrairiePool$Pick") ∈ lw_all := lw_g (lw_at lw_m1 34 rfl) rfl
theorem q153 : (Jvm.Cond.initialized "PrairiePool$Leaf") ∈ lw_all := lw_g (lw_at lw_m1 35 rfl) rfl
theorem q154 : (Jvm.Cond.initialized "PrairiePool$If") ∈ lw_all := lw_g (lw_at lw_m1 36 rfl) rfl
theorem q155 : (Jvm.Cond.initialized "PrairiePool$Compare") ∈ lw_all := lw_g (lw_at lw_m1 37 rfl) rfl
theorem q156 : (Jvm.Cond.initialized "java/lang/Integer") ∈ lw_all := lw_g (lw_at lw_m1 38 rfl) rfl
theorem q157 : (Jvm.Cond.classLink "PrairiePoolLaw" (7 : Nat) "PrairiePool") ∈ lw_all := lw_g (lw_at lw_m1 39 rfl) rfl
theorem q158 : (Jvm.Cond.instantiable "PrairiePool" (55 : Nat)) ∈ lw_all := lw_g (lw_at lw_m1 40 rfl) rfl
theorem q159 : (Jvm.Cond.methodLink "PrairiePoolLaw" (9 : Nat) ({ cls := "PrairiePool", name := "<init>", desc := "()V" } : Jvm.MethodName)) ∈ lw_all := lw_g (lw_at lw_m1 41 rfl) rfl
theorem q160 : (Jvm.Cond.instanceMethod ({ cls := "PrairiePool", name := "<init>", desc := "()V" } : Jvm.MethodName)) ∈ lw_all := lw_g (lw_at lw_m1 42 rfl) rfl
theorem q161 : (Jvm.Cond.code ({ cls := "PrairiePool", name := "<init>", desc := "()V" } : Jvm.MethodName) prog_1_method_1_code (2 : Nat) (Option.none : Option Jvm.ClassFile.FieldType)) ∈ lw_all := lw_g (lw_at lw_m1 43 rfl) rfl
theorem q162 : (Jvm.Cond.methodLink "PrairiePool" (1 : Nat) ({ cls := "java/lang/Object", name := "<init>", desc := "()V" } : Jvm.MethodName)) ∈ lw_all := lw_g (lw_at lw_m1 44 rfl) rfl
theorem q163 : (Jvm.Cond.instanceMethod ({ cls := "java/lang/Object", name := "<init>", desc := "()V" } : Jvm.MethodName)) ∈ lw_all := lw_g (lw_at lw_m1 45 rfl) rfl
theorem q164 : (Jvm.Cond.code ({ cls := "java/lang/Object", name := "<init>", desc := "()V" } : Jvm.MethodName) object_method_1_code (1 : Nat) (Option.none : Option Jvm.ClassFile.FieldType)) ∈ lw_all := lw_g (lw_at lw_m1 46 rfl) rfl
theorem q165 : (Jvm.Cond.classLink "PrairiePool" (9 : Nat) "PrairiePool$Tray") ∈ lw_all := lw_g (lw_at lw_m1 47 rfl) rfl
theorem q166 : (Jvm.Cond.arrayOver (Jvm.ClassFile.FieldType.object "PrairiePool$Tray")) ∈ lw_tbl := lw_at lw_m1 48 rfl
theorem q167 : (Jvm.Cond.classLink "PrairiePool" (15 : Nat) "PrairiePool$Farm") ∈ lw_all := lw_g (lw_at lw_m1 49 rfl) rfl
theorem q168 : (Jvm.Cond.arrayOver (Jvm.ClassFile.FieldType.object "PrairiePool$Farm")) ∈ lw_tbl := lw_at lw_m1 50 rfl
theorem q169 : (Jvm.Cond.classLink "PrairiePool" (21 : Nat) "PrairiePool$Elevator") ∈ lw_all := lw_g (lw_at lw_m1 51 rfl) rfl
theorem q170 : (Jvm.Cond.arrayOver (Jvm.ClassFile.FieldType.object "PrairiePool$Elevator")) ∈ lw_tbl := lw_at lw_m1 52 rfl
theorem q171 : (Jvm.Cond.classLink "PrairiePool" (27 : Nat) "PrairiePool$Event") ∈ lw_all := lw_g (lw_at lw_m1 53 rfl) rfl
theorem q172 : (Jvm.Cond.arrayOver (Jvm.ClassFile.FieldType.object "PrairiePool$Event")) ∈ lw_tbl := lw_at lw_m1 54 rfl
theorem q173 : (Jvm.Cond.classLink "PrairiePool" (46 : Nat) "PrairiePool$Play") ∈ lw_all := lw_g (lw_at lw_m1 55 rfl) rfl
theorem q174 : (Jvm.Cond.instantiable "PrairiePool$Play" (12 : Nat)) ∈ lw_all := lw_g (lw_at lw_m1 56 rfl) rfl
theorem q175 : (Jvm.Cond.methodLink "PrairiePool" (48 : Nat) ({ cls := "PrairiePool$Play", name := "<init>", desc := "()V" } : Jvm.MethodName)) ∈ lw_all := lw_g (lw_at lw_m1 57 rfl) rfl
theorem q176 : (Jvm.Cond.instanceMethod ({ cls := "PrairiePool$Play", name := "<init>", desc := "()V" } : Jvm.MethodName)) ∈ lw_all := lw_g (lw_at lw_m1 58 rfl) rfl
theorem q177 : (Jvm.Cond.code ({ cls := "PrairiePool$Play", name := "<init>", desc := "()V" } : Jvm.MethodName) prog_16_method_1_code (4 : Nat) (Option.none : Option Jvm.ClassFile.FieldType)) ∈ lw_all := lw_g (lw_at lw_m1 59 rfl) rfl
theorem q178 : (Jvm.Cond.methodLink "PrairiePool$Play" (3 : Nat) ({ cls := "java/lang/Object", name := "<init>", desc := "()V" } : Jvm.MethodName)) ∈ lw_all := lw_g (lw_at lw_m1 60 rfl) rfl
theorem q179 : (Jvm.Cond.classLink "PrairiePool$Play" (9 : Nat) "[[[LPrairiePool$Heap;") ∈ lw_all := lw_g (lw_at lw_m1 61 rfl) rfl
theorem q180 : (Jvm.Cond.arrayOver (Jvm.ClassFile.FieldType.array (Jvm.ClassFile.FieldType.array (Jvm.ClassFile.FieldType.object "PrairiePool$Heap")))) ∈ lw_tbl := lw_at lw_m1 62 rfl
theorem q181 : (Jvm.Cond.arrayOver (Jvm.ClassFile.FieldType.array (Jvm.ClassFile.FieldType.object "PrairiePool$Heap"))) ∈ lw_tbl := lw_at lw_m1 63 rfl
theorem q182 : (Jvm.Cond.arrayOver (Jvm.ClassFile.FieldType.object "PrairiePool$Heap")) ∈ lw_tbl := lw_at lw_m1 64 rfl
theorem q183 : (Jvm.Cond.classLink "PrairiePool$Play" (19 : Nat) "[[LPrairiePool$Heap;") ∈ lw_all := lw_g (lw_at lw_m1 65 rfl) rfl
theorem q184 : (Jvm.Cond.classLink "PrairiePool$Play" (24 : Nat) "[[J") ∈ lw_all := lw_g (lw_at lw_m1 66 rfl) rfl
theorem q185 : (Jvm.Cond.arrayOver (Jvm.ClassFile.FieldType.array Jvm.ClassFile.FieldType.long)) ∈ lw_tbl := lw_at lw_m1 67 rfl
theorem q186 : (Jvm.Cond.classLink "PrairiePool$Play" (48 : Nat) "PrairiePool$Parts") ∈ lw_all := lw_g (lw_at lw_m1 68 rfl) rfl
theorem q187 : (Jvm.Cond.instantiable "PrairiePool$Parts" (3 : Nat)) ∈ lw_all := lw_g (lw_at lw_m1 69 rfl) rfl
theorem q188 : (Jvm.Cond.methodLinkNest "PrairiePool$Play" (50 : Nat) ({ cls := "PrairiePool$Parts", name := "<init>", desc := "()V" } : Jvm.MethodName) "PrairiePool") ∈ lw_tbl := lw_at lw_m1 70 rfl
theorem q189 : (Jvm.Cond.instanceMethod ({ cls := "PrairiePool$Parts", name := "<init>", desc := "()V" } : Jvm.MethodName)) ∈ lw_all := lw_g (lw_at lw_m1 71 rfl) rfl
theorem q190 : (Jvm.Cond.code ({ cls := "PrairiePool$Parts", name := "<init>", desc := "()V" } : Jvm.MethodName) prog_14_method_1_code (1 : Nat) (Option.none : Option Jvm.ClassFile.FieldType)) ∈ lw_all := lw_g (lw_at lw_m1 72 rfl) rfl
theorem q191 : (Jvm.Cond.methodLink "PrairiePool$Parts" (3 : Nat) ({ cls := "java/lang/Object", name := "<init>", desc := "()V" } : Jvm.MethodName)) ∈ lw_all := lw_g (lw_at lw_m1 73 rfl) rfl
theorem q192 : (Jvm.Cond.fieldLink "PrairiePool$Parts" (9 : Nat) "PrairiePool$Parts" "gets" "[J") ∈ lw_all := lw_g (lw_at lw_m1 74 rfl) rfl
theorem q193 : (Jvm.Cond.fieldLinkNest "PrairiePool$Heap" (25 : Nat) "PrairiePool$Parts" "gets" "[J" "PrairiePool") ∈ lw_tbl := lw_at lw_m1 75 rfl
theorem q194 : (Jvm.Cond.fieldLinkNest "PrairiePool" (491 : Nat) "PrairiePool$Parts" "gets" "[J" "PrairiePool") ∈ lw_tbl := lw_at lw_m1 76 rfl
theorem q195 : (Jvm.Cond.fieldLink "PrairiePool$Parts" (15 : Nat) "PrairiePool$Parts" "rests" "[J") ∈ lw_all := lw_g (lw_at lw_m1 77 rfl) rfl
theorem q196 : (Jvm.Cond.fieldLink "PrairiePool$Parts" (18 : Nat) "PrairiePool$Parts" "weights" "[J") ∈ lw_all := lw_g (lw_at lw_m1 78 rfl) rfl
theorem q197 : (Jvm.Cond.fieldLinkNest "PrairiePool" (502 : Nat) "PrairiePool$Parts" "weights" "[J" "PrairiePool") ∈ lw_tbl := lw_at lw_m1 79 rfl
theorem q198 : (Jvm.Cond.laysFinal "PrairiePool$Parts" "PrairiePool$Parts" "gets" "[J") ∈ lw_all := lw_g (lw_at lw_m1 80 rfl) rfl
theorem q199 : (Jvm.Cond.soleField "PrairiePool$Parts" "gets") ∈ lw_all := lw_g (lw_at lw_m1 81 rfl) rfl
theorem q200 : (Jvm.Cond.laysFinal "PrairiePool$Parts" "PrairiePool$Parts" "rests" "[J") ∈ lw_all := lw_g (lw_at lw_m1 82 rfl) rfl
theorem q201 : (Jvm.Cond.soleField "PrairiePool$Parts" "rests") ∈ lw_all := lw_g (lw_at lw_m1 83 rfl) rfl
theorem q202 : (Jvm.Cond.laysFinal "PrairiePool$Parts" "PrairiePool$Parts" "weights" "[J") ∈ lw_all := lw_g (lw_at lw_m1 84 rfl) rfl
theorem q203 : (Jvm.Cond.soleField "PrairiePool$Parts" "weights") ∈ lw_all := lw_g (lw_at lw_m1 85 rfl) rfl
theorem q204 : (Jvm.Cond.superclass "PrairiePool$Parts" "java/lang/Object") ∈ lw_all := lw_g (lw_at lw_m1 86 rfl) rfl
theorem q205 : (Jvm.Cond.arrayClass Jvm.ClassFile.FieldType.int) ∈ lw_all := lw_g (lw_at lw_m1 87 rfl) rfl
theorem q206 : (Jvm.Cond.arrayClass Jvm.ClassFile.FieldType.long) ∈ lw_all := lw_g (lw_at lw_m1 88 rfl) rfl
theorem q207 : (Jvm.Cond.classLink "PrairiePool$Play" (55 : Nat) "PrairiePool$Heap") ∈ lw_all := lw_g (lw_at lw_m1 89 rfl) rfl
theorem q208 : (Jvm.Cond.instantiable "PrairiePool$Heap" (2 : Nat)) ∈ lw_all := lw_g (lw_at lw_m1 90 rfl) rfl
theorem q209 : (Jvm.Cond.methodLinkNest "PrairiePool$Play" (57 : Nat) ({ cls := "PrairiePool$Heap", name := "<init>", desc := "()V" } : Jvm.MethodName) "PrairiePool") ∈ lw_tbl := lw_at lw_m1 91 rfl
theorem q210 : (Jvm.Cond.instanceMethod ({ cls := "PrairiePool$Heap", name := "<init>", desc := "()V" } : Jvm.MethodName)) ∈ lw_all := lw_g (lw_at lw_m1 92 rfl) rfl
theorem q211 : (Jvm.Cond.code ({ cls := "PrairiePool$Heap", name := "<init>", desc := "()V" } : Jvm.MethodName) prog_9_method_1_code (1 : Nat) (Option.none : Option Jvm.ClassFile.FieldType)) ∈ lw_all := lw_g (lw_at lw_m1 93 rfl) rfl
theorem q212 : (Jvm.Cond.methodLink "PrairiePool$Heap" (3 : Nat) ({ cls := "java/lang/Object", name := "<init>", desc := "()V" } : Jvm.MethodName)) ∈ lw_all := lw_g (lw_at lw_m1 94 rfl) rfl
theorem q213 : (Jvm.Cond.fieldLink "PrairiePool$Heap" (9 : Nat) "PrairiePool$Heap" "of" "[I") ∈ lw_all := lw_g (lw_at lw_m1 95 rfl) rfl
theorem q214 : (Jvm.Cond.fieldLinkNest "PrairiePool" (384 : Nat) "PrairiePool$Heap" "of" "[I" "PrairiePool") ∈ lw_tbl := lw_at lw_m1 96 rfl
theorem q215 : (Jvm.Cond.fieldLink "PrairiePool$Heap" (15 : Nat) "PrairiePool$Heap" "all" "I") ∈ lw_all := lw_g (lw_at lw_m1 97 rfl) rfl
theorem q216 : (Jvm.Cond.fieldLinkNest "PrairiePool$Taking" (23 : Nat) "PrairiePool$Heap" "all" "I" "PrairiePool") ∈ lw_tbl := lw_at lw_m1 98 rfl
theorem q217 : (Jvm.Cond.fieldLinkNest "PrairiePool" (379 : Nat) "PrairiePool$Heap" "all" "I" "PrairiePool") ∈ lw_tbl := lw_at lw_m1 99 rfl
theorem q218 : (Jvm.Cond.laysFinal "PrairiePool$Heap" "PrairiePool$Heap" "of" "[I") ∈ lw_all := lw_g (lw_at lw_m1 100 rfl) rfl
theorem q219 : (Jvm.Cond.soleField "PrairiePool$Heap" "of") ∈ lw_all := lw_g (lw_at lw_m1 101 rfl) rfl
theorem q220 : (Jvm.Cond.lays "PrairiePool$Heap" "PrairiePool$Heap" "all" "I") ∈ lw_all := lw_g (lw_at lw_m1 102 rfl) rfl
theorem q221 : (Jvm.Cond.soleField "PrairiePool$Heap" "all") ∈ lw_all := lw_g (lw_at lw_m1 103 rfl) rfl
theorem q222 : (Jvm.Cond.superclass "PrairiePool$Heap" "java/lang/Object") ∈ lw_all := lw_g (lw_at lw_m1 104 rfl) rfl
theorem q223 : (Jvm.Cond.fieldLink "PrairiePool$Play" (11 : Nat) "PrairiePool$Play" "bins" "[[[LPrairiePool$Heap;") ∈ lw_all := lw_g (lw_at lw_m1 105 rfl) rfl
theorem q224 : (Jvm.Cond.fieldLinkNest "PrairiePool$Spoil" (13 : Nat) "PrairiePool$Play" "bins" "[[[LPrairiePool$Heap;" "PrairiePool") ∈ lw_tbl := lw_at lw_m1 106 rfl
theorem q225 : (Jvm.Cond.fieldLinkNest "PrairiePool$Load" (57 : Nat) "PrairiePool$Play" "bins" "[[[LPrairiePool$Heap;" "PrairiePool") ∈ lw_tbl := lw_at lw_m1 107 rfl
theorem q226 : (Jvm.Cond.fieldLinkNest "PrairiePool" (390 : Nat) "PrairiePool$Play" "bins" "[[[LPrairiePool$Heap;" "PrairiePool") ∈ lw_tbl := lw_at lw_m1 108 rfl
theorem q227 : (Jvm.Cond.fieldLink "PrairiePool$Play" (16 : Nat) "PrairiePool$Play" "ports" "[[[LPrairiePool$Heap;") ∈ lw_all := lw_g (lw_at lw_m1 109 rfl) rfl
theorem q228 : (Jvm.Cond.fieldLinkNest "PrairiePool$Car" (13 : Nat) "PrairiePool$Play" "ports" "[[[LPrairiePool$Heap;" "PrairiePool") ∈ lw_tbl := lw_at lw_m1 110 rfl
theorem q229 : (Jvm.Cond.fieldLinkNest "PrairiePool$Sale" (13 : Nat) "PrairiePool$Play" "ports" "[[[LPrairiePool$Heap;" "PrairiePool") ∈ lw_tbl := lw_at lw_m1 111 rfl
theorem q230 : (Jvm.Cond.fieldLinkNest "PrairiePool" (398 : Nat) "PrairiePool$Play" "ports" "[[[LPrairiePool$Heap;" "PrairiePool") ∈ lw_tbl := lw_at lw_m1 112 rfl
theorem q231 : (Jvm.Cond.fieldLink "PrairiePool$Play" (21 : Nat) "PrairiePool$Play" "brought" "[[LPrairiePool$Heap;") ∈ lw_all := lw_g (lw_at lw_m1 113 rfl) rfl
theorem q232 : (Jvm.Cond.fieldLinkNest "PrairiePool$Load" (73 : Nat) "PrairiePool$Play" "brought" "[[LPrairiePool$Heap;" "PrairiePool") ∈ lw_tbl := lw_at lw_m1 114 rfl
theorem q233 : (Jvm.Cond.fieldLinkNest "PrairiePool" (476 : Nat) "PrairiePool$Play" "brought" "[[LPrairiePool$Heap;" "PrairiePool") ∈ lw_tbl := lw_at lw_m1 115 rfl
theorem q234 : (Jvm.Cond.fieldLink "PrairiePool$Play" (26 : Nat) "PrairiePool$Play" "came" "[[J") ∈ lw_all := lw_g (lw_at lw_m1 116 rfl) rfl
theorem q235 : (Jvm.Cond.fieldLinkNest "PrairiePool$Sale" (46 : Nat) "PrairiePool$Play" "came" "[[J" "PrairiePool") ∈ lw_tbl := lw_at lw_m1 117 rfl
theorem q236 : (Jvm.Cond.fieldLinkNest "PrairiePool" (468 : Nat) "PrairiePool$Play" "came" "[[J" "PrairiePool") ∈ lw_tbl := lw_at lw_m1 118 rfl
theorem q237 : (Jvm.Cond.fieldLink "PrairiePool$Play" (29 : Nat) "PrairiePool$Play" "rooms" "[I") ∈ lw_all := lw_g (lw_at lw_m1 119 rfl) rfl
theorem q238 : (Jvm.Cond.fieldLinkNest "PrairiePool$Load" (33 : Nat) "PrairiePool$Play" "rooms" "[I" "PrairiePool") ∈ lw_tbl := lw_at lw_m1 120 rfl
theorem q239 : (Jvm.Cond.fieldLinkNest "PrairiePool" (257 : Nat) "PrairiePool$Play" "rooms" "[I" "PrairiePool") ∈ lw_tbl := lw_at lw_m1 121 rfl
theorem q240 : (Jvm.Cond.fieldLink "PrairiePool$Play" (33 : Nat) "PrairiePool$Play" "inAll" "[I") ∈ lw_all := lw_g (lw_at lw_m1 122 rfl) rfl
theorem q241 : (Jvm.Cond.fieldLinkNest "PrairiePool$Load" (39 : Nat) "PrairiePool$Play" "inAll" "[I" "PrairiePool") ∈ lw_tbl := lw_at lw_m1 123 rfl
theorem q242 : (Jvm.Cond.fieldLinkNest "PrairiePool$Spoil" (51 : Nat) "PrairiePool$Play" "inAll" "[I" "PrairiePool") ∈ lw_tbl := lw_at lw_m1 124 rfl
theorem q243 : (Jvm.Cond.fieldLinkNest "PrairiePool" (519 : Nat) "PrairiePool$Play" "inAll" "[I" "PrairiePool") ∈ lw_tbl := lw_at lw_m1 125 rfl
theorem q244 : (Jvm.Cond.fieldLink "PrairiePool$Play" (36 : Nat) "PrairiePool$Play" "dockedOf" "[I") ∈ lw_all := lw_g (lw_at lw_m1 126 rfl) rfl
theorem q245 : (Jvm.Cond.fieldLinkNest "PrairiePool$Load" (51 : Nat) "PrairiePool$Play" "dockedOf" "[I" "PrairiePool") ∈ lw_tbl := lw_at lw_m1 127 rfl
theorem q246 : (Jvm.Cond.fieldLinkNest "PrairiePool" (405 : Nat) "PrairiePool$Play" "dockedOf" "[I" "PrairiePool") ∈ lw_tbl := lw_at lw_m1 128 rfl
theorem q247 : (Jvm.Cond.fieldLink "PrairiePool$Play" (39 : Nat) "PrairiePool$Play" "turnedOf" "[I") ∈ lw_all := lw_g (lw_at lw_m1 129 rfl) rfl
theorem q248 : (Jvm.Cond.fieldLinkNest "PrairiePool$Load" (54 : Nat) "PrairiePool$Play" "turnedOf" "[I" "PrairiePool") ∈ lw_tbl := lw_at lw_m1 130 rfl
theorem q249 : (Jvm.Cond.fieldLinkNest "PrairiePool" (408 : Nat) "PrairiePool$Play" "turnedOf" "[I" "PrairiePool") ∈ lw_tbl := lw_at lw_m1 131 rfl
theorem q250 : (Jvm.Cond.fieldLink "PrairiePool$Play" (42 : Nat) "PrairiePool$Play" "soldOf" "[I") ∈ lw_all := lw_g (lw_at lw_m1 132 rfl) rfl
theorem q251 : (Jvm.Cond.fieldLinkNest "PrairiePool$Sale" (36 : Nat) "PrairiePool$Play" "soldOf" "[I" "PrairiePool") ∈ lw_tbl := lw_at lw_m1 133 rfl
theorem q252 : (Jvm.Cond.fieldLinkNest "PrairiePool" (411 : Nat) "PrairiePool$Play" "soldOf" "[I" "PrairiePool") ∈ lw_tbl := lw_at lw_m1 134 rfl
theorem q253 : (Jvm.Cond.fieldLink "PrairiePool$Play" (45 : Nat) "PrairiePool$Play" "spoiltOf" "[I") ∈ lw_all := lw_g (lw_at lw_m1 135 rfl) rfl
theorem q254 : (Jvm.Cond.fieldLinkNest "PrairiePool$Spoil" (7 : Nat) "PrairiePool$Play" "spoiltOf" "[I" "PrairiePool") ∈ lw_tbl := lw_at lw_m1 136 rfl
theorem q255 : (Jvm.Cond.fieldLinkNest "PrairiePool" (414 : Nat) "PrairiePool$Play" "spoiltOf" "[I" "PrairiePool") ∈ lw_tbl := lw_at lw_m1 137 rfl
theorem q256 : (Jvm.Cond.fieldLink "PrairiePool$Play" (51 : Nat) "PrairiePool$Play" "parts" "LPrairiePool$Parts;") ∈ lw_all := lw_g (lw_at lw_m1 138 rfl) rfl
theorem q257 : (Jvm.Cond.fieldLinkNest "PrairiePool$Sale" (32 : Nat) "PrairiePool$Play" "parts" "LPrairiePool$Parts;" "PrairiePool") ∈ lw_tbl := lw_at lw_m1 139 rfl
theorem q258 : (Jvm.Cond.fieldLinkNest "PrairiePool$Spoil" (33 : Nat) "PrairiePool$Play" "parts" "LPrairiePool$Parts;" "PrairiePool") ∈ lw_tbl := lw_at lw_m1 140 rfl
theorem q259 : (Jvm.Cond.fieldLink "PrairiePool$Play" (58 : Nat) "PrairiePool$Play" "lacks" "J") ∈ lw_all := lw_g (lw_at lw_m1 141 rfl) rfl
theorem q260 : (Jvm.Cond.fieldLinkNest "PrairiePool$Taking" (34 : Nat) "PrairiePool$Play" "lacks" "J" "PrairiePool") ∈ lw_tbl := lw_at lw_m1 142 rfl
theorem q261 : (Jvm.Cond.fieldLinkNest "PrairiePool" (401 : Nat) "PrairiePool$Play" "lacks" "J" "PrairiePool") ∈ lw_tbl := lw_at lw_m1 143 rfl
theorem q262 : (Jvm.Cond.laysFinal "PrairiePool$Play" "PrairiePool$Play" "bins" "[[[LPrairiePool$Heap;") ∈ lw_all := lw_g (lw_at lw_m1 144 rfl) rfl
theorem q263 : (Jvm.Cond.soleField "PrairiePool$Play" "bins") ∈ lw_all := lw_g (lw_at lw_m1 145 rfl) rfl
theorem q264 : (Jvm.Cond.laysFinal "PrairiePool$Play" "PrairiePool$Play" "ports" "[[[LPrairiePool$Heap;") ∈ lw_all := lw_g (lw_at lw_m1 146 rfl) rfl
theorem q265 : (Jvm.Cond.soleField "PrairiePool$Play" "ports") ∈ lw_all := lw_g (lw_at lw_m1 147 rfl) rfl
theorem q266 : (Jvm.Cond.laysFinal "PrairiePool$Play" "PrairiePool$Play" "brought" "[[LPrairiePool$Heap;") ∈ lw_all := lw_g (lw_at lw_m1 148 rfl) rfl
theorem q267 : (Jvm.Cond.soleField "PrairiePool$Play" "brought") ∈ lw_all := lw_g (lw_at lw_m1 149 rfl) rfl
theorem q268 : (Jvm.Cond.laysFinal "PrairiePool$Play" "PrairiePool$Play" "came" "[[J") ∈ lw_all := lw_g (lw_at lw_m1 150 rfl) rfl
theorem q269 : (Jvm.Cond.soleField "PrairiePool$Play" "came") ∈ lw_all := lw_g (lw_at lw_m1 151 rfl) rfl
theorem q270 : (Jvm.Cond.laysFinal "PrairiePool$Play" "PrairiePool$Play" "rooms" "[I") ∈ lw_all := lw_g (lw_at lw_m1 152 rfl) rfl
theorem q271 : (Jvm.Cond.soleField "PrairiePool$Play" "rooms") ∈ lw_all := lw_g (lw_at lw_m1 153 rfl) rfl
theorem q272 : (Jvm.Cond.laysFinal "PrairiePool$Play" "PrairiePool$Play" "inAll" "[I") ∈ lw_all := lw_g (lw_at lw_m1 154 rfl) rfl
theorem q273 : (Jvm.Cond.soleField "PrairiePool$Play" "inAll") ∈ lw_all := lw_g (lw_at lw_m1 155 rfl) rfl
theorem q274 : (Jvm.Cond.laysFinal "PrairiePool$Play" "PrairiePool$Play" "dockedOf" "[I") ∈ lw_all := lw_g (lw_at lw_m1 156 rfl) rfl
theorem q275 : (Jvm.Cond.soleField "PrairiePool$Play" "dockedOf") ∈ lw_all := lw_g (lw_at lw_m1 157 rfl) rfl
theorem q276 : (Jvm.Cond.laysFinal "PrairiePool$Play" "PrairiePool$Play" "turnedOf" "[I") ∈ lw_all := lw_g (lw_at lw_m1 158 rfl) rfl
theorem q277 : (Jvm.Cond.soleField "PrairiePool$Play" "turnedOf") ∈ lw_all := lw_g (lw_at lw_m1 159 rfl) rfl
theorem q278 : (Jvm.Cond.laysFinal "PrairiePool$Play" "PrairiePool$Play" "soldOf" "[I") ∈ lw_all := lw_g (lw_at lw_m1 160 rfl) rfl
theorem q279 : (Jvm.Cond.soleField "PrairiePool$Play" "soldOf") ∈ lw_all := lw_g (lw_at lw_m1 161 rfl) rfl
theorem q280 : (Jvm.Cond.laysFinal "PrairiePool$Play" "PrairiePool$Play" "spoiltOf" "[I") ∈ lw_all := lw_g (lw_at lw_m1 162 rfl) rfl
theorem q281 : (Jvm.Cond.soleField "PrairiePool$Play" "spoiltOf") ∈ lw_all := lw_g (lw_at lw_m1 163 rfl) rfl
theorem q282 : (Jvm.Cond.laysFinal "PrairiePool$Play" "PrairiePool$Play" "parts" "LPrairiePool$Parts;") ∈ lw_all := lw_g (lw_at lw_m1 164 rfl) rfl
theorem q283 : (Jvm.Cond.soleField "PrairiePool$Play" "parts") ∈ lw_all := lw_g (lw_at lw_m1 165 rfl) rfl
theorem q284 : (Jvm.Cond.lays "PrairiePool$Play" "PrairiePool$Play" "lacks" "J") ∈ lw_all := lw_g (lw_at lw_m1 166 rfl) rfl
theorem q285 : (Jvm.Cond.soleField "PrairiePool$Play" "lacks") ∈ lw_all := lw_g (lw_at lw_m1 167 rfl) rfl
theorem q286 : (Jvm.Cond.superclass "PrairiePool$Play" "java/lang/Object") ∈ lw_all := lw_g (lw_at lw_m1 168 rfl) rfl
theorem q287 : (Jvm.Cond.classLink "PrairiePool" (53 : Nat) "PrairiePool$Parts") ∈ lw_all := lw_g (lw_at lw_m1 169 rfl) rfl
theorem q288 : (Jvm.Cond.methodLinkNest "PrairiePool" (55 : Nat) ({ cls := "PrairiePool$Parts", name := "<init>", desc := "()V" } : Jvm.MethodName) "PrairiePool") ∈ lw_tbl := lw_at lw_m1 170 rfl
theorem q289 : (Jvm.Cond.classLink "PrairiePool" (60 : Nat) "PrairiePool$Wrong") ∈ lw_all := lw_g (lw_at lw_m1 171 rfl) rfl
theorem q290 : (Jvm.Cond.instantiable "PrairiePool$Wrong" (8 : Nat)) ∈ lw_all := lw_g (lw_at lw_m1 172 rfl) rfl
theorem q291 : (Jvm.Cond.castable "PrairiePool$Wrong" "PrairiePool$Wrong") ∈ lw_tbl := lw_at lw_m1 173 rfl
theorem q292 : (Jvm.Cond.declares ({ cls := "java/lang/RuntimeException", name := "<init>", desc := "()V" } : Jvm.MethodName)) ∈ lw_tbl := lw_at lw_m1 174 rfl
theorem q293 : (Jvm.Cond.declares ({ cls := "java/lang/RuntimeException", name := "<init>", desc := "(Ljava/lang/String;)V" } : Jvm.MethodName)) ∈ lw_tbl := lw_at lw_m1 175 rfl
theorem q294 : (Jvm.Cond.declares ({ cls := "java/lang/Exception", name := "<init>", desc := "()V" } : Jvm.MethodName)) ∈ lw_tbl := lw_at lw_m1 176 rfl
theorem q295 : (Jvm.Cond.declares ({ cls := "java/lang/Exception", name := "<init>", desc := "(Ljava/lang/String;)V" } : Jvm.MethodName)) ∈ lw_tbl := lw_at lw_m1 177 rfl
theorem q296 : (Jvm.Cond.declares ({ cls := "java/lang/Throwable", name := "<init>", desc := "()V" } : Jvm.MethodName)) ∈ lw_tbl := lw_at lw_m1 178 rfl
theorem q297 : (Jvm.Cond.declares ({ cls := "java/lang/Throwable", name := "<init>", desc := "(Ljava/lang/String;)V" } : Jvm.MethodName)) ∈ lw_tbl := lw_at lw_m1 179 rfl
theorem q298 : (Jvm.Cond.selects "PrairiePool$Wrong" ({ cls := "java/lang/Throwable", name := "fillInStackTrace", desc := "(I)Ljava/lang/Throwable;" } : Jvm.MethodName) ({ cls := "java/lang/Throwable", name := "fillInStackTrace", desc := "(I)Ljava/lang/Throwable;" } : Jvm.MethodName)) ∈ lw_all := lw_g (lw_at lw_m1 180 rfl) rfl
theorem q299 : (Jvm.Cond.selects "PrairiePool$Wrong" ({ cls := "java/lang/Throwable", name := "fillInStackTrace", desc := "()Ljava/lang/Throwable;" } : Jvm.MethodName) ({ cls := "java/lang/Throwable", name := "fillInStackTrace", desc := "()Ljava/lang/Throwable;" } : Jvm.MethodName)) ∈ lw_all := lw_g (lw_at lw_m1 181 rfl) rfl
theorem q300 : (Jvm.Cond.lays "PrairiePool$Wrong" "java/lang/Throwable" "cause" "Ljava/lang/Throwable;") ∈ lw_all := lw_g (lw_at lw_m1 182 rfl) rfl
theorem q301 : (Jvm.Cond.lays "java/lang/Throwable" "java/lang/Throwable" "cause" "Ljava/lang/Throwable;") ∈ lw_all := lw_g (lw_at lw_m1 183 rfl) rfl
theorem q302 : (Jvm.Cond.lays "PrairiePool$Wrong" "java/lang/Throwable" "stackTrace" "[Ljava/lang/StackTraceElement;") ∈ lw_all := lw_g (lw_at lw_m1 184 rfl) rfl
theorem q303 : (Jvm.Cond.lays "java/lang/Throwable" "java/lang/Throwable" "stackTrace" "[Ljava/lang/StackTraceElement;") ∈ lw_all := lw_g (lw_at lw_m1 185 rfl) rfl
theorem q304 : (Jvm.Cond.lays "PrairiePool$Wrong" "java/lang/Throwable" "suppressedExceptions" "Ljava/util/List;") ∈ lw_all := lw_g (lw_at lw_m1 186 rfl) rfl
theorem q305 : (Jvm.Cond.lays "java/lang/Throwable" "java/lang/Throwable" "suppressedExceptions" "Ljava/util/List;") ∈ lw_all := lw_g (lw_at lw_m1 187 rfl) rfl
theorem q306 : (Jvm.Cond.lays "PrairiePool$Wrong" "java/lang/Throwable" "detailMessage" "Ljava/lang/String;") ∈ lw_all := lw_g (lw_at lw_m1 188 rfl) rfl
theorem q307 : (Jvm.Cond.lays "java/lang/Throwable" "java/lang/Throwable" "detailMessage" "Ljava/lang/String;") ∈ lw_all := lw_g (lw_at lw_m1 189 rfl) rfl
theorem q308 : (Jvm.Cond.lays "PrairiePool$Wrong" "java/lang/Throwable" "backtrace" "Ljava/lang/Object;") ∈ lw_all := lw_g (lw_at lw_m1 190 rfl) rfl
theorem q309 : (Jvm.Cond.lays "java/lang/Throwable" "java/lang/Throwable" "backtrace" "Ljava/lang/Object;") ∈ lw_all := lw_g (lw_at lw_m1 191 rfl) rfl
theorem q310 : (Jvm.Cond.fieldLink "java/lang/Throwable" (198 : Nat) "java/lang/Throwable" "backtrace" "Ljava/lang/Object;") ∈ lw_all := lw_g (lw_at lw_m1 192 rfl) rfl
theorem q311 : (Jvm.Cond.superclass "java/lang/Throwable" "java/lang/Object") ∈ lw_all := lw_g (lw_at lw_m1 193 rfl) rfl
theorem q312 : (Jvm.Cond.instanceMethod ({ cls := "java/lang/Throwable", name := "<init>", desc := "()V" } : Jvm.MethodName)) ∈ lw_all := lw_g (lw_at lw_m1 194 rfl) rfl
theorem q313 : (Jvm.Cond.code ({ cls := "java/lang/Throwable", name := "<init>", desc := "()V" } : Jvm.MethodName) prog_40_method_1_code (1 : Nat) (Option.none : Option Jvm.ClassFile.FieldType)) ∈ lw_all := lw_g (lw_at lw_m1 195 rfl) rfl
theorem q314 : (Jvm.Cond.methodLink "java/lang/Throwable" (1 : Nat) ({ cls := "java/lang/Object", name := "<init>", desc := "()V" } : Jvm.MethodName)) ∈ lw_all := lw_g (lw_at lw_m1 196 rfl) rfl
theorem q315 : (Jvm.Cond.fieldLink "java/lang/Throwable" (13 : Nat) "java/lang/Throwable" "UNASSIGNED_STACK" "[Ljava/lang/StackTraceElement;") ∈ lw_all := lw_g (lw_at lw_m1 197 rfl) rfl
theorem q316 : (Jvm.Cond.laysStatic "java/lang/Throwable" "UNASSIGNED_STACK" "[Ljava/lang/StackTraceElement;") ∈ lw_tbl := lw_at lw_m1 198 rfl
theorem q317 : (Jvm.Cond.fieldLink "java/lang/Throwable" (20 : Nat) "java/lang/Throwable" "SUPPRESSED_SENTINEL" "Ljava/util/List;") ∈ lw_all := lw_g (lw_at lw_m1 199 rfl) rfl
theorem q318 : (Jvm.Cond.laysStatic "java/lang/Throwable" "SUPPRESSED_SENTINEL" "Ljava/util/List;") ∈ lw_tbl := lw_at lw_m1 200 rfl
theorem q319 : (Jvm.Cond.methodLink "java/lang/Throwable" (27 : Nat) ({ cls := "java/lang/Throwable", name := "fillInStackTrace", desc := "()Ljava/lang/Throwable;" } : Jvm.MethodName)) ∈ lw_all := lw_g (lw_at lw_m1 201 rfl) rfl
theorem q320 : (Jvm.Cond.instanceMethod ({ cls := "java/lang/Throwable", name := "fillInStackTrace", desc := "()Ljava/lang/Throwable;" } : Jvm.MethodName)) ∈ lw_all := lw_g (lw_at lw_m1 202 rfl) rfl
theorem q321 : (Jvm.Cond.sameMethod "java/lang/Throwable" "java/lang/Throwable" "fillInStackTrace" "()Ljava/lang/Throwable;") ∈ lw_all := lw_g (lw_at lw_m1 203 rfl) rfl
theorem q322 : (Jvm.Cond.selects "java/lang/ArrayIndexOutOfBoundsException" ({ cls := "java/lang/Throwable", name := "fillInStackTrace", desc := "()Ljava/lang/Throwable;" } : Jvm.MethodName) ({ cls := "java/lang/Throwable", name := "fillInStackTrace", desc := "()Ljava/lang/Throwable;" } : Jvm.MethodName)) ∈ lw_all := lw_g (lw_at lw_m1 204 rfl) rfl
theorem q323 : (Jvm.Cond.selects "java/lang/NegativeArraySizeException" ({ cls := "java/lang/Throwable", name := "fillInStackTrace", desc := "()Ljava/lang/Throwable;" } : Jvm.MethodName) ({ cls := "java/lang/Throwable", name := "fillInStackTrace", desc := "()Ljava/lang/Throwable;" } : Jvm.MethodName)) ∈ lw_all := lw_g (lw_at lw_m1 205 rfl) rfl
theorem q324 : (Jvm.Cond.selects "java/lang/NullPointerException" ({ cls := "java/lang/Throwable", name := "fillInStackTrace", desc := "()Ljava/lang/Throwable;" } : Jvm.MethodName) ({ cls := "java/lang/NullPointerException", name := "fillInStackTrace", desc := "()Ljava/lang/Throwable;" } : Jvm.MethodName)) ∈ lw_all := lw_g (lw_at lw_m1 206 rfl) rfl
theorem q325 : (Jvm.Cond.instanceMethod ({ cls := "java/lang/NullPointerException", name := "fillInStackTrace", desc := "()Ljava/lang/Throwable;" } : Jvm.MethodName)) ∈ lw_all := lw_g (lw_at lw_m1 207 rfl) rfl
theorem q326 : (Jvm.Cond.codeSync ({ cls := "java/lang/NullPointerException", name := "fillInStackTrace", desc := "()Ljava/lang/Throwable;" } : Jvm.MethodName) prog_34_method_3_code (1 : Nat) (Option.some (Jvm.ClassFile.FieldType.object "java/lang/Throwable"))) ∈ lw_all := lw_g (lw_at lw_m1 208 rfl) rfl
theorem q327 : (Jvm.Cond.methodLink "java/lang/NullPointerException" (16 : Nat) ({ cls := "java/lang/NullPointerException", name := "getExtendedNPEMessage", desc := "()Ljava/lang/String;" } : Jvm.MethodName)) ∈ lw_all := lw_g (lw_at lw_m1 209 rfl) rfl
theorem q328 : (Jvm.Cond.privateMethod ({ cls := "java/lang/NullPointerException", name := "getExtendedNPEMessage", desc := "()Ljava/lang/String;" } : Jvm.MethodName)) ∈ lw_tbl := lw_at lw_m1 210 rfl
theorem q329 : (Jvm.Cond.instanceMethod ({ cls := "java/lang/NullPointerException", name := "getExtendedNPEMessage", desc := "()Ljava/lang/String;" } : Jvm.MethodName)) ∈ lw_all := lw_g (lw_at lw_m1 211 rfl) rfl
theorem q330 : (Jvm.Cond.instantiable "java/lang/NullPointerException" (8 : Nat)) ∈ lw_all := lw_g (lw_at lw_m1 212 rfl) rfl
theorem q331 : (Jvm.Cond.native ({ cls := "java/lang/NullPointerException", name := "getExtendedNPEMessage", desc := "()Ljava/lang/String;" } : Jvm.MethodName)) ∈ lw_all := lw_g (lw_at lw_m1 213 rfl) rfl
theorem q332 : (Jvm.Cond.methodLink "java/lang/NullPointerException" (24 : Nat) ({ cls := "java/lang/RuntimeException", name := "fillInStackTrace", desc := "()Ljava/lang/Throwable;" } : Jvm.MethodName)) ∈ lw_all := lw_g (lw_at lw_m1 214 rfl) rfl
theorem q333 : (Jvm.Cond.sameMethod "java/lang/RuntimeException" "java/lang/Throwable" "fillInStackTrace" "()Ljava/lang/Throwable;") ∈ lw_all := lw_g (lw_at lw_m1 215 rfl) rfl
theorem q334 : (Jvm.Cond.declares ({ cls := "java/lang/Throwable", name := "fillInStackTrace", desc := "()Ljava/lang/Throwable;" } : Jvm.MethodName)) ∈ lw_tbl := lw_at lw_m1 216 rfl
theorem q335 : (Jvm.Cond.superclass "java/lang/NullPointerException" "java/lang/RuntimeException") ∈ lw_all := lw_g (lw_at lw_m1 217 rfl) rfl
theorem q336 : (Jvm.Cond.superclass "java/lang/RuntimeException" "java/lang/Exception") ∈ lw_all := lw_g (lw_at lw_m1 218 rfl) rfl
theorem q337 : (Jvm.Cond.superclass "java/lang/Exception" "java/lang/Throwable") ∈ lw_all := lw_g (lw_at lw_m1 219 rfl) rfl
theorem q338 : (Jvm.Cond.codeSync ({ cls := "java/lang/Throwable", name := "fillInStackTrace", desc := "()Ljava/lang/Throwable;" } : Jvm.MethodName) prog_40_method_18_code (1 : Nat) (Option.some (Jvm.ClassFile.FieldType.object "java/lang/Throwable"))) ∈ lw_all := lw_g (lw_at lw_m1 220 rfl) rfl
theorem q339 : (Jvm.Cond.methodLink "java/lang/Throwable" (202 : Nat) ({ cls := "java/lang/Throwable", name := "fillInStackTrace", desc := "(I)Ljava/lang/Throwable;" } : Jvm.MethodName)) ∈ lw_all := lw_g (lw_at lw_m1 221 rfl) rfl
theorem q340 : (Jvm.Cond.privateMethod ({ cls := "java/lang/Throwable", name := "fillInStackTrace", desc := "(I)Ljava/lang/Throwable;" } : Jvm.MethodName)) ∈ lw_tbl := lw_at lw_m1 222 rfl
theorem q341 : (Jvm.Cond.instanceMethod ({ cls := "java/lang/Throwable", name := "fillInStackTrace", desc := "(I)Ljava/lang/Throwable;" } : Jvm.MethodName)) ∈ lw_all := lw_g (lw_at lw_m1 223 rfl) rfl
theorem q342 : (Jvm.Cond.instantiable "java/lang/Throwable" (6 : Nat)) ∈ lw_all := lw_g (lw_at lw_m1 224 rfl) rfl
theorem q343 : (Jvm.Cond.native ({ cls := "java/lang/Throwable", name := "fillInStackTrace", desc := "(I)Ljava/lang/Throwable;" } : Jvm.MethodName)) ∈ lw_all := lw_g (lw_at lw_m1 225 rfl) rfl
theorem q344 : (Jvm.Cond.methodLink "PrairiePool" (62 : Nat) ({ cls := "PrairiePool$Wrong", name := "<init>", desc := "()V" } : Jvm.MethodName)) ∈ lw_all := lw_g (lw_at lw_m1 226 rfl) rfl
theorem q345 : (Jvm.Cond.instanceMethod ({ cls := "PrairiePool$Wrong", name := "<init>", desc := "()V" } : Jvm.MethodName)) ∈ lw_all := lw_g (lw_at lw_m1 227 rfl) rfl
theorem q346 : (Jvm.Cond.code ({ cls := "PrairiePool$Wrong", name := "<init>", desc := "()V" } : Jvm.MethodName) prog_25_method_1_code (1 : Nat) (Option.none : Option Jvm.ClassFile.FieldType)) ∈ lw_all := lw_g (lw_at lw_m1 228 rfl) rfl
theorem q347 : (Jvm.Cond.methodLink "PrairiePool$Wrong" (1 : Nat) ({ cls := "java/lang/RuntimeException", name := "<init>", desc := "(Ljava/lang/String;Ljava/lang/Throwable;ZZ)V" } : Jvm.MethodName)) ∈ lw_all := lw_g (lw_at lw_m1 229 rfl) rfl
theorem q348 : (Jvm.Cond.instanceMethod ({ cls := "java/lang/RuntimeException", name := "<init>", desc := "(Ljava/lang/String;Ljava/lang/Throwable;ZZ)V" } : Jvm.MethodName)) ∈ lw_all := lw_g (lw_at lw_m1 230 rfl) rfl
theorem q349 : (Jvm.Cond.code ({ cls := "java/lang/RuntimeException", name := "<init>", desc := "(Ljava/lang/String;Ljava/lang/Throwable;ZZ)V" } : Jvm.MethodName) prog_35_method_5_code (5 : Nat) (Option.none : Option Jvm.ClassFile.FieldType)) ∈ lw_all := lw_g (lw_at lw_m1 231 rfl) rfl
theorem q350 : (Jvm.Cond.methodLink "java/lang/RuntimeException" (16 : Nat) ({ cls := "java/lang/Exception", name := "<init>", desc := "(Ljava/lang/String;Ljava/lang/Throwable;ZZ)V" } : Jvm.MethodName)) ∈ lw_all := lw_g (lw_at lw_m1 232 rfl) rfl
theorem q351 : (Jvm.Cond.instanceMethod ({ cls := "java/lang/Exception", name := "<init>", desc := "(Ljava/lang/String;Ljava/lang/Throwable;ZZ)V" } : Jvm.MethodName)) ∈ lw_all := lw_g (lw_at lw_m1 233 rfl) rfl
theorem q352 : (Jvm.Cond.code ({ cls := "java/lang/Exception", name := "<init>", desc := "(Ljava/lang/String;Ljava/lang/Throwable;ZZ)V" } : Jvm.MethodName) prog_29_method_5_code (5 : Nat) (Option.none : Option Jvm.ClassFile.FieldType)) ∈ lw_all := lw_g (lw_at lw_m1 234 rfl) rfl
theorem q353 : (Jvm.Cond.methodLink "java/lang/Exception" (16 : Nat) ({ cls := "java/lang/Throwable", name := "<init>", desc := "(Ljava/lang/String;Ljava/lang/Throwable;ZZ)V" } : Jvm.MethodName)) ∈ lw_all := lw_g (lw_at lw_m1 235 rfl) rfl
theorem q354 : (Jvm.Cond.instanceMethod ({ cls := "java/lang/Throwable", name := "<init>", desc := "(Ljava/lang/String;Ljava/lang/Throwable;ZZ)V" } : Jvm.MethodName)) ∈ lw_all := lw_g (lw_at lw_m1 236 rfl) rfl
theorem q355 : (Jvm.Cond.code ({ cls := "java/lang/Throwable", name := "<init>", desc := "(Ljava/lang/String;Ljava/lang/Throwable;ZZ)V" } : Jvm.MethodName) prog_40_method_5_code (5 : Nat) (Option.none : Option Jvm.ClassFile.FieldType)) ∈ lw_all := lw_g (lw_at lw_m1 237 rfl) rfl
theorem q356 : (Jvm.Cond.fieldLink "PrairiePool$Wrong" (7 : Nat) "PrairiePool$Wrong" "kind" "I") ∈ lw_all := lw_g (lw_at lw_m1 238 rfl) rfl
theorem q357 : (Jvm.Cond.fieldLinkNest "PrairiePool" (459 : Nat) "PrairiePool$Wrong" "kind" "I" "PrairiePool") ∈ lw_tbl := lw_at lw_m1 239 rfl
theorem q358 : (Jvm.Cond.fieldLink "PrairiePool$Wrong" (13 : Nat) "PrairiePool$Wrong" "place" "I") ∈ lw_all := lw_g (lw_at lw_m2 0 rfl) rfl
theorem q359 : (Jvm.Cond.fieldLinkNest "PrairiePool" (462 : Nat) "PrairiePool$Wrong" "place" "I" "PrairiePool") ∈ lw_tbl := lw_at lw_m2 1 rfl
theorem q360 : (Jvm.Cond.fieldLink "java/lang/Throwable" (198 : Nat) "java/lang/Throwable" "backtrace" "Ljava/lang/Object;") ∈ lw_all := lw_g (lw_at lw_m2 2 rfl) rfl
theorem q361 : (Jvm.Cond.fieldLink "java/lang/Throwable" (31 : Nat) "java/lang/Throwable" "detailMessage" "Ljava/lang/String;") ∈ lw_all := lw_g (lw_at lw_m2 3 rfl) rfl
theorem q362 : (Jvm.Cond.fieldLink "java/lang/Throwable" (7 : Nat) "java/lang/Throwable" "cause" "Ljava/lang/Throwable;") ∈ lw_all := lw_g (lw_at lw_m2 4 rfl) rfl
theorem q363 : (Jvm.Cond.fieldLink "java/lang/Throwable" (17 : Nat) "java/lang/Throwable" "stackTrace" "[Ljava/lang/StackTraceElement;") ∈ lw_all := lw_g (lw_at lw_m2 5 rfl) rfl
theorem q364 : (Jvm.Cond.fieldLink "java/lang/Throwable" (24 : Nat) "java/lang/Throwable" "suppressedExceptions" "Ljava/util/List;") ∈ lw_all := lw_g (lw_at lw_m2 6 rfl) rfl
theorem q365 : (Jvm.Cond.lays "PrairiePool$Wrong" "PrairiePool$Wrong" "kind" "I") ∈ lw_all := lw_g (lw_at lw_m2 7 rfl) rfl
theorem q366 : (Jvm.Cond.soleField "PrairiePool$Wrong" "kind") ∈ lw_all := lw_g (lw_at lw_m2 8 rfl) rfl
theorem q367 : (Jvm.Cond.lays "PrairiePool$Wrong" "PrairiePool$Wrong" "place" "I") ∈ lw_all := lw_g (lw_at lw_m2 9 rfl) rfl
theorem q368 : (Jvm.Cond.soleField "PrairiePool$Wrong" "place") ∈ lw_all := lw_g (lw_at lw_m2 10 rfl) rfl
theorem q369 : (Jvm.Cond.soleField "java/lang/Throwable" "backtrace") ∈ lw_all := lw_g (lw_at lw_m2 11 rfl) rfl
theorem q370 : (Jvm.Cond.soleField "java/lang/Throwable" "detailMessage") ∈ lw_all := lw_g (lw_at lw_m2 12 rfl) rfl
theorem q371 : (Jvm.Cond.soleField "java/lang/Throwable" "cause") ∈ lw_all := lw_g (lw_at lw_m2 13 rfl) rfl
theorem q372 : (Jvm.Cond.soleField "java/lang/Throwable" "stackTrace") ∈ lw_all := lw_g (lw_at lw_m2 14 rfl) rfl
theorem q373 : (Jvm.Cond.lays "PrairiePool$Wrong" "java/lang/Throwable" "depth" "I") ∈ lw_all := lw_g (lw_at lw_m2 15 rfl) rfl
theorem q374 : (Jvm.Cond.soleField "java/lang/Throwable" "depth") ∈ lw_all := lw_g (lw_at lw_m2 16 rfl) rfl
theorem q375 : (Jvm.Cond.soleField "java/lang/Throwable" "suppressedExceptions") ∈ lw_all := lw_g (lw_at lw_m2 17 rfl) rfl
theorem q376 : (Jvm.Cond.superclass "PrairiePool$Wrong" "java/lang/RuntimeException") ∈ lw_all := lw_g (lw_at lw_m2 18 rfl) rfl
theorem q377 : (Jvm.Cond.classLink "PrairiePool" (67 : Nat) "PrairiePool$Reader") ∈ lw_all := lw_g (lw_at lw_m2 19 rfl) rfl
theorem q378 : (Jvm.Cond.instantiable "PrairiePool$Reader" (9 : Nat)) ∈ lw_all := lw_g (lw_at lw_m2 20 rfl) rfl
theorem q379 : (Jvm.Cond.methodLink "PrairiePool" (69 : Nat) ({ cls := "PrairiePool$Reader", name := "<init>", desc := "(LPrairiePool$Wrong;)V" } : Jvm.MethodName)) ∈ lw_all := lw_g (lw_at lw_m2 21 rfl) rfl
theorem q380 : (Jvm.Cond.instanceMethod ({ cls := "PrairiePool$Reader", name := "<init>", desc := "(LPrairiePool$Wrong;)V" } : Jvm.MethodName)) ∈ lw_all := lw_g (lw_at lw_m2 22 rfl) rfl
theorem q381 : (Jvm.Cond.code ({ cls := "PrairiePool$Reader", name := "<init>", desc := "(LPrairiePool$Wrong;)V" } : Jvm.MethodName) prog_18_method_1_code (2 : Nat) (Option.none : Option Jvm.ClassFile.FieldType)) ∈ lw_all := lw_g (lw_at lw_m2 23 rfl) rfl
theorem q382 : (Jvm.Cond.methodLink "PrairiePool$Reader" (3 : Nat) ({ cls := "java/lang/Object", name := "<init>", desc := "()V" } : Jvm.MethodName)) ∈ lw_all := lw_g (lw_at lw_m2 24 rfl) rfl
theorem q383 : (Jvm.Cond.fieldLink "PrairiePool$Reader" (9 : Nat) "PrairiePool$Reader" "tape" "[B") ∈ lw_all := lw_g (lw_at lw_m2 25 rfl) rfl
theorem q384 : (Jvm.Cond.fieldLinkNest "PrairiePool" (452 : Nat) "PrairiePool$Reader" "tape" "[B" "PrairiePool") ∈ lw_tbl := lw_at lw_m2 26 rfl
theorem q385 : (Jvm.Cond.fieldLinkNest "PrairiePool" (446 : Nat) "PrairiePool$Reader" "taped" "I" "PrairiePool") ∈ lw_tbl := lw_at lw_m2 27 rfl
theorem q386 : (Jvm.Cond.fieldLink "PrairiePool$Reader" (19 : Nat) "PrairiePool$Reader" "size" "I") ∈ lw_all := lw_g (lw_at lw_m2 28 rfl) rfl
theorem q387 : (Jvm.Cond.fieldLink "PrairiePool$Reader" (37 : Nat) "PrairiePool$Reader" "sort" "I") ∈ lw_all := lw_g (lw_at lw_m2 29 rfl) rfl
theorem q388 : (Jvm.Cond.fieldLink "PrairiePool$Reader" (30 : Nat) "PrairiePool$Reader" "from" "I") ∈ lw_all := lw_g (lw_at lw_m2 30 rfl) rfl
theorem q389 : (Jvm.Cond.fieldLink "PrairiePool$Reader" (23 : Nat) "PrairiePool$Reader" "end" "I") ∈ lw_all := lw_g (lw_at lw_m2 31 rfl) rfl
theorem q390 : (Jvm.Cond.fieldLink "PrairiePool$Reader" (33 : Nat) "PrairiePool$Reader" "value" "J") ∈ lw_all := lw_g (lw_at lw_m2 32 rfl) rfl
theorem q391 : (Jvm.Cond.fieldLink "PrairiePool$Reader" (97 : Nat) "PrairiePool$Reader" "law" "LPrairiePool$Law;") ∈ lw_all := lw_g (lw_at lw_m2 33 rfl) rfl
theorem q392 : (Jvm.Cond.fieldLink "PrairiePool$Reader" (15 : Nat) "PrairiePool$Reader" "wrong" "LPrairiePool$Wrong;") ∈ lw_all := lw_g (lw_at lw_m2 34 rfl) rfl
theorem q393 : (Jvm.Cond.laysFinal "PrairiePool$Reader" "PrairiePool$Reader" "tape" "[B") ∈ lw_all := lw_g (lw_at lw_m2 35 rfl) rfl
theorem q394 : (Jvm.Cond.soleField "PrairiePool$Reader" "tape") ∈ lw_all := lw_g (lw_at lw_m2 36 rfl) rfl
theorem q395 : (Jvm.Cond.lays "PrairiePool$Reader" "PrairiePool$Reader" "taped" "I") ∈ lw_all := lw_g (lw_at lw_m2 37 rfl) rfl
theorem q396 : (Jvm.Cond.soleField "PrairiePool$Reader" "taped") ∈ lw_all := lw_g (lw_at lw_m2 38 rfl) rfl
theorem q397 : (Jvm.Cond.lays "PrairiePool$Reader" "PrairiePool$Reader" "size" "I") ∈ lw_all := lw_g (lw_at lw_m2 39 rfl) rfl
theorem q398 : (Jvm.Cond.soleField "PrairiePool$Reader" "size") ∈ lw_all := lw_g (lw_at lw_m2 40 rfl) rfl
theorem q399 : (Jvm.Cond.lays "PrairiePool$Reader" "PrairiePool$Reader" "sort" "I") ∈ lw_all := lw_g (lw_at lw_m2 41 rfl) rfl
theorem q400 : (Jvm.Cond.soleField "PrairiePool$Reader" "sort") ∈ lw_all := lw_g (lw_at lw_m2 42 rfl) rfl
theorem q401 : (Jvm.Cond.lays "PrairiePool$Reader" "PrairiePool$Reader" "from" "I") ∈ lw_all := lw_g (lw_at lw_m2 43 rfl) rfl
theorem q402 : (Jvm.Cond.soleField "PrairiePool$Reader" "from") ∈ lw_all := lw_g (lw_at lw_m2 44 rfl) rfl
theorem q403 : (Jvm.Cond.lays "PrairiePool$Reader" "PrairiePool$Reader" "end" "I") ∈ lw_all := lw_g (lw_at lw_m2 45 rfl) rfl
theorem q404 : (Jvm.Cond.soleField "PrairiePool$Reader" "end") ∈ lw_all := lw_g (lw_at lw_m2 46 rfl) rfl
theorem q405 : (Jvm.Cond.lays "PrairiePool$Reader" "PrairiePool$Reader" "value" "J") ∈ lw_all := lw_g (lw_at lw_m2 47 rfl) rfl
theorem q406 : (Jvm.Cond.soleField "PrairiePool$Reader" "value") ∈ lw_all := lw_g (lw_at lw_m2 48 rfl) rfl
theorem q407 : (Jvm.Cond.lays "PrairiePool$Reader" "PrairiePool$Reader" "law" "LPrairiePool$Law;") ∈ lw_all := lw_g (lw_at lw_m2 49 rfl) rfl
theorem q408 : (Jvm.Cond.soleField "PrairiePool$Reader" "law") ∈ lw_all := lw_g (lw_at lw_m2 50 rfl) rfl
theorem q409 : (Jvm.Cond.laysFinal "PrairiePool$Reader" "PrairiePool$Reader" "wrong" "LPrairiePool$Wrong;") ∈ lw_all := lw_g (lw_at lw_m2 51 rfl) rfl
theorem q410 : (Jvm.Cond.soleField "PrairiePool$Reader" "wrong") ∈ lw_all := lw_g (lw_at lw_m2 52 rfl) rfl
theorem q411 : (Jvm.Cond.superclass "PrairiePool$Reader" "java/lang/Object") ∈ lw_all := lw_g (lw_at lw_m2 53 rfl) rfl
theorem q412 : (Jvm.Cond.arrayClass Jvm.ClassFile.FieldType.byte) ∈ lw_all := lw_g (lw_at lw_m2 54 rfl) rfl
theorem q413 : (Jvm.Cond.classLink "PrairiePool" (76 : Nat) "PrairiePool$Asked") ∈ lw_all := lw_g (lw_at lw_m2 55 rfl) rfl
theorem q414 : (Jvm.Cond.instantiable "PrairiePool$Asked" (4 : Nat)) ∈ lw_all := lw_g (lw_at lw_m2 56 rfl) rfl
theorem q415 : (Jvm.Cond.methodLink "PrairiePool" (78 : Nat) ({ cls := "PrairiePool$Asked", name := "<init>", desc := "(LPrairiePool$Wrong;)V" } : Jvm.MethodName)) ∈ lw_all := lw_g (lw_at lw_m2 57 rfl) rfl
theorem q416 : (Jvm.Cond.instanceMethod ({ cls := "PrairiePool$Asked", name := "<init>", desc := "(LPrairiePool$Wrong;)V" } : Jvm.MethodName)) ∈ lw_all := lw_g (lw_at lw_m2 58 rfl) rfl
theorem q417 : (Jvm.Cond.code ({ cls := "PrairiePool$Asked", name := "<init>", desc := "(LPrairiePool$Wrong;)V" } : Jvm.MethodName) prog_2_method_1_code (2 : Nat) (Option.none : Option Jvm.ClassFile.FieldType)) ∈ lw_all := lw_g (lw_at lw_m2 59 rfl) rfl
theorem q418 : (Jvm.Cond.methodLink "PrairiePool$Asked" (3 : Nat) ({ cls := "java/lang/Object", name := "<init>", desc := "()V" } : Jvm.MethodName)) ∈ lw_all := lw_g (lw_at lw_m2 60 rfl) rfl
theorem q419 : (Jvm.Cond.fieldLink "PrairiePool$Asked" (9 : Nat) "PrairiePool$Asked" "variables" "[J") ∈ lw_all := lw_g (lw_at lw_m2 61 rfl) rfl
theorem q420 : (Jvm.Cond.fieldLinkNest "PrairiePool$Leaf" (17 : Nat) "PrairiePool$Asked" "variables" "[J" "PrairiePool") ∈ lw_tbl := lw_at lw_m2 62 rfl
theorem q421 : (Jvm.Cond.fieldLinkNest "PrairiePool" (423 : Nat) "PrairiePool$Asked" "variables" "[J" "PrairiePool") ∈ lw_tbl := lw_at lw_m2 63 rfl
theorem q422 : (Jvm.Cond.fieldLink "PrairiePool$Asked" (15 : Nat) "PrairiePool$Asked" "defs" "[J") ∈ lw_all := lw_g (lw_at lw_m2 64 rfl) rfl
theorem q423 : (Jvm.Cond.fieldLinkNest "PrairiePool$Leaf" (31 : Nat) "PrairiePool$Asked" "defs" "[J" "PrairiePool") ∈ lw_tbl := lw_at lw_m2 65 rfl
theorem q424 : (Jvm.Cond.fieldLinkNest "PrairiePool$Law" (31 : Nat) "PrairiePool$Asked" "defs" "[J" "PrairiePool") ∈ lw_tbl := lw_at lw_m2 66 rfl
theorem q425 : (Jvm.Cond.fieldLinkNest "PrairiePool" (434 : Nat) "PrairiePool$Asked" "defs" "[J" "PrairiePool") ∈ lw_tbl := lw_at lw_m2 67 rfl
theorem q426 : (Jvm.Cond.fieldLink "PrairiePool$Asked" (18 : Nat) "PrairiePool$Asked" "isNone" "[Z") ∈ lw_all := lw_g (lw_at lw_m2 68 rfl) rfl
theorem q427 : (Jvm.Cond.fieldLinkNest "PrairiePool$Leaf" (23 : Nat) "PrairiePool$Asked" "isNone" "[Z" "PrairiePool") ∈ lw_tbl := lw_at lw_m2 69 rfl
theorem q428 : (Jvm.Cond.fieldLinkNest "PrairiePool$Law" (25 : Nat) "PrairiePool$Asked" "isNone" "[Z" "PrairiePool") ∈ lw_tbl := lw_at lw_m2 70 rfl
theorem q429 : (Jvm.Cond.fieldLink "PrairiePool$Asked" (22 : Nat) "PrairiePool$Asked" "none" "LPrairiePool$Wrong;") ∈ lw_all := lw_g (lw_at lw_m2 71 rfl) rfl
theorem q430 : (Jvm.Cond.fieldLinkNest "PrairiePool$Leaf" (27 : Nat) "PrairiePool$Asked" "none" "LPrairiePool$Wrong;" "PrairiePool") ∈ lw_tbl := lw_at lw_m2 72 rfl
theorem q431 : (Jvm.Cond.fieldLinkNest "PrairiePool$Chain" (27 : Nat) "PrairiePool$Asked" "none" "LPrairiePool$Wrong;" "PrairiePool") ∈ lw_tbl := lw_at lw_m2 73 rfl
theorem q432 : (Jvm.Cond.laysFinal "PrairiePool$Asked" "PrairiePool$Asked" "variables" "[J") ∈ lw_all := lw_g (lw_at lw_m2 74 rfl) rfl
theorem q433 : (Jvm.Cond.soleField "PrairiePool$Asked" "variables") ∈ lw_all := lw_g (lw_at lw_m2 75 rfl) rfl
theorem q434 : (Jvm.Cond.laysFinal "PrairiePool$Asked" "PrairiePool$Asked" "defs" "[J") ∈ lw_all := lw_g (lw_at lw_m2 76 rfl) rfl
theorem q435 : (Jvm.Cond.soleField "PrairiePool$Asked" "defs") ∈ lw_all := lw_g (lw_at lw_m2 77 rfl) rfl
theorem q436 : (Jvm.Cond.laysFinal "PrairiePool$Asked" "PrairiePool$Asked" "isNone" "[Z") ∈ lw_all := lw_g (lw_at lw_m2 78 rfl) rfl
theorem q437 : (Jvm.Cond.soleField "PrairiePool$Asked" "isNone") ∈ lw_all := lw_g (lw_at lw_m2 79 rfl) rfl
theorem q438 : (Jvm.Cond.laysFinal "PrairiePool$Asked" "PrairiePool$Asked" "none" "LPrairiePool$Wrong;") ∈ lw_all := lw_g (lw_at lw_m2 80 rfl) rfl
theorem q439 : (Jvm.Cond.soleField "PrairiePool$Asked" "none") ∈ lw_all := lw_g (lw_at lw_m2 81 rfl) rfl
theorem q440 : (Jvm.Cond.superclass "PrairiePool$Asked" "java/lang/Object") ∈ lw_all := lw_g (lw_at lw_m2 82 rfl) rfl
theorem q441 : (Jvm.Cond.arrayClass Jvm.ClassFile.FieldType.boolean) ∈ lw_all := lw_g (lw_at lw_m2 83 rfl) rfl
theorem q442 : (Jvm.Cond.classLink "PrairiePool" (83 : Nat) "PrairiePool$Law") ∈ lw_all := lw_g (lw_at lw_m2 84 rfl) rfl
theorem q443 : (Jvm.Cond.arrayOver (Jvm.ClassFile.FieldType.object "PrairiePool$Law")) ∈ lw_tbl := lw_at lw_m2 85 rfl
theorem q444 : (Jvm.Cond.classLink "PrairiePool" (151 : Nat) "[[I") ∈ lw_all := lw_g (lw_at lw_m2 86 rfl) rfl
theorem q445 : (Jvm.Cond.arrayOver (Jvm.ClassFile.FieldType.array Jvm.ClassFile.FieldType.int)) ∈ lw_tbl := lw_at lw_m2 87 rfl
theorem q446 : (Jvm.Cond.instantiable "PrairiePool$Tray" (2 : Nat)) ∈ lw_all := lw_g (lw_at lw_m2 88 rfl) rfl
theorem q447 : (Jvm.Cond.methodLinkNest "PrairiePool" (180 : Nat) ({ cls := "PrairiePool$Tray", name := "<init>", desc := "()V" } : Jvm.MethodName) "PrairiePool") ∈ lw_tbl := lw_at lw_m2 89 rfl
theorem q448 : (Jvm.Cond.instanceMethod ({ cls := "PrairiePool$Tray", name := "<init>", desc := "()V" } : Jvm.MethodName)) ∈ lw_all := lw_g (lw_at lw_m2 90 rfl) rfl
theorem q449 : (Jvm.Cond.code ({ cls := "PrairiePool$Tray", name := "<init>", desc := "()V" } : Jvm.MethodName) prog_23_method_1_code (1 : Nat) (Option.none : Option Jvm.ClassFile.FieldType)) ∈ lw_all := lw_g (lw_at lw_m2 91 rfl) rfl
theorem q450 : (Jvm.Cond.methodLink "PrairiePool$Tray" (1 : Nat) ({ cls := "java/lang/Object", name := "<init>", desc := "()V" } : Jvm.MethodName)) ∈ lw_all := lw_g (lw_at lw_m2 92 rfl) rfl
theorem q451 : (Jvm.Cond.fieldLink "PrairiePool$Tray" (7 : Nat) "PrairiePool$Tray" "row" "Ljava/lang/Object;") ∈ lw_all := lw_g (lw_at lw_m2 93 rfl) rfl
theorem q452 : (Jvm.Cond.fieldLinkNest "PrairiePool" (215 : Nat) "PrairiePool$Tray" "row" "Ljava/lang/Object;" "PrairiePool") ∈ lw_tbl := lw_at lw_m2 94 rfl
theorem q453 : (Jvm.Cond.fieldLink "PrairiePool$Tray" (13 : Nat) "PrairiePool$Tray" "sort" "I") ∈ lw_all := lw_g (lw_at lw_m2 95 rfl) rfl
theorem q454 : (Jvm.Cond.fieldLinkNest "PrairiePool" (219 : Nat) "PrairiePool$Tray" "sort" "I" "PrairiePool") ∈ lw_tbl := lw_at lw_m2 96 rfl
theorem q455 : (Jvm.Cond.lays "PrairiePool$Tray" "PrairiePool$Tray" "row" "Ljava/lang/Object;") ∈ lw_all := lw_g (lw_at lw_m2 97 rfl) rfl
theorem q456 : (Jvm.Cond.soleField "PrairiePool$Tray" "row") ∈ lw_all := lw_g (lw_at lw_m2 98 rfl) rfl
theorem q457 : (Jvm.Cond.lays "PrairiePool$Tray" "PrairiePool$Tray" "sort" "I") ∈ lw_all := lw_g (lw_at lw_m2 99 rfl) rfl
theorem q458 : (Jvm.Cond.soleField "PrairiePool$Tray" "sort") ∈ lw_all := lw_g (lw_at lw_m2 100 rfl) rfl
theorem q459 : (Jvm.Cond.superclass "PrairiePool$Tray" "java/lang/Object") ∈ lw_all := lw_g (lw_at lw_m2 101 rfl) rfl
theorem q460 : (Jvm.Cond.fieldLink "PrairiePool" (11 : Nat) "PrairiePool" "trays" "[LPrairiePool$Tray;") ∈ lw_all := lw_g (lw_at lw_m2 102 rfl) rfl
theorem q461 : (Jvm.Cond.fieldLink "PrairiePool" (17 : Nat) "PrairiePool" "farms" "[LPrairiePool$Farm;") ∈ lw_all := lw_g (lw_at lw_m2 103 rfl) rfl
theorem q462 : (Jvm.Cond.fieldLink "PrairiePool" (23 : Nat) "PrairiePool" "elevators" "[LPrairiePool$Elevator;") ∈ lw_all := lw_g (lw_at lw_m2 104 rfl) rfl
theorem q463 : (Jvm.Cond.fieldLink "PrairiePool" (29 : Nat) "PrairiePool" "events" "[LPrairiePool$Event;") ∈ lw_all := lw_g (lw_at lw_m2 105 rfl) rfl
theorem q464 : (Jvm.Cond.fieldLink "PrairiePool" (33 : Nat) "PrairiePool" "gLoad" "[I") ∈ lw_all := lw_g (lw_at lw_m2 106 rfl) rfl
theorem q465 : (Jvm.Cond.fieldLink "PrairiePool" (37 : Nat) "PrairiePool" "gGrader" "[I") ∈ lw_all := lw_g (lw_at lw_m2 107 rfl) rfl
theorem q466 : (Jvm.Cond.fieldLink "PrairiePool" (40 : Nat) "PrairiePool" "gGrade" "[I") ∈ lw_all := lw_g (lw_at lw_m2 108 rfl) rfl
theorem q467 : (Jvm.Cond.fieldLink "PrairiePool" (43 : Nat) "PrairiePool" "gKnown" "[I") ∈ lw_all := lw_g (lw_at lw_m2 109 rfl) rfl
theorem q468 : (Jvm.Cond.fieldLink "PrairiePool" (49 : Nat) "PrairiePool" "play" "LPrairiePool$Play;") ∈ lw_all := lw_g (lw_at lw_m2 110 rfl) rfl
theorem q469 : (Jvm.Cond.fieldLink "PrairiePool" (56 : Nat) "PrairiePool" "parts" "LPrairiePool$Parts;") ∈ lw_all := lw_g (lw_at lw_m2 111 rfl) rfl
theorem q470 : (Jvm.Cond.fieldLink "PrairiePool" (63 : Nat) "PrairiePool" "wrong" "LPrairiePool$Wrong;") ∈ lw_all := lw_g (lw_at lw_m2 112 rfl) rfl
theorem q471 : (Jvm.Cond.fieldLink "PrairiePool" (72 : Nat) "PrairiePool" "reader" "LPrairiePool$Reader;") ∈ lw_all := lw_g (lw_at lw_m2 113 rfl) rfl
theorem q472 : (Jvm.Cond.fieldLink "PrairiePool" (79 : Nat) "PrairiePool" "asked" "LPrairiePool$Asked;") ∈ lw_all := lw_g (lw_at lw_m2 114 rfl) rfl
theorem q473 : (Jvm.Cond.fieldLink "PrairiePool" (85 : Nat) "PrairiePool" "laws" "[LPrairiePool$Law;") ∈ lw_all := lw_g (lw_at lw_m2 115 rfl) rfl
theorem q474 : (Jvm.Cond.fieldLink "PrairiePool" (230 : Nat) "PrairiePool" "farmMany" "I") ∈ lw_all := lw_g (lw_at lw_m2 116 rfl) rfl
theorem q475 : (Jvm.Cond.fieldLink "PrairiePool" (233 : Nat) "PrairiePool" "elevatorMany" "I") ∈ lw_all := lw_g (lw_at lw_m2 117 rfl) rfl
theorem q476 : (Jvm.Cond.fieldLink "PrairiePool" (263 : Nat) "PrairiePool" "eventMany" "I") ∈ lw_all := lw_g (lw_at lw_m2 118 rfl) rfl
theorem q477 : (Jvm.Cond.fieldLink "PrairiePool" (323 : Nat) "PrairiePool" "gradingMany" "I") ∈ lw_all := lw_g (lw_at lw_m2 119 rfl) rfl
theorem q478 : (Jvm.Cond.fieldLink "PrairiePool" (417 : Nat) "PrairiePool" "lawMany" "I") ∈ lw_all := lw_g (lw_at lw_m2 120 rfl) rfl
theorem q479 : (Jvm.Cond.fieldLink "PrairiePool" (266 : Nat) "PrairiePool" "latest" "I") ∈ lw_all := lw_g (lw_at lw_m2 121 rfl) rfl
theorem q480 : (Jvm.Cond.fieldLink "PrairiePool" (181 : Nat) "PrairiePool" "status" "I") ∈ lw_all := lw_g (lw_at lw_m2 122 rfl) rfl
theorem q481 : (Jvm.Cond.fieldLink "PrairiePool" (89 : Nat) "PrairiePool" "faultKind" "I") ∈ lw_all := lw_g (lw_at lw_m2 123 rfl) rfl
theorem q482 : (Jvm.Cond.fieldLink "PrairiePool" (93 : Nat) "PrairiePool" "faultPlace" "I") ∈ lw_all := lw_g (lw_at lw_m2 124 rfl) rfl
theorem q483 : (Jvm.Cond.fieldLink "PrairiePool" (335 : Nat) "PrairiePool" "force" "LPrairiePool$Law;") ∈ lw_all := lw_g (lw_at lw_m2 125 rfl) rfl
theorem q484 : (Jvm.Cond.fieldLink "PrairiePool" (96 : Nat) "PrairiePool" "lasts" "[J") ∈ lw_all := lw_g (lw_at lw_m2 126 rfl) rfl
theorem q485 : (Jvm.Cond.fieldLink "PrairiePool" (100 : Nat) "PrairiePool" "firsts" "[J") ∈ lw_all := lw_g (lw_at lw_m2 127 rfl) rfl
theorem q486 : (Jvm.Cond.fieldLink "PrairiePool" (103 : Nat) "PrairiePool" "owes" "[J") ∈ lw_all := lw_g (lw_at lw_m2 128 rfl) rfl
theorem q487 : (Jvm.Cond.fieldLink "PrairiePool" (494 : Nat) "PrairiePool" "belowBy" "J") ∈ lw_all := lw_g (lw_at lw_m2 129 rfl) rfl
theorem q488 : (Jvm.Cond.fieldLink "PrairiePool" (499 : Nat) "PrairiePool" "stood" "J") ∈ lw_all := lw_g (lw_at lw_m2 130 rfl) rfl
theorem q489 : (Jvm.Cond.fieldLink "PrairiePool" (106 : Nat) "PrairiePool" "gotCars" "[I") ∈ lw_all := lw_g (lw_at lw_m2 131 rfl) rfl
theorem q490 : (Jvm.Cond.fieldLink "PrairiePool" (109 : Nat) "PrairiePool" "waits" "[I") ∈ lw_all := lw_g (lw_at lw_m2 132 rfl) rfl
theorem q491 : (Jvm.Cond.fieldLink "PrairiePool" (112 : Nat) "PrairiePool" "oFarm" "[I") ∈ lw_all := lw_g (lw_at lw_m2 133 rfl) rfl
theorem q492 : (Jvm.Cond.fieldLink "PrairiePool" (115 : Nat) "PrairiePool" "oWeek" "[I") ∈ lw_all := lw_g (lw_at lw_m2 134 rfl) rfl
theorem q493 : (Jvm.Cond.fieldLink "PrairiePool" (118 : Nat) "PrairiePool" "oBushels" "[I") ∈ lw_all := lw_g (lw_at lw_m2 135 rfl) rfl
theorem q494 : (Jvm.Cond.fieldLink "PrairiePool" (121 : Nat) "PrairiePool" "oPence" "[I") ∈ lw_all := lw_g (lw_at lw_m2 136 rfl) rfl
theorem q495 : (Jvm.Cond.fieldLink "PrairiePool" (124 : Nat) "PrairiePool" "prices" "[I") ∈ lw_all := lw_g (lw_at lw_m2 137 rfl) rfl
theorem q496 : (Jvm.Cond.fieldLink "PrairiePool" (537 : Nat) "PrairiePool" "outsides" "I") ∈ lw_all := lw_g (lw_at lw_m2 138 rfl) rfl
theorem q497 : (Jvm.Cond.fieldLink "PrairiePool" (127 : Nat) "PrairiePool" "step" "I") ∈ lw_all := lw_g (lw_at lw_m2 139 rfl) rfl
theorem q498 : (Jvm.Cond.fieldLink "PrairiePool" (130 : Nat) "PrairiePool" "lag" "I") ∈ lw_all := lw_g (lw_at lw_m2 140 rfl) rfl
theorem q499 : (Jvm.Cond.fieldLink "PrairiePool" (133 : Nat) "PrairiePool" "turnedBy" "[I") ∈ lw_all := lw_g (lw_at lw_m2 141 rfl) rfl
theorem q500 : (Jvm.Cond.fieldLink "PrairiePool" (136 : Nat) "PrairiePool" "weight" "[I") ∈ lw_all := lw_g (lw_at lw_m2 142 rfl) rfl
theorem q501 : (Jvm.Cond.fieldLink "PrairiePool" (139 : Nat) "PrairiePool" "forBy" "[I") ∈ lw_all := lw_g (lw_at lw_m2 143 rfl) rfl
theorem q502 : (Jvm.Cond.fieldLink "PrairiePool" (142 : Nat) "PrairiePool" "spoils" "[I") ∈ lw_all := lw_g (lw_at lw_m2 144 rfl) rfl
theorem q503 : (Jvm.Cond.fieldLink "PrairiePool" (145 : Nat) "PrairiePool" "heaped" "[I") ∈ lw_all := lw_g (lw_at lw_m2 145 rfl) rfl
theorem q504 : (Jvm.Cond.fieldLink "PrairiePool" (148 : Nat) "PrairiePool" "turnedIn" "[I") ∈ lw_all := lw_g (lw_at lw_m2 146 rfl) rfl
theorem q505 : (Jvm.Cond.fieldLink "PrairiePool" (153 : Nat) "PrairiePool" "saved" "[[I") ∈ lw_all := lw_g (lw_at lw_m2 147 rfl) rfl
theorem q506 : (Jvm.Cond.fieldLink "PrairiePool" (588 : Nat) "PrairiePool" "hasWarm" "Z") ∈ lw_all := lw_g (lw_at lw_m2 148 rfl) rfl
theorem q507 : (Jvm.Cond.fieldLink "PrairiePool" (156 : Nat) "PrairiePool" "price" "[[I") ∈ lw_all := lw_g (lw_at lw_m2 149 rfl) rfl
theorem q508 : (Jvm.Cond.fieldLink "PrairiePool" (159 : Nat) "PrairiePool" "sent" "[[I") ∈ lw_all := lw_g (lw_at lw_m2 150 rfl) rfl
theorem q509 : (Jvm.Cond.fieldLink "PrairiePool" (162 : Nat) "PrairiePool" "left" "[I") ∈ lw_all := lw_g (lw_at lw_m2 151 rfl) rfl
theorem q510 : (Jvm.Cond.fieldLink "PrairiePool" (165 : Nat) "PrairiePool" "lack" "[I") ∈ lw_all := lw_g (lw_at lw_m2 152 rfl) rfl
theorem q511 : (Jvm.Cond.fieldLink "PrairiePool" (168 : Nat) "PrairiePool" "farBin" "[I") ∈ lw_all := lw_g (lw_at lw_m2 153 rfl) rfl
theorem q512 : (Jvm.Cond.fieldLink "PrairiePool" (171 : Nat) "PrairiePool" "farOrder" "[I") ∈ lw_all := lw_g (lw_at lw_m2 154 rfl) rfl
theorem q513 : (Jvm.Cond.fieldLink "PrairiePool" (174 : Nat) "PrairiePool" "viaBin" "[I") ∈ lw_all := lw_g (lw_at lw_m2 155 rfl) rfl
theorem q514 : (Jvm.Cond.fieldLink "PrairiePool" (177 : Nat) "PrairiePool" "viaOrder" "[I") ∈ lw_all := lw_g (lw_at lw_m2 156 rfl) rfl
theorem q515 : (Jvm.Cond.laysFinal "PrairiePool" "PrairiePool" "trays" "[LPrairiePool$Tray;") ∈ lw_all := lw_g (lw_at lw_m2 157 rfl) rfl
theorem q516 : (Jvm.Cond.soleField "PrairiePool" "trays") ∈ lw_all := lw_g (lw_at lw_m2 158 rfl) rfl
theorem q517 : (Jvm.Cond.laysFinal "PrairiePool" "PrairiePool" "farms" "[LPrairiePool$Farm;") ∈ lw_all := lw_g (lw_at lw_m2 159 rfl) rfl
theorem q518 : (Jvm.Cond.soleField "PrairiePool" "farms") ∈ lw_all := lw_g (lw_at lw_m2 160 rfl) rfl
theorem q519 : (Jvm.Cond.laysFinal "PrairiePool" "PrairiePool" "elevators" "[LPrairiePool$Elevator;") ∈ lw_all := lw_g (lw_at lw_m2 161 rfl) rfl
theorem q520 : (Jvm.Cond.soleField "PrairiePool" "elevators") ∈ lw_all := lw_g (lw_at lw_m2 162 rfl) rfl
theorem q521 : (Jvm.Cond.laysFinal "PrairiePool" "PrairiePool" "events" "[LPrairiePool$Event;") ∈ lw_all := lw_g (lw_at lw_m2 163 rfl) rfl
theorem q522 : (Jvm.Cond.soleField "PrairiePool" "events") ∈ lw_all := lw_g (lw_at lw_m2 164 rfl) rfl
theorem q523 : (Jvm.Cond.laysFinal "PrairiePool" "PrairiePool" "gLoad" "[I") ∈ lw_all := lw_g (lw_at lw_m2 165 rfl) rfl
theorem q524 : (Jvm.Cond.soleField "PrairiePool" "gLoad") ∈ lw_all := lw_g (lw_at lw_m2 166 rfl) rfl
theorem q525 : (Jvm.Cond.laysFinal "PrairiePool" "PrairiePool" "gGrader" "[I") ∈ lw_all := lw_g (lw_at lw_m2 167 rfl) rfl
theorem q526 : (Jvm.Cond.soleField "PrairiePool" "gGrader") ∈ lw_all := lw_g (lw_at lw_m2 168 rfl) rfl
theorem q527 : (Jvm.Cond.laysFinal "PrairiePool" "PrairiePool" "gGrade" "[I") ∈ lw_all := lw_g (lw_at lw_m2 169 rfl) rfl
theorem q528 : (Jvm.Cond.soleField "PrairiePool" "gGrade") ∈ lw_all := lw_g (lw_at lw_m2 170 rfl) rfl
theorem q529 : (Jvm.Cond.laysFinal "PrairiePool" "PrairiePool" "gKnown" "[I") ∈ lw_all := lw_g (lw_at lw_m2 171 rfl) rfl
theorem q530 : (Jvm.Cond.soleField "PrairiePool" "gKnown") ∈ lw_all := lw_g (lw_at lw_m2 172 rfl) rfl
theorem q531 : (Jvm.Cond.laysFinal "PrairiePool" "PrairiePool" "play" "LPrairiePool$Play;") ∈ lw_all := lw_g (lw_at lw_m2 173 rfl) rfl
theorem q532 : (Jvm.Cond.soleField "PrairiePool" "play") ∈ lw_all := lw_g (lw_at lw_m2 174 rfl) rfl
theorem q533 : (Jvm.Cond.laysFinal "PrairiePool" "PrairiePool" "parts" "LPrairiePool$Parts;") ∈ lw_all := lw_g (lw_at lw_m2 175 rfl) rfl
theorem q534 : (Jvm.Cond.soleField "PrairiePool" "parts") ∈ lw_all := lw_g (lw_at lw_m2 176 rfl) rfl
theorem q535 : (Jvm.Cond.laysFinal "PrairiePool" "PrairiePool" "wrong" "LPrairiePool$Wrong;") ∈ lw_all := lw_g (lw_at lw_m2 177 rfl) rfl
theorem q536 : (Jvm.Cond.soleField "PrairiePool" "wrong") ∈ lw_all := lw_g (lw_at lw_m2 178 rfl) rfl
theorem q537 : (Jvm.Cond.laysFinal "PrairiePool" "PrairiePool" "reader" "LPrairiePool$Reader;") ∈ lw_all := lw_g (lw_at lw_m2 179 rfl) rfl
theorem q538 : (Jvm.Cond.soleField "PrairiePool" "reader") ∈ lw_all := lw_g (lw_at lw_m2 180 rfl) rfl
theorem q539 : (Jvm.Cond.laysFinal "PrairiePool" "PrairiePool" "asked" "LPrairiePool$Asked;") ∈ lw_all := lw_g (lw_at lw_m2 181 rfl) rfl
theorem q540 : (Jvm.Cond.soleField "PrairiePool" "asked") ∈ lw_all := lw_g (lw_at lw_m2 182 rfl) rfl
theorem q541 : (Jvm.Cond.laysFinal "PrairiePool" "PrairiePool" "laws" "[LPrairiePool$Law;") ∈ lw_all := lw_g (lw_at lw_m2 183 rfl) rfl
theorem q542 : (Jvm.Cond.soleField "PrairiePool" "laws") ∈ lw_all := lw_g (lw_at lw_m2 184 rfl) rfl
theorem q543 : (Jvm.Cond.lays "PrairiePool" "PrairiePool" "farmMany" "I") ∈ lw_all := lw_g (lw_at lw_m2 185 rfl) rfl
theorem q544 : (Jvm.Cond.soleField "PrairiePool" "farmMany") ∈ lw_all := lw_g (lw_at lw_m2 186 rfl) rfl
theorem q545 : (Jvm.Cond.lays "PrairiePool" "PrairiePool" "elevatorMany" "I") ∈ lw_all := lw_g (lw_at lw_m2 187 rfl) rfl
theorem q546 : (Jvm.Cond.soleField "PrairiePool" "elevatorMany") ∈ lw_all := lw_g (lw_at lw_m2 188 rfl) rfl
theorem q547 : (Jvm.Cond.lays "PrairiePool" "PrairiePool" "eventMany" "I") ∈ lw_all := lw_g (lw_at lw_m2 189 rfl) rfl
theorem q548 : (Jvm.Cond.soleField "PrairiePool" "eventMany") ∈ lw_all := lw_g (lw_at lw_m2 190 rfl) rfl
theorem q549 : (Jvm.Cond.lays "PrairiePool" "PrairiePool" "gradingMany" "I") ∈ lw_all := lw_g (lw_at lw_m2 191 rfl) rfl
theorem q550 : (Jvm.Cond.soleField "PrairiePool" "gradingMany") ∈ lw_all := lw_g (lw_at lw_m2 192 rfl) rfl
theorem q551 : (Jvm.Cond.lays "PrairiePool" "PrairiePool" "lawMany" "I") ∈ lw_all := lw_g (lw_at lw_m2 193 rfl) rfl
theorem q552 : (Jvm.Cond.soleField "PrairiePool" "lawMany") ∈ lw_all := lw_g (lw_at lw_m2 194 rfl) rfl
theorem q553 : (Jvm.Cond.lays "PrairiePool" "PrairiePool" "latest" "I") ∈ lw_all := lw_g (lw_at lw_m2 195 rfl) rfl
theorem q554 : (Jvm.Cond.soleField "PrairiePool" "latest") ∈ lw_all := lw_g (lw_at lw_m2 196 rfl) rfl
theorem q555 : (Jvm.Cond.lays "PrairiePool" "PrairiePool" "status" "I") ∈ lw_all := lw_g (lw_at lw_m2 197 rfl) rfl
theorem q556 : (Jvm.Cond.soleField "PrairiePool" "status") ∈ lw_all := lw_g (lw_at lw_m2 198 rfl) rfl
theorem q557 : (Jvm.Cond.lays "PrairiePool" "PrairiePool" "faultKind" "I") ∈ lw_all := lw_g (lw_at lw_m2 199 rfl) rfl
theorem q558 : (Jvm.Cond.soleField "PrairiePool" "faultKind") ∈ lw_all := lw_g (lw_at lw_m2 200 rfl) rfl
theorem q559 : (Jvm.Cond.lays "PrairiePool" "PrairiePool" "faultPlace" "I") ∈ lw_all := lw_g (lw_at lw_m2 201 rfl) rfl
theorem q560 : (Jvm.Cond.soleField "PrairiePool" "faultPlace") ∈ lw_all := lw_g (lw_at lw_m2 202 rfl) rfl
theorem q561 : (Jvm.Cond.lays "PrairiePool" "PrairiePool" "force" "LPrairiePool$Law;") ∈ lw_all := lw_g (lw_at lw_m2 203 rfl) rfl
theorem q562 : (Jvm.Cond.soleField "PrairiePool" "force") ∈ lw_all := lw_g (lw_at lw_m2 204 rfl) rfl
theorem q563 : (Jvm.Cond.laysFinal "PrairiePool" "PrairiePool" "lasts" "[J") ∈ lw_all := lw_g (lw_at lw_m2 205 rfl) rfl
theorem q564 : (Jvm.Cond.soleField "PrairiePool" "lasts") ∈ lw_all := lw_g (lw_at lw_m2 206 rfl) rfl
theorem q565 : (Jvm.Cond.laysFinal "PrairiePool" "PrairiePool" "firsts" "[J") ∈ lw_all := lw_g (lw_at lw_m2 207 rfl) rfl
theorem q566 : (Jvm.Cond.soleField "PrairiePool" "firsts") ∈ lw_all := lw_g (lw_at lw_m2 208 rfl) rfl
theorem q567 : (Jvm.Cond.laysFinal "PrairiePool" "PrairiePool" "owes" "[J") ∈ lw_all := lw_g (lw_at lw_m2 209 rfl) rfl
theorem q568 : (Jvm.Cond.soleField "PrairiePool" "owes") ∈ lw_all := lw_g (lw_at lw_m2 210 rfl) rfl
theorem q569 : (Jvm.Cond.lays "PrairiePool" "PrairiePool" "belowBy" "J") ∈ lw_all := lw_g (lw_at lw_m2 211 rfl) rfl
theorem q570 : (Jvm.Cond.soleField "PrairiePool" "belowBy") ∈ lw_all := lw_g (lw_at lw_m2 212 rfl) rfl
theorem q571 : (Jvm.Cond.lays "PrairiePool" "PrairiePool" "stood" "J") ∈ lw_all := lw_g (lw_at lw_m2 213 rfl) rfl
theorem q572 : (Jvm.Cond.soleField "PrairiePool" "stood") ∈ lw_all := lw_g (lw_at lw_m2 214 rfl) rfl
theorem q573 : (Jvm.Cond.laysFinal "PrairiePool" "PrairiePool" "gotCars" "[I") ∈ lw_all := lw_g (lw_at lw_m2 215 rfl) rfl
theorem q574 : (Jvm.Cond.soleField "PrairiePool" "gotCars") ∈ lw_all := lw_g (lw_at lw_m2 216 rfl) rfl
theorem q575 : (Jvm.Cond.laysFinal "PrairiePool" "PrairiePool" "waits" "[I") ∈ lw_all := lw_g (lw_at lw_m2 217 rfl) rfl
theorem q576 : (Jvm.Cond.soleField "PrairiePool" "waits") ∈ lw_all := lw_g (lw_at lw_m2 218 rfl) rfl
theorem q577 : (Jvm.Cond.laysFinal "PrairiePool" "PrairiePool" "oFarm" "[I") ∈ lw_all := lw_g (lw_at lw_m2 219 rfl) rfl
theorem q578 : (Jvm.Cond.soleField "PrairiePool" "oFarm") ∈ lw_all := lw_g (lw_at lw_m2 220 rfl) rfl
theorem q579 : (Jvm.Cond.laysFinal "PrairiePool" "PrairiePool" "oWeek" "[I") ∈ lw_all := lw_g (lw_at lw_m2 221 rfl) rfl
theorem q580 : (Jvm.Cond.soleField "PrairiePool" "oWeek") ∈ lw_all := lw_g (lw_at lw_m2 222 rfl) rfl
theorem q581 : (Jvm.Cond.laysFinal "PrairiePool" "PrairiePool" "oBushels" "[I") ∈ lw_all := lw_g (lw_at lw_m2 223 rfl) rfl
theorem q582 : (Jvm.Cond.soleField "PrairiePool" "oBushels") ∈ lw_all := lw_g (lw_at lw_m2 224 rfl) rfl
theorem q583 : (Jvm.Cond.laysFinal "PrairiePool" "PrairiePool" "oPence" "[I") ∈ lw_all := lw_g (lw_at lw_m2 225 rfl) rfl
theorem q584 : (Jvm.Cond.soleField "PrairiePool" "oPence") ∈ lw_all := lw_g (lw_at lw_m2 226 rfl) rfl
theorem q585 : (Jvm.Cond.laysFinal "PrairiePool" "PrairiePool" "prices" "[I") ∈ lw_all := lw_g (lw_at lw_m2 227 rfl) rfl
theorem q586 : (Jvm.Cond.soleField "PrairiePool" "prices") ∈ lw_all := lw_g (lw_at lw_m2 228 rfl) rfl
theorem q587 : (Jvm.Cond.lays "PrairiePool" "PrairiePool" "outsides" "I") ∈ lw_all := lw_g (lw_at lw_m2 229 rfl) rfl
theorem q588 : (Jvm.Cond.soleField "PrairiePool" "outsides") ∈ lw_all := lw_g (lw_at lw_m2 230 rfl) rfl
theorem q589 : (Jvm.Cond.lays "PrairiePool" "PrairiePool" "step" "I") ∈ lw_all := lw_g (lw_at lw_m2 231 rfl) rfl
theorem q590 : (Jvm.Cond.soleField "PrairiePool" "step") ∈ lw_all := lw_g (lw_at lw_m2 232 rfl) rfl
theorem q591 : (Jvm.Cond.lays "PrairiePool" "PrairiePool" "lag" "I") ∈ lw_all := lw_g (lw_at lw_m2 233 rfl) rfl
theorem q592 : (Jvm.Cond.soleField "PrairiePool" "lag") ∈ lw_all := lw_g (lw_at lw_m2 234 rfl) rfl
theorem q593 : (Jvm.Cond.laysFinal "PrairiePool" "PrairiePool" "turnedBy" "[I") ∈ lw_all := lw_g (lw_at lw_m2 235 rfl) rfl
theorem q594 : (Jvm.Cond.soleField "PrairiePool" "turnedBy") ∈ lw_all := lw_g (lw_at lw_m2 236 rfl) rfl
theorem q595 : (Jvm.Cond.laysFinal "PrairiePool" "PrairiePool" "weight" "[I") ∈ lw_all := lw_g (lw_at lw_m2 237 rfl) rfl
theorem q596 : (Jvm.Cond.soleField "PrairiePool" "weight") ∈ lw_all := lw_g (lw_at lw_m2 238 rfl) rfl
theorem q597 : (Jvm.Cond.laysFinal "PrairiePool" "PrairiePool" "forBy" "[I") ∈ lw_all := lw_g (lw_at lw_m2 239 rfl) rfl
theorem q598 : (Jvm.Cond.soleField "PrairiePool" "forBy") ∈ lw_all := lw_g (lw_at lw_m3 0 rfl) rfl
theorem q599 : (Jvm.Cond.laysFinal "PrairiePool" "PrairiePool" "spoils" "[I") ∈ lw_all := lw_g (lw_at lw_m3 1 rfl) rfl
theorem q600 : (Jvm.Cond.soleField "PrairiePool" "spoils") ∈ lw_all := lw_g (lw_at lw_m3 2 rfl) rfl
theorem q601 : (Jvm.Cond.laysFinal "PrairiePool" "PrairiePool" "heaped" "[I") ∈ lw_all := lw_g (lw_at lw_m3 3 rfl) rfl
theorem q602 : (Jvm.Cond.soleField "PrairiePool" "heaped") ∈ lw_all := lw_g (lw_at lw_m3 4 rfl) rfl
theorem q603 : (Jvm.Cond.laysFinal "PrairiePool" "PrairiePool" "turnedIn" "[I") ∈ lw_all := lw_g (lw_at lw_m3 5 rfl) rfl
theorem q604 : (Jvm.Cond.soleField "PrairiePool" "turnedIn") ∈ lw_all := lw_g (lw_at lw_m3 6 rfl) rfl
theorem q605 : (Jvm.Cond.laysFinal "PrairiePool" "PrairiePool" "saved" "[[I") ∈ lw_all := lw_g (lw_at lw_m3 7 rfl) rfl
theorem q606 : (Jvm.Cond.soleField "PrairiePool" "saved") ∈ lw_all := lw_g (lw_at lw_m3 8 rfl) rfl
theorem q607 : (Jvm.Cond.lays "PrairiePool" "PrairiePool" "hasWarm" "Z") ∈ lw_all := lw_g (lw_at lw_m3 9 rfl) rfl
theorem q608 : (Jvm.Cond.soleField "PrairiePool" "hasWarm") ∈ lw_all := lw_g (lw_at lw_m3 10 rfl) rfl
theorem q609 : (Jvm.Cond.laysFinal "PrairiePool" "PrairiePool" "price" "[[I") ∈ lw_all := lw_g (lw_at lw_m3 11 rfl) rfl
theorem q610 : (Jvm.Cond.soleField "PrairiePool" "price") ∈ lw_all := lw_g (lw_at lw_m3 12 rfl) rfl
theorem q611 : (Jvm.Cond.laysFinal "PrairiePool" "PrairiePool" "sent" "[[I") ∈ lw_all := lw_g (lw_at lw_m3 13 rfl) rfl
theorem q612 : (Jvm.Cond.soleField "PrairiePool" "sent") ∈ lw_all := lw_g (lw_at lw_m3 14 rfl) rfl
theorem q613 : (Jvm.Cond.laysFinal "PrairiePool" "PrairiePool" "left" "[I") ∈ lw_all := lw_g (lw_at lw_m3 15 rfl) rfl
theorem q614 : (Jvm.Cond.soleField "PrairiePool" "left") ∈ lw_all := lw_g (lw_at lw_m3 16 rfl) rfl
theorem q615 : (Jvm.Cond.laysFinal "PrairiePool" "PrairiePool" "lack" "[I") ∈ lw_all := lw_g (lw_at lw_m3 17 rfl) rfl
theorem q616 : (Jvm.Cond.soleField "PrairiePool" "lack") ∈ lw_all := lw_g (lw_at lw_m3 18 rfl) rfl
theorem q617 : (Jvm.Cond.laysFinal "PrairiePool" "PrairiePool" "farBin" "[I") ∈ lw_all := lw_g (lw_at lw_m3 19 rfl) rfl
theorem q618 : (Jvm.Cond.soleField "PrairiePool" "farBin") ∈ lw_all := lw_g (lw_at lw_m3 20 rfl) rfl
theorem q619 : (Jvm.Cond.laysFinal "PrairiePool" "PrairiePool" "farOrder" "[I") ∈ lw_all := lw_g (lw_at lw_m3 21 rfl) rfl
theorem q620 : (Jvm.Cond.soleField "PrairiePool" "farOrder") ∈ lw_all := lw_g (lw_at lw_m3 22 rfl) rfl
theorem q621 : (Jvm.Cond.laysFinal "PrairiePool" "PrairiePool" "viaBin" "[I") ∈ lw_all := lw_g (lw_at lw_m3 23 rfl) rfl
theorem q622 : (Jvm.Cond.soleField "PrairiePool" "viaBin") ∈ lw_all := lw_g (lw_at lw_m3 24 rfl) rfl
theorem q623 : (Jvm.Cond.laysFinal "PrairiePool" "PrairiePool" "viaOrder" "[I") ∈ lw_all := lw_g (lw_at lw_m3 25 rfl) rfl
theorem q624 : (Jvm.Cond.soleField "PrairiePool" "viaOrder") ∈ lw_all := lw_g (lw_at lw_m3 26 rfl) rfl
theorem q625 : (Jvm.Cond.superclass "PrairiePool" "java/lang/Object") ∈ lw_all := lw_g (lw_at lw_m3 27 rfl) rfl
theorem q626 : (Jvm.Cond.methodLink "PrairiePoolLaw" (13 : Nat) ({ cls := "PrairiePool", name := "status", desc := "()I" } : Jvm.MethodName)) ∈ lw_all := lw_g (lw_at lw_m3 28 rfl) rfl
theorem q627 : (Jvm.Cond.instanceMethod ({ cls := "PrairiePool", name := "status", desc := "()I" } : Jvm.MethodName)) ∈ lw_all := lw_g (lw_at lw_m3 29 rfl) rfl
theorem q628 : (Jvm.Cond.selects "PrairiePool" ({ cls := "PrairiePool", name := "status", desc := "()I" } : Jvm.MethodName) ({ cls := "PrairiePool", name := "status", desc := "()I" } : Jvm.MethodName)) ∈ lw_all := lw_g (lw_at lw_m3 30 rfl) rfl
theorem q629 : (Jvm.Cond.code ({ cls := "PrairiePool", name := "status", desc := "()I" } : Jvm.MethodName) prog_1_method_2_code (1 : Nat) (Option.some Jvm.ClassFile.FieldType.int)) ∈ lw_all := lw_g (lw_at lw_m3 31 rfl) rfl
theorem q630 : (Jvm.Cond.methodLink "PrairiePoolLaw" (18 : Nat) ({ cls := "PrairiePool", name := "tray", desc := "(III)Z" } : Jvm.MethodName)) ∈ lw_all := lw_g (lw_at lw_m3 32 rfl) rfl
theorem q631 : (Jvm.Cond.instanceMethod ({ cls := "PrairiePool", name := "tray", desc := "(III)Z" } : Jvm.MethodName)) ∈ lw_all := lw_g (lw_at lw_m3 33 rfl) rfl
theorem q632 : (Jvm.Cond.selects "PrairiePool" ({ cls := "PrairiePool", name := "tray", desc := "(III)Z" } : Jvm.MethodName) ({ cls := "PrairiePool", name := "tray", desc := "(III)Z" } : Jvm.MethodName)) ∈ lw_all := lw_g (lw_at lw_m3 34 rfl) rfl
theorem q633 : (Jvm.Cond.codeWith ({ cls := "PrairiePool", name := "tray", desc := "(III)Z" } : Jvm.MethodName) prog_1_method_8_code (5 : Nat) (Option.some Jvm.ClassFile.FieldType.boolean) [((34 : Nat), (45 : Nat), (48 : Nat), (195 : Nat))]) ∈ lw_all := lw_g (lw_at lw_m3 35 rfl) rfl
theorem q634 : (Jvm.Cond.classLink "PrairiePool" (195 : Nat) "java/lang/NegativeArraySizeException") ∈ lw_all := lw_g (lw_at lw_m3 36 rfl) rfl
theorem q635 : (Jvm.Cond.instantiable "java/lang/NegativeArraySizeException" (6 : Nat)) ∈ lw_all := lw_g (lw_at lw_m3 37 rfl) rfl
theorem q636 : (Jvm.Cond.instanceMethod ({ cls := "java/lang/NegativeArraySizeException", name := "<init>", desc := "(Ljava/lang/String;)V" } : Jvm.MethodName)) ∈ lw_all := lw_g (lw_at lw_m3 38 rfl) rfl
theorem q637 : (Jvm.Cond.code ({ cls := "java/lang/NegativeArraySizeException", name := "<init>", desc := "(Ljava/lang/String;)V" } : Jvm.MethodName) prog_33_method_2_code (2 : Nat) (Option.none : Option Jvm.ClassFile.FieldType)) ∈ lw_all := lw_g (lw_at lw_m3 39 rfl) rfl
theorem q638 : (Jvm.Cond.methodLink "java/lang/NegativeArraySizeException" (7 : Nat) ({ cls := "java/lang/RuntimeException", name := "<init>", desc := "(Ljava/lang/String;)V" } : Jvm.MethodName)) ∈ lw_all := lw_g (lw_at lw_m3 40 rfl) rfl
theorem q639 : (Jvm.Cond.instanceMethod ({ cls := "java/lang/RuntimeException", name := "<init>", desc := "(Ljava/lang/String;)V" } : Jvm.MethodName)) ∈ lw_all := lw_g (lw_at lw_m3 41 rfl) rfl
theorem q640 : (Jvm.Cond.code ({ cls := "java/lang/RuntimeException", name := "<init>", desc := "(Ljava/lang/String;)V" } : Jvm.MethodName) prog_35_method_2_code (2 : Nat) (Option.none : Option Jvm.ClassFile.FieldType)) ∈ lw_all := lw_g (lw_at lw_m3 42 rfl) rfl
theorem q641 : (Jvm.Cond.methodLink "java/lang/RuntimeException" (7 : Nat) ({ cls := "java/lang/Exception", name := "<init>", desc := "(Ljava/lang/String;)V" } : Jvm.MethodName)) ∈ lw_all := lw_g (lw_at lw_m3 43 rfl) rfl
theorem q642 : (Jvm.Cond.instanceMethod ({ cls := "java/lang/Exception", name := "<init>", desc := "(Ljava/lang/String;)V" } : Jvm.MethodName)) ∈ lw_all := lw_g (lw_at lw_m3 44 rfl) rfl
theorem q643 : (Jvm.Cond.code ({ cls := "java/lang/Exception", name := "<init>", desc := "(Ljava/lang/String;)V" } : Jvm.MethodName) prog_29_method_2_code (2 : Nat) (Option.none : Option Jvm.ClassFile.FieldType)) ∈ lw_all := lw_g (lw_at lw_m3 45 rfl) rfl
theorem q644 : (Jvm.Cond.methodLink "java/lang/Exception" (7 : Nat) ({ cls := "java/lang/Throwable", name := "<init>", desc := "(Ljava/lang/String;)V" } : Jvm.MethodName)) ∈ lw_all := lw_g (lw_at lw_m3 46 rfl) rfl
theorem q645 : (Jvm.Cond.instanceMethod ({ cls := "java/lang/Throwable", name := "<init>", desc := "(Ljava/lang/String;)V" } : Jvm.MethodName)) ∈ lw_all := lw_g (lw_at lw_m3 47 rfl) rfl
theorem q646 : (Jvm.Cond.code ({ cls := "java/lang/Throwable", name := "<init>", desc := "(Ljava/lang/String;)V" } : Jvm.MethodName) prog_40_method_2_code (2 : Nat) (Option.none : Option Jvm.ClassFile.FieldType)) ∈ lw_all := lw_g (lw_at lw_m3 48 rfl) rfl
theorem q647 : (Jvm.Cond.lays "java/lang/NegativeArraySizeException" "java/lang/Throwable" "backtrace" "Ljava/lang/Object;") ∈ lw_all := lw_g (lw_at lw_m3 49 rfl) rfl
theorem q648 : (Jvm.Cond.lays "java/lang/NegativeArraySizeException" "java/lang/Throwable" "detailMessage" "Ljava/lang/String;") ∈ lw_all := lw_g (lw_at lw_m3 50 rfl) rfl
theorem q649 : (Jvm.Cond.lays "java/lang/NegativeArraySizeException" "java/lang/Throwable" "cause" "Ljava/lang/Throwable;") ∈ lw_all := lw_g (lw_at lw_m3 51 rfl) rfl
theorem q650 : (Jvm.Cond.lays "java/lang/NegativeArraySizeException" "java/lang/Throwable" "stackTrace" "[Ljava/lang/StackTraceElement;") ∈ lw_all := lw_g (lw_at lw_m3 52 rfl) rfl
theorem q651 : (Jvm.Cond.lays "java/lang/NegativeArraySizeException" "java/lang/Throwable" "depth" "I") ∈ lw_all := lw_g (lw_at lw_m3 53 rfl) rfl
theorem q652 : (Jvm.Cond.lays "java/lang/NegativeArraySizeException" "java/lang/Throwable" "suppressedExceptions" "Ljava/util/List;") ∈ lw_all := lw_g (lw_at lw_m3 54 rfl) rfl
theorem q653 : (Jvm.Cond.superclass "java/lang/NegativeArraySizeException" "java/lang/RuntimeException") ∈ lw_all := lw_g (lw_at lw_m3 55 rfl) rfl
theorem q654 : (Jvm.Cond.castable "java/lang/NegativeArraySizeException" "java/lang/NegativeArraySizeException") ∈ lw_tbl := lw_at lw_m3 56 rfl
theorem q655 : (Jvm.Cond.selects "java/lang/NegativeArraySizeException" ({ cls := "java/lang/Throwable", name := "fillInStackTrace", desc := "(I)Ljava/lang/Throwable;" } : Jvm.MethodName) ({ cls := "java/lang/Throwable", name := "fillInStackTrace", desc := "(I)Ljava/lang/Throwable;" } : Jvm.MethodName)) ∈ lw_all := lw_g (lw_at lw_m3 57 rfl) rfl
theorem q656 : (Jvm.Cond.instantiable "java/lang/String" (4 : Nat)) ∈ lw_all := lw_g (lw_at lw_m3 58 rfl) rfl
theorem q657 : (Jvm.Cond.laysFinal "java/lang/String" "java/lang/String" "value" "[B") ∈ lw_all := lw_g (lw_at lw_m3 59 rfl) rfl
theorem q658 : (Jvm.Cond.soleField "java/lang/String" "value") ∈ lw_all := lw_g (lw_at lw_m3 60 rfl) rfl
theorem q659 : (Jvm.Cond.laysFinal "java/lang/String" "java/lang/String" "coder" "B") ∈ lw_all := lw_g (lw_at lw_m3 61 rfl) rfl
theorem q660 : (Jvm.Cond.soleField "java/lang/String" "coder") ∈ lw_all := lw_g (lw_at lw_m3 62 rfl) rfl
theorem q661 : (Jvm.Cond.methodLink "PrairiePool" (184 : Nat) ({ cls := "PrairiePool", name := "isTray", desc := "(I)Z" } : Jvm.MethodName)) ∈ lw_all := lw_g (lw_at lw_m3 63 rfl) rfl
theorem q662 : (Jvm.Cond.static ({ cls := "PrairiePool", name := "isTray", desc := "(I)Z" } : Jvm.MethodName)) ∈ lw_all := lw_g (lw_at lw_m3 64 rfl) rfl
theorem q663 : (Jvm.Cond.code ({ cls := "PrairiePool", name := "isTray", desc := "(I)Z" } : Jvm.MethodName) prog_1_method_7_code (1 : Nat) (Option.some Jvm.ClassFile.FieldType.boolean)) ∈ lw_all := lw_g (lw_at lw_m3 65 rfl) rfl
theorem q664 : (Jvm.Cond.methodLink "PrairiePool" (188 : Nat) ({ cls := "PrairiePool", name := "is", desc := "(I)Z" } : Jvm.MethodName)) ∈ lw_all := lw_g (lw_at lw_m3 66 rfl) rfl
theorem q665 : (Jvm.Cond.privateMethod ({ cls := "PrairiePool", name := "is", desc := "(I)Z" } : Jvm.MethodName)) ∈ lw_tbl := lw_at lw_m3 67 rfl
theorem q666 : (Jvm.Cond.instanceMethod ({ cls := "PrairiePool", name := "is", desc := "(I)Z" } : Jvm.MethodName)) ∈ lw_all := lw_g (lw_at lw_m3 68 rfl) rfl
theorem q667 : (Jvm.Cond.code ({ cls := "PrairiePool", name := "is", desc := "(I)Z" } : Jvm.MethodName) prog_1_method_3_code (2 : Nat) (Option.some Jvm.ClassFile.FieldType.boolean)) ∈ lw_all := lw_g (lw_at lw_m3 69 rfl) rfl
theorem q668 : (Jvm.Cond.methodLink "PrairiePool" (191 : Nat) ({ cls := "PrairiePool$Tray", name := "make", desc := "(II)V" } : Jvm.MethodName)) ∈ lw_all := lw_g (lw_at lw_m3 70 rfl) rfl
theorem q669 : (Jvm.Cond.instanceMethod ({ cls := "PrairiePool$Tray", name := "make", desc := "(II)V" } : Jvm.MethodName)) ∈ lw_all := lw_g (lw_at lw_m3 71 rfl) rfl
theorem q670 : (Jvm.Cond.selects "PrairiePool$Tray" ({ cls := "PrairiePool$Tray", name := "make", desc := "(II)V" } : Jvm.MethodName) ({ cls := "PrairiePool$Tray", name := "make", desc := "(II)V" } : Jvm.MethodName)) ∈ lw_all := lw_g (lw_at lw_m3 72 rfl) rfl
theorem q671 : (Jvm.Cond.code ({ cls := "PrairiePool$Tray", name := "make", desc := "(II)V" } : Jvm.MethodName) prog_23_method_2_code (4 : Nat) (Option.none : Option Jvm.ClassFile.FieldType)) ∈ lw_all := lw_g (lw_at lw_m3 73 rfl) rfl
theorem q672 : (Jvm.Cond.arrayClass Jvm.ClassFile.FieldType.short) ∈ lw_all := lw_g (lw_at lw_m3 74 rfl) rfl
theorem q673 : (Jvm.Cond.methodLink "PrairiePoolLaw" (25 : Nat) ({ cls := "PrairiePool", name := "write", desc := "(IIJ)Z" } : Jvm.MethodName)) ∈ lw_all := lw_g (lw_at lw_m3 75 rfl) rfl
theorem q674 : (Jvm.Cond.instanceMethod ({ cls := "PrairiePool", name := "write", desc := "(IIJ)Z" } : Jvm.MethodName)) ∈ lw_all := lw_g (lw_at lw_m3 76 rfl) rfl
theorem q675 : (Jvm.Cond.selects "PrairiePool" ({ cls := "PrairiePool", name := "write", desc := "(IIJ)Z" } : Jvm.MethodName) ({ cls := "PrairiePool", name := "write", desc := "(IIJ)Z" } : Jvm.MethodName)) ∈ lw_all := lw_g (lw_at lw_m3 77 rfl) rfl
theorem q676 : (Jvm.Cond.codeWith ({ cls := "PrairiePool", name := "write", desc := "(IIJ)Z" } : Jvm.MethodName) prog_1_method_9_code (6 : Nat) (Option.some Jvm.ClassFile.FieldType.boolean) [((13 : Nat), (24 : Nat), (27 : Nat), (201 : Nat)), ((13 : Nat), (24 : Nat), (35 : Nat), (203 : Nat))]) ∈ lw_all := lw_g (lw_at lw_m3 78 rfl) rfl
theorem q677 : (Jvm.Cond.classLink "PrairiePool" (201 : Nat) "java/lang/NullPointerException") ∈ lw_all := lw_g (lw_at lw_m3 79 rfl) rfl
theorem q678 : (Jvm.Cond.instanceMethod ({ cls := "java/lang/NullPointerException", name := "<init>", desc := "()V" } : Jvm.MethodName)) ∈ lw_all := lw_g (lw_at lw_m3 80 rfl) rfl
theorem q679 : (Jvm.Cond.code ({ cls := "java/lang/NullPointerException", name := "<init>", desc := "()V" } : Jvm.MethodName) prog_34_method_1_code (1 : Nat) (Option.none : Option Jvm.ClassFile.FieldType)) ∈ lw_all := lw_g (lw_at lw_m3 81 rfl) rfl
theorem q680 : (Jvm.Cond.methodLink "java/lang/NullPointerException" (1 : Nat) ({ cls := "java/lang/RuntimeException", name := "<init>", desc := "()V" } : Jvm.MethodName)) ∈ lw_all := lw_g (lw_at lw_m3 82 rfl) rfl
theorem q681 : (Jvm.Cond.instanceMethod ({ cls := "java/lang/RuntimeException", name := "<init>", desc := "()V" } : Jvm.MethodName)) ∈ lw_all := lw_g (lw_at lw_m3 83 rfl) rfl
theorem q682 : (Jvm.Cond.code ({ cls := "java/lang/RuntimeException", name := "<init>", desc := "()V" } : Jvm.MethodName) prog_35_method_1_code (1 : Nat) (Option.none : Option Jvm.ClassFile.FieldType)) ∈ lw_all := lw_g (lw_at lw_m3 84 rfl) rfl
theorem q683 : (Jvm.Cond.methodLink "java/lang/RuntimeException" (1 : Nat) ({ cls := "java/lang/Exception", name := "<init>", desc := "()V" } : Jvm.MethodName)) ∈ lw_all := lw_g (lw_at lw_m3 85 rfl) rfl
theorem q684 : (Jvm.Cond.instanceMethod ({ cls := "java/lang/Exception", name := "<init>", desc := "()V" } : Jvm.MethodName)) ∈ lw_all := lw_g (lw_at lw_m3 86 rfl) rfl
theorem q685 : (Jvm.Cond.code ({ cls := "java/lang/Exception", name := "<init>", desc := "()V" } : Jvm.MethodName) prog_29_method_1_code (1 : Nat) (Option.none : Option Jvm.ClassFile.FieldType)) ∈ lw_all := lw_g (lw_at lw_m3 87 rfl) rfl
theorem q686 : (Jvm.Cond.methodLink "java/lang/Exception" (1 : Nat) ({ cls := "java/lang/Throwable", name := "<init>", desc := "()V" } : Jvm.MethodName)) ∈ lw_all := lw_g (lw_at lw_m3 88 rfl) rfl
theorem q687 : (Jvm.Cond.fieldLink "java/lang/NullPointerException" (10 : Nat) "java/lang/NullPointerException" "extendedMessageState" "I") ∈ lw_all := lw_g (lw_at lw_m3 89 rfl) rfl
theorem q688 : (Jvm.Cond.fieldLink "java/lang/NullPointerException" (20 : Nat) "java/lang/NullPointerException" "extendedMessage" "Ljava/lang/String;") ∈ lw_all := lw_g (lw_at lw_m3 90 rfl) rfl
theorem q689 : (Jvm.Cond.lays "java/lang/NullPointerException" "java/lang/NullPointerException" "extendedMessageState" "I") ∈ lw_all := lw_g (lw_at lw_m3 91 rfl) rfl
theorem q690 : (Jvm.Cond.soleField "java/lang/NullPointerException" "extendedMessageState") ∈ lw_all := lw_g (lw_at lw_m3 92 rfl) rfl
theorem q691 : (Jvm.Cond.lays "java/lang/NullPointerException" "java/lang/NullPointerException" "extendedMessage" "Ljava/lang/String;") ∈ lw_all := lw_g (lw_at lw_m3 93 rfl) rfl
theorem q692 : (Jvm.Cond.soleField "java/lang/NullPointerException" "extendedMessage") ∈ lw_all := lw_g (lw_at lw_m3 94 rfl) rfl
theorem q693 : (Jvm.Cond.lays "java/lang/NullPointerException" "java/lang/Throwable" "backtrace" "Ljava/lang/Object;") ∈ lw_all := lw_g (lw_at lw_m3 95 rfl) rfl
theorem q694 : (Jvm.Cond.lays "java/lang/NullPointerException" "java/lang/Throwable" "detailMessage" "Ljava/lang/String;") ∈ lw_all := lw_g (lw_at lw_m3 96 rfl) rfl
theorem q695 : (Jvm.Cond.lays "java/lang/NullPointerException" "java/lang/Throwable" "cause" "Ljava/lang/Throwable;") ∈ lw_all := lw_g (lw_at lw_m3 97 rfl) rfl
theorem q696 : (Jvm.Cond.lays "java/lang/NullPointerException" "java/lang/Throwable" "stackTrace" "[Ljava/lang/StackTraceElement;") ∈ lw_all := lw_g (lw_at lw_m3 98 rfl) rfl
theorem q697 : (Jvm.Cond.lays "java/lang/NullPointerException" "java/lang/Throwable" "depth" "I") ∈ lw_all := lw_g (lw_at lw_m3 99 rfl) rfl
theorem q698 : (Jvm.Cond.lays "java/lang/NullPointerException" "java/lang/Throwable" "suppressedExceptions" "Ljava/util/List;") ∈ lw_all := lw_g (lw_at lw_m3 100 rfl) rfl
theorem q699 : (Jvm.Cond.castable "java/lang/NullPointerException" "java/lang/NullPointerException") ∈ lw_tbl := lw_at lw_m3 101 rfl
theorem q700 : (Jvm.Cond.selects "java/lang/NullPointerException" ({ cls := "java/lang/Throwable", name := "fillInStackTrace", desc := "(I)Ljava/lang/Throwable;" } : Jvm.MethodName) ({ cls := "java/lang/Throwable", name := "fillInStackTrace", desc := "(I)Ljava/lang/Throwable;" } : Jvm.MethodName)) ∈ lw_all := lw_g (lw_at lw_m3 102 rfl) rfl
theorem q701 : (Jvm.Cond.castable "java/lang/RuntimeException" "java/lang/Throwable") ∈ lw_tbl := lw_at lw_m3 103 rfl
theorem q702 : (Jvm.Cond.classLink "PrairiePool" (203 : Nat) "java/lang/ArrayIndexOutOfBoundsException") ∈ lw_all := lw_g (lw_at lw_m3 104 rfl) rfl
theorem q703 : (Jvm.Cond.instantiable "java/lang/ArrayIndexOutOfBoundsException" (6 : Nat)) ∈ lw_all := lw_g (lw_at lw_m3 105 rfl) rfl
theorem q704 : (Jvm.Cond.instanceMethod ({ cls := "java/lang/ArrayIndexOutOfBoundsException", name := "<init>", desc := "(Ljava/lang/String;)V" } : Jvm.MethodName)) ∈ lw_all := lw_g (lw_at lw_m3 106 rfl) rfl
theorem q705 : (Jvm.Cond.code ({ cls := "java/lang/ArrayIndexOutOfBoundsException", name := "<init>", desc := "(Ljava/lang/String;)V" } : Jvm.MethodName) prog_28_method_2_code (2 : Nat) (Option.none : Option Jvm.ClassFile.FieldType)) ∈ lw_all := lw_g (lw_at lw_m3 107 rfl) rfl
theorem q706 : (Jvm.Cond.methodLink "java/lang/ArrayIndexOutOfBoundsException" (7 : Nat) ({ cls := "java/lang/IndexOutOfBoundsException", name := "<init>", desc := "(Ljava/lang/String;)V" } : Jvm.MethodName)) ∈ lw_all := lw_g (lw_at lw_m3 108 rfl) rfl
theorem q707 : (Jvm.Cond.instanceMethod ({ cls := "java/lang/IndexOutOfBoundsException", name := "<init>", desc := "(Ljava/lang/String;)V" } : Jvm.MethodName)) ∈ lw_all := lw_g (lw_at lw_m3 109 rfl) rfl
theorem q708 : (Jvm.Cond.code ({ cls := "java/lang/IndexOutOfBoundsException", name := "<init>", desc := "(Ljava/lang/String;)V" } : Jvm.MethodName) prog_30_method_2_code (2 : Nat) (Option.none : Option Jvm.ClassFile.FieldType)) ∈ lw_all := lw_g (lw_at lw_m3 110 rfl) rfl
theorem q709 : (Jvm.Cond.methodLink "java/lang/IndexOutOfBoundsException" (7 : Nat) ({ cls := "java/lang/RuntimeException", name := "<init>", desc := "(Ljava/lang/String;)V" } : Jvm.MethodName)) ∈ lw_all := lw_g (lw_at lw_m3 111 rfl) rfl
theorem q710 : (Jvm.Cond.lays "java/lang/ArrayIndexOutOfBoundsException" "java/lang/Throwable" "backtrace" "Ljava/lang/Object;") ∈ lw_all := lw_g (lw_at lw_m3 112 rfl) rfl
theorem q711 : (Jvm.Cond.lays "java/lang/ArrayIndexOutOfBoundsException" "java/lang/Throwable" "detailMessage" "Ljava/lang/String;") ∈ lw_all := lw_g (lw_at lw_m3 113 rfl) rfl
theorem q712 : (Jvm.Cond.lays "java/lang/ArrayIndexOutOfBoundsException" "java/lang/Throwable" "cause" "Ljava/lang/Throwable;") ∈ lw_all := lw_g (lw_at lw_m3 114 rfl) rfl
theorem q713 : (Jvm.Cond.lays "java/lang/ArrayIndexOutOfBoundsException" "java/lang/Throwable" "stackTrace" "[Ljava/lang/StackTraceElement;") ∈ lw_all := lw_g (lw_at lw_m3 115 rfl) rfl
theorem q714 : (Jvm.Cond.lays "java/lang/ArrayIndexOutOfBoundsException" "java/lang/Throwable" "depth" "I") ∈ lw_all := lw_g (lw_at lw_m3 116 rfl) rfl
theorem q715 : (Jvm.Cond.lays "java/lang/ArrayIndexOutOfBoundsException" "java/lang/Throwable" "suppressedExceptions" "Ljava/util/List;") ∈ lw_all := lw_g (lw_at lw_m3 117 rfl) rfl
theorem q716 : (Jvm.Cond.superclass "java/lang/ArrayIndexOutOfBoundsException" "java/lang/IndexOutOfBoundsException") ∈ lw_all := lw_g (lw_at lw_m3 118 rfl) rfl
theorem q717 : (Jvm.Cond.castable "java/lang/ArrayIndexOutOfBoundsException" "java/lang/ArrayIndexOutOfBoundsException") ∈ lw_tbl := lw_at lw_m3 119 rfl
theorem q718 : (Jvm.Cond.declares ({ cls := "java/lang/IndexOutOfBoundsException", name := "<init>", desc := "()V" } : Jvm.MethodName)) ∈ lw_tbl := lw_at lw_m3 120 rfl
theorem q719 : (Jvm.Cond.declares ({ cls := "java/lang/IndexOutOfBoundsException", name := "<init>", desc := "(Ljava/lang/String;)V" } : Jvm.MethodName)) ∈ lw_tbl := lw_at lw_m3 121 rfl
theorem q720 : (Jvm.Cond.selects "java/lang/ArrayIndexOutOfBoundsException" ({ cls := "java/lang/Throwable", name := "fillInStackTrace", desc := "(I)Ljava/lang/Throwable;" } : Jvm.MethodName) ({ cls := "java/lang/Throwable", name := "fillInStackTrace", desc := "(I)Ljava/lang/Throwable;" } : Jvm.MethodName)) ∈ lw_all := lw_g (lw_at lw_m3 122 rfl) rfl
theorem q721 : (Jvm.Cond.methodLink "PrairiePool" (197 : Nat) ({ cls := "PrairiePool$Tray", name := "set", desc := "(IJ)V" } : Jvm.MethodName)) ∈ lw_all := lw_g (lw_at lw_m3 123 rfl) rfl
theorem q722 : (Jvm.Cond.instanceMethod ({ cls := "PrairiePool$Tray", name := "set", desc := "(IJ)V" } : Jvm.MethodName)) ∈ lw_all := lw_g (lw_at lw_m3 124 rfl) rfl
theorem q723 : (Jvm.Cond.selects "PrairiePool$Tray" ({ cls := "PrairiePool$Tray", name := "set", desc := "(IJ)V" } : Jvm.MethodName) ({ cls := "PrairiePool$Tray", name := "set", desc := "(IJ)V" } : Jvm.MethodName)) ∈ lw_all := lw_g (lw_at lw_m3 125 rfl) rfl
theorem q724 : (Jvm.Cond.code ({ cls := "PrairiePool$Tray", name := "set", desc := "(IJ)V" } : Jvm.MethodName) prog_23_method_5_code (4 : Nat) (Option.none : Option Jvm.ClassFile.FieldType)) ∈ lw_all := lw_g (lw_at lw_m3 126 rfl) rfl
theorem q725 : (Jvm.Cond.classLink "PrairiePool$Tray" (17 : Nat) "[B") ∈ lw_all := lw_g (lw_at lw_m3 127 rfl) rfl
theorem q726 : (Jvm.Cond.classLink "PrairiePool$Tray" (19 : Nat) "[S") ∈ lw_all := lw_g (lw_at lw_m3 128 rfl) rfl
theorem q727 : (Jvm.Cond.classLink "PrairiePool$Tray" (21 : Nat) "[I") ∈ lw_all := lw_g (lw_at lw_m3 129 rfl) rfl
theorem q728 : (Jvm.Cond.classLink "PrairiePool$Tray" (23 : Nat) "[J") ∈ lw_all := lw_g (lw_at lw_m3 130 rfl) rfl
theorem q729 : (Jvm.Cond.methodLink "PrairiePoolLaw" (30 : Nat) ({ cls := "PrairiePool", name := "read", desc := "(II)J" } : Jvm.MethodName)) ∈ lw_all := lw_g (lw_at lw_m3 131 rfl) rfl
theorem q730 : (Jvm.Cond.instanceMethod ({ cls := "PrairiePool", name := "read", desc := "(II)J" } : Jvm.MethodName)) ∈ lw_all := lw_g (lw_at lw_m3 132 rfl) rfl
theorem q731 : (Jvm.Cond.selects "PrairiePool" ({ cls := "PrairiePool", name := "read", desc := "(II)J" } : Jvm.MethodName) ({ cls := "PrairiePool", name := "read", desc := "(II)J" } : Jvm.MethodName)) ∈ lw_all := lw_g (lw_at lw_m3 133 rfl) rfl
theorem q732 : (Jvm.Cond.codeWith ({ cls := "PrairiePool", name := "read", desc := "(II)J" } : Jvm.MethodName) prog_1_method_10_code (4 : Nat) (Option.some Jvm.ClassFile.FieldType.long) [((19 : Nat), (29 : Nat), (30 : Nat), (201 : Nat)), ((19 : Nat), (29 : Nat), (39 : Nat), (203 : Nat))]) ∈ lw_all := lw_g (lw_at lw_m3 134 rfl) rfl
theorem q733 : (Jvm.Cond.methodLink "PrairiePool" (205 : Nat) ({ cls := "PrairiePool", name := "none", desc := "(I)I" } : Jvm.MethodName)) ∈ lw_all := lw_g (lw_at lw_m3 135 rfl) rfl
theorem q734 : (Jvm.Cond.privateMethod ({ cls := "PrairiePool", name := "none", desc := "(I)I" } : Jvm.MethodName)) ∈ lw_tbl := lw_at lw_m3 136 rfl
theorem q735 : (Jvm.Cond.instanceMethod ({ cls := "PrairiePool", name := "none", desc := "(I)I" } : Jvm.MethodName)) ∈ lw_all := lw_g (lw_at lw_m3 137 rfl) rfl
theorem q736 : (Jvm.Cond.code ({ cls := "PrairiePool", name := "none", desc := "(I)I" } : Jvm.MethodName) prog_1_method_4_code (2 : Nat) (Option.some Jvm.ClassFile.FieldType.int)) ∈ lw_all := lw_g (lw_at lw_m3 138 rfl) rfl
theorem q737 : (Jvm.Cond.methodLink "PrairiePool" (209 : Nat) ({ cls := "PrairiePool$Tray", name := "get", desc := "(I)J" } : Jvm.MethodName)) ∈ lw_all := lw_g (lw_at lw_m3 139 rfl) rfl
theorem q738 : (Jvm.Cond.instanceMethod ({ cls := "PrairiePool$Tray", name := "get", desc := "(I)J" } : Jvm.MethodName)) ∈ lw_all := lw_g (lw_at lw_m3 140 rfl) rfl
theorem q739 : (Jvm.Cond.selects "PrairiePool$Tray" ({ cls := "PrairiePool$Tray", name := "get", desc := "(I)J" } : Jvm.MethodName) ({ cls := "PrairiePool$Tray", name := "get", desc := "(I)J" } : Jvm.MethodName)) ∈ lw_all := lw_g (lw_at lw_m3 141 rfl) rfl
theorem q740 : (Jvm.Cond.code ({ cls := "PrairiePool$Tray", name := "get", desc := "(I)J" } : Jvm.MethodName) prog_23_method_4_code (2 : Nat) (Option.some Jvm.ClassFile.FieldType.long)) ∈ lw_all := lw_g (lw_at lw_m3 142 rfl) rfl
theorem q741 : (Jvm.Cond.constantLong "PrairiePool" (213 : Nat) (-1 : Int64)) ∈ lw_all := lw_g (lw_at lw_m3 143 rfl) rfl
theorem q742 : (Jvm.Cond.methodLink "PrairiePoolLaw" (35 : Nat) ({ cls := "PrairiePool", name := "pour", desc := "(IIIII)Z" } : Jvm.MethodName)) ∈ lw_all := lw_g (lw_at lw_m3 144 rfl) rfl
theorem q743 : (Jvm.Cond.instanceMethod ({ cls := "PrairiePool", name := "pour", desc := "(IIIII)Z" } : Jvm.MethodName)) ∈ lw_all := lw_g (lw_at lw_m3 145 rfl) rfl
theorem q744 : (Jvm.Cond.selects "PrairiePool" ({ cls := "PrairiePool", name := "pour", desc := "(IIIII)Z" } : Jvm.MethodName) ({ cls := "PrairiePool", name := "pour", desc := "(IIIII)Z" } : Jvm.MethodName)) ∈ lw_all := lw_g (lw_at lw_m3 146 rfl) rfl
theorem q745 : (Jvm.Cond.codeWith ({ cls := "PrairiePool", name := "pour", desc := "(IIIII)Z" } : Jvm.MethodName) prog_1_method_11_code (9 : Nat) (Option.some Jvm.ClassFile.FieldType.boolean) [((80 : Nat), (92 : Nat), (95 : Nat), (201 : Nat)), ((80 : Nat), (92 : Nat), (103 : Nat), (228 : Nat))]) ∈ lw_all := lw_g (lw_at lw_m3 147 rfl) rfl
theorem q746 : (Jvm.Cond.classLink "PrairiePool" (228 : Nat) "java/lang/IndexOutOfBoundsException") ∈ lw_all := lw_g (lw_at lw_m3 148 rfl) rfl
theorem q747 : (Jvm.Cond.methodLink "PrairiePool" (222 : Nat) ({ cls := "java/lang/System", name := "arraycopy", desc := "(Ljava/lang/Object;ILjava/lang/Object;II)V" } : Jvm.MethodName)) ∈ lw_all := lw_g (lw_at lw_m3 149 rfl) rfl
theorem q748 : (Jvm.Cond.static ({ cls := "java/lang/System", name := "arraycopy", desc := "(Ljava/lang/Object;ILjava/lang/Object;II)V" } : Jvm.MethodName)) ∈ lw_all := lw_g (lw_at lw_m3 150 rfl) rfl
theorem q749 : (Jvm.Cond.native ({ cls := "java/lang/System", name := "arraycopy", desc := "(Ljava/lang/Object;ILjava/lang/Object;II)V" } : Jvm.MethodName)) ∈ lw_all := lw_g (lw_at lw_m3 151 rfl) rfl
theorem q750 : (Jvm.Cond.methodLink "PrairiePoolLaw" (40 : Nat) ({ cls := "PrairiePool", name := "farm", desc := "(III)I" } : Jvm.MethodName)) ∈ lw_all := lw_g (lw_at lw_m3 152 rfl) rfl
theorem q751 : (Jvm.Cond.instanceMethod ({ cls := "PrairiePool", name := "farm", desc := "(III)I" } : Jvm.MethodName)) ∈ lw_all := lw_g (lw_at lw_m3 153 rfl) rfl
theorem q752 : (Jvm.Cond.selects "PrairiePool" ({ cls := "PrairiePool", name := "farm", desc := "(III)I" } : Jvm.MethodName) ({ cls := "PrairiePool", name := "farm", desc := "(III)I" } : Jvm.MethodName)) ∈ lw_all := lw_g (lw_at lw_m3 154 rfl) rfl
theorem q753 : (Jvm.Cond.code ({ cls := "PrairiePool", name := "farm", desc := "(III)I" } : Jvm.MethodName) prog_1_method_20_code (4 : Nat) (Option.some Jvm.ClassFile.FieldType.int)) ∈ lw_all := lw_g (lw_at lw_m3 155 rfl) rfl
theorem q754 : (Jvm.Cond.methodLink "PrairiePool" (236 : Nat) ({ cls := "PrairiePool", name := "isDistrict", desc := "(I)Z" } : Jvm.MethodName)) ∈ lw_all := lw_g (lw_at lw_m3 156 rfl) rfl
theorem q755 : (Jvm.Cond.static ({ cls := "PrairiePool", name := "isDistrict", desc := "(I)Z" } : Jvm.MethodName)) ∈ lw_all := lw_g (lw_at lw_m3 157 rfl) rfl
theorem q756 : (Jvm.Cond.code ({ cls := "PrairiePool", name := "isDistrict", desc := "(I)Z" } : Jvm.MethodName) prog_1_method_16_code (1 : Nat) (Option.some Jvm.ClassFile.FieldType.boolean)) ∈ lw_all := lw_g (lw_at lw_m3 158 rfl) rfl
theorem q757 : (Jvm.Cond.constantLong "PrairiePool" (239 : Nat) (5000 : Int64)) ∈ lw_all := lw_g (lw_at lw_m3 159 rfl) rfl
theorem q758 : (Jvm.Cond.methodLink "PrairiePool" (241 : Nat) ({ cls := "PrairiePool", name := "isFrom", desc := "(JJJ)Z" } : Jvm.MethodName)) ∈ lw_all := lw_g (lw_at lw_m3 160 rfl) rfl
theorem q759 : (Jvm.Cond.static ({ cls := "PrairiePool", name := "isFrom", desc := "(JJJ)Z" } : Jvm.MethodName)) ∈ lw_all := lw_g (lw_at lw_m3 161 rfl) rfl
theorem q760 : (Jvm.Cond.code ({ cls := "PrairiePool", name := "isFrom", desc := "(JJJ)Z" } : Jvm.MethodName) prog_1_method_12_code (6 : Nat) (Option.some Jvm.ClassFile.FieldType.boolean)) ∈ lw_all := lw_g (lw_at lw_m3 162 rfl) rfl
theorem q761 : (Jvm.Cond.constantLong "PrairiePool" (245 : Nat) (100000 : Int64)) ∈ lw_all := lw_g (lw_at lw_m3 163 rfl) rfl
theorem q762 : (Jvm.Cond.instantiable "PrairiePool$Farm" (8 : Nat)) ∈ lw_all := lw_g (lw_at lw_m3 164 rfl) rfl
theorem q763 : (Jvm.Cond.methodLink "PrairiePool" (247 : Nat) ({ cls := "PrairiePool$Farm", name := "<init>", desc := "(IIII)V" } : Jvm.MethodName)) ∈ lw_all := lw_g (lw_at lw_m3 165 rfl) rfl
theorem q764 : (Jvm.Cond.instanceMethod ({ cls := "PrairiePool$Farm", name := "<init>", desc := "(IIII)V" } : Jvm.MethodName)) ∈ lw_all := lw_g (lw_at lw_m3 166 rfl) rfl
theorem q765 : (Jvm.Cond.code ({ cls := "PrairiePool$Farm", name := "<init>", desc := "(IIII)V" } : Jvm.MethodName) prog_8_method_1_code (5 : Nat) (Option.none : Option Jvm.ClassFile.FieldType)) ∈ lw_all := lw_g (lw_at lw_m3 167 rfl) rfl
theorem q766 : (Jvm.Cond.methodLink "PrairiePool$Farm" (3 : Nat) ({ cls := "java/lang/Object", name := "<init>", desc := "()V" } : Jvm.MethodName)) ∈ lw_all := lw_g (lw_at lw_m3 168 rfl) rfl
theorem q767 : (Jvm.Cond.fieldLink "PrairiePool$Farm" (25 : Nat) "PrairiePool$Farm" "number" "I") ∈ lw_all := lw_g (lw_at lw_m3 169 rfl) rfl
theorem q768 : (Jvm.Cond.fieldLink "PrairiePool$Load" (27 : Nat) "PrairiePool$Farm" "number" "I") ∈ lw_all := lw_g (lw_at lw_m3 170 rfl) rfl
theorem q769 : (Jvm.Cond.fieldLink "PrairiePool" (554 : Nat) "PrairiePool$Farm" "number" "I") ∈ lw_all := lw_g (lw_at lw_m3 171 rfl) rfl
theorem q770 : (Jvm.Cond.fieldLink "PrairiePool$Farm" (28 : Nat) "PrairiePool$Farm" "district" "I") ∈ lw_all := lw_g (lw_at lw_m3 172 rfl) rfl
theorem q771 : (Jvm.Cond.fieldLink "PrairiePool" (354 : Nat) "PrairiePool$Farm" "district" "I") ∈ lw_all := lw_g (lw_at lw_m3 173 rfl) rfl
theorem q772 : (Jvm.Cond.fieldLink "PrairiePool$Farm" (31 : Nat) "PrairiePool$Farm" "acres" "I") ∈ lw_all := lw_g (lw_at lw_m3 174 rfl) rfl
theorem q773 : (Jvm.Cond.fieldLink "PrairiePool" (543 : Nat) "PrairiePool$Farm" "acres" "I") ∈ lw_all := lw_g (lw_at lw_m3 175 rfl) rfl
theorem q774 : (Jvm.Cond.fieldLink "PrairiePool$Farm" (34 : Nat) "PrairiePool$Farm" "debt" "I") ∈ lw_all := lw_g (lw_at lw_m3 176 rfl) rfl
theorem q775 : (Jvm.Cond.fieldLink "PrairiePool" (546 : Nat) "PrairiePool$Farm" "debt" "I") ∈ lw_all := lw_g (lw_at lw_m3 177 rfl) rfl
theorem q776 : (Jvm.Cond.fieldLink "PrairiePool$Farm" (9 : Nat) "PrairiePool$Farm" "signedFrom" "I") ∈ lw_all := lw_g (lw_at lw_m3 178 rfl) rfl
theorem q777 : (Jvm.Cond.fieldLinkNest "PrairiePool" (527 : Nat) "PrairiePool$Farm" "signedFrom" "I" "PrairiePool") ∈ lw_tbl := lw_at lw_m3 179 rfl
theorem q778 : (Jvm.Cond.fieldLink "PrairiePool$Farm" (15 : Nat) "PrairiePool$Farm" "signedTo" "I") ∈ lw_all := lw_g (lw_at lw_m3 180 rfl) rfl
theorem q779 : (Jvm.Cond.fieldLinkNest "PrairiePool" (530 : Nat) "PrairiePool$Farm" "signedTo" "I" "PrairiePool") ∈ lw_tbl := lw_at lw_m3 181 rfl
theorem q780 : (Jvm.Cond.fieldLink "PrairiePool$Farm" (18 : Nat) "PrairiePool$Farm" "vote" "I") ∈ lw_all := lw_g (lw_at lw_m3 182 rfl) rfl
theorem q781 : (Jvm.Cond.fieldLinkNest "PrairiePool" (564 : Nat) "PrairiePool$Farm" "vote" "I" "PrairiePool") ∈ lw_tbl := lw_at lw_m3 183 rfl
theorem q782 : (Jvm.Cond.fieldLink "PrairiePool$Farm" (21 : Nat) "PrairiePool$Farm" "isLet" "[Z") ∈ lw_all := lw_g (lw_at lw_m3 184 rfl) rfl
theorem q783 : (Jvm.Cond.fieldLinkNest "PrairiePool" (533 : Nat) "PrairiePool$Farm" "isLet" "[Z" "PrairiePool") ∈ lw_tbl := lw_at lw_m3 185 rfl
theorem q784 : (Jvm.Cond.laysFinal "PrairiePool$Farm" "PrairiePool$Farm" "number" "I") ∈ lw_all := lw_g (lw_at lw_m3 186 rfl) rfl
theorem q785 : (Jvm.Cond.soleField "PrairiePool$Farm" "number") ∈ lw_all := lw_g (lw_at lw_m3 187 rfl) rfl
theorem q786 : (Jvm.Cond.laysFinal "PrairiePool$Farm" "PrairiePool$Farm" "district" "I") ∈ lw_all := lw_g (lw_at lw_m3 188 rfl) rfl
theorem q787 : (Jvm.Cond.soleField "PrairiePool$Farm" "district") ∈ lw_all := lw_g (lw_at lw_m3 189 rfl) rfl
theorem q788 : (Jvm.Cond.laysFinal "PrairiePool$Farm" "PrairiePool$Farm" "acres" "I") ∈ lw_all := lw_g (lw_at lw_m3 190 rfl) rfl
theorem q789 : (Jvm.Cond.soleField "PrairiePool$Farm" "acres") ∈ lw_all := lw_g (lw_at lw_m3 191 rfl) rfl
theorem q790 : (Jvm.Cond.laysFinal "PrairiePool$Farm" "PrairiePool$Farm" "debt" "I") ∈ lw_all := lw_g (lw_at lw_m3 192 rfl) rfl
theorem q791 : (Jvm.Cond.soleField "PrairiePool$Farm" "debt") ∈ lw_all := lw_g (lw_at lw_m3 193 rfl) rfl
theorem q792 : (Jvm.Cond.lays "PrairiePool$Farm" "PrairiePool$Farm" "signedFrom" "I") ∈ lw_all := lw_g (lw_at lw_m3 194 rfl) rfl
theorem q793 : (Jvm.Cond.soleField "PrairiePool$Farm" "signedFrom") ∈ lw_all := lw_g (lw_at lw_m3 195 rfl) rfl
theorem q794 : (Jvm.Cond.lays "PrairiePool$Farm" "PrairiePool$Farm" "signedTo" "I") ∈ lw_all := lw_g (lw_at lw_m3 196 rfl) rfl
theorem q795 : (Jvm.Cond.soleField "PrairiePool$Farm" "signedTo") ∈ lw_all := lw_g (lw_at lw_m3 197 rfl) rfl
theorem q796 : (Jvm.Cond.lays "PrairiePool$Farm" "PrairiePool$Farm" "vote" "I") ∈ lw_all := lw_g (lw_at lw_m3 198 rfl) rfl
theorem q797 : (Jvm.Cond.soleField "PrairiePool$Farm" "vote") ∈ lw_all := lw_g (lw_at lw_m3 199 rfl) rfl
theorem q798 : (Jvm.Cond.laysFinal "PrairiePool$Farm" "PrairiePool$Farm" "isLet" "[Z") ∈ lw_all := lw_g (lw_at lw_m3 200 rfl) rfl
theorem q799 : (Jvm.Cond.soleField "PrairiePool$Farm" "isLet") ∈ lw_all := lw_g (lw_at lw_m3 201 rfl) rfl
theorem q800 : (Jvm.Cond.superclass "PrairiePool$Farm" "java/lang/Object") ∈ lw_all := lw_g (lw_at lw_m3 202 rfl) rfl
theorem q801 : (Jvm.Cond.methodLink "PrairiePool" (250 : Nat) ({ cls := "PrairiePool", name := "gives", desc := "(I)I" } : Jvm.MethodName)) ∈ lw_all := lw_g (lw_at lw_m3 203 rfl) rfl
theorem q802 : (Jvm.Cond.privateMethod ({ cls := "PrairiePool", name := "gives", desc := "(I)I" } : Jvm.MethodName)) ∈ lw_tbl := lw_at lw_m3 204 rfl
theorem q803 : (Jvm.Cond.instanceMethod ({ cls := "PrairiePool", name := "gives", desc := "(I)I" } : Jvm.MethodName)) ∈ lw_all := lw_g (lw_at lw_m3 205 rfl) rfl
theorem q804 : (Jvm.Cond.code ({ cls := "PrairiePool", name := "gives", desc := "(I)I" } : Jvm.MethodName) prog_1_method_5_code (2 : Nat) (Option.some Jvm.ClassFile.FieldType.int)) ∈ lw_all := lw_g (lw_at lw_m3 206 rfl) rfl
theorem q805 : (Jvm.Cond.methodLink "PrairiePoolLaw" (45 : Nat) ({ cls := "PrairiePool", name := "elevator", desc := "(II)I" } : Jvm.MethodName)) ∈ lw_all := lw_g (lw_at lw_m3 207 rfl) rfl
theorem q806 : (Jvm.Cond.instanceMethod ({ cls := "PrairiePool", name := "elevator", desc := "(II)I" } : Jvm.MethodName)) ∈ lw_all := lw_g (lw_at lw_m3 208 rfl) rfl
theorem q807 : (Jvm.Cond.selects "PrairiePool" ({ cls := "PrairiePool", name := "elevator", desc := "(II)I" } : Jvm.MethodName) ({ cls := "PrairiePool", name := "elevator", desc := "(II)I" } : Jvm.MethodName)) ∈ lw_all := lw_g (lw_at lw_m3 209 rfl) rfl
theorem q808 : (Jvm.Cond.code ({ cls := "PrairiePool", name := "elevator", desc := "(II)I" } : Jvm.MethodName) prog_1_method_21_code (3 : Nat) (Option.some Jvm.ClassFile.FieldType.int)) ∈ lw_all := lw_g (lw_at lw_m3 210 rfl) rfl
theorem q809 : (Jvm.Cond.constantLong "PrairiePool" (253 : Nat) (1000000 : Int64)) ∈ lw_all := lw_g (lw_at lw_m3 211 rfl) rfl
theorem q810 : (Jvm.Cond.instantiable "PrairiePool$Elevator" (2 : Nat)) ∈ lw_all := lw_g (lw_at lw_m3 212 rfl) rfl
theorem q811 : (Jvm.Cond.methodLink "PrairiePool" (255 : Nat) ({ cls := "PrairiePool$Elevator", name := "<init>", desc := "(II)V" } : Jvm.MethodName)) ∈ lw_all := lw_g (lw_at lw_m3 213 rfl) rfl
theorem q812 : (Jvm.Cond.instanceMethod ({ cls := "PrairiePool$Elevator", name := "<init>", desc := "(II)V" } : Jvm.MethodName)) ∈ lw_all := lw_g (lw_at lw_m3 214 rfl) rfl
theorem q813 : (Jvm.Cond.code ({ cls := "PrairiePool$Elevator", name := "<init>", desc := "(II)V" } : Jvm.MethodName) prog_6_method_1_code (3 : Nat) (Option.none : Option Jvm.ClassFile.FieldType)) ∈ lw_all := lw_g (lw_at lw_m3 215 rfl) rfl
theorem q814 : (Jvm.Cond.methodLink "PrairiePool$Elevator" (1 : Nat) ({ cls := "java/lang/Object", name := "<init>", desc := "()V" } : Jvm.MethodName)) ∈ lw_all := lw_g (lw_at lw_m3 216 rfl) rfl
theorem q815 : (Jvm.Cond.fieldLink "PrairiePool$Elevator" (7 : Nat) "PrairiePool$Elevator" "district" "I") ∈ lw_all := lw_g (lw_at lw_m3 217 rfl) rfl
theorem q816 : (Jvm.Cond.fieldLink "PrairiePool" (522 : Nat) "PrairiePool$Elevator" "district" "I") ∈ lw_all := lw_g (lw_at lw_m3 218 rfl) rfl
theorem q817 : (Jvm.Cond.fieldLink "PrairiePool$Elevator" (13 : Nat) "PrairiePool$Elevator" "room" "I") ∈ lw_all := lw_g (lw_at lw_m3 219 rfl) rfl
theorem q818 : (Jvm.Cond.laysFinal "PrairiePool$Elevator" "PrairiePool$Elevator" "district" "I") ∈ lw_all := lw_g (lw_at lw_m3 220 rfl) rfl
theorem q819 : (Jvm.Cond.soleField "PrairiePool$Elevator" "district") ∈ lw_all := lw_g (lw_at lw_m3 221 rfl) rfl
theorem q820 : (Jvm.Cond.laysFinal "PrairiePool$Elevator" "PrairiePool$Elevator" "room" "I") ∈ lw_all := lw_g (lw_at lw_m3 222 rfl) rfl
theorem q821 : (Jvm.Cond.soleField "PrairiePool$Elevator" "room") ∈ lw_all := lw_g (lw_at lw_m3 223 rfl) rfl
theorem q822 : (Jvm.Cond.superclass "PrairiePool$Elevator" "java/lang/Object") ∈ lw_all := lw_g (lw_at lw_m3 224 rfl) rfl
theorem q823 : (Jvm.Cond.methodLink "PrairiePoolLaw" (50 : Nat) ({ cls := "PrairiePool", name := "load", desc := "(IIIIII)I" } : Jvm.MethodName)) ∈ lw_all := lw_g (lw_at lw_m3 225 rfl) rfl
theorem q824 : (Jvm.Cond.instanceMethod ({ cls := "PrairiePool", name := "load", desc := "(IIIIII)I" } : Jvm.MethodName)) ∈ lw_all := lw_g (lw_at lw_m3 226 rfl) rfl
theorem q825 : (Jvm.Cond.selects "PrairiePool" ({ cls := "PrairiePool", name := "load", desc := "(IIIIII)I" } : Jvm.MethodName) ({ cls := "PrairiePool", name := "load", desc := "(IIIIII)I" } : Jvm.MethodName)) ∈ lw_all := lw_g (lw_at lw_m3 227 rfl) rfl
theorem q826 : (Jvm.Cond.code ({ cls := "PrairiePool", name := "load", desc := "(IIIIII)I" } : Jvm.MethodName) prog_1_method_24_code (8 : Nat) (Option.some Jvm.ClassFile.FieldType.int)) ∈ lw_all := lw_g (lw_at lw_m3 228 rfl) rfl
theorem q827 : (Jvm.Cond.methodLink "PrairiePool" (275 : Nat) ({ cls := "PrairiePool", name := "isFarm", desc := "(I)Z" } : Jvm.MethodName)) ∈ lw_all := lw_g (lw_at lw_m3 229 rfl) rfl
theorem q828 : (Jvm.Cond.privateMethod ({ cls := "PrairiePool", name := "isFarm", desc := "(I)Z" } : Jvm.MethodName)) ∈ lw_tbl := lw_at lw_m3 230 rfl
theorem q829 : (Jvm.Cond.instanceMethod ({ cls := "PrairiePool", name := "isFarm", desc := "(I)Z" } : Jvm.MethodName)) ∈ lw_all := lw_g (lw_at lw_m3 231 rfl) rfl
theorem q830 : (Jvm.Cond.code ({ cls := "PrairiePool", name := "isFarm", desc := "(I)Z" } : Jvm.MethodName) prog_1_method_18_code (2 : Nat) (Option.some Jvm.ClassFile.FieldType.boolean)) ∈ lw_all := lw_g (lw_at lw_m3 232 rfl) rfl
theorem q831 : (Jvm.Cond.methodLink "PrairiePool" (278 : Nat) ({ cls := "PrairiePool", name := "isElevator", desc := "(I)Z" } : Jvm.MethodName)) ∈ lw_all := lw_g (lw_at lw_m3 233 rfl) rfl
theorem q832 : (Jvm.Cond.privateMethod ({ cls := "PrairiePool", name := "isElevator", desc := "(I)Z" } : Jvm.MethodName)) ∈ lw_tbl := lw_at lw_m3 234 rfl
theorem q833 : (Jvm.Cond.instanceMethod ({ cls := "PrairiePool", name := "isElevator", desc := "(I)Z" } : Jvm.MethodName)) ∈ lw_all := lw_g (lw_at lw_m3 235 rfl) rfl
theorem q834 : (Jvm.Cond.code ({ cls := "PrairiePool", name := "isElevator", desc := "(I)Z" } : Jvm.MethodName) prog_1_method_19_code (2 : Nat) (Option.some Jvm.ClassFile.FieldType.boolean)) ∈ lw_all := lw_g (lw_at lw_m3 236 rfl) rfl
theorem q835 : (Jvm.Cond.constantLong "PrairiePool" (281 : Nat) (10000 : Int64)) ∈ lw_all := lw_g (lw_at lw_m3 237 rfl) rfl
theorem q836 : (Jvm.Cond.constantLong "PrairiePool" (283 : Nat) (1000 : Int64)) ∈ lw_all := lw_g (lw_at lw_m3 238 rfl) rfl
theorem q837 : (Jvm.Cond.methodLink "PrairiePool" (285 : Nat) ({ cls := "PrairiePool", name := "wrongEvent", desc := "(ZII)I" } : Jvm.MethodName)) ∈ lw_all := lw_g (lw_at lw_m3 239 rfl) rfl
theorem q838 : (Jvm.Cond.privateMethod ({ cls := "PrairiePool", name := "wrongEvent", desc := "(ZII)I" } : Jvm.MethodName)) ∈ lw_tbl := lw_at lw_m4 0 rfl
theorem q839 : (Jvm.Cond.instanceMethod ({ cls := "PrairiePool", name := "wrongEvent", desc := "(ZII)I" } : Jvm.MethodName)) ∈ lw_all := lw_g (lw_at lw_m4 1 rfl) rfl
theorem q840 : (Jvm.Cond.code ({ cls := "PrairiePool", name := "wrongEvent", desc := "(ZII)I" } : Jvm.MethodName) prog_1_method_22_code (4 : Nat) (Option.some Jvm.ClassFile.FieldType.int)) ∈ lw_all := lw_g (lw_at lw_m4 2 rfl) rfl
theorem q841 : (Jvm.Cond.methodLink "PrairiePool" (260 : Nat) ({ cls := "PrairiePool", name := "isWeek", desc := "(I)Z" } : Jvm.MethodName)) ∈ lw_all := lw_g (lw_at lw_m4 3 rfl) rfl
theorem q842 : (Jvm.Cond.static ({ cls := "PrairiePool", name := "isWeek", desc := "(I)Z" } : Jvm.MethodName)) ∈ lw_all := lw_g (lw_at lw_m4 4 rfl) rfl
theorem q843 : (Jvm.Cond.code ({ cls := "PrairiePool", name := "isWeek", desc := "(I)Z" } : Jvm.MethodName) prog_1_method_13_code (1 : Nat) (Option.some Jvm.ClassFile.FieldType.boolean)) ∈ lw_all := lw_g (lw_at lw_m4 5 rfl) rfl
theorem q844 : (Jvm.Cond.classLink "PrairiePool" (289 : Nat) "PrairiePool$Load") ∈ lw_all := lw_g (lw_at lw_m4 6 rfl) rfl
theorem q845 : (Jvm.Cond.instantiable "PrairiePool$Load" (7 : Nat)) ∈ lw_all := lw_g (lw_at lw_m4 7 rfl) rfl
theorem q846 : (Jvm.Cond.methodLink "PrairiePool" (291 : Nat) ({ cls := "PrairiePool$Load", name := "<init>", desc := "(LPrairiePool$Farm;IIIII)V" } : Jvm.MethodName)) ∈ lw_all := lw_g (lw_at lw_m4 8 rfl) rfl
theorem q847 : (Jvm.Cond.instanceMethod ({ cls := "PrairiePool$Load", name := "<init>", desc := "(LPrairiePool$Farm;IIIII)V" } : Jvm.MethodName)) ∈ lw_all := lw_g (lw_at lw_m4 9 rfl) rfl
theorem q848 : (Jvm.Cond.code ({ cls := "PrairiePool$Load", name := "<init>", desc := "(LPrairiePool$Farm;IIIII)V" } : Jvm.MethodName) prog_13_method_1_code (7 : Nat) (Option.none : Option Jvm.ClassFile.FieldType)) ∈ lw_all := lw_g (lw_at lw_m4 10 rfl) rfl
theorem q849 : (Jvm.Cond.methodLink "PrairiePool$Load" (1 : Nat) ({ cls := "PrairiePool$Event", name := "<init>", desc := "(III)V" } : Jvm.MethodName)) ∈ lw_all := lw_g (lw_at lw_m4 11 rfl) rfl
theorem q850 : (Jvm.Cond.instanceMethod ({ cls := "PrairiePool$Event", name := "<init>", desc := "(III)V" } : Jvm.MethodName)) ∈ lw_all := lw_g (lw_at lw_m4 12 rfl) rfl
theorem q851 : (Jvm.Cond.code ({ cls := "PrairiePool$Event", name := "<init>", desc := "(III)V" } : Jvm.MethodName) prog_7_method_1_code (4 : Nat) (Option.none : Option Jvm.ClassFile.FieldType)) ∈ lw_all := lw_g (lw_at lw_m4 13 rfl) rfl
theorem q852 : (Jvm.Cond.methodLink "PrairiePool$Event" (1 : Nat) ({ cls := "java/lang/Object", name := "<init>", desc := "()V" } : Jvm.MethodName)) ∈ lw_all := lw_g (lw_at lw_m4 14 rfl) rfl
theorem q853 : (Jvm.Cond.fieldLink "PrairiePool$Load" (7 : Nat) "PrairiePool$Load" "farm" "LPrairiePool$Farm;") ∈ lw_all := lw_g (lw_at lw_m4 15 rfl) rfl
theorem q854 : (Jvm.Cond.fieldLink "PrairiePool" (350 : Nat) "PrairiePool$Load" "farm" "LPrairiePool$Farm;") ∈ lw_all := lw_g (lw_at lw_m4 16 rfl) rfl
theorem q855 : (Jvm.Cond.fieldLink "PrairiePool$Load" (13 : Nat) "PrairiePool$Load" "elevator" "I") ∈ lw_all := lw_g (lw_at lw_m4 17 rfl) rfl
theorem q856 : (Jvm.Cond.fieldLink "PrairiePool$Load" (17 : Nat) "PrairiePool$Load" "docked" "I") ∈ lw_all := lw_g (lw_at lw_m4 18 rfl) rfl
theorem q857 : (Jvm.Cond.fieldLink "PrairiePool$Load" (61 : Nat) "PrairiePool$Load" "grade" "I") ∈ lw_all := lw_g (lw_at lw_m4 19 rfl) rfl
theorem q858 : (Jvm.Cond.fieldLinkNest "PrairiePool" (372 : Nat) "PrairiePool$Load" "grade" "I" "PrairiePool") ∈ lw_tbl := lw_at lw_m4 20 rfl
theorem q859 : (Jvm.Cond.fieldLink "PrairiePool$Event" (7 : Nat) "PrairiePool$Event" "week" "I") ∈ lw_all := lw_g (lw_at lw_m4 21 rfl) rfl
theorem q860 : (Jvm.Cond.fieldLink "PrairiePool$Load" (24 : Nat) "PrairiePool$Load" "week" "I") ∈ lw_all := lw_g (lw_at lw_m4 22 rfl) rfl
theorem q861 : (Jvm.Cond.sameField "PrairiePool$Load" "PrairiePool$Event" "week" "I") ∈ lw_all := lw_g (lw_at lw_m4 23 rfl) rfl
theorem q862 : (Jvm.Cond.fieldLink "PrairiePool" (269 : Nat) "PrairiePool$Event" "week" "I") ∈ lw_all := lw_g (lw_at lw_m4 24 rfl) rfl
theorem q863 : (Jvm.Cond.fieldLink "PrairiePool" (330 : Nat) "PrairiePool$Load" "week" "I") ∈ lw_all := lw_g (lw_at lw_m4 25 rfl) rfl
theorem q864 : (Jvm.Cond.fieldLink "PrairiePool$Event" (13 : Nat) "PrairiePool$Event" "known" "I") ∈ lw_all := lw_g (lw_at lw_m4 26 rfl) rfl
theorem q865 : (Jvm.Cond.fieldLink "PrairiePool" (272 : Nat) "PrairiePool$Event" "known" "I") ∈ lw_all := lw_g (lw_at lw_m4 27 rfl) rfl
theorem q866 : (Jvm.Cond.fieldLink "PrairiePool$Event" (16 : Nat) "PrairiePool$Event" "amount" "I") ∈ lw_all := lw_g (lw_at lw_m4 28 rfl) rfl
theorem q867 : (Jvm.Cond.laysFinal "PrairiePool$Load" "PrairiePool$Load" "farm" "LPrairiePool$Farm;") ∈ lw_all := lw_g (lw_at lw_m4 29 rfl) rfl
theorem q868 : (Jvm.Cond.soleField "PrairiePool$Load" "farm") ∈ lw_all := lw_g (lw_at lw_m4 30 rfl) rfl
theorem q869 : (Jvm.Cond.laysFinal "PrairiePool$Load" "PrairiePool$Load" "elevator" "I") ∈ lw_all := lw_g (lw_at lw_m4 31 rfl) rfl
theorem q870 : (Jvm.Cond.soleField "PrairiePool$Load" "elevator") ∈ lw_all := lw_g (lw_at lw_m4 32 rfl) rfl
theorem q871 : (Jvm.Cond.laysFinal "PrairiePool$Load" "PrairiePool$Load" "docked" "I") ∈ lw_all := lw_g (lw_at lw_m4 33 rfl) rfl
theorem q872 : (Jvm.Cond.soleField "PrairiePool$Load" "docked") ∈ lw_all := lw_g (lw_at lw_m4 34 rfl) rfl
theorem q873 : (Jvm.Cond.lays "PrairiePool$Load" "PrairiePool$Load" "grade" "I") ∈ lw_all := lw_g (lw_at lw_m4 35 rfl) rfl
theorem q874 : (Jvm.Cond.soleField "PrairiePool$Load" "grade") ∈ lw_all := lw_g (lw_at lw_m4 36 rfl) rfl
theorem q875 : (Jvm.Cond.laysFinal "PrairiePool$Load" "PrairiePool$Event" "week" "I") ∈ lw_all := lw_g (lw_at lw_m4 37 rfl) rfl
theorem q876 : (Jvm.Cond.soleField "PrairiePool$Event" "week") ∈ lw_all := lw_g (lw_at lw_m4 38 rfl) rfl
theorem q877 : (Jvm.Cond.laysFinal "PrairiePool$Load" "PrairiePool$Event" "known" "I") ∈ lw_all := lw_g (lw_at lw_m4 39 rfl) rfl
theorem q878 : (Jvm.Cond.soleField "PrairiePool$Event" "known") ∈ lw_all := lw_g (lw_at lw_m4 40 rfl) rfl
theorem q879 : (Jvm.Cond.laysFinal "PrairiePool$Load" "PrairiePool$Event" "amount" "I") ∈ lw_all := lw_g (lw_at lw_m4 41 rfl) rfl
theorem q880 : (Jvm.Cond.soleField "PrairiePool$Event" "amount") ∈ lw_all := lw_g (lw_at lw_m4 42 rfl) rfl
theorem q881 : (Jvm.Cond.superclass "PrairiePool$Load" "PrairiePool$Event") ∈ lw_all := lw_g (lw_at lw_m4 43 rfl) rfl
theorem q882 : (Jvm.Cond.methodLink "PrairiePool" (294 : Nat) ({ cls := "PrairiePool", name := "adds", desc := "(LPrairiePool$Event;)I" } : Jvm.MethodName)) ∈ lw_all := lw_g (lw_at lw_m4 44 rfl) rfl
theorem q883 : (Jvm.Cond.privateMethod ({ cls := "PrairiePool", name := "adds", desc := "(LPrairiePool$Event;)I" } : Jvm.MethodName)) ∈ lw_tbl := lw_at lw_m4 45 rfl
theorem q884 : (Jvm.Cond.instanceMethod ({ cls := "PrairiePool", name := "adds", desc := "(LPrairiePool$Event;)I" } : Jvm.MethodName)) ∈ lw_all := lw_g (lw_at lw_m4 46 rfl) rfl
theorem q885 : (Jvm.Cond.code ({ cls := "PrairiePool", name := "adds", desc := "(LPrairiePool$Event;)I" } : Jvm.MethodName) prog_1_method_23_code (2 : Nat) (Option.some Jvm.ClassFile.FieldType.int)) ∈ lw_all := lw_g (lw_at lw_m4 47 rfl) rfl
theorem q886 : (Jvm.Cond.methodLink "PrairiePoolLaw" (55 : Nat) ({ cls := "PrairiePool", name := "car", desc := "(IIIIIII)I" } : Jvm.MethodName)) ∈ lw_all := lw_g (lw_at lw_m4 48 rfl) rfl
theorem q887 : (Jvm.Cond.instanceMethod ({ cls := "PrairiePool", name := "car", desc := "(IIIIIII)I" } : Jvm.MethodName)) ∈ lw_all := lw_g (lw_at lw_m4 49 rfl) rfl
theorem q888 : (Jvm.Cond.selects "PrairiePool" ({ cls := "PrairiePool", name := "car", desc := "(IIIIIII)I" } : Jvm.MethodName) ({ cls := "PrairiePool", name := "car", desc := "(IIIIIII)I" } : Jvm.MethodName)) ∈ lw_all := lw_g (lw_at lw_m4 50 rfl) rfl
theorem q889 : (Jvm.Cond.code ({ cls := "PrairiePool", name := "car", desc := "(IIIIIII)I" } : Jvm.MethodName) prog_1_method_25_code (9 : Nat) (Option.some Jvm.ClassFile.FieldType.int)) ∈ lw_all := lw_g (lw_at lw_m4 51 rfl) rfl
theorem q890 : (Jvm.Cond.methodLink "PrairiePool" (298 : Nat) ({ cls := "PrairiePool", name := "isPort", desc := "(I)Z" } : Jvm.MethodName)) ∈ lw_all := lw_g (lw_at lw_m4 52 rfl) rfl
theorem q891 : (Jvm.Cond.static ({ cls := "PrairiePool", name := "isPort", desc := "(I)Z" } : Jvm.MethodName)) ∈ lw_all := lw_g (lw_at lw_m4 53 rfl) rfl
theorem q892 : (Jvm.Cond.code ({ cls := "PrairiePool", name := "isPort", desc := "(I)Z" } : Jvm.MethodName) prog_1_method_17_code (1 : Nat) (Option.some Jvm.ClassFile.FieldType.boolean)) ∈ lw_all := lw_g (lw_at lw_m4 54 rfl) rfl
theorem q893 : (Jvm.Cond.methodLink "PrairiePool" (301 : Nat) ({ cls := "PrairiePool", name := "isGrade", desc := "(I)Z" } : Jvm.MethodName)) ∈ lw_all := lw_g (lw_at lw_m4 55 rfl) rfl
theorem q894 : (Jvm.Cond.static ({ cls := "PrairiePool", name := "isGrade", desc := "(I)Z" } : Jvm.MethodName)) ∈ lw_all := lw_g (lw_at lw_m4 56 rfl) rfl
theorem q895 : (Jvm.Cond.code ({ cls := "PrairiePool", name := "isGrade", desc := "(I)Z" } : Jvm.MethodName) prog_1_method_15_code (1 : Nat) (Option.some Jvm.ClassFile.FieldType.boolean)) ∈ lw_all := lw_g (lw_at lw_m4 57 rfl) rfl
theorem q896 : (Jvm.Cond.methodLink "PrairiePool" (304 : Nat) ({ cls := "PrairiePool", name := "isYear", desc := "(I)Z" } : Jvm.MethodName)) ∈ lw_all := lw_g (lw_at lw_m4 58 rfl) rfl
theorem q897 : (Jvm.Cond.static ({ cls := "PrairiePool", name := "isYear", desc := "(I)Z" } : Jvm.MethodName)) ∈ lw_all := lw_g (lw_at lw_m4 59 rfl) rfl
theorem q898 : (Jvm.Cond.code ({ cls := "PrairiePool", name := "isYear", desc := "(I)Z" } : Jvm.MethodName) prog_1_method_14_code (1 : Nat) (Option.some Jvm.ClassFile.FieldType.boolean)) ∈ lw_all := lw_g (lw_at lw_m4 60 rfl) rfl
theorem q899 : (Jvm.Cond.classLink "PrairiePool" (307 : Nat) "PrairiePool$Car") ∈ lw_all := lw_g (lw_at lw_m4 61 rfl) rfl
theorem q900 : (Jvm.Cond.instantiable "PrairiePool$Car" (7 : Nat)) ∈ lw_all := lw_g (lw_at lw_m4 62 rfl) rfl
theorem q901 : (Jvm.Cond.methodLink "PrairiePool" (309 : Nat) ({ cls := "PrairiePool$Car", name := "<init>", desc := "(IIIIIII)V" } : Jvm.MethodName)) ∈ lw_all := lw_g (lw_at lw_m4 63 rfl) rfl
theorem q902 : (Jvm.Cond.instanceMethod ({ cls := "PrairiePool$Car", name := "<init>", desc := "(IIIIIII)V" } : Jvm.MethodName)) ∈ lw_all := lw_g (lw_at lw_m4 64 rfl) rfl
theorem q903 : (Jvm.Cond.code ({ cls := "PrairiePool$Car", name := "<init>", desc := "(IIIIIII)V" } : Jvm.MethodName) prog_3_method_1_code (8 : Nat) (Option.none : Option Jvm.ClassFile.FieldType)) ∈ lw_all := lw_g (lw_at lw_m4 65 rfl) rfl
theorem q904 : (Jvm.Cond.methodLink "PrairiePool$Car" (1 : Nat) ({ cls := "PrairiePool$Spoil", name := "<init>", desc := "(IIIIII)V" } : Jvm.MethodName)) ∈ lw_all := lw_g (lw_at lw_m4 66 rfl) rfl
theorem q905 : (Jvm.Cond.instanceMethod ({ cls := "PrairiePool$Spoil", name := "<init>", desc := "(IIIIII)V" } : Jvm.MethodName)) ∈ lw_all := lw_g (lw_at lw_m4 67 rfl) rfl
theorem q906 : (Jvm.Cond.code ({ cls := "PrairiePool$Spoil", name := "<init>", desc := "(IIIIII)V" } : Jvm.MethodName) prog_20_method_1_code (7 : Nat) (Option.none : Option Jvm.ClassFile.FieldType)) ∈ lw_all := lw_g (lw_at lw_m4 68 rfl) rfl
theorem q907 : (Jvm.Cond.methodLink "PrairiePool$Spoil" (1 : Nat) ({ cls := "PrairiePool$Taking", name := "<init>", desc := "(IIIIII)V" } : Jvm.MethodName)) ∈ lw_all := lw_g (lw_at lw_m4 69 rfl) rfl
theorem q908 : (Jvm.Cond.instanceMethod ({ cls := "PrairiePool$Taking", name := "<init>", desc := "(IIIIII)V" } : Jvm.MethodName)) ∈ lw_all := lw_g (lw_at lw_m4 70 rfl) rfl
theorem q909 : (Jvm.Cond.code ({ cls := "PrairiePool$Taking", name := "<init>", desc := "(IIIIII)V" } : Jvm.MethodName) prog_21_method_1_code (7 : Nat) (Option.none : Option Jvm.ClassFile.FieldType)) ∈ lw_all := lw_g (lw_at lw_m4 71 rfl) rfl
theorem q910 : (Jvm.Cond.methodLink "PrairiePool$Taking" (1 : Nat) ({ cls := "PrairiePool$Event", name := "<init>", desc := "(III)V" } : Jvm.MethodName)) ∈ lw_all := lw_g (lw_at lw_m4 72 rfl) rfl
theorem q911 : (Jvm.Cond.fieldLink "PrairiePool$Car" (7 : Nat) "PrairiePool$Car" "port" "I") ∈ lw_all := lw_g (lw_at lw_m4 73 rfl) rfl
theorem q912 : (Jvm.Cond.fieldLink "PrairiePool$Taking" (7 : Nat) "PrairiePool$Taking" "at" "I") ∈ lw_all := lw_g (lw_at lw_m4 74 rfl) rfl
theorem q913 : (Jvm.Cond.fieldLink "PrairiePool$Sale" (19 : Nat) "PrairiePool$Sale" "at" "I") ∈ lw_all := lw_g (lw_at lw_m4 75 rfl) rfl
theorem q914 : (Jvm.Cond.sameField "PrairiePool$Sale" "PrairiePool$Taking" "at" "I") ∈ lw_all := lw_g (lw_at lw_m4 76 rfl) rfl
theorem q915 : (Jvm.Cond.fieldLink "PrairiePool$Spoil" (17 : Nat) "PrairiePool$Spoil" "at" "I") ∈ lw_all := lw_g (lw_at lw_m4 77 rfl) rfl
theorem q916 : (Jvm.Cond.sameField "PrairiePool$Spoil" "PrairiePool$Taking" "at" "I") ∈ lw_all := lw_g (lw_at lw_m4 78 rfl) rfl
theorem q917 : (Jvm.Cond.fieldLink "PrairiePool$Taking" (13 : Nat) "PrairiePool$Taking" "grade" "I") ∈ lw_all := lw_g (lw_at lw_m4 79 rfl) rfl
theorem q918 : (Jvm.Cond.fieldLink "PrairiePool$Car" (19 : Nat) "PrairiePool$Car" "grade" "I") ∈ lw_all := lw_g (lw_at lw_m4 80 rfl) rfl
theorem q919 : (Jvm.Cond.sameField "PrairiePool$Car" "PrairiePool$Taking" "grade" "I") ∈ lw_all := lw_g (lw_at lw_m4 81 rfl) rfl
theorem q920 : (Jvm.Cond.fieldLink "PrairiePool$Sale" (22 : Nat) "PrairiePool$Sale" "grade" "I") ∈ lw_all := lw_g (lw_at lw_m4 82 rfl) rfl
theorem q921 : (Jvm.Cond.sameField "PrairiePool$Sale" "PrairiePool$Taking" "grade" "I") ∈ lw_all := lw_g (lw_at lw_m4 83 rfl) rfl
theorem q922 : (Jvm.Cond.fieldLink "PrairiePool$Spoil" (23 : Nat) "PrairiePool$Spoil" "grade" "I") ∈ lw_all := lw_g (lw_at lw_m4 84 rfl) rfl
theorem q923 : (Jvm.Cond.sameField "PrairiePool$Spoil" "PrairiePool$Taking" "grade" "I") ∈ lw_all := lw_g (lw_at lw_m4 85 rfl) rfl
theorem q924 : (Jvm.Cond.fieldLink "PrairiePool$Taking" (16 : Nat) "PrairiePool$Taking" "year" "I") ∈ lw_all := lw_g (lw_at lw_m4 86 rfl) rfl
theorem q925 : (Jvm.Cond.fieldLink "PrairiePool$Car" (22 : Nat) "PrairiePool$Car" "year" "I") ∈ lw_all := lw_g (lw_at lw_m4 87 rfl) rfl
theorem q926 : (Jvm.Cond.sameField "PrairiePool$Car" "PrairiePool$Taking" "year" "I") ∈ lw_all := lw_g (lw_at lw_m4 88 rfl) rfl
theorem q927 : (Jvm.Cond.fieldLink "PrairiePool$Sale" (25 : Nat) "PrairiePool$Sale" "year" "I") ∈ lw_all := lw_g (lw_at lw_m4 89 rfl) rfl
theorem q928 : (Jvm.Cond.sameField "PrairiePool$Sale" "PrairiePool$Taking" "year" "I") ∈ lw_all := lw_g (lw_at lw_m4 90 rfl) rfl
theorem q929 : (Jvm.Cond.fieldLink "PrairiePool$Spoil" (26 : Nat) "PrairiePool$Spoil" "year" "I") ∈ lw_all := lw_g (lw_at lw_m4 91 rfl) rfl
theorem q930 : (Jvm.Cond.sameField "PrairiePool$Spoil" "PrairiePool$Taking" "year" "I") ∈ lw_all := lw_g (lw_at lw_m4 92 rfl) rfl
theorem q931 : (Jvm.Cond.laysFinal "PrairiePool$Car" "PrairiePool$Car" "port" "I") ∈ lw_all := lw_g (lw_at lw_m4 93 rfl) rfl
theorem q932 : (Jvm.Cond.soleField "PrairiePool$Car" "port") ∈ lw_all := lw_g (lw_at lw_m4 94 rfl) rfl
theorem q933 : (Jvm.Cond.laysFinal "PrairiePool$Car" "PrairiePool$Taking" "at" "I") ∈ lw_all := lw_g (lw_at lw_m4 95 rfl) rfl
theorem q934 : (Jvm.Cond.soleField "PrairiePool$Taking" "at") ∈ lw_all := lw_g (lw_at lw_m4 96 rfl) rfl
theorem q935 : (Jvm.Cond.laysFinal "PrairiePool$Car" "PrairiePool$Taking" "grade" "I") ∈ lw_all := lw_g (lw_at lw_m4 97 rfl) rfl
theorem q936 : (Jvm.Cond.soleField "PrairiePool$Taking" "grade") ∈ lw_all := lw_g (lw_at lw_m4 98 rfl) rfl
theorem q937 : (Jvm.Cond.laysFinal "PrairiePool$Car" "PrairiePool$Taking" "year" "I") ∈ lw_all := lw_g (lw_at lw_m4 99 rfl) rfl
theorem q938 : (Jvm.Cond.soleField "PrairiePool$Taking" "year") ∈ lw_all := lw_g (lw_at lw_m4 100 rfl) rfl
theorem q939 : (Jvm.Cond.laysFinal "PrairiePool$Car" "PrairiePool$Event" "week" "I") ∈ lw_all := lw_g (lw_at lw_m4 101 rfl) rfl
theorem q940 : (Jvm.Cond.laysFinal "PrairiePool$Car" "PrairiePool$Event" "known" "I") ∈ lw_all := lw_g (lw_at lw_m4 102 rfl) rfl
theorem q941 : (Jvm.Cond.laysFinal "PrairiePool$Car" "PrairiePool$Event" "amount" "I") ∈ lw_all := lw_g (lw_at lw_m4 103 rfl) rfl
theorem q942 : (Jvm.Cond.superclass "PrairiePool$Car" "PrairiePool$Spoil") ∈ lw_all := lw_g (lw_at lw_m4 104 rfl) rfl
theorem q943 : (Jvm.Cond.methodLink "PrairiePoolLaw" (60 : Nat) ({ cls := "PrairiePool", name := "sale", desc := "(IIIIIII)I" } : Jvm.MethodName)) ∈ lw_all := lw_g (lw_at lw_m4 105 rfl) rfl
theorem q944 : (Jvm.Cond.instanceMethod ({ cls := "PrairiePool", name := "sale", desc := "(IIIIIII)I" } : Jvm.MethodName)) ∈ lw_all := lw_g (lw_at lw_m4 106 rfl) rfl
theorem q945 : (Jvm.Cond.selects "PrairiePool" ({ cls := "PrairiePool", name := "sale", desc := "(IIIIIII)I" } : Jvm.MethodName) ({ cls := "PrairiePool", name := "sale", desc := "(IIIIIII)I" } : Jvm.MethodName)) ∈ lw_all := lw_g (lw_at lw_m4 107 rfl) rfl
theorem q946 : (Jvm.Cond.code ({ cls := "PrairiePool", name := "sale", desc := "(IIIIIII)I" } : Jvm.MethodName) prog_1_method_26_code (9 : Nat) (Option.some Jvm.ClassFile.FieldType.int)) ∈ lw_all := lw_g (lw_at lw_m4 108 rfl) rfl
theorem q947 : (Jvm.Cond.classLink "PrairiePool" (312 : Nat) "PrairiePool$Sale") ∈ lw_all := lw_g (lw_at lw_m4 109 rfl) rfl
theorem q948 : (Jvm.Cond.instantiable "PrairiePool$Sale" (7 : Nat)) ∈ lw_all := lw_g (lw_at lw_m4 110 rfl) rfl
theorem q949 : (Jvm.Cond.methodLink "PrairiePool" (314 : Nat) ({ cls := "PrairiePool$Sale", name := "<init>", desc := "(IIIIIII)V" } : Jvm.MethodName)) ∈ lw_all := lw_g (lw_at lw_m4 111 rfl) rfl
theorem q950 : (Jvm.Cond.instanceMethod ({ cls := "PrairiePool$Sale", name := "<init>", desc := "(IIIIIII)V" } : Jvm.MethodName)) ∈ lw_all := lw_g (lw_at lw_m4 112 rfl) rfl
theorem q951 : (Jvm.Cond.code ({ cls := "PrairiePool$Sale", name := "<init>", desc := "(IIIIIII)V" } : Jvm.MethodName) prog_19_method_1_code (8 : Nat) (Option.none : Option Jvm.ClassFile.FieldType)) ∈ lw_all := lw_g (lw_at lw_m4 113 rfl) rfl
theorem q952 : (Jvm.Cond.methodLink "PrairiePool$Sale" (1 : Nat) ({ cls := "PrairiePool$Taking", name := "<init>", desc := "(IIIIII)V" } : Jvm.MethodName)) ∈ lw_all := lw_g (lw_at lw_m4 114 rfl) rfl
theorem q953 : (Jvm.Cond.fieldLink "PrairiePool$Sale" (7 : Nat) "PrairiePool$Sale" "pence" "I") ∈ lw_all := lw_g (lw_at lw_m4 115 rfl) rfl
theorem q954 : (Jvm.Cond.laysFinal "PrairiePool$Sale" "PrairiePool$Sale" "pence" "I") ∈ lw_all := lw_g (lw_at lw_m4 116 rfl) rfl
theorem q955 : (Jvm.Cond.soleField "PrairiePool$Sale" "pence") ∈ lw_all := lw_g (lw_at lw_m4 117 rfl) rfl
theorem q956 : (Jvm.Cond.laysFinal "PrairiePool$Sale" "PrairiePool$Taking" "at" "I") ∈ lw_all := lw_g (lw_at lw_m4 118 rfl) rfl
theorem q957 : (Jvm.Cond.laysFinal "PrairiePool$Sale" "PrairiePool$Taking" "grade" "I") ∈ lw_all := lw_g (lw_at lw_m4 119 rfl) rfl
theorem q958 : (Jvm.Cond.laysFinal "PrairiePool$Sale" "PrairiePool$Taking" "year" "I") ∈ lw_all := lw_g (lw_at lw_m4 120 rfl) rfl
theorem q959 : (Jvm.Cond.laysFinal "PrairiePool$Sale" "PrairiePool$Event" "week" "I") ∈ lw_all := lw_g (lw_at lw_m4 121 rfl) rfl
theorem q960 : (Jvm.Cond.laysFinal "PrairiePool$Sale" "PrairiePool$Event" "known" "I") ∈ lw_all := lw_g (lw_at lw_m4 122 rfl) rfl
theorem q961 : (Jvm.Cond.laysFinal "PrairiePool$Sale" "PrairiePool$Event" "amount" "I") ∈ lw_all := lw_g (lw_at lw_m4 123 rfl) rfl
theorem q962 : (Jvm.Cond.superclass "PrairiePool$Sale" "PrairiePool$Taking") ∈ lw_all := lw_g (lw_at lw_m4 124 rfl) rfl
theorem q963 : (Jvm.Cond.methodLink "PrairiePoolLaw" (64 : Nat) ({ cls := "PrairiePool", name := "spoil", desc := "(IIIIII)I" } : Jvm.MethodName)) ∈ lw_all := lw_g (lw_at lw_m4 125 rfl) rfl
theorem q964 : (Jvm.Cond.instanceMethod ({ cls := "PrairiePool", name := "spoil", desc := "(IIIIII)I" } : Jvm.MethodName)) ∈ lw_all := lw_g (lw_at lw_m4 126 rfl) rfl
theorem q965 : (Jvm.Cond.selects "PrairiePool" ({ cls := "PrairiePool", name := "spoil", desc := "(IIIIII)I" } : Jvm.MethodName) ({ cls := "PrairiePool", name := "spoil", desc := "(IIIIII)I" } : Jvm.MethodName)) ∈ lw_all := lw_g (lw_at lw_m4 127 rfl) rfl
theorem q966 : (Jvm.Cond.code ({ cls := "PrairiePool", name := "spoil", desc := "(IIIIII)I" } : Jvm.MethodName) prog_1_method_27_code (8 : Nat) (Option.some Jvm.ClassFile.FieldType.int)) ∈ lw_all := lw_g (lw_at lw_m4 128 rfl) rfl
theorem q967 : (Jvm.Cond.classLink "PrairiePool" (315 : Nat) "PrairiePool$Spoil") ∈ lw_all := lw_g (lw_at lw_m4 129 rfl) rfl
theorem q968 : (Jvm.Cond.instantiable "PrairiePool$Spoil" (6 : Nat)) ∈ lw_all := lw_g (lw_at lw_m4 130 rfl) rfl
theorem q969 : (Jvm.Cond.methodLink "PrairiePool" (317 : Nat) ({ cls := "PrairiePool$Spoil", name := "<init>", desc := "(IIIIII)V" } : Jvm.MethodName)) ∈ lw_all := lw_g (lw_at lw_m4 131 rfl) rfl
theorem q970 : (Jvm.Cond.laysFinal "PrairiePool$Spoil" "PrairiePool$Taking" "at" "I") ∈ lw_all := lw_g (lw_at lw_m4 132 rfl) rfl
theorem q971 : (Jvm.Cond.laysFinal "PrairiePool$Spoil" "PrairiePool$Taking" "grade" "I") ∈ lw_all := lw_g (lw_at lw_m4 133 rfl) rfl
theorem q972 : (Jvm.Cond.laysFinal "PrairiePool$Spoil" "PrairiePool$Taking" "year" "I") ∈ lw_all := lw_g (lw_at lw_m4 134 rfl) rfl
theorem q973 : (Jvm.Cond.laysFinal "PrairiePool$Spoil" "PrairiePool$Event" "week" "I") ∈ lw_all := lw_g (lw_at lw_m4 135 rfl) rfl
theorem q974 : (Jvm.Cond.laysFinal "PrairiePool$Spoil" "PrairiePool$Event" "known" "I") ∈ lw_all := lw_g (lw_at lw_m4 136 rfl) rfl
theorem q975 : (Jvm.Cond.laysFinal "PrairiePool$Spoil" "PrairiePool$Event" "amount" "I") ∈ lw_all := lw_g (lw_at lw_m4 137 rfl) rfl
theorem q976 : (Jvm.Cond.superclass "PrairiePool$Spoil" "PrairiePool$Taking") ∈ lw_all := lw_g (lw_at lw_m4 138 rfl) rfl
theorem q977 : (Jvm.Cond.methodLink "PrairiePoolLaw" (68 : Nat) ({ cls := "PrairiePool", name := "grading", desc := "(IIII)Z" } : Jvm.MethodName)) ∈ lw_all := lw_g (lw_at lw_m4 139 rfl) rfl
theorem q978 : (Jvm.Cond.instanceMethod ({ cls := "PrairiePool", name := "grading", desc := "(IIII)Z" } : Jvm.MethodName)) ∈ lw_all := lw_g (lw_at lw_m4 140 rfl) rfl
theorem q979 : (Jvm.Cond.selects "PrairiePool" ({ cls := "PrairiePool", name := "grading", desc := "(IIII)Z" } : Jvm.MethodName) ({ cls := "PrairiePool", name := "grading", desc := "(IIII)Z" } : Jvm.MethodName)) ∈ lw_all := lw_g (lw_at lw_m4 141 rfl) rfl
theorem q980 : (Jvm.Cond.code ({ cls := "PrairiePool", name := "grading", desc := "(IIII)Z" } : Jvm.MethodName) prog_1_method_29_code (5 : Nat) (Option.some Jvm.ClassFile.FieldType.boolean)) ∈ lw_all := lw_g (lw_at lw_m4 142 rfl) rfl
theorem q981 : (Jvm.Cond.methodLink "PrairiePool" (320 : Nat) ({ cls := "PrairiePool", name := "isLoad", desc := "(I)Z" } : Jvm.MethodName)) ∈ lw_all := lw_g (lw_at lw_m4 143 rfl) rfl
theorem q982 : (Jvm.Cond.privateMethod ({ cls := "PrairiePool", name := "isLoad", desc := "(I)Z" } : Jvm.MethodName)) ∈ lw_tbl := lw_at lw_m4 144 rfl
theorem q983 : (Jvm.Cond.instanceMethod ({ cls := "PrairiePool", name := "isLoad", desc := "(I)Z" } : Jvm.MethodName)) ∈ lw_all := lw_g (lw_at lw_m4 145 rfl) rfl
theorem q984 : (Jvm.Cond.code ({ cls := "PrairiePool", name := "isLoad", desc := "(I)Z" } : Jvm.MethodName) prog_1_method_28_code (2 : Nat) (Option.some Jvm.ClassFile.FieldType.boolean)) ∈ lw_all := lw_g (lw_at lw_m4 146 rfl) rfl
theorem q985 : (Jvm.Cond.methodLink "PrairiePoolLaw" (73 : Nat) ({ cls := "PrairiePool", name := "grade", desc := "(II)I" } : Jvm.MethodName)) ∈ lw_all := lw_g (lw_at lw_m4 147 rfl) rfl
theorem q986 : (Jvm.Cond.instanceMethod ({ cls := "PrairiePool", name := "grade", desc := "(II)I" } : Jvm.MethodName)) ∈ lw_all := lw_g (lw_at lw_m4 148 rfl) rfl
theorem q987 : (Jvm.Cond.selects "PrairiePool" ({ cls := "PrairiePool", name := "grade", desc := "(II)I" } : Jvm.MethodName) ({ cls := "PrairiePool", name := "grade", desc := "(II)I" } : Jvm.MethodName)) ∈ lw_all := lw_g (lw_at lw_m4 149 rfl) rfl
theorem q988 : (Jvm.Cond.code ({ cls := "PrairiePool", name := "grade", desc := "(II)I" } : Jvm.MethodName) prog_1_method_31_code (3 : Nat) (Option.some Jvm.ClassFile.FieldType.int)) ∈ lw_all := lw_g (lw_at lw_m4 150 rfl) rfl
theorem q989 : (Jvm.Cond.methodLink "PrairiePool" (365 : Nat) ({ cls := "PrairiePool", name := "gradeOf", desc := "(II)I" } : Jvm.MethodName)) ∈ lw_all := lw_g (lw_at lw_m4 151 rfl) rfl
theorem q990 : (Jvm.Cond.privateMethod ({ cls := "PrairiePool", name := "gradeOf", desc := "(II)I" } : Jvm.MethodName)) ∈ lw_tbl := lw_at lw_m4 152 rfl
theorem q991 : (Jvm.Cond.instanceMethod ({ cls := "PrairiePool", name := "gradeOf", desc := "(II)I" } : Jvm.MethodName)) ∈ lw_all := lw_g (lw_at lw_m4 153 rfl) rfl
theorem q992 : (Jvm.Cond.code ({ cls := "PrairiePool", name := "gradeOf", desc := "(II)I" } : Jvm.MethodName) prog_1_method_30_code (11 : Nat) (Option.some Jvm.ClassFile.FieldType.int)) ∈ lw_all := lw_g (lw_at lw_m4 154 rfl) rfl
theorem q993 : (Jvm.Cond.constantLong "PrairiePool" (328 : Nat) (-9223372036854775808 : Int64)) ∈ lw_all := lw_g (lw_at lw_m4 155 rfl) rfl
theorem q994 : (Jvm.Cond.methodLink "PrairiePool" (331 : Nat) ({ cls := "PrairiePool", name := "lawOf", desc := "(I)LPrairiePool$Law;" } : Jvm.MethodName)) ∈ lw_all := lw_g (lw_at lw_m4 156 rfl) rfl
theorem q995 : (Jvm.Cond.privateMethod ({ cls := "PrairiePool", name := "lawOf", desc := "(I)LPrairiePool$Law;" } : Jvm.MethodName)) ∈ lw_tbl := lw_at lw_m4 157 rfl
theorem q996 : (Jvm.Cond.instanceMethod ({ cls := "PrairiePool", name := "lawOf", desc := "(I)LPrairiePool$Law;" } : Jvm.MethodName)) ∈ lw_all := lw_g (lw_at lw_m4 158 rfl) rfl
theorem q997 : (Jvm.Cond.code ({ cls := "PrairiePool", name := "lawOf", desc := "(I)LPrairiePool$Law;" } : Jvm.MethodName) prog_1_method_37_code (4 : Nat) (Option.some (Jvm.ClassFile.FieldType.object "PrairiePool$Law"))) ∈ lw_all := lw_g (lw_at lw_m4 159 rfl) rfl
theorem q998 : (Jvm.Cond.methodLink "PrairiePool" (339 : Nat) ({ cls := "PrairiePool", name := "clear", desc := "()[J" } : Jvm.MethodName)) ∈ lw_all := lw_g (lw_at lw_m4 160 rfl) rfl
theorem q999 : (Jvm.Cond.privateMethod ({ cls := "PrairiePool", name := "clear", desc := "()[J" } : Jvm.MethodName)) ∈ lw_tbl := lw_at lw_m4 161 rfl
theorem q1000 : (Jvm.Cond.instanceMethod ({ cls := "PrairiePool", name := "clear", desc := "()[J" } : Jvm.MethodName)) ∈ lw_all := lw_g (lw_at lw_m4 162 rfl) rfl
theorem q1001 : (Jvm.Cond.code ({ cls := "PrairiePool", name := "clear", desc := "()[J" } : Jvm.MethodName) prog_1_method_38_code (2 : Nat) (Option.some (Jvm.ClassFile.FieldType.array Jvm.ClassFile.FieldType.long))) ∈ lw_all := lw_g (lw_at lw_m4 163 rfl) rfl
theorem q1002 : (Jvm.Cond.methodLink "PrairiePool" (343 : Nat) ({ cls := "PrairiePool$Load", name := "year", desc := "()I" } : Jvm.MethodName)) ∈ lw_all := lw_g (lw_at lw_m4 164 rfl) rfl
theorem q1003 : (Jvm.Cond.instanceMethod ({ cls := "PrairiePool$Load", name := "year", desc := "()I" } : Jvm.MethodName)) ∈ lw_all := lw_g (lw_at lw_m4 165 rfl) rfl
theorem q1004 : (Jvm.Cond.selects "PrairiePool$Load" ({ cls := "PrairiePool$Load", name := "year", desc := "()I" } : Jvm.MethodName) ({ cls := "PrairiePool$Load", name := "year", desc := "()I" } : Jvm.MethodName)) ∈ lw_all := lw_g (lw_at lw_m4 166 rfl) rfl
theorem q1005 : (Jvm.Cond.code ({ cls := "PrairiePool$Load", name := "year", desc := "()I" } : Jvm.MethodName) prog_13_method_3_code (1 : Nat) (Option.some Jvm.ClassFile.FieldType.int)) ∈ lw_all := lw_g (lw_at lw_m4 167 rfl) rfl
theorem q1006 : (Jvm.Cond.methodLink "PrairiePool" (347 : Nat) ({ cls := "PrairiePool$Load", name := "bushels", desc := "()I" } : Jvm.MethodName)) ∈ lw_all := lw_g (lw_at lw_m4 168 rfl) rfl
theorem q1007 : (Jvm.Cond.instanceMethod ({ cls := "PrairiePool$Load", name := "bushels", desc := "()I" } : Jvm.MethodName)) ∈ lw_all := lw_g (lw_at lw_m4 169 rfl) rfl
theorem q1008 : (Jvm.Cond.selects "PrairiePool$Load" ({ cls := "PrairiePool$Load", name := "bushels", desc := "()I" } : Jvm.MethodName) ({ cls := "PrairiePool$Load", name := "bushels", desc := "()I" } : Jvm.MethodName)) ∈ lw_all := lw_g (lw_at lw_m4 170 rfl) rfl
theorem q1009 : (Jvm.Cond.code ({ cls := "PrairiePool$Load", name := "bushels", desc := "()I" } : Jvm.MethodName) prog_13_method_2_code (1 : Nat) (Option.some Jvm.ClassFile.FieldType.int)) ∈ lw_all := lw_g (lw_at lw_m4 171 rfl) rfl
theorem q1010 : (Jvm.Cond.methodLink "PrairiePool$Load" (20 : Nat) ({ cls := "PrairiePool$Event", name := "bushels", desc := "()I" } : Jvm.MethodName)) ∈ lw_all := lw_g (lw_at lw_m4 172 rfl) rfl
theorem q1011 : (Jvm.Cond.instanceMethod ({ cls := "PrairiePool$Event", name := "bushels", desc := "()I" } : Jvm.MethodName)) ∈ lw_all := lw_g (lw_at lw_m4 173 rfl) rfl
theorem q1012 : (Jvm.Cond.code ({ cls := "PrairiePool$Event", name := "bushels", desc := "()I" } : Jvm.MethodName) prog_7_method_2_code (1 : Nat) (Option.some Jvm.ClassFile.FieldType.int)) ∈ lw_all := lw_g (lw_at lw_m4 174 rfl) rfl
theorem q1013 : (Jvm.Cond.constantLong "PrairiePool" (357 : Nat) (1918987883 : Int64)) ∈ lw_all := lw_g (lw_at lw_m4 175 rfl) rfl
theorem q1014 : (Jvm.Cond.constantLong "PrairiePool" (359 : Nat) (-1000000 : Int64)) ∈ lw_all := lw_g (lw_at lw_m4 176 rfl) rfl
theorem q1015 : (Jvm.Cond.methodLink "PrairiePool" (361 : Nat) ({ cls := "PrairiePool", name := "asks", desc := "(JJJJ)J" } : Jvm.MethodName)) ∈ lw_all := lw_g (lw_at lw_m4 177 rfl) rfl
theorem q1016 : (Jvm.Cond.privateMethod ({ cls := "PrairiePool", name := "asks", desc := "(JJJJ)J" } : Jvm.MethodName)) ∈ lw_tbl := lw_at lw_m4 178 rfl
theorem q1017 : (Jvm.Cond.instanceMethod ({ cls := "PrairiePool", name := "asks", desc := "(JJJJ)J" } : Jvm.MethodName)) ∈ lw_all := lw_g (lw_at lw_m4 179 rfl) rfl
theorem q1018 : (Jvm.Cond.code ({ cls := "PrairiePool", name := "asks", desc := "(JJJJ)J" } : Jvm.MethodName) prog_1_method_39_code (10 : Nat) (Option.some Jvm.ClassFile.FieldType.long)) ∈ lw_all := lw_g (lw_at lw_m4 180 rfl) rfl
theorem q1019 : (Jvm.Cond.methodLink "PrairiePool" (426 : Nat) ({ cls := "PrairiePool$Law", name := "find", desc := "(J)I" } : Jvm.MethodName)) ∈ lw_all := lw_g (lw_at lw_m4 181 rfl) rfl
theorem q1020 : (Jvm.Cond.instanceMethod ({ cls := "PrairiePool$Law", name := "find", desc := "(J)I" } : Jvm.MethodName)) ∈ lw_all := lw_g (lw_at lw_m4 182 rfl) rfl
theorem q1021 : (Jvm.Cond.selects "PrairiePool$Law" ({ cls := "PrairiePool$Law", name := "find", desc := "(J)I" } : Jvm.MethodName) ({ cls := "PrairiePool$Law", name := "find", desc := "(J)I" } : Jvm.MethodName)) ∈ lw_all := lw_g (lw_at lw_m4 183 rfl) rfl
theorem q1022 : (Jvm.Cond.code ({ cls := "PrairiePool$Law", name := "find", desc := "(J)I" } : Jvm.MethodName) prog_11_method_2_code (4 : Nat) (Option.some Jvm.ClassFile.FieldType.int)) ∈ lw_all := lw_g (lw_at lw_m4 184 rfl) rfl
theorem q1023 : (Jvm.Cond.methodLink "PrairiePool" (430 : Nat) ({ cls := "PrairiePool$Law", name := "works", desc := "(LPrairiePool$Asked;I)Z" } : Jvm.MethodName)) ∈ lw_all := lw_g (lw_at lw_m4 185 rfl) rfl
theorem q1024 : (Jvm.Cond.instanceMethod ({ cls := "PrairiePool$Law", name := "works", desc := "(LPrairiePool$Asked;I)Z" } : Jvm.MethodName)) ∈ lw_all := lw_g (lw_at lw_m4 186 rfl) rfl
theorem q1025 : (Jvm.Cond.selects "PrairiePool$Law" ({ cls := "PrairiePool$Law", name := "works", desc := "(LPrairiePool$Asked;I)Z" } : Jvm.MethodName) ({ cls := "PrairiePool$Law", name := "works", desc := "(LPrairiePool$Asked;I)Z" } : Jvm.MethodName)) ∈ lw_all := lw_g (lw_at lw_m4 187 rfl) rfl
theorem q1026 : (Jvm.Cond.codeWith ({ cls := "PrairiePool$Law", name := "works", desc := "(LPrairiePool$Asked;I)Z" } : Jvm.MethodName) prog_11_method_3_code (5 : Nat) (Option.some Jvm.ClassFile.FieldType.boolean) [((14 : Nat), (30 : Nat), (33 : Nat), (37 : Nat))]) ∈ lw_all := lw_g (lw_at lw_m4 188 rfl) rfl
theorem q1027 : (Jvm.Cond.classLink "PrairiePool$Law" (37 : Nat) "PrairiePool$Wrong") ∈ lw_all := lw_g (lw_at lw_m4 189 rfl) rfl
theorem q1028 : (Jvm.Cond.methodLink "PrairiePool$Law" (33 : Nat) ({ cls := "PrairiePool$Term", name := "value", desc := "(LPrairiePool$Asked;)J" } : Jvm.MethodName)) ∈ lw_all := lw_g (lw_at lw_m4 190 rfl) rfl
theorem q1029 : (Jvm.Cond.declares ({ cls := "PrairiePool$Term", name := "value", desc := "(LPrairiePool$Asked;)J" } : Jvm.MethodName)) ∈ lw_tbl := lw_at lw_m4 191 rfl
theorem q1030 : (Jvm.Cond.sameMethod "PrairiePool$Term" "PrairiePool$Term" "value" "(LPrairiePool$Asked;)J") ∈ lw_all := lw_g (lw_at lw_m4 192 rfl) rfl
theorem q1031 : (Jvm.Cond.selects "PrairiePool$Chain" ({ cls := "PrairiePool$Term", name := "value", desc := "(LPrairiePool$Asked;)J" } : Jvm.MethodName) ({ cls := "PrairiePool$Chain", name := "value", desc := "(LPrairiePool$Asked;)J" } : Jvm.MethodName)) ∈ lw_all := lw_g (lw_at lw_m4 193 rfl) rfl
theorem q1032 : (Jvm.Cond.instanceMethod ({ cls := "PrairiePool$Chain", name := "value", desc := "(LPrairiePool$Asked;)J" } : Jvm.MethodName)) ∈ lw_all := lw_g (lw_at lw_m4 194 rfl) rfl
theorem q1033 : (Jvm.Cond.code ({ cls := "PrairiePool$Chain", name := "value", desc := "(LPrairiePool$Asked;)J" } : Jvm.MethodName) prog_4_method_3_code (7 : Nat) (Option.some Jvm.ClassFile.FieldType.long)) ∈ lw_all := lw_g (lw_at lw_m4 195 rfl) rfl
theorem q1034 : (Jvm.Cond.methodLink "PrairiePool$Chain" (23 : Nat) ({ cls := "PrairiePool$Term", name := "value", desc := "(LPrairiePool$Asked;)J" } : Jvm.MethodName)) ∈ lw_all := lw_g (lw_at lw_m4 196 rfl) rfl
theorem q1035 : (Jvm.Cond.instanceMethod ({ cls := "PrairiePool$If", name := "value", desc := "(LPrairiePool$Asked;)J" } : Jvm.MethodName)) ∈ lw_all := lw_g (lw_at lw_m4 197 rfl) rfl
theorem q1036 : (Jvm.Cond.code ({ cls := "PrairiePool$If", name := "value", desc := "(LPrairiePool$Asked;)J" } : Jvm.MethodName) prog_10_method_4_code (2 : Nat) (Option.some Jvm.ClassFile.FieldType.long)) ∈ lw_all := lw_g (lw_at lw_m4 198 rfl) rfl
theorem q1037 : (Jvm.Cond.methodLink "PrairiePool$If" (36 : Nat) ({ cls := "PrairiePool$If", name := "taken", desc := "(LPrairiePool$Asked;)LPrairiePool$Term;" } : Jvm.MethodName)) ∈ lw_all := lw_g (lw_at lw_m4 199 rfl) rfl
theorem q1038 : (Jvm.Cond.privateMethod ({ cls := "PrairiePool$If", name := "taken", desc := "(LPrairiePool$Asked;)LPrairiePool$Term;" } : Jvm.MethodName)) ∈ lw_tbl := lw_at lw_m4 200 rfl
theorem q1039 : (Jvm.Cond.instanceMethod ({ cls := "PrairiePool$If", name := "taken", desc := "(LPrairiePool$Asked;)LPrairiePool$Term;" } : Jvm.MethodName)) ∈ lw_all := lw_g (lw_at lw_m4 201 rfl) rfl
theorem q1040 : (Jvm.Cond.instantiable "PrairiePool$If" (7 : Nat)) ∈ lw_all := lw_g (lw_at lw_m4 202 rfl) rfl
theorem q1041 : (Jvm.Cond.code ({ cls := "PrairiePool$If", name := "taken", desc := "(LPrairiePool$Asked;)LPrairiePool$Term;" } : Jvm.MethodName) prog_10_method_3_code (3 : Nat) (Option.some (Jvm.ClassFile.FieldType.object "PrairiePool$Term"))) ∈ lw_all := lw_g (lw_at lw_m4 203 rfl) rfl
theorem q1042 : (Jvm.Cond.methodLink "PrairiePool$If" (21 : Nat) ({ cls := "PrairiePool$Compare", name := "holds", desc := "(LPrairiePool$Asked;)Z" } : Jvm.MethodName)) ∈ lw_all := lw_g (lw_at lw_m4 204 rfl) rfl
theorem q1043 : (Jvm.Cond.instanceMethod ({ cls := "PrairiePool$Compare", name := "holds", desc := "(LPrairiePool$Asked;)Z" } : Jvm.MethodName)) ∈ lw_all := lw_g (lw_at lw_m4 205 rfl) rfl
theorem q1044 : (Jvm.Cond.selects "PrairiePool$Compare" ({ cls := "PrairiePool$Compare", name := "holds", desc := "(LPrairiePool$Asked;)Z" } : Jvm.MethodName) ({ cls := "PrairiePool$Compare", name := "holds", desc := "(LPrairiePool$Asked;)Z" } : Jvm.MethodName)) ∈ lw_all := lw_g (lw_at lw_m4 206 rfl) rfl
theorem q1045 : (Jvm.Cond.codeWith ({ cls := "PrairiePool$Compare", name := "holds", desc := "(LPrairiePool$Asked;)Z" } : Jvm.MethodName) prog_5_method_2_code (7 : Nat) (Option.some Jvm.ClassFile.FieldType.boolean) [((0 : Nat), (19 : Nat), (22 : Nat), (30 : Nat))]) ∈ lw_all := lw_g (lw_at lw_m4 207 rfl) rfl
theorem q1046 : (Jvm.Cond.classLink "PrairiePool$Compare" (30 : Nat) "PrairiePool$Wrong") ∈ lw_all := lw_g (lw_at lw_m4 208 rfl) rfl
theorem q1047 : (Jvm.Cond.methodLink "PrairiePool$Compare" (24 : Nat) ({ cls := "PrairiePool$Term", name := "value", desc := "(LPrairiePool$Asked;)J" } : Jvm.MethodName)) ∈ lw_all := lw_g (lw_at lw_m4 209 rfl) rfl
theorem q1048 : (Jvm.Cond.instanceMethod ({ cls := "PrairiePool$Leaf", name := "value", desc := "(LPrairiePool$Asked;)J" } : Jvm.MethodName)) ∈ lw_all := lw_g (lw_at lw_m4 210 rfl) rfl
theorem q1049 : (Jvm.Cond.code ({ cls := "PrairiePool$Leaf", name := "value", desc := "(LPrairiePool$Asked;)J" } : Jvm.MethodName) prog_12_method_2_code (2 : Nat) (Option.some Jvm.ClassFile.FieldType.long)) ∈ lw_all := lw_g (lw_at lw_m4 211 rfl) rfl
theorem q1050 : (Jvm.Cond.instanceMethod ({ cls := "PrairiePool$Pick", name := "value", desc := "(LPrairiePool$Asked;)J" } : Jvm.MethodName)) ∈ lw_all := lw_g (lw_at lw_m4 212 rfl) rfl
theorem q1051 : (Jvm.Cond.code ({ cls := "PrairiePool$Pick", name := "value", desc := "(LPrairiePool$Asked;)J" } : Jvm.MethodName) prog_15_method_2_code (6 : Nat) (Option.some Jvm.ClassFile.FieldType.long)) ∈ lw_all := lw_g (lw_at lw_m4 213 rfl) rfl
theorem q1052 : (Jvm.Cond.methodLink "PrairiePool$Pick" (20 : Nat) ({ cls := "PrairiePool$Term", name := "value", desc := "(LPrairiePool$Asked;)J" } : Jvm.MethodName)) ∈ lw_all := lw_g (lw_at lw_m4 214 rfl) rfl
theorem q1053 : (Jvm.Cond.methodLink "PrairiePool$Pick" (24 : Nat) ({ cls := "java/lang/Math", name := "max", desc := "(JJ)J" } : Jvm.MethodName)) ∈ lw_all := lw_g (lw_at lw_m4 215 rfl) rfl
theorem q1054 : (Jvm.Cond.static ({ cls := "java/lang/Math", name := "max", desc := "(JJ)J" } : Jvm.MethodName)) ∈ lw_all := lw_g (lw_at lw_m4 216 rfl) rfl
theorem q1055 : (Jvm.Cond.code ({ cls := "java/lang/Math", name := "max", desc := "(JJ)J" } : Jvm.MethodName) prog_32_method_66_code (4 : Nat) (Option.some Jvm.ClassFile.FieldType.long)) ∈ lw_all := lw_g (lw_at lw_m4 217 rfl) rfl
theorem q1056 : (Jvm.Cond.methodLink "PrairiePool$Pick" (30 : Nat) ({ cls := "java/lang/Math", name := "min", desc := "(JJ)J" } : Jvm.MethodName)) ∈ lw_all := lw_g (lw_at lw_m4 218 rfl) rfl
theorem q1057 : (Jvm.Cond.static ({ cls := "java/lang/Math", name := "min", desc := "(JJ)J" } : Jvm.MethodName)) ∈ lw_all := lw_g (lw_at lw_m4 219 rfl) rfl
theorem q1058 : (Jvm.Cond.code ({ cls := "java/lang/Math", name := "min", desc := "(JJ)J" } : Jvm.MethodName) prog_32_method_70_code (4 : Nat) (Option.some Jvm.ClassFile.FieldType.long)) ∈ lw_all := lw_g (lw_at lw_m4 220 rfl) rfl
theorem q1059 : (Jvm.Cond.methodLink "PrairiePool$If" (40 : Nat) ({ cls := "PrairiePool$Term", name := "value", desc := "(LPrairiePool$Asked;)J" } : Jvm.MethodName)) ∈ lw_all := lw_g (lw_at lw_m4 221 rfl) rfl
theorem q1060 : (Jvm.Cond.selects "PrairiePool$If" ({ cls := "PrairiePool$Term", name := "value", desc := "(LPrairiePool$Asked;)J" } : Jvm.MethodName) ({ cls := "PrairiePool$If", name := "value", desc := "(LPrairiePool$Asked;)J" } : Jvm.MethodName)) ∈ lw_all := lw_g (lw_at lw_m4 222 rfl) rfl
theorem q1061 : (Jvm.Cond.selects "PrairiePool$Leaf" ({ cls := "PrairiePool$Term", name := "value", desc := "(LPrairiePool$Asked;)J" } : Jvm.MethodName) ({ cls := "PrairiePool$Leaf", name := "value", desc := "(LPrairiePool$Asked;)J" } : Jvm.MethodName)) ∈ lw_all := lw_g (lw_at lw_m4 223 rfl) rfl
theorem q1062 : (Jvm.Cond.selects "PrairiePool$Pick" ({ cls := "PrairiePool$Term", name := "value", desc := "(LPrairiePool$Asked;)J" } : Jvm.MethodName) ({ cls := "PrairiePool$Pick", name := "value", desc := "(LPrairiePool$Asked;)J" } : Jvm.MethodName)) ∈ lw_all := lw_g (lw_at lw_m4 224 rfl) rfl
theorem q1063 : (Jvm.Cond.methodLink "PrairiePool" (437 : Nat) ({ cls := "java/lang/Math", name := "min", desc := "(JJ)J" } : Jvm.MethodName)) ∈ lw_all := lw_g (lw_at lw_m4 225 rfl) rfl
theorem q1064 : (Jvm.Cond.methodLink "PrairiePool" (443 : Nat) ({ cls := "java/lang/Math", name := "max", desc := "(JJ)J" } : Jvm.MethodName)) ∈ lw_all := lw_g (lw_at lw_m4 226 rfl) rfl
theorem q1065 : (Jvm.Cond.methodLink "PrairiePoolLaw" (77 : Nat) ({ cls := "PrairiePool", name := "bin", desc := "(IIIII)I" } : Jvm.MethodName)) ∈ lw_all := lw_g (lw_at lw_m4 227 rfl) rfl
theorem q1066 : (Jvm.Cond.instanceMethod ({ cls := "PrairiePool", name := "bin", desc := "(IIIII)I" } : Jvm.MethodName)) ∈ lw_all := lw_g (lw_at lw_m4 228 rfl) rfl
theorem q1067 : (Jvm.Cond.selects "PrairiePool" ({ cls := "PrairiePool", name := "bin", desc := "(IIIII)I" } : Jvm.MethodName) ({ cls := "PrairiePool", name := "bin", desc := "(IIIII)I" } : Jvm.MethodName)) ∈ lw_all := lw_g (lw_at lw_m4 229 rfl) rfl
theorem q1068 : (Jvm.Cond.code ({ cls := "PrairiePool", name := "bin", desc := "(IIIII)I" } : Jvm.MethodName) prog_1_method_34_code (6 : Nat) (Option.some Jvm.ClassFile.FieldType.int)) ∈ lw_all := lw_g (lw_at lw_m4 230 rfl) rfl
theorem q1069 : (Jvm.Cond.methodLink "PrairiePool" (387 : Nat) ({ cls := "PrairiePool", name := "plays", desc := "(I)V" } : Jvm.MethodName)) ∈ lw_all := lw_g (lw_at lw_m4 231 rfl) rfl
theorem q1070 : (Jvm.Cond.privateMethod ({ cls := "PrairiePool", name := "plays", desc := "(I)V" } : Jvm.MethodName)) ∈ lw_tbl := lw_at lw_m4 232 rfl
theorem q1071 : (Jvm.Cond.instanceMethod ({ cls := "PrairiePool", name := "plays", desc := "(I)V" } : Jvm.MethodName)) ∈ lw_all := lw_g (lw_at lw_m4 233 rfl) rfl
theorem q1072 : (Jvm.Cond.code ({ cls := "PrairiePool", name := "plays", desc := "(I)V" } : Jvm.MethodName) prog_1_method_32_code (3 : Nat) (Option.none : Option Jvm.ClassFile.FieldType)) ∈ lw_all := lw_g (lw_at lw_m4 234 rfl) rfl
theorem q1073 : (Jvm.Cond.methodLink "PrairiePool" (369 : Nat) ({ cls := "PrairiePool$Play", name := "begin", desc := "()V" } : Jvm.MethodName)) ∈ lw_all := lw_g (lw_at lw_m4 235 rfl) rfl
theorem q1074 : (Jvm.Cond.instanceMethod ({ cls := "PrairiePool$Play", name := "begin", desc := "()V" } : Jvm.MethodName)) ∈ lw_all := lw_g (lw_at lw_m4 236 rfl) rfl
theorem q1075 : (Jvm.Cond.selects "PrairiePool$Play" ({ cls := "PrairiePool$Play", name := "begin", desc := "()V" } : Jvm.MethodName) ({ cls := "PrairiePool$Play", name := "begin", desc := "()V" } : Jvm.MethodName)) ∈ lw_all := lw_g (lw_at lw_m4 237 rfl) rfl
theorem q1076 : (Jvm.Cond.code ({ cls := "PrairiePool$Play", name := "begin", desc := "()V" } : Jvm.MethodName) prog_16_method_2_code (4 : Nat) (Option.none : Option Jvm.ClassFile.FieldType)) ∈ lw_all := lw_g (lw_at lw_m4 238 rfl) rfl
theorem q1077 : (Jvm.Cond.methodLink "PrairiePool$Play" (62 : Nat) ({ cls := "PrairiePool$Heap", name := "clear", desc := "()V" } : Jvm.MethodName)) ∈ lw_all := lw_g (lw_at lw_m4 239 rfl) rfl
theorem q1078 : (Jvm.Cond.instanceMethod ({ cls := "PrairiePool$Heap", name := "clear", desc := "()V" } : Jvm.MethodName)) ∈ lw_all := lw_g (lw_at lw_m5 0 rfl) rfl
theorem q1079 : (Jvm.Cond.selects "PrairiePool$Heap" ({ cls := "PrairiePool$Heap", name := "clear", desc := "()V" } : Jvm.MethodName) ({ cls := "PrairiePool$Heap", name := "clear", desc := "()V" } : Jvm.MethodName)) ∈ lw_all := lw_g (lw_at lw_m5 1 rfl) rfl
theorem q1080 : (Jvm.Cond.code ({ cls := "PrairiePool$Heap", name := "clear", desc := "()V" } : Jvm.MethodName) prog_9_method_2_code (2 : Nat) (Option.none : Option Jvm.ClassFile.FieldType)) ∈ lw_all := lw_g (lw_at lw_m5 2 rfl) rfl
theorem q1081 : (Jvm.Cond.superclass "PrairiePool$Event" "java/lang/Object") ∈ lw_all := lw_g (lw_at lw_m5 3 rfl) rfl
theorem q1082 : (Jvm.Cond.declares ({ cls := "PrairiePool$Plays", name := "plays", desc := "(LPrairiePool$Play;)V" } : Jvm.MethodName)) ∈ lw_tbl := lw_at lw_m5 4 rfl
theorem q1083 : (Jvm.Cond.selects "PrairiePool$Car" ({ cls := "PrairiePool$Plays", name := "plays", desc := "(LPrairiePool$Play;)V" } : Jvm.MethodName) ({ cls := "PrairiePool$Spoil", name := "plays", desc := "(LPrairiePool$Play;)V" } : Jvm.MethodName)) ∈ lw_all := lw_g (lw_at lw_m5 5 rfl) rfl
theorem q1084 : (Jvm.Cond.instanceMethod ({ cls := "PrairiePool$Spoil", name := "plays", desc := "(LPrairiePool$Play;)V" } : Jvm.MethodName)) ∈ lw_all := lw_g (lw_at lw_m5 6 rfl) rfl
theorem q1085 : (Jvm.Cond.code ({ cls := "PrairiePool$Spoil", name := "plays", desc := "(LPrairiePool$Play;)V" } : Jvm.MethodName) prog_20_method_4_code (4 : Nat) (Option.none : Option Jvm.ClassFile.FieldType)) ∈ lw_all := lw_g (lw_at lw_m5 7 rfl) rfl
theorem q1086 : (Jvm.Cond.methodLink "PrairiePool$Spoil" (29 : Nat) ({ cls := "PrairiePool$Spoil", name := "some", desc := "(LPrairiePool$Play;LPrairiePool$Heap;)I" } : Jvm.MethodName)) ∈ lw_all := lw_g (lw_at lw_m5 8 rfl) rfl
theorem q1087 : (Jvm.Cond.sameMethod "PrairiePool$Spoil" "PrairiePool$Taking" "some" "(LPrairiePool$Play;LPrairiePool$Heap;)I") ∈ lw_all := lw_g (lw_at lw_m5 9 rfl) rfl
theorem q1088 : (Jvm.Cond.declares ({ cls := "PrairiePool$Taking", name := "some", desc := "(LPrairiePool$Play;LPrairiePool$Heap;)I" } : Jvm.MethodName)) ∈ lw_tbl := lw_at lw_m5 10 rfl
theorem q1089 : (Jvm.Cond.selects "PrairiePool$Car" ({ cls := "PrairiePool$Spoil", name := "some", desc := "(LPrairiePool$Play;LPrairiePool$Heap;)I" } : Jvm.MethodName) ({ cls := "PrairiePool$Taking", name := "some", desc := "(LPrairiePool$Play;LPrairiePool$Heap;)I" } : Jvm.MethodName)) ∈ lw_all := lw_g (lw_at lw_m5 11 rfl) rfl
theorem q1090 : (Jvm.Cond.selects "PrairiePool$Spoil" ({ cls := "PrairiePool$Spoil", name := "some", desc := "(LPrairiePool$Play;LPrairiePool$Heap;)I" } : Jvm.MethodName) ({ cls := "PrairiePool$Taking", name := "some", desc := "(LPrairiePool$Play;LPrairiePool$Heap;)I" } : Jvm.MethodName)) ∈ lw_all := lw_g (lw_at lw_m5 12 rfl) rfl
theorem q1091 : (Jvm.Cond.instanceMethod ({ cls := "PrairiePool$Taking", name := "some", desc := "(LPrairiePool$Play;LPrairiePool$Heap;)I" } : Jvm.MethodName)) ∈ lw_all := lw_g (lw_at lw_m5 13 rfl) rfl
theorem q1092 : (Jvm.Cond.code ({ cls := "PrairiePool$Taking", name := "some", desc := "(LPrairiePool$Play;LPrairiePool$Heap;)I" } : Jvm.MethodName) prog_21_method_2_code (4 : Nat) (Option.some Jvm.ClassFile.FieldType.int)) ∈ lw_all := lw_g (lw_at lw_m5 14 rfl) rfl
theorem q1093 : (Jvm.Cond.methodLink "PrairiePool$Taking" (19 : Nat) ({ cls := "PrairiePool$Taking", name := "bushels", desc := "()I" } : Jvm.MethodName)) ∈ lw_all := lw_g (lw_at lw_m5 15 rfl) rfl
theorem q1094 : (Jvm.Cond.sameMethod "PrairiePool$Taking" "PrairiePool$Event" "bushels" "()I") ∈ lw_all := lw_g (lw_at lw_m5 16 rfl) rfl
theorem q1095 : (Jvm.Cond.declares ({ cls := "PrairiePool$Event", name := "bushels", desc := "()I" } : Jvm.MethodName)) ∈ lw_tbl := lw_at lw_m5 17 rfl
theorem q1096 : (Jvm.Cond.selects "PrairiePool$Car" ({ cls := "PrairiePool$Taking", name := "bushels", desc := "()I" } : Jvm.MethodName) ({ cls := "PrairiePool$Event", name := "bushels", desc := "()I" } : Jvm.MethodName)) ∈ lw_all := lw_g (lw_at lw_m5 18 rfl) rfl
theorem q1097 : (Jvm.Cond.selects "PrairiePool$Sale" ({ cls := "PrairiePool$Taking", name := "bushels", desc := "()I" } : Jvm.MethodName) ({ cls := "PrairiePool$Event", name := "bushels", desc := "()I" } : Jvm.MethodName)) ∈ lw_all := lw_g (lw_at lw_m5 19 rfl) rfl
theorem q1098 : (Jvm.Cond.selects "PrairiePool$Spoil" ({ cls := "PrairiePool$Taking", name := "bushels", desc := "()I" } : Jvm.MethodName) ({ cls := "PrairiePool$Event", name := "bushels", desc := "()I" } : Jvm.MethodName)) ∈ lw_all := lw_g (lw_at lw_m5 20 rfl) rfl
theorem q1099 : (Jvm.Cond.methodLink "PrairiePool$Taking" (28 : Nat) ({ cls := "java/lang/Math", name := "min", desc := "(II)I" } : Jvm.MethodName)) ∈ lw_all := lw_g (lw_at lw_m5 21 rfl) rfl
theorem q1100 : (Jvm.Cond.static ({ cls := "java/lang/Math", name := "min", desc := "(II)I" } : Jvm.MethodName)) ∈ lw_all := lw_g (lw_at lw_m5 22 rfl) rfl
theorem q1101 : (Jvm.Cond.code ({ cls := "java/lang/Math", name := "min", desc := "(II)I" } : Jvm.MethodName) prog_32_method_69_code (2 : Nat) (Option.some Jvm.ClassFile.FieldType.int)) ∈ lw_all := lw_g (lw_at lw_m5 23 rfl) rfl
theorem q1102 : (Jvm.Cond.methodLink "PrairiePool$Spoil" (37 : Nat) ({ cls := "PrairiePool$Spoil", name := "goal", desc := "(LPrairiePool$Play;)LPrairiePool$Heap;" } : Jvm.MethodName)) ∈ lw_all := lw_g (lw_at lw_m5 24 rfl) rfl
theorem q1103 : (Jvm.Cond.instanceMethod ({ cls := "PrairiePool$Spoil", name := "goal", desc := "(LPrairiePool$Play;)LPrairiePool$Heap;" } : Jvm.MethodName)) ∈ lw_all := lw_g (lw_at lw_m5 25 rfl) rfl
theorem q1104 : (Jvm.Cond.selects "PrairiePool$Spoil" ({ cls := "PrairiePool$Spoil", name := "goal", desc := "(LPrairiePool$Play;)LPrairiePool$Heap;" } : Jvm.MethodName) ({ cls := "PrairiePool$Spoil", name := "goal", desc := "(LPrairiePool$Play;)LPrairiePool$Heap;" } : Jvm.MethodName)) ∈ lw_all := lw_g (lw_at lw_m5 26 rfl) rfl
theorem q1105 : (Jvm.Cond.sameMethod "PrairiePool$Spoil" "PrairiePool$Spoil" "goal" "(LPrairiePool$Play;)LPrairiePool$Heap;") ∈ lw_all := lw_g (lw_at lw_m5 27 rfl) rfl
theorem q1106 : (Jvm.Cond.selects "PrairiePool$Car" ({ cls := "PrairiePool$Spoil", name := "goal", desc := "(LPrairiePool$Play;)LPrairiePool$Heap;" } : Jvm.MethodName) ({ cls := "PrairiePool$Car", name := "goal", desc := "(LPrairiePool$Play;)LPrairiePool$Heap;" } : Jvm.MethodName)) ∈ lw_all := lw_g (lw_at lw_m5 28 rfl) rfl
theorem q1107 : (Jvm.Cond.instanceMethod ({ cls := "PrairiePool$Car", name := "goal", desc := "(LPrairiePool$Play;)LPrairiePool$Heap;" } : Jvm.MethodName)) ∈ lw_all := lw_g (lw_at lw_m5 29 rfl) rfl
theorem q1108 : (Jvm.Cond.code ({ cls := "PrairiePool$Car", name := "goal", desc := "(LPrairiePool$Play;)LPrairiePool$Heap;" } : Jvm.MethodName) prog_3_method_2_code (2 : Nat) (Option.some (Jvm.ClassFile.FieldType.object "PrairiePool$Heap"))) ∈ lw_all := lw_g (lw_at lw_m5 30 rfl) rfl
theorem q1109 : (Jvm.Cond.code ({ cls := "PrairiePool$Spoil", name := "goal", desc := "(LPrairiePool$Play;)LPrairiePool$Heap;" } : Jvm.MethodName) prog_20_method_2_code (2 : Nat) (Option.some (Jvm.ClassFile.FieldType.object "PrairiePool$Heap"))) ∈ lw_all := lw_g (lw_at lw_m5 31 rfl) rfl
theorem q1110 : (Jvm.Cond.methodLink "PrairiePool$Spoil" (41 : Nat) ({ cls := "PrairiePool$Spoil", name := "row", desc := "(LPrairiePool$Play;)[I" } : Jvm.MethodName)) ∈ lw_all := lw_g (lw_at lw_m5 32 rfl) rfl
theorem q1111 : (Jvm.Cond.instanceMethod ({ cls := "PrairiePool$Spoil", name := "row", desc := "(LPrairiePool$Play;)[I" } : Jvm.MethodName)) ∈ lw_all := lw_g (lw_at lw_m5 33 rfl) rfl
theorem q1112 : (Jvm.Cond.selects "PrairiePool$Spoil" ({ cls := "PrairiePool$Spoil", name := "row", desc := "(LPrairiePool$Play;)[I" } : Jvm.MethodName) ({ cls := "PrairiePool$Spoil", name := "row", desc := "(LPrairiePool$Play;)[I" } : Jvm.MethodName)) ∈ lw_all := lw_g (lw_at lw_m5 34 rfl) rfl
theorem q1113 : (Jvm.Cond.sameMethod "PrairiePool$Spoil" "PrairiePool$Spoil" "row" "(LPrairiePool$Play;)[I") ∈ lw_all := lw_g (lw_at lw_m5 35 rfl) rfl
theorem q1114 : (Jvm.Cond.selects "PrairiePool$Car" ({ cls := "PrairiePool$Spoil", name := "row", desc := "(LPrairiePool$Play;)[I" } : Jvm.MethodName) ({ cls := "PrairiePool$Car", name := "row", desc := "(LPrairiePool$Play;)[I" } : Jvm.MethodName)) ∈ lw_all := lw_g (lw_at lw_m5 36 rfl) rfl
theorem q1115 : (Jvm.Cond.instanceMethod ({ cls := "PrairiePool$Car", name := "row", desc := "(LPrairiePool$Play;)[I" } : Jvm.MethodName)) ∈ lw_all := lw_g (lw_at lw_m5 37 rfl) rfl
theorem q1116 : (Jvm.Cond.code ({ cls := "PrairiePool$Car", name := "row", desc := "(LPrairiePool$Play;)[I" } : Jvm.MethodName) prog_3_method_3_code (2 : Nat) (Option.some (Jvm.ClassFile.FieldType.array Jvm.ClassFile.FieldType.int))) ∈ lw_all := lw_g (lw_at lw_m5 38 rfl) rfl
theorem q1117 : (Jvm.Cond.code ({ cls := "PrairiePool$Spoil", name := "row", desc := "(LPrairiePool$Play;)[I" } : Jvm.MethodName) prog_20_method_3_code (2 : Nat) (Option.some (Jvm.ClassFile.FieldType.array Jvm.ClassFile.FieldType.int))) ∈ lw_all := lw_g (lw_at lw_m5 39 rfl) rfl
theorem q1118 : (Jvm.Cond.methodLink "PrairiePool$Spoil" (45 : Nat) ({ cls := "PrairiePool$Heap", name := "takes", desc := "(ILPrairiePool$Parts;LPrairiePool$Heap;[I)V" } : Jvm.MethodName)) ∈ lw_all := lw_g (lw_at lw_m5 40 rfl) rfl
theorem q1119 : (Jvm.Cond.instanceMethod ({ cls := "PrairiePool$Heap", name := "takes", desc := "(ILPrairiePool$Parts;LPrairiePool$Heap;[I)V" } : Jvm.MethodName)) ∈ lw_all := lw_g (lw_at lw_m5 41 rfl) rfl
theorem q1120 : (Jvm.Cond.selects "PrairiePool$Heap" ({ cls := "PrairiePool$Heap", name := "takes", desc := "(ILPrairiePool$Parts;LPrairiePool$Heap;[I)V" } : Jvm.MethodName) ({ cls := "PrairiePool$Heap", name := "takes", desc := "(ILPrairiePool$Parts;LPrairiePool$Heap;[I)V" } : Jvm.MethodName)) ∈ lw_all := lw_g (lw_at lw_m5 42 rfl) rfl
theorem q1121 : (Jvm.Cond.code ({ cls := "PrairiePool$Heap", name := "takes", desc := "(ILPrairiePool$Parts;LPrairiePool$Heap;[I)V" } : Jvm.MethodName) prog_9_method_4_code (7 : Nat) (Option.none : Option Jvm.ClassFile.FieldType)) ∈ lw_all := lw_g (lw_at lw_m5 43 rfl) rfl
theorem q1122 : (Jvm.Cond.methodLink "PrairiePool$Heap" (19 : Nat) ({ cls := "PrairiePool$Parts", name := "split", desc := "([IJJ)V" } : Jvm.MethodName)) ∈ lw_all := lw_g (lw_at lw_m5 44 rfl) rfl
theorem q1123 : (Jvm.Cond.instanceMethod ({ cls := "PrairiePool$Parts", name := "split", desc := "([IJJ)V" } : Jvm.MethodName)) ∈ lw_all := lw_g (lw_at lw_m5 45 rfl) rfl
theorem q1124 : (Jvm.Cond.selects "PrairiePool$Parts" ({ cls := "PrairiePool$Parts", name := "split", desc := "([IJJ)V" } : Jvm.MethodName) ({ cls := "PrairiePool$Parts", name := "split", desc := "([IJJ)V" } : Jvm.MethodName)) ∈ lw_all := lw_g (lw_at lw_m5 46 rfl) rfl
theorem q1125 : (Jvm.Cond.code ({ cls := "PrairiePool$Parts", name := "split", desc := "([IJJ)V" } : Jvm.MethodName) prog_14_method_2_code (7 : Nat) (Option.none : Option Jvm.ClassFile.FieldType)) ∈ lw_all := lw_g (lw_at lw_m5 47 rfl) rfl
theorem q1126 : (Jvm.Cond.methodLink "PrairiePool$Parts" (21 : Nat) ({ cls := "PrairiePool$Parts", name := "split", desc := "(JJ)V" } : Jvm.MethodName)) ∈ lw_all := lw_g (lw_at lw_m5 48 rfl) rfl
theorem q1127 : (Jvm.Cond.instanceMethod ({ cls := "PrairiePool$Parts", name := "split", desc := "(JJ)V" } : Jvm.MethodName)) ∈ lw_all := lw_g (lw_at lw_m5 49 rfl) rfl
theorem q1128 : (Jvm.Cond.selects "PrairiePool$Parts" ({ cls := "PrairiePool$Parts", name := "split", desc := "(JJ)V" } : Jvm.MethodName) ({ cls := "PrairiePool$Parts", name := "split", desc := "(JJ)V" } : Jvm.MethodName)) ∈ lw_all := lw_g (lw_at lw_m5 50 rfl) rfl
theorem q1129 : (Jvm.Cond.code ({ cls := "PrairiePool$Parts", name := "split", desc := "(JJ)V" } : Jvm.MethodName) prog_14_method_3_code (9 : Nat) (Option.none : Option Jvm.ClassFile.FieldType)) ∈ lw_all := lw_g (lw_at lw_m5 51 rfl) rfl
theorem q1130 : (Jvm.Cond.constantLong "PrairiePool$Parts" (25 : Nat) (-1 : Int64)) ∈ lw_all := lw_g (lw_at lw_m5 52 rfl) rfl
theorem q1131 : (Jvm.Cond.methodLink "PrairiePool$Heap" (29 : Nat) ({ cls := "PrairiePool$Heap", name := "comes", desc := "(II)V" } : Jvm.MethodName)) ∈ lw_all := lw_g (lw_at lw_m5 53 rfl) rfl
theorem q1132 : (Jvm.Cond.instanceMethod ({ cls := "PrairiePool$Heap", name := "comes", desc := "(II)V" } : Jvm.MethodName)) ∈ lw_all := lw_g (lw_at lw_m5 54 rfl) rfl
theorem q1133 : (Jvm.Cond.selects "PrairiePool$Heap" ({ cls := "PrairiePool$Heap", name := "comes", desc := "(II)V" } : Jvm.MethodName) ({ cls := "PrairiePool$Heap", name := "comes", desc := "(II)V" } : Jvm.MethodName)) ∈ lw_all := lw_g (lw_at lw_m5 55 rfl) rfl
theorem q1134 : (Jvm.Cond.code ({ cls := "PrairiePool$Heap", name := "comes", desc := "(II)V" } : Jvm.MethodName) prog_9_method_3_code (3 : Nat) (Option.none : Option Jvm.ClassFile.FieldType)) ∈ lw_all := lw_g (lw_at lw_m5 56 rfl) rfl
theorem q1135 : (Jvm.Cond.selects "PrairiePool$Load" ({ cls := "PrairiePool$Plays", name := "plays", desc := "(LPrairiePool$Play;)V" } : Jvm.MethodName) ({ cls := "PrairiePool$Load", name := "plays", desc := "(LPrairiePool$Play;)V" } : Jvm.MethodName)) ∈ lw_all := lw_g (lw_at lw_m5 57 rfl) rfl
theorem q1136 : (Jvm.Cond.instanceMethod ({ cls := "PrairiePool$Load", name := "plays", desc := "(LPrairiePool$Play;)V" } : Jvm.MethodName)) ∈ lw_all := lw_g (lw_at lw_m5 58 rfl) rfl
theorem q1137 : (Jvm.Cond.code ({ cls := "PrairiePool$Load", name := "plays", desc := "(LPrairiePool$Play;)V" } : Jvm.MethodName) prog_13_method_4_code (4 : Nat) (Option.none : Option Jvm.ClassFile.FieldType)) ∈ lw_all := lw_g (lw_at lw_m5 59 rfl) rfl
theorem q1138 : (Jvm.Cond.methodLink "PrairiePool$Load" (32 : Nat) ({ cls := "PrairiePool$Load", name := "bushels", desc := "()I" } : Jvm.MethodName)) ∈ lw_all := lw_g (lw_at lw_m5 60 rfl) rfl
theorem q1139 : (Jvm.Cond.methodLink "PrairiePool$Load" (42 : Nat) ({ cls := "java/lang/Math", name := "min", desc := "(II)I" } : Jvm.MethodName)) ∈ lw_all := lw_g (lw_at lw_m5 61 rfl) rfl
theorem q1140 : (Jvm.Cond.methodLink "PrairiePool$Load" (48 : Nat) ({ cls := "java/lang/Math", name := "max", desc := "(II)I" } : Jvm.MethodName)) ∈ lw_all := lw_g (lw_at lw_m5 62 rfl) rfl
theorem q1141 : (Jvm.Cond.static ({ cls := "java/lang/Math", name := "max", desc := "(II)I" } : Jvm.MethodName)) ∈ lw_all := lw_g (lw_at lw_m5 63 rfl) rfl
theorem q1142 : (Jvm.Cond.code ({ cls := "java/lang/Math", name := "max", desc := "(II)I" } : Jvm.MethodName) prog_32_method_65_code (2 : Nat) (Option.some Jvm.ClassFile.FieldType.int)) ∈ lw_all := lw_g (lw_at lw_m5 64 rfl) rfl
theorem q1143 : (Jvm.Cond.methodLink "PrairiePool$Load" (64 : Nat) ({ cls := "PrairiePool$Load", name := "year", desc := "()I" } : Jvm.MethodName)) ∈ lw_all := lw_g (lw_at lw_m5 65 rfl) rfl
theorem q1144 : (Jvm.Cond.methodLink "PrairiePool$Load" (67 : Nat) ({ cls := "PrairiePool$Heap", name := "comes", desc := "(II)V" } : Jvm.MethodName)) ∈ lw_all := lw_g (lw_at lw_m5 66 rfl) rfl
theorem q1145 : (Jvm.Cond.selects "PrairiePool$Sale" ({ cls := "PrairiePool$Plays", name := "plays", desc := "(LPrairiePool$Play;)V" } : Jvm.MethodName) ({ cls := "PrairiePool$Sale", name := "plays", desc := "(LPrairiePool$Play;)V" } : Jvm.MethodName)) ∈ lw_all := lw_g (lw_at lw_m5 67 rfl) rfl
theorem q1146 : (Jvm.Cond.instanceMethod ({ cls := "PrairiePool$Sale", name := "plays", desc := "(LPrairiePool$Play;)V" } : Jvm.MethodName)) ∈ lw_all := lw_g (lw_at lw_m5 68 rfl) rfl
theorem q1147 : (Jvm.Cond.code ({ cls := "PrairiePool$Sale", name := "plays", desc := "(LPrairiePool$Play;)V" } : Jvm.MethodName) prog_19_method_2_code (4 : Nat) (Option.none : Option Jvm.ClassFile.FieldType)) ∈ lw_all := lw_g (lw_at lw_m5 69 rfl) rfl
theorem q1148 : (Jvm.Cond.methodLink "PrairiePool$Sale" (28 : Nat) ({ cls := "PrairiePool$Sale", name := "some", desc := "(LPrairiePool$Play;LPrairiePool$Heap;)I" } : Jvm.MethodName)) ∈ lw_all := lw_g (lw_at lw_m5 70 rfl) rfl
theorem q1149 : (Jvm.Cond.sameMethod "PrairiePool$Sale" "PrairiePool$Taking" "some" "(LPrairiePool$Play;LPrairiePool$Heap;)I") ∈ lw_all := lw_g (lw_at lw_m5 71 rfl) rfl
theorem q1150 : (Jvm.Cond.selects "PrairiePool$Sale" ({ cls := "PrairiePool$Sale", name := "some", desc := "(LPrairiePool$Play;LPrairiePool$Heap;)I" } : Jvm.MethodName) ({ cls := "PrairiePool$Taking", name := "some", desc := "(LPrairiePool$Play;LPrairiePool$Heap;)I" } : Jvm.MethodName)) ∈ lw_all := lw_g (lw_at lw_m5 72 rfl) rfl
theorem q1151 : (Jvm.Cond.methodLink "PrairiePool$Sale" (40 : Nat) ({ cls := "PrairiePool$Heap", name := "takes", desc := "(ILPrairiePool$Parts;LPrairiePool$Heap;[I)V" } : Jvm.MethodName)) ∈ lw_all := lw_g (lw_at lw_m5 73 rfl) rfl
theorem q1152 : (Jvm.Cond.selects "PrairiePool$Spoil" ({ cls := "PrairiePool$Plays", name := "plays", desc := "(LPrairiePool$Play;)V" } : Jvm.MethodName) ({ cls := "PrairiePool$Spoil", name := "plays", desc := "(LPrairiePool$Play;)V" } : Jvm.MethodName)) ∈ lw_all := lw_g (lw_at lw_m5 74 rfl) rfl
theorem q1153 : (Jvm.Cond.methodLink "PrairiePool" (394 : Nat) ({ cls := "PrairiePool", name := "told", desc := "(LPrairiePool$Heap;I)I" } : Jvm.MethodName)) ∈ lw_all := lw_g (lw_at lw_m5 75 rfl) rfl
theorem q1154 : (Jvm.Cond.privateMethod ({ cls := "PrairiePool", name := "told", desc := "(LPrairiePool$Heap;I)I" } : Jvm.MethodName)) ∈ lw_tbl := lw_at lw_m5 76 rfl
theorem q1155 : (Jvm.Cond.instanceMethod ({ cls := "PrairiePool", name := "told", desc := "(LPrairiePool$Heap;I)I" } : Jvm.MethodName)) ∈ lw_all := lw_g (lw_at lw_m5 77 rfl) rfl
theorem q1156 : (Jvm.Cond.code ({ cls := "PrairiePool", name := "told", desc := "(LPrairiePool$Heap;I)I" } : Jvm.MethodName) prog_1_method_33_code (3 : Nat) (Option.some Jvm.ClassFile.FieldType.int)) ∈ lw_all := lw_g (lw_at lw_m5 78 rfl) rfl
theorem q1157 : (Jvm.Cond.methodLink "PrairiePoolLaw" (82 : Nat) ({ cls := "PrairiePool", name := "port", desc := "(IIIII)I" } : Jvm.MethodName)) ∈ lw_all := lw_g (lw_at lw_m5 79 rfl) rfl
theorem q1158 : (Jvm.Cond.instanceMethod ({ cls := "PrairiePool", name := "port", desc := "(IIIII)I" } : Jvm.MethodName)) ∈ lw_all := lw_g (lw_at lw_m5 80 rfl) rfl
theorem q1159 : (Jvm.Cond.selects "PrairiePool" ({ cls := "PrairiePool", name := "port", desc := "(IIIII)I" } : Jvm.MethodName) ({ cls := "PrairiePool", name := "port", desc := "(IIIII)I" } : Jvm.MethodName)) ∈ lw_all := lw_g (lw_at lw_m5 81 rfl) rfl
theorem q1160 : (Jvm.Cond.code ({ cls := "PrairiePool", name := "port", desc := "(IIIII)I" } : Jvm.MethodName) prog_1_method_35_code (6 : Nat) (Option.some Jvm.ClassFile.FieldType.int)) ∈ lw_all := lw_g (lw_at lw_m5 82 rfl) rfl
theorem q1161 : (Jvm.Cond.methodLink "PrairiePoolLaw" (86 : Nat) ({ cls := "PrairiePool", name := "sum", desc := "(III)I" } : Jvm.MethodName)) ∈ lw_all := lw_g (lw_at lw_m5 83 rfl) rfl
theorem q1162 : (Jvm.Cond.instanceMethod ({ cls := "PrairiePool", name := "sum", desc := "(III)I" } : Jvm.MethodName)) ∈ lw_all := lw_g (lw_at lw_m5 84 rfl) rfl
theorem q1163 : (Jvm.Cond.selects "PrairiePool" ({ cls := "PrairiePool", name := "sum", desc := "(III)I" } : Jvm.MethodName) ({ cls := "PrairiePool", name := "sum", desc := "(III)I" } : Jvm.MethodName)) ∈ lw_all := lw_g (lw_at lw_m5 85 rfl) rfl
theorem q1164 : (Jvm.Cond.code ({ cls := "PrairiePool", name := "sum", desc := "(III)I" } : Jvm.MethodName) prog_1_method_36_code (7 : Nat) (Option.some Jvm.ClassFile.FieldType.int)) ∈ lw_all := lw_g (lw_at lw_m5 86 rfl) rfl
theorem q1165 : (Jvm.Cond.methodLink "PrairiePoolLaw" (90 : Nat) ({ cls := "PrairiePool", name := "feed", desc := "(IIIII)I" } : Jvm.MethodName)) ∈ lw_all := lw_g (lw_at lw_m5 87 rfl) rfl
theorem q1166 : (Jvm.Cond.instanceMethod ({ cls := "PrairiePool", name := "feed", desc := "(IIIII)I" } : Jvm.MethodName)) ∈ lw_all := lw_g (lw_at lw_m5 88 rfl) rfl
theorem q1167 : (Jvm.Cond.selects "PrairiePool" ({ cls := "PrairiePool", name := "feed", desc := "(IIIII)I" } : Jvm.MethodName) ({ cls := "PrairiePool", name := "feed", desc := "(IIIII)I" } : Jvm.MethodName)) ∈ lw_all := lw_g (lw_at lw_m5 89 rfl) rfl
theorem q1168 : (Jvm.Cond.code ({ cls := "PrairiePool", name := "feed", desc := "(IIIII)I" } : Jvm.MethodName) prog_1_method_40_code (6 : Nat) (Option.some Jvm.ClassFile.FieldType.int)) ∈ lw_all := lw_g (lw_at lw_m5 90 rfl) rfl
theorem q1169 : (Jvm.Cond.methodLink "PrairiePool" (449 : Nat) ({ cls := "PrairiePool", name := "four", desc := "(I)V" } : Jvm.MethodName)) ∈ lw_all := lw_g (lw_at lw_m5 91 rfl) rfl
theorem q1170 : (Jvm.Cond.privateMethod ({ cls := "PrairiePool", name := "four", desc := "(I)V" } : Jvm.MethodName)) ∈ lw_tbl := lw_at lw_m5 92 rfl
theorem q1171 : (Jvm.Cond.instanceMethod ({ cls := "PrairiePool", name := "four", desc := "(I)V" } : Jvm.MethodName)) ∈ lw_all := lw_g (lw_at lw_m5 93 rfl) rfl
theorem q1172 : (Jvm.Cond.code ({ cls := "PrairiePool", name := "four", desc := "(I)V" } : Jvm.MethodName) prog_1_method_41_code (3 : Nat) (Option.none : Option Jvm.ClassFile.FieldType)) ∈ lw_all := lw_g (lw_at lw_m5 94 rfl) rfl
theorem q1173 : (Jvm.Cond.methodLink "PrairiePoolLaw" (94 : Nat) ({ cls := "PrairiePool", name := "acts", desc := "(II)I" } : Jvm.MethodName)) ∈ lw_all := lw_g (lw_at lw_m5 95 rfl) rfl
theorem q1174 : (Jvm.Cond.instanceMethod ({ cls := "PrairiePool", name := "acts", desc := "(II)I" } : Jvm.MethodName)) ∈ lw_all := lw_g (lw_at lw_m5 96 rfl) rfl
theorem q1175 : (Jvm.Cond.selects "PrairiePool" ({ cls := "PrairiePool", name := "acts", desc := "(II)I" } : Jvm.MethodName) ({ cls := "PrairiePool", name := "acts", desc := "(II)I" } : Jvm.MethodName)) ∈ lw_all := lw_g (lw_at lw_m5 97 rfl) rfl
theorem q1176 : (Jvm.Cond.codeWith ({ cls := "PrairiePool", name := "acts", desc := "(II)I" } : Jvm.MethodName) prog_1_method_42_code (5 : Nat) (Option.some Jvm.ClassFile.FieldType.int) [((61 : Nat), (70 : Nat), (73 : Nat), (60 : Nat))]) ∈ lw_all := lw_g (lw_at lw_m5 98 rfl) rfl
theorem q1177 : (Jvm.Cond.methodLink "PrairiePool" (456 : Nat) ({ cls := "PrairiePool$Reader", name := "read", desc := "(I)LPrairiePool$Law;" } : Jvm.MethodName)) ∈ lw_all := lw_g (lw_at lw_m5 99 rfl) rfl
theorem q1178 : (Jvm.Cond.instanceMethod ({ cls := "PrairiePool$Reader", name := "read", desc := "(I)LPrairiePool$Law;" } : Jvm.MethodName)) ∈ lw_all := lw_g (lw_at lw_m5 100 rfl) rfl
theorem q1179 : (Jvm.Cond.selects "PrairiePool$Reader" ({ cls := "PrairiePool$Reader", name := "read", desc := "(I)LPrairiePool$Law;" } : Jvm.MethodName) ({ cls := "PrairiePool$Reader", name := "read", desc := "(I)LPrairiePool$Law;" } : Jvm.MethodName)) ∈ lw_all := lw_g (lw_at lw_m5 101 rfl) rfl
theorem q1180 : (Jvm.Cond.code ({ cls := "PrairiePool$Reader", name := "read", desc := "(I)LPrairiePool$Law;" } : Jvm.MethodName) prog_18_method_14_code (2 : Nat) (Option.some (Jvm.ClassFile.FieldType.object "PrairiePool$Law"))) ∈ lw_all := lw_g (lw_at lw_m5 102 rfl) rfl
theorem q1181 : (Jvm.Cond.classLink "PrairiePool$Reader" (94 : Nat) "PrairiePool$Law") ∈ lw_all := lw_g (lw_at lw_m5 103 rfl) rfl
theorem q1182 : (Jvm.Cond.instantiable "PrairiePool$Law" (4 : Nat)) ∈ lw_all := lw_g (lw_at lw_m5 104 rfl) rfl
theorem q1183 : (Jvm.Cond.methodLinkNest "PrairiePool$Reader" (96 : Nat) ({ cls := "PrairiePool$Law", name := "<init>", desc := "()V" } : Jvm.MethodName) "PrairiePool") ∈ lw_tbl := lw_at lw_m5 105 rfl
theorem q1184 : (Jvm.Cond.instanceMethod ({ cls := "PrairiePool$Law", name := "<init>", desc := "()V" } : Jvm.MethodName)) ∈ lw_all := lw_g (lw_at lw_m5 106 rfl) rfl
theorem q1185 : (Jvm.Cond.code ({ cls := "PrairiePool$Law", name := "<init>", desc := "()V" } : Jvm.MethodName) prog_11_method_1_code (1 : Nat) (Option.none : Option Jvm.ClassFile.FieldType)) ∈ lw_all := lw_g (lw_at lw_m5 107 rfl) rfl
theorem q1186 : (Jvm.Cond.methodLink "PrairiePool$Law" (3 : Nat) ({ cls := "java/lang/Object", name := "<init>", desc := "()V" } : Jvm.MethodName)) ∈ lw_all := lw_g (lw_at lw_m5 108 rfl) rfl
theorem q1187 : (Jvm.Cond.classLink "PrairiePool$Law" (15 : Nat) "PrairiePool$Term") ∈ lw_all := lw_g (lw_at lw_m5 109 rfl) rfl
theorem q1188 : (Jvm.Cond.arrayOver (Jvm.ClassFile.FieldType.object "PrairiePool$Term")) ∈ lw_tbl := lw_at lw_m5 110 rfl
theorem q1189 : (Jvm.Cond.fieldLink "PrairiePool$Law" (9 : Nat) "PrairiePool$Law" "names" "[J") ∈ lw_all := lw_g (lw_at lw_m5 111 rfl) rfl
theorem q1190 : (Jvm.Cond.fieldLinkNest "PrairiePool$Reader" (131 : Nat) "PrairiePool$Law" "names" "[J" "PrairiePool") ∈ lw_tbl := lw_at lw_m5 112 rfl
theorem q1191 : (Jvm.Cond.fieldLink "PrairiePool$Law" (17 : Nat) "PrairiePool$Law" "defs" "[LPrairiePool$Term;") ∈ lw_all := lw_g (lw_at lw_m5 113 rfl) rfl
theorem q1192 : (Jvm.Cond.fieldLinkNest "PrairiePool$Reader" (135 : Nat) "PrairiePool$Law" "defs" "[LPrairiePool$Term;" "PrairiePool") ∈ lw_tbl := lw_at lw_m5 114 rfl
theorem q1193 : (Jvm.Cond.fieldLink "PrairiePool$Law" (21 : Nat) "PrairiePool$Law" "many" "I") ∈ lw_all := lw_g (lw_at lw_m5 115 rfl) rfl
theorem q1194 : (Jvm.Cond.fieldLinkNest "PrairiePool$Reader" (117 : Nat) "PrairiePool$Law" "many" "I" "PrairiePool") ∈ lw_tbl := lw_at lw_m5 116 rfl
theorem q1195 : (Jvm.Cond.fieldLinkNest "PrairiePool" (465 : Nat) "PrairiePool$Law" "many" "I" "PrairiePool") ∈ lw_tbl := lw_at lw_m5 117 rfl
theorem q1196 : (Jvm.Cond.fieldLinkNest "PrairiePool" (420 : Nat) "PrairiePool$Law" "from" "I" "PrairiePool") ∈ lw_tbl := lw_at lw_m5 118 rfl
theorem q1197 : (Jvm.Cond.laysFinal "PrairiePool$Law" "PrairiePool$Law" "names" "[J") ∈ lw_all := lw_g (lw_at lw_m5 119 rfl) rfl
theorem q1198 : (Jvm.Cond.soleField "PrairiePool$Law" "names") ∈ lw_all := lw_g (lw_at lw_m5 120 rfl) rfl
theorem q1199 : (Jvm.Cond.laysFinal "PrairiePool$Law" "PrairiePool$Law" "defs" "[LPrairiePool$Term;") ∈ lw_all := lw_g (lw_at lw_m5 121 rfl) rfl
theorem q1200 : (Jvm.Cond.soleField "PrairiePool$Law" "defs") ∈ lw_all := lw_g (lw_at lw_m5 122 rfl) rfl
theorem q1201 : (Jvm.Cond.lays "PrairiePool$Law" "PrairiePool$Law" "many" "I") ∈ lw_all := lw_g (lw_at lw_m5 123 rfl) rfl
theorem q1202 : (Jvm.Cond.soleField "PrairiePool$Law" "many") ∈ lw_all := lw_g (lw_at lw_m5 124 rfl) rfl
theorem q1203 : (Jvm.Cond.lays "PrairiePool$Law" "PrairiePool$Law" "from" "I") ∈ lw_all := lw_g (lw_at lw_m5 125 rfl) rfl
theorem q1204 : (Jvm.Cond.soleField "PrairiePool$Law" "from") ∈ lw_all := lw_g (lw_at lw_m5 126 rfl) rfl
theorem q1205 : (Jvm.Cond.superclass "PrairiePool$Law" "java/lang/Object") ∈ lw_all := lw_g (lw_at lw_m5 127 rfl) rfl
theorem q1206 : (Jvm.Cond.methodLink "PrairiePool$Reader" (101 : Nat) ({ cls := "PrairiePool$Reader", name := "next", desc := "()V" } : Jvm.MethodName)) ∈ lw_all := lw_g (lw_at lw_m5 128 rfl) rfl
theorem q1207 : (Jvm.Cond.privateMethod ({ cls := "PrairiePool$Reader", name := "next", desc := "()V" } : Jvm.MethodName)) ∈ lw_tbl := lw_at lw_m5 129 rfl
theorem q1208 : (Jvm.Cond.instanceMethod ({ cls := "PrairiePool$Reader", name := "next", desc := "()V" } : Jvm.MethodName)) ∈ lw_all := lw_g (lw_at lw_m5 130 rfl) rfl
theorem q1209 : (Jvm.Cond.code ({ cls := "PrairiePool$Reader", name := "next", desc := "()V" } : Jvm.MethodName) prog_18_method_6_code (2 : Nat) (Option.none : Option Jvm.ClassFile.FieldType)) ∈ lw_all := lw_g (lw_at lw_m5 131 rfl) rfl
theorem q1210 : (Jvm.Cond.methodLink "PrairiePool$Reader" (26 : Nat) ({ cls := "PrairiePool$Reader", name := "at", desc := "(I)I" } : Jvm.MethodName)) ∈ lw_all := lw_g (lw_at lw_m5 132 rfl) rfl
theorem q1211 : (Jvm.Cond.privateMethod ({ cls := "PrairiePool$Reader", name := "at", desc := "(I)I" } : Jvm.MethodName)) ∈ lw_tbl := lw_at lw_m5 133 rfl
theorem q1212 : (Jvm.Cond.instanceMethod ({ cls := "PrairiePool$Reader", name := "at", desc := "(I)I" } : Jvm.MethodName)) ∈ lw_all := lw_g (lw_at lw_m5 134 rfl) rfl
theorem q1213 : (Jvm.Cond.code ({ cls := "PrairiePool$Reader", name := "at", desc := "(I)I" } : Jvm.MethodName) prog_18_method_2_code (2 : Nat) (Option.some Jvm.ClassFile.FieldType.int)) ∈ lw_all := lw_g (lw_at lw_m5 135 rfl) rfl
theorem q1214 : (Jvm.Cond.methodLink "PrairiePool$Reader" (40 : Nat) ({ cls := "PrairiePool$Reader", name := "isSmall", desc := "(I)Z" } : Jvm.MethodName)) ∈ lw_all := lw_g (lw_at lw_m5 136 rfl) rfl
theorem q1215 : (Jvm.Cond.static ({ cls := "PrairiePool$Reader", name := "isSmall", desc := "(I)Z" } : Jvm.MethodName)) ∈ lw_all := lw_g (lw_at lw_m5 137 rfl) rfl
theorem q1216 : (Jvm.Cond.code ({ cls := "PrairiePool$Reader", name := "isSmall", desc := "(I)Z" } : Jvm.MethodName) prog_18_method_4_code (1 : Nat) (Option.some Jvm.ClassFile.FieldType.boolean)) ∈ lw_all := lw_g (lw_at lw_m5 138 rfl) rfl
theorem q1217 : (Jvm.Cond.methodLink "PrairiePool$Reader" (44 : Nat) ({ cls := "PrairiePool$Reader", name := "isDigit", desc := "(I)Z" } : Jvm.MethodName)) ∈ lw_all := lw_g (lw_at lw_m5 139 rfl) rfl
theorem q1218 : (Jvm.Cond.static ({ cls := "PrairiePool$Reader", name := "isDigit", desc := "(I)Z" } : Jvm.MethodName)) ∈ lw_all := lw_g (lw_at lw_m5 140 rfl) rfl
theorem q1219 : (Jvm.Cond.code ({ cls := "PrairiePool$Reader", name := "isDigit", desc := "(I)Z" } : Jvm.MethodName) prog_18_method_3_code (1 : Nat) (Option.some Jvm.ClassFile.FieldType.boolean)) ∈ lw_all := lw_g (lw_at lw_m5 141 rfl) rfl
theorem q1220 : (Jvm.Cond.constantLong "PrairiePool$Reader" (47 : Nat) (10000000 : Int64)) ∈ lw_all := lw_g (lw_at lw_m5 142 rfl) rfl
theorem q1221 : (Jvm.Cond.constantLong "PrairiePool$Reader" (49 : Nat) (10 : Int64)) ∈ lw_all := lw_g (lw_at lw_m5 143 rfl) rfl
theorem q1222 : (Jvm.Cond.constantLong "PrairiePool$Reader" (51 : Nat) (48 : Int64)) ∈ lw_all := lw_g (lw_at lw_m5 144 rfl) rfl
theorem q1223 : (Jvm.Cond.methodLink "PrairiePool$Reader" (53 : Nat) ({ cls := "java/lang/Math", name := "min", desc := "(JJ)J" } : Jvm.MethodName)) ∈ lw_all := lw_g (lw_at lw_m5 145 rfl) rfl
theorem q1224 : (Jvm.Cond.methodLink "PrairiePool$Reader" (59 : Nat) ({ cls := "PrairiePool$Reader", name := "isSign", desc := "(I)Z" } : Jvm.MethodName)) ∈ lw_all := lw_g (lw_at lw_m5 146 rfl) rfl
theorem q1225 : (Jvm.Cond.static ({ cls := "PrairiePool$Reader", name := "isSign", desc := "(I)Z" } : Jvm.MethodName)) ∈ lw_all := lw_g (lw_at lw_m5 147 rfl) rfl
theorem q1226 : (Jvm.Cond.code ({ cls := "PrairiePool$Reader", name := "isSign", desc := "(I)Z" } : Jvm.MethodName) prog_18_method_5_code (1 : Nat) (Option.some Jvm.ClassFile.FieldType.boolean)) ∈ lw_all := lw_g (lw_at lw_m5 148 rfl) rfl
theorem q1227 : (Jvm.Cond.methodLink "PrairiePool$Reader" (104 : Nat) ({ cls := "PrairiePool$Reader", name := "def", desc := "()V" } : Jvm.MethodName)) ∈ lw_all := lw_g (lw_at lw_m5 149 rfl) rfl
theorem q1228 : (Jvm.Cond.privateMethod ({ cls := "PrairiePool$Reader", name := "def", desc := "()V" } : Jvm.MethodName)) ∈ lw_tbl := lw_at lw_m5 150 rfl
theorem q1229 : (Jvm.Cond.instanceMethod ({ cls := "PrairiePool$Reader", name := "def", desc := "()V" } : Jvm.MethodName)) ∈ lw_all := lw_g (lw_at lw_m5 151 rfl) rfl
theorem q1230 : (Jvm.Cond.code ({ cls := "PrairiePool$Reader", name := "def", desc := "()V" } : Jvm.MethodName) prog_18_method_15_code (4 : Nat) (Option.none : Option Jvm.ClassFile.FieldType)) ∈ lw_all := lw_g (lw_at lw_m5 152 rfl) rfl
theorem q1231 : (Jvm.Cond.methodLink "PrairiePool$Reader" (107 : Nat) ({ cls := "PrairiePool$Reader", name := "name", desc := "()J" } : Jvm.MethodName)) ∈ lw_all := lw_g (lw_at lw_m5 153 rfl) rfl
theorem q1232 : (Jvm.Cond.privateMethod ({ cls := "PrairiePool$Reader", name := "name", desc := "()J" } : Jvm.MethodName)) ∈ lw_tbl := lw_at lw_m5 154 rfl
theorem q1233 : (Jvm.Cond.instanceMethod ({ cls := "PrairiePool$Reader", name := "name", desc := "()J" } : Jvm.MethodName)) ∈ lw_all := lw_g (lw_at lw_m5 155 rfl) rfl
theorem q1234 : (Jvm.Cond.code ({ cls := "PrairiePool$Reader", name := "name", desc := "()J" } : Jvm.MethodName) prog_18_method_13_code (4 : Nat) (Option.some Jvm.ClassFile.FieldType.long)) ∈ lw_all := lw_g (lw_at lw_m5 156 rfl) rfl
theorem q1235 : (Jvm.Cond.constantLong "PrairiePool$Reader" (92 : Nat) (-1 : Int64)) ∈ lw_all := lw_g (lw_at lw_m5 157 rfl) rfl
theorem q1236 : (Jvm.Cond.stringRef "PrairiePool$Reader" (111 : Nat) " grade grader week year bushels acres debt district cars waits price ") ∈ lw_tbl := lw_at lw_m5 158 rfl
theorem q1237 : (Jvm.Cond.methodLink "PrairiePool$Reader" (88 : Nat) ({ cls := "PrairiePool$Reader", name := "in", desc := "(Ljava/lang/String;)I" } : Jvm.MethodName)) ∈ lw_all := lw_g (lw_at lw_m5 159 rfl) rfl
theorem q1238 : (Jvm.Cond.privateMethod ({ cls := "PrairiePool$Reader", name := "in", desc := "(Ljava/lang/String;)I" } : Jvm.MethodName)) ∈ lw_tbl := lw_at lw_m5 160 rfl
theorem q1239 : (Jvm.Cond.instanceMethod ({ cls := "PrairiePool$Reader", name := "in", desc := "(Ljava/lang/String;)I" } : Jvm.MethodName)) ∈ lw_all := lw_g (lw_at lw_m5 161 rfl) rfl
theorem q1240 : (Jvm.Cond.code ({ cls := "PrairiePool$Reader", name := "in", desc := "(Ljava/lang/String;)I" } : Jvm.MethodName) prog_18_method_10_code (5 : Nat) (Option.some Jvm.ClassFile.FieldType.int)) ∈ lw_all := lw_g (lw_at lw_m5 162 rfl) rfl
theorem q1241 : (Jvm.Cond.methodLink "PrairiePool$Reader" (72 : Nat) ({ cls := "java/lang/String", name := "length", desc := "()I" } : Jvm.MethodName)) ∈ lw_all := lw_g (lw_at lw_m5 163 rfl) rfl
theorem q1242 : (Jvm.Cond.instanceMethod ({ cls := "java/lang/String", name := "length", desc := "()I" } : Jvm.MethodName)) ∈ lw_all := lw_g (lw_at lw_m5 164 rfl) rfl
theorem q1243 : (Jvm.Cond.selects "java/lang/String" ({ cls := "java/lang/String", name := "length", desc := "()I" } : Jvm.MethodName) ({ cls := "java/lang/String", name := "length", desc := "()I" } : Jvm.MethodName)) ∈ lw_all := lw_g (lw_at lw_m5 165 rfl) rfl
theorem q1244 : (Jvm.Cond.code ({ cls := "java/lang/String", name := "length", desc := "()I" } : Jvm.MethodName) prog_36_method_54_code (1 : Nat) (Option.some Jvm.ClassFile.FieldType.int)) ∈ lw_all := lw_g (lw_at lw_m5 166 rfl) rfl
theorem q1245 : (Jvm.Cond.methodLink "java/lang/String" (335 : Nat) ({ cls := "java/lang/String", name := "coder", desc := "()B" } : Jvm.MethodName)) ∈ lw_all := lw_g (lw_at lw_m5 167 rfl) rfl
theorem q1246 : (Jvm.Cond.instanceMethod ({ cls := "java/lang/String", name := "coder", desc := "()B" } : Jvm.MethodName)) ∈ lw_all := lw_g (lw_at lw_m5 168 rfl) rfl
theorem q1247 : (Jvm.Cond.selects "java/lang/String" ({ cls := "java/lang/String", name := "coder", desc := "()B" } : Jvm.MethodName) ({ cls := "java/lang/String", name := "coder", desc := "()B" } : Jvm.MethodName)) ∈ lw_all := lw_g (lw_at lw_m5 169 rfl) rfl
theorem q1248 : (Jvm.Cond.code ({ cls := "java/lang/String", name := "coder", desc := "()B" } : Jvm.MethodName) prog_36_method_152_code (1 : Nat) (Option.some Jvm.ClassFile.FieldType.byte)) ∈ lw_all := lw_g (lw_at lw_m5 170 rfl) rfl
theorem q1249 : (Jvm.Cond.fieldLink "java/lang/String" (38 : Nat) "java/lang/String" "COMPACT_STRINGS" "Z") ∈ lw_all := lw_g (lw_at lw_m5 171 rfl) rfl
theorem q1250 : (Jvm.Cond.laysStatic "java/lang/String" "COMPACT_STRINGS" "Z") ∈ lw_tbl := lw_at lw_m5 172 rfl
theorem q1251 : (Jvm.Cond.methodLink "PrairiePool$Reader" (78 : Nat) ({ cls := "java/lang/String", name := "charAt", desc := "(I)C" } : Jvm.MethodName)) ∈ lw_all := lw_g (lw_at lw_m5 173 rfl) rfl
theorem q1252 : (Jvm.Cond.instanceMethod ({ cls := "java/lang/String", name := "charAt", desc := "(I)C" } : Jvm.MethodName)) ∈ lw_all := lw_g (lw_at lw_m5 174 rfl) rfl
theorem q1253 : (Jvm.Cond.selects "java/lang/String" ({ cls := "java/lang/String", name := "charAt", desc := "(I)C" } : Jvm.MethodName) ({ cls := "java/lang/String", name := "charAt", desc := "(I)C" } : Jvm.MethodName)) ∈ lw_all := lw_g (lw_at lw_m5 175 rfl) rfl
theorem q1254 : (Jvm.Cond.code ({ cls := "java/lang/String", name := "charAt", desc := "(I)C" } : Jvm.MethodName) prog_36_method_56_code (2 : Nat) (Option.some Jvm.ClassFile.FieldType.char)) ∈ lw_all := lw_g (lw_at lw_m5 176 rfl) rfl
theorem q1255 : (Jvm.Cond.methodLink "java/lang/String" (492 : Nat) ({ cls := "java/lang/String", name := "isLatin1", desc := "()Z" } : Jvm.MethodName)) ∈ lw_all := lw_g (lw_at lw_m5 177 rfl) rfl
theorem q1256 : (Jvm.Cond.instanceMethod ({ cls := "java/lang/String", name := "isLatin1", desc := "()Z" } : Jvm.MethodName)) ∈ lw_all := lw_g (lw_at lw_m5 178 rfl) rfl
theorem q1257 : (Jvm.Cond.selects "java/lang/String" ({ cls := "java/lang/String", name := "isLatin1", desc := "()Z" } : Jvm.MethodName) ({ cls := "java/lang/String", name := "isLatin1", desc := "()Z" } : Jvm.MethodName)) ∈ lw_all := lw_g (lw_at lw_m5 179 rfl) rfl
theorem q1258 : (Jvm.Cond.code ({ cls := "java/lang/String", name := "isLatin1", desc := "()Z" } : Jvm.MethodName) prog_36_method_154_code (1 : Nat) (Option.some Jvm.ClassFile.FieldType.boolean)) ∈ lw_all := lw_g (lw_at lw_m5 180 rfl) rfl
theorem q1259 : (Jvm.Cond.methodLink "java/lang/String" (495 : Nat) ({ cls := "java/lang/StringLatin1", name := "charAt", desc := "([BI)C" } : Jvm.MethodName)) ∈ lw_all := lw_g (lw_at lw_m5 181 rfl) rfl
theorem q1260 : (Jvm.Cond.static ({ cls := "java/lang/StringLatin1", name := "charAt", desc := "([BI)C" } : Jvm.MethodName)) ∈ lw_all := lw_g (lw_at lw_m5 182 rfl) rfl
theorem q1261 : (Jvm.Cond.code ({ cls := "java/lang/StringLatin1", name := "charAt", desc := "([BI)C" } : Jvm.MethodName) prog_37_method_2_code (2 : Nat) (Option.some Jvm.ClassFile.FieldType.char)) ∈ lw_all := lw_g (lw_at lw_m5 183 rfl) rfl
theorem q1262 : (Jvm.Cond.methodLink "java/lang/StringLatin1" (9 : Nat) ({ cls := "java/lang/String", name := "checkIndex", desc := "(II)V" } : Jvm.MethodName)) ∈ lw_all := lw_g (lw_at lw_m5 184 rfl) rfl
theorem q1263 : (Jvm.Cond.static ({ cls := "java/lang/String", name := "checkIndex", desc := "(II)V" } : Jvm.MethodName)) ∈ lw_all := lw_g (lw_at lw_m5 185 rfl) rfl
theorem q1264 : (Jvm.Cond.code ({ cls := "java/lang/String", name := "checkIndex", desc := "(II)V" } : Jvm.MethodName) prog_36_method_155_code (2 : Nat) (Option.none : Option Jvm.ClassFile.FieldType)) ∈ lw_all := lw_g (lw_at lw_m5 186 rfl) rfl
theorem q1265 : (Jvm.Cond.fieldLink "java/lang/String" (1053 : Nat) "jdk/internal/util/Preconditions" "SIOOBE_FORMATTER" "Ljava/util/function/BiFunction;") ∈ lw_all := lw_g (lw_at lw_m5 187 rfl) rfl
theorem q1266 : (Jvm.Cond.laysStatic "jdk/internal/util/Preconditions" "SIOOBE_FORMATTER" "Ljava/util/function/BiFunction;") ∈ lw_tbl := lw_at lw_m5 188 rfl
theorem q1267 : (Jvm.Cond.methodLink "java/lang/String" (1059 : Nat) ({ cls := "jdk/internal/util/Preconditions", name := "checkIndex", desc := "(IILjava/util/function/BiFunction;)I" } : Jvm.MethodName)) ∈ lw_all := lw_g (lw_at lw_m5 189 rfl) rfl
theorem q1268 : (Jvm.Cond.static ({ cls := "jdk/internal/util/Preconditions", name := "checkIndex", desc := "(IILjava/util/function/BiFunction;)I" } : Jvm.MethodName)) ∈ lw_all := lw_g (lw_at lw_m5 190 rfl) rfl
theorem q1269 : (Jvm.Cond.code ({ cls := "jdk/internal/util/Preconditions", name := "checkIndex", desc := "(IILjava/util/function/BiFunction;)I" } : Jvm.MethodName) prog_41_method_11_code (3 : Nat) (Option.some Jvm.ClassFile.FieldType.int)) ∈ lw_all := lw_g (lw_at lw_m5 191 rfl) rfl
theorem q1270 : (Jvm.Cond.methodLink "java/lang/String" (498 : Nat) ({ cls := "java/lang/StringUTF16", name := "charAt", desc := "([BI)C" } : Jvm.MethodName)) ∈ lw_all := lw_g (lw_at lw_m5 192 rfl) rfl
theorem q1271 : (Jvm.Cond.static ({ cls := "java/lang/StringUTF16", name := "charAt", desc := "([BI)C" } : Jvm.MethodName)) ∈ lw_all := lw_g (lw_at lw_m5 193 rfl) rfl
theorem q1272 : (Jvm.Cond.code ({ cls := "java/lang/StringUTF16", name := "charAt", desc := "([BI)C" } : Jvm.MethodName) prog_38_method_83_code (2 : Nat) (Option.some Jvm.ClassFile.FieldType.char)) ∈ lw_all := lw_g (lw_at lw_m5 194 rfl) rfl
theorem q1273 : (Jvm.Cond.methodLink "java/lang/StringUTF16" (67 : Nat) ({ cls := "java/lang/StringUTF16", name := "checkIndex", desc := "(I[B)V" } : Jvm.MethodName)) ∈ lw_all := lw_g (lw_at lw_m5 195 rfl) rfl
theorem q1274 : (Jvm.Cond.static ({ cls := "java/lang/StringUTF16", name := "checkIndex", desc := "(I[B)V" } : Jvm.MethodName)) ∈ lw_all := lw_g (lw_at lw_m5 196 rfl) rfl
theorem q1275 : (Jvm.Cond.code ({ cls := "java/lang/StringUTF16", name := "checkIndex", desc := "(I[B)V" } : Jvm.MethodName) prog_38_method_91_code (2 : Nat) (Option.none : Option Jvm.ClassFile.FieldType)) ∈ lw_all := lw_g (lw_at lw_m5 197 rfl) rfl
theorem q1276 : (Jvm.Cond.methodLink "java/lang/StringUTF16" (48 : Nat) ({ cls := "java/lang/StringUTF16", name := "length", desc := "([B)I" } : Jvm.MethodName)) ∈ lw_all := lw_g (lw_at lw_m5 198 rfl) rfl
theorem q1277 : (Jvm.Cond.static ({ cls := "java/lang/StringUTF16", name := "length", desc := "([B)I" } : Jvm.MethodName)) ∈ lw_all := lw_g (lw_at lw_m5 199 rfl) rfl
theorem q1278 : (Jvm.Cond.code ({ cls := "java/lang/StringUTF16", name := "length", desc := "([B)I" } : Jvm.MethodName) prog_38_method_6_code (1 : Nat) (Option.some Jvm.ClassFile.FieldType.int)) ∈ lw_all := lw_g (lw_at lw_m5 200 rfl) rfl
theorem q1279 : (Jvm.Cond.methodLink "java/lang/StringUTF16" (414 : Nat) ({ cls := "java/lang/String", name := "checkIndex", desc := "(II)V" } : Jvm.MethodName)) ∈ lw_all := lw_g (lw_at lw_m5 201 rfl) rfl
theorem q1280 : (Jvm.Cond.methodLink "java/lang/StringUTF16" (71 : Nat) ({ cls := "java/lang/StringUTF16", name := "getChar", desc := "([BI)C" } : Jvm.MethodName)) ∈ lw_all := lw_g (lw_at lw_m5 202 rfl) rfl
theorem q1281 : (Jvm.Cond.static ({ cls := "java/lang/StringUTF16", name := "getChar", desc := "([BI)C" } : Jvm.MethodName)) ∈ lw_all := lw_g (lw_at lw_m5 203 rfl) rfl
theorem q1282 : (Jvm.Cond.code ({ cls := "java/lang/StringUTF16", name := "getChar", desc := "([BI)C" } : Jvm.MethodName) prog_38_method_5_code (2 : Nat) (Option.some Jvm.ClassFile.FieldType.char)) ∈ lw_all := lw_g (lw_at lw_m5 204 rfl) rfl
theorem q1283 : (Jvm.Cond.fieldLink "java/lang/StringUTF16" (44 : Nat) "java/lang/StringUTF16" "$assertionsDisabled" "Z") ∈ lw_all := lw_g (lw_at lw_m5 205 rfl) rfl
theorem q1284 : (Jvm.Cond.laysStatic "java/lang/StringUTF16" "$assertionsDisabled" "Z") ∈ lw_tbl := lw_at lw_m5 206 rfl
theorem q1285 : (Jvm.Cond.fieldLink "java/lang/StringUTF16" (59 : Nat) "java/lang/StringUTF16" "HI_BYTE_SHIFT" "I") ∈ lw_all := lw_g (lw_at lw_m5 207 rfl) rfl
theorem q1286 : (Jvm.Cond.laysStatic "java/lang/StringUTF16" "HI_BYTE_SHIFT" "I") ∈ lw_tbl := lw_at lw_m5 208 rfl
theorem q1287 : (Jvm.Cond.fieldLink "java/lang/StringUTF16" (63 : Nat) "java/lang/StringUTF16" "LO_BYTE_SHIFT" "I") ∈ lw_all := lw_g (lw_at lw_m5 209 rfl) rfl
theorem q1288 : (Jvm.Cond.laysStatic "java/lang/StringUTF16" "LO_BYTE_SHIFT" "I") ∈ lw_tbl := lw_at lw_m5 210 rfl
theorem q1289 : (Jvm.Cond.methodLink "PrairiePool$Reader" (82 : Nat) ({ cls := "PrairiePool$Reader", name := "isWord", desc := "(Ljava/lang/String;II)Z" } : Jvm.MethodName)) ∈ lw_all := lw_g (lw_at lw_m5 211 rfl) rfl
theorem q1290 : (Jvm.Cond.privateMethod ({ cls := "PrairiePool$Reader", name := "isWord", desc := "(Ljava/lang/String;II)Z" } : Jvm.MethodName)) ∈ lw_tbl := lw_at lw_m5 212 rfl
theorem q1291 : (Jvm.Cond.instanceMethod ({ cls := "PrairiePool$Reader", name := "isWord", desc := "(Ljava/lang/String;II)Z" } : Jvm.MethodName)) ∈ lw_all := lw_g (lw_at lw_m5 213 rfl) rfl
theorem q1292 : (Jvm.Cond.code ({ cls := "PrairiePool$Reader", name := "isWord", desc := "(Ljava/lang/String;II)Z" } : Jvm.MethodName) prog_18_method_11_code (5 : Nat) (Option.some Jvm.ClassFile.FieldType.boolean)) ∈ lw_all := lw_g (lw_at lw_m5 214 rfl) rfl
theorem q1293 : (Jvm.Cond.stringRef "PrairiePool$Reader" (86 : Nat) " if then else and or not least most ") ∈ lw_tbl := lw_at lw_m5 215 rfl
theorem q1294 : (Jvm.Cond.methodLink "PrairiePool$Reader" (113 : Nat) ({ cls := "PrairiePool$Reader", name := "need", desc := "(Z)V" } : Jvm.MethodName)) ∈ lw_all := lw_g (lw_at lw_m5 216 rfl) rfl
theorem q1295 : (Jvm.Cond.privateMethod ({ cls := "PrairiePool$Reader", name := "need", desc := "(Z)V" } : Jvm.MethodName)) ∈ lw_tbl := lw_at lw_m5 217 rfl
theorem q1296 : (Jvm.Cond.instanceMethod ({ cls := "PrairiePool$Reader", name := "need", desc := "(Z)V" } : Jvm.MethodName)) ∈ lw_all := lw_g (lw_at lw_m5 218 rfl) rfl
theorem q1297 : (Jvm.Cond.code ({ cls := "PrairiePool$Reader", name := "need", desc := "(Z)V" } : Jvm.MethodName) prog_18_method_9_code (2 : Nat) (Option.none : Option Jvm.ClassFile.FieldType)) ∈ lw_all := lw_g (lw_at lw_m5 219 rfl) rfl
theorem q1298 : (Jvm.Cond.methodLink "PrairiePool$Reader" (68 : Nat) ({ cls := "PrairiePool$Reader", name := "fail", desc := "(I)LPrairiePool$Wrong;" } : Jvm.MethodName)) ∈ lw_all := lw_g (lw_at lw_m5 220 rfl) rfl
theorem q1299 : (Jvm.Cond.privateMethod ({ cls := "PrairiePool$Reader", name := "fail", desc := "(I)LPrairiePool$Wrong;" } : Jvm.MethodName)) ∈ lw_tbl := lw_at lw_m5 221 rfl
theorem q1300 : (Jvm.Cond.instanceMethod ({ cls := "PrairiePool$Reader", name := "fail", desc := "(I)LPrairiePool$Wrong;" } : Jvm.MethodName)) ∈ lw_all := lw_g (lw_at lw_m5 222 rfl) rfl
theorem q1301 : (Jvm.Cond.code ({ cls := "PrairiePool$Reader", name := "fail", desc := "(I)LPrairiePool$Wrong;" } : Jvm.MethodName) prog_18_method_8_code (2 : Nat) (Option.some (Jvm.ClassFile.FieldType.object "PrairiePool$Wrong"))) ∈ lw_all := lw_g (lw_at lw_m5 223 rfl) rfl
theorem q1302 : (Jvm.Cond.methodLink "PrairiePool$Reader" (62 : Nat) ({ cls := "PrairiePool$Wrong", name := "of", desc := "(II)LPrairiePool$Wrong;" } : Jvm.MethodName)) ∈ lw_all := lw_g (lw_at lw_m5 224 rfl) rfl
theorem q1303 : (Jvm.Cond.instanceMethod ({ cls := "PrairiePool$Wrong", name := "of", desc := "(II)LPrairiePool$Wrong;" } : Jvm.MethodName)) ∈ lw_all := lw_g (lw_at lw_m5 225 rfl) rfl
theorem q1304 : (Jvm.Cond.selects "PrairiePool$Wrong" ({ cls := "PrairiePool$Wrong", name := "of", desc := "(II)LPrairiePool$Wrong;" } : Jvm.MethodName) ({ cls := "PrairiePool$Wrong", name := "of", desc := "(II)LPrairiePool$Wrong;" } : Jvm.MethodName)) ∈ lw_all := lw_g (lw_at lw_m5 226 rfl) rfl
theorem q1305 : (Jvm.Cond.code ({ cls := "PrairiePool$Wrong", name := "of", desc := "(II)LPrairiePool$Wrong;" } : Jvm.MethodName) prog_25_method_2_code (3 : Nat) (Option.some (Jvm.ClassFile.FieldType.object "PrairiePool$Wrong"))) ∈ lw_all := lw_g (lw_at lw_m5 227 rfl) rfl
theorem q1306 : (Jvm.Cond.methodLink "PrairiePool$Reader" (120 : Nat) ({ cls := "PrairiePool$Law", name := "find", desc := "(J)I" } : Jvm.MethodName)) ∈ lw_all := lw_g (lw_at lw_m5 228 rfl) rfl
theorem q1307 : (Jvm.Cond.methodLink "PrairiePool$Reader" (124 : Nat) ({ cls := "PrairiePool$Reader", name := "is", desc := "(I)Z" } : Jvm.MethodName)) ∈ lw_all := lw_g (lw_at lw_m5 229 rfl) rfl
theorem q1308 : (Jvm.Cond.privateMethod ({ cls := "PrairiePool$Reader", name := "is", desc := "(I)Z" } : Jvm.MethodName)) ∈ lw_tbl := lw_at lw_m5 230 rfl
theorem q1309 : (Jvm.Cond.instanceMethod ({ cls := "PrairiePool$Reader", name := "is", desc := "(I)Z" } : Jvm.MethodName)) ∈ lw_all := lw_g (lw_at lw_m5 231 rfl) rfl
theorem q1310 : (Jvm.Cond.code ({ cls := "PrairiePool$Reader", name := "is", desc := "(I)Z" } : Jvm.MethodName) prog_18_method_7_code (2 : Nat) (Option.some Jvm.ClassFile.FieldType.boolean)) ∈ lw_all := lw_g (lw_at lw_m5 232 rfl) rfl
theorem q1311 : (Jvm.Cond.methodLink "PrairiePool$Reader" (127 : Nat) ({ cls := "PrairiePool$Reader", name := "whole", desc := "(I)LPrairiePool$Term;" } : Jvm.MethodName)) ∈ lw_all := lw_g (lw_at lw_m5 233 rfl) rfl
theorem q1312 : (Jvm.Cond.privateMethod ({ cls := "PrairiePool$Reader", name := "whole", desc := "(I)LPrairiePool$Term;" } : Jvm.MethodName)) ∈ lw_tbl := lw_at lw_m5 234 rfl
theorem q1313 : (Jvm.Cond.instanceMethod ({ cls := "PrairiePool$Reader", name := "whole", desc := "(I)LPrairiePool$Term;" } : Jvm.MethodName)) ∈ lw_all := lw_g (lw_at lw_m5 235 rfl) rfl
theorem q1314 : (Jvm.Cond.code ({ cls := "PrairiePool$Reader", name := "whole", desc := "(I)LPrairiePool$Term;" } : Jvm.MethodName) prog_18_method_17_code (4 : Nat) (Option.some (Jvm.ClassFile.FieldType.object "PrairiePool$Term"))) ∈ lw_all := lw_g (lw_at lw_m5 236 rfl) rfl
theorem q1315 : (Jvm.Cond.methodLink "PrairiePool$Reader" (139 : Nat) ({ cls := "PrairiePool$Reader", name := "isKey", desc := "(I)Z" } : Jvm.MethodName)) ∈ lw_all := lw_g (lw_at lw_m5 237 rfl) rfl
theorem q1316 : (Jvm.Cond.privateMethod ({ cls := "PrairiePool$Reader", name := "isKey", desc := "(I)Z" } : Jvm.MethodName)) ∈ lw_tbl := lw_at lw_m5 238 rfl
theorem q1317 : (Jvm.Cond.instanceMethod ({ cls := "PrairiePool$Reader", name := "isKey", desc := "(I)Z" } : Jvm.MethodName)) ∈ lw_all := lw_g (lw_at lw_m5 239 rfl) rfl
theorem q1318 : (Jvm.Cond.code ({ cls := "PrairiePool$Reader", name := "isKey", desc := "(I)Z" } : Jvm.MethodName) prog_18_method_12_code (2 : Nat) (Option.some Jvm.ClassFile.FieldType.boolean)) ∈ lw_all := lw_g (lw_at lw_m6 0 rfl) rfl
theorem q1319 : (Jvm.Cond.methodLink "PrairiePool$Reader" (142 : Nat) ({ cls := "PrairiePool$Reader", name := "begins", desc := "()Z" } : Jvm.MethodName)) ∈ lw_all := lw_g (lw_at lw_m6 1 rfl) rfl
theorem q1320 : (Jvm.Cond.privateMethod ({ cls := "PrairiePool$Reader", name := "begins", desc := "()Z" } : Jvm.MethodName)) ∈ lw_tbl := lw_at lw_m6 2 rfl
theorem q1321 : (Jvm.Cond.instanceMethod ({ cls := "PrairiePool$Reader", name := "begins", desc := "()Z" } : Jvm.MethodName)) ∈ lw_all := lw_g (lw_at lw_m6 3 rfl) rfl
theorem q1322 : (Jvm.Cond.code ({ cls := "PrairiePool$Reader", name := "begins", desc := "()Z" } : Jvm.MethodName) prog_18_method_16_code (1 : Nat) (Option.some Jvm.ClassFile.FieldType.boolean)) ∈ lw_all := lw_g (lw_at lw_m6 4 rfl) rfl
theorem q1323 : (Jvm.Cond.methodLink "PrairiePool$Reader" (146 : Nat) ({ cls := "PrairiePool$Reader", name := "sum", desc := "(I)LPrairiePool$Term;" } : Jvm.MethodName)) ∈ lw_all := lw_g (lw_at lw_m6 5 rfl) rfl
theorem q1324 : (Jvm.Cond.privateMethod ({ cls := "PrairiePool$Reader", name := "sum", desc := "(I)LPrairiePool$Term;" } : Jvm.MethodName)) ∈ lw_tbl := lw_at lw_m6 6 rfl
theorem q1325 : (Jvm.Cond.instanceMethod ({ cls := "PrairiePool$Reader", name := "sum", desc := "(I)LPrairiePool$Term;" } : Jvm.MethodName)) ∈ lw_all := lw_g (lw_at lw_m6 7 rfl) rfl
theorem q1326 : (Jvm.Cond.code ({ cls := "PrairiePool$Reader", name := "sum", desc := "(I)LPrairiePool$Term;" } : Jvm.MethodName) prog_18_method_19_code (4 : Nat) (Option.some (Jvm.ClassFile.FieldType.object "PrairiePool$Term"))) ∈ lw_all := lw_g (lw_at lw_m6 8 rfl) rfl
theorem q1327 : (Jvm.Cond.classLink "PrairiePool$Reader" (176 : Nat) "PrairiePool$Chain") ∈ lw_all := lw_g (lw_at lw_m6 9 rfl) rfl
theorem q1328 : (Jvm.Cond.instantiable "PrairiePool$Chain" (4 : Nat)) ∈ lw_all := lw_g (lw_at lw_m6 10 rfl) rfl
theorem q1329 : (Jvm.Cond.methodLinkNest "PrairiePool$Reader" (178 : Nat) ({ cls := "PrairiePool$Chain", name := "<init>", desc := "()V" } : Jvm.MethodName) "PrairiePool") ∈ lw_tbl := lw_at lw_m6 11 rfl
theorem q1330 : (Jvm.Cond.instanceMethod ({ cls := "PrairiePool$Chain", name := "<init>", desc := "()V" } : Jvm.MethodName)) ∈ lw_all := lw_g (lw_at lw_m6 12 rfl) rfl
theorem q1331 : (Jvm.Cond.code ({ cls := "PrairiePool$Chain", name := "<init>", desc := "()V" } : Jvm.MethodName) prog_4_method_1_code (1 : Nat) (Option.none : Option Jvm.ClassFile.FieldType)) ∈ lw_all := lw_g (lw_at lw_m6 13 rfl) rfl
theorem q1332 : (Jvm.Cond.methodLinkNest "PrairiePool$Chain" (1 : Nat) ({ cls := "PrairiePool$Term", name := "<init>", desc := "()V" } : Jvm.MethodName) "PrairiePool") ∈ lw_tbl := lw_at lw_m6 14 rfl
theorem q1333 : (Jvm.Cond.instanceMethod ({ cls := "PrairiePool$Term", name := "<init>", desc := "()V" } : Jvm.MethodName)) ∈ lw_all := lw_g (lw_at lw_m6 15 rfl) rfl
theorem q1334 : (Jvm.Cond.code ({ cls := "PrairiePool$Term", name := "<init>", desc := "()V" } : Jvm.MethodName) prog_22_method_1_code (1 : Nat) (Option.none : Option Jvm.ClassFile.FieldType)) ∈ lw_all := lw_g (lw_at lw_m6 16 rfl) rfl
theorem q1335 : (Jvm.Cond.methodLink "PrairiePool$Term" (1 : Nat) ({ cls := "java/lang/Object", name := "<init>", desc := "()V" } : Jvm.MethodName)) ∈ lw_all := lw_g (lw_at lw_m6 17 rfl) rfl
theorem q1336 : (Jvm.Cond.fieldLink "PrairiePool$Chain" (7 : Nat) "PrairiePool$Chain" "first" "LPrairiePool$Term;") ∈ lw_all := lw_g (lw_at lw_m6 18 rfl) rfl
theorem q1337 : (Jvm.Cond.fieldLink "PrairiePool$Chain" (13 : Nat) "PrairiePool$Chain" "last" "LPrairiePool$Term;") ∈ lw_all := lw_g (lw_at lw_m6 19 rfl) rfl
theorem q1338 : (Jvm.Cond.fieldLinkNest "PrairiePool$Chain" (16 : Nat) "PrairiePool$Term" "next" "LPrairiePool$Term;" "PrairiePool") ∈ lw_tbl := lw_at lw_m6 20 rfl
theorem q1339 : (Jvm.Cond.fieldLinkNest "PrairiePool$Chain" (19 : Nat) "PrairiePool$Term" "how" "I" "PrairiePool") ∈ lw_tbl := lw_at lw_m6 21 rfl
theorem q1340 : (Jvm.Cond.lays "PrairiePool$Chain" "PrairiePool$Chain" "first" "LPrairiePool$Term;") ∈ lw_all := lw_g (lw_at lw_m6 22 rfl) rfl
theorem q1341 : (Jvm.Cond.soleField "PrairiePool$Chain" "first") ∈ lw_all := lw_g (lw_at lw_m6 23 rfl) rfl
theorem q1342 : (Jvm.Cond.lays "PrairiePool$Chain" "PrairiePool$Chain" "last" "LPrairiePool$Term;") ∈ lw_all := lw_g (lw_at lw_m6 24 rfl) rfl
theorem q1343 : (Jvm.Cond.soleField "PrairiePool$Chain" "last") ∈ lw_all := lw_g (lw_at lw_m6 25 rfl) rfl
theorem q1344 : (Jvm.Cond.lays "PrairiePool$Chain" "PrairiePool$Term" "next" "LPrairiePool$Term;") ∈ lw_all := lw_g (lw_at lw_m6 26 rfl) rfl
theorem q1345 : (Jvm.Cond.soleField "PrairiePool$Term" "next") ∈ lw_all := lw_g (lw_at lw_m6 27 rfl) rfl
theorem q1346 : (Jvm.Cond.lays "PrairiePool$Chain" "PrairiePool$Term" "how" "I") ∈ lw_all := lw_g (lw_at lw_m6 28 rfl) rfl
theorem q1347 : (Jvm.Cond.soleField "PrairiePool$Term" "how") ∈ lw_all := lw_g (lw_at lw_m6 29 rfl) rfl
theorem q1348 : (Jvm.Cond.superclass "PrairiePool$Chain" "PrairiePool$Term") ∈ lw_all := lw_g (lw_at lw_m6 30 rfl) rfl
theorem q1349 : (Jvm.Cond.methodLink "PrairiePool$Reader" (179 : Nat) ({ cls := "PrairiePool$Reader", name := "item", desc := "(I)LPrairiePool$Term;" } : Jvm.MethodName)) ∈ lw_all := lw_g (lw_at lw_m6 31 rfl) rfl
theorem q1350 : (Jvm.Cond.privateMethod ({ cls := "PrairiePool$Reader", name := "item", desc := "(I)LPrairiePool$Term;" } : Jvm.MethodName)) ∈ lw_tbl := lw_at lw_m6 32 rfl
theorem q1351 : (Jvm.Cond.instanceMethod ({ cls := "PrairiePool$Reader", name := "item", desc := "(I)LPrairiePool$Term;" } : Jvm.MethodName)) ∈ lw_all := lw_g (lw_at lw_m6 33 rfl) rfl
theorem q1352 : (Jvm.Cond.code ({ cls := "PrairiePool$Reader", name := "item", desc := "(I)LPrairiePool$Term;" } : Jvm.MethodName) prog_18_method_20_code (4 : Nat) (Option.some (Jvm.ClassFile.FieldType.object "PrairiePool$Term"))) ∈ lw_all := lw_g (lw_at lw_m6 34 rfl) rfl
theorem q1353 : (Jvm.Cond.methodLink "PrairiePool$Reader" (185 : Nat) ({ cls := "PrairiePool$Reader", name := "atom", desc := "(I)LPrairiePool$Term;" } : Jvm.MethodName)) ∈ lw_all := lw_g (lw_at lw_m6 35 rfl) rfl
theorem q1354 : (Jvm.Cond.privateMethod ({ cls := "PrairiePool$Reader", name := "atom", desc := "(I)LPrairiePool$Term;" } : Jvm.MethodName)) ∈ lw_tbl := lw_at lw_m6 36 rfl
theorem q1355 : (Jvm.Cond.instanceMethod ({ cls := "PrairiePool$Reader", name := "atom", desc := "(I)LPrairiePool$Term;" } : Jvm.MethodName)) ∈ lw_all := lw_g (lw_at lw_m6 37 rfl) rfl
theorem q1356 : (Jvm.Cond.code ({ cls := "PrairiePool$Reader", name := "atom", desc := "(I)LPrairiePool$Term;" } : Jvm.MethodName) prog_18_method_23_code (4 : Nat) (Option.some (Jvm.ClassFile.FieldType.object "PrairiePool$Term"))) ∈ lw_all := lw_g (lw_at lw_m6 38 rfl) rfl
theorem q1357 : (Jvm.Cond.methodLink "PrairiePool$Reader" (182 : Nat) ({ cls := "PrairiePool$Chain", name := "add", desc := "(ILPrairiePool$Term;)V" } : Jvm.MethodName)) ∈ lw_all := lw_g (lw_at lw_m6 39 rfl) rfl
theorem q1358 : (Jvm.Cond.instanceMethod ({ cls := "PrairiePool$Chain", name := "add", desc := "(ILPrairiePool$Term;)V" } : Jvm.MethodName)) ∈ lw_all := lw_g (lw_at lw_m6 40 rfl) rfl
theorem q1359 : (Jvm.Cond.selects "PrairiePool$Chain" ({ cls := "PrairiePool$Chain", name := "add", desc := "(ILPrairiePool$Term;)V" } : Jvm.MethodName) ({ cls := "PrairiePool$Chain", name := "add", desc := "(ILPrairiePool$Term;)V" } : Jvm.MethodName)) ∈ lw_all := lw_g (lw_at lw_m6 41 rfl) rfl
theorem q1360 : (Jvm.Cond.code ({ cls := "PrairiePool$Chain", name := "add", desc := "(ILPrairiePool$Term;)V" } : Jvm.MethodName) prog_4_method_2_code (3 : Nat) (Option.none : Option Jvm.ClassFile.FieldType)) ∈ lw_all := lw_g (lw_at lw_m6 42 rfl) rfl
theorem q1361 : (Jvm.Cond.methodLink "PrairiePool$Reader" (196 : Nat) ({ cls := "PrairiePool$Reader", name := "few", desc := "(I)LPrairiePool$Term;" } : Jvm.MethodName)) ∈ lw_all := lw_g (lw_at lw_m6 43 rfl) rfl
theorem q1362 : (Jvm.Cond.privateMethod ({ cls := "PrairiePool$Reader", name := "few", desc := "(I)LPrairiePool$Term;" } : Jvm.MethodName)) ∈ lw_tbl := lw_at lw_m6 44 rfl
theorem q1363 : (Jvm.Cond.instanceMethod ({ cls := "PrairiePool$Reader", name := "few", desc := "(I)LPrairiePool$Term;" } : Jvm.MethodName)) ∈ lw_all := lw_g (lw_at lw_m6 45 rfl) rfl
theorem q1364 : (Jvm.Cond.code ({ cls := "PrairiePool$Reader", name := "few", desc := "(I)LPrairiePool$Term;" } : Jvm.MethodName) prog_18_method_21_code (5 : Nat) (Option.some (Jvm.ClassFile.FieldType.object "PrairiePool$Term"))) ∈ lw_all := lw_g (lw_at lw_m6 46 rfl) rfl
theorem q1365 : (Jvm.Cond.methodLink "PrairiePool$Reader" (188 : Nat) ({ cls := "PrairiePool$Reader", name := "inner", desc := "(I)LPrairiePool$Term;" } : Jvm.MethodName)) ∈ lw_all := lw_g (lw_at lw_m6 47 rfl) rfl
theorem q1366 : (Jvm.Cond.privateMethod ({ cls := "PrairiePool$Reader", name := "inner", desc := "(I)LPrairiePool$Term;" } : Jvm.MethodName)) ∈ lw_tbl := lw_at lw_m6 48 rfl
theorem q1367 : (Jvm.Cond.instanceMethod ({ cls := "PrairiePool$Reader", name := "inner", desc := "(I)LPrairiePool$Term;" } : Jvm.MethodName)) ∈ lw_all := lw_g (lw_at lw_m6 49 rfl) rfl
theorem q1368 : (Jvm.Cond.code ({ cls := "PrairiePool$Reader", name := "inner", desc := "(I)LPrairiePool$Term;" } : Jvm.MethodName) prog_18_method_22_code (2 : Nat) (Option.some (Jvm.ClassFile.FieldType.object "PrairiePool$Term"))) ∈ lw_all := lw_g (lw_at lw_m6 50 rfl) rfl
theorem q1369 : (Jvm.Cond.classLink "PrairiePool$Reader" (191 : Nat) "PrairiePool$Pick") ∈ lw_all := lw_g (lw_at lw_m6 51 rfl) rfl
theorem q1370 : (Jvm.Cond.instantiable "PrairiePool$Pick" (5 : Nat)) ∈ lw_all := lw_g (lw_at lw_m6 52 rfl) rfl
theorem q1371 : (Jvm.Cond.methodLink "PrairiePool$Reader" (193 : Nat) ({ cls := "PrairiePool$Pick", name := "<init>", desc := "(ZLPrairiePool$Term;LPrairiePool$Term;)V" } : Jvm.MethodName)) ∈ lw_all := lw_g (lw_at lw_m6 53 rfl) rfl
theorem q1372 : (Jvm.Cond.instanceMethod ({ cls := "PrairiePool$Pick", name := "<init>", desc := "(ZLPrairiePool$Term;LPrairiePool$Term;)V" } : Jvm.MethodName)) ∈ lw_all := lw_g (lw_at lw_m6 54 rfl) rfl
theorem q1373 : (Jvm.Cond.code ({ cls := "PrairiePool$Pick", name := "<init>", desc := "(ZLPrairiePool$Term;LPrairiePool$Term;)V" } : Jvm.MethodName) prog_15_method_1_code (4 : Nat) (Option.none : Option Jvm.ClassFile.FieldType)) ∈ lw_all := lw_g (lw_at lw_m6 55 rfl) rfl
theorem q1374 : (Jvm.Cond.methodLinkNest "PrairiePool$Pick" (1 : Nat) ({ cls := "PrairiePool$Term", name := "<init>", desc := "()V" } : Jvm.MethodName) "PrairiePool") ∈ lw_tbl := lw_at lw_m6 56 rfl
theorem q1375 : (Jvm.Cond.fieldLink "PrairiePool$Pick" (7 : Nat) "PrairiePool$Pick" "isMost" "Z") ∈ lw_all := lw_g (lw_at lw_m6 57 rfl) rfl
theorem q1376 : (Jvm.Cond.fieldLink "PrairiePool$Pick" (13 : Nat) "PrairiePool$Pick" "left" "LPrairiePool$Term;") ∈ lw_all := lw_g (lw_at lw_m6 58 rfl) rfl
theorem q1377 : (Jvm.Cond.fieldLink "PrairiePool$Pick" (17 : Nat) "PrairiePool$Pick" "right" "LPrairiePool$Term;") ∈ lw_all := lw_g (lw_at lw_m6 59 rfl) rfl
theorem q1378 : (Jvm.Cond.laysFinal "PrairiePool$Pick" "PrairiePool$Pick" "isMost" "Z") ∈ lw_all := lw_g (lw_at lw_m6 60 rfl) rfl
theorem q1379 : (Jvm.Cond.soleField "PrairiePool$Pick" "isMost") ∈ lw_all := lw_g (lw_at lw_m6 61 rfl) rfl
theorem q1380 : (Jvm.Cond.laysFinal "PrairiePool$Pick" "PrairiePool$Pick" "left" "LPrairiePool$Term;") ∈ lw_all := lw_g (lw_at lw_m6 62 rfl) rfl
theorem q1381 : (Jvm.Cond.soleField "PrairiePool$Pick" "left") ∈ lw_all := lw_g (lw_at lw_m6 63 rfl) rfl
theorem q1382 : (Jvm.Cond.laysFinal "PrairiePool$Pick" "PrairiePool$Pick" "right" "LPrairiePool$Term;") ∈ lw_all := lw_g (lw_at lw_m6 64 rfl) rfl
theorem q1383 : (Jvm.Cond.soleField "PrairiePool$Pick" "right") ∈ lw_all := lw_g (lw_at lw_m6 65 rfl) rfl
theorem q1384 : (Jvm.Cond.lays "PrairiePool$Pick" "PrairiePool$Term" "next" "LPrairiePool$Term;") ∈ lw_all := lw_g (lw_at lw_m6 66 rfl) rfl
theorem q1385 : (Jvm.Cond.lays "PrairiePool$Pick" "PrairiePool$Term" "how" "I") ∈ lw_all := lw_g (lw_at lw_m6 67 rfl) rfl
theorem q1386 : (Jvm.Cond.superclass "PrairiePool$Pick" "PrairiePool$Term") ∈ lw_all := lw_g (lw_at lw_m6 68 rfl) rfl
theorem q1387 : (Jvm.Cond.classLink "PrairiePool$Reader" (199 : Nat) "PrairiePool$Leaf") ∈ lw_all := lw_g (lw_at lw_m6 69 rfl) rfl
theorem q1388 : (Jvm.Cond.instantiable "PrairiePool$Leaf" (4 : Nat)) ∈ lw_all := lw_g (lw_at lw_m6 70 rfl) rfl
theorem q1389 : (Jvm.Cond.methodLink "PrairiePool$Reader" (201 : Nat) ({ cls := "PrairiePool$Leaf", name := "<init>", desc := "(IJ)V" } : Jvm.MethodName)) ∈ lw_all := lw_g (lw_at lw_m6 71 rfl) rfl
theorem q1390 : (Jvm.Cond.instanceMethod ({ cls := "PrairiePool$Leaf", name := "<init>", desc := "(IJ)V" } : Jvm.MethodName)) ∈ lw_all := lw_g (lw_at lw_m6 72 rfl) rfl
theorem q1391 : (Jvm.Cond.code ({ cls := "PrairiePool$Leaf", name := "<init>", desc := "(IJ)V" } : Jvm.MethodName) prog_12_method_1_code (4 : Nat) (Option.none : Option Jvm.ClassFile.FieldType)) ∈ lw_all := lw_g (lw_at lw_m6 73 rfl) rfl
theorem q1392 : (Jvm.Cond.methodLinkNest "PrairiePool$Leaf" (1 : Nat) ({ cls := "PrairiePool$Term", name := "<init>", desc := "()V" } : Jvm.MethodName) "PrairiePool") ∈ lw_tbl := lw_at lw_m6 74 rfl
theorem q1393 : (Jvm.Cond.fieldLink "PrairiePool$Leaf" (7 : Nat) "PrairiePool$Leaf" "kind" "I") ∈ lw_all := lw_g (lw_at lw_m6 75 rfl) rfl
theorem q1394 : (Jvm.Cond.fieldLink "PrairiePool$Leaf" (13 : Nat) "PrairiePool$Leaf" "of" "J") ∈ lw_all := lw_g (lw_at lw_m6 76 rfl) rfl
theorem q1395 : (Jvm.Cond.laysFinal "PrairiePool$Leaf" "PrairiePool$Leaf" "kind" "I") ∈ lw_all := lw_g (lw_at lw_m6 77 rfl) rfl
theorem q1396 : (Jvm.Cond.soleField "PrairiePool$Leaf" "kind") ∈ lw_all := lw_g (lw_at lw_m6 78 rfl) rfl
theorem q1397 : (Jvm.Cond.laysFinal "PrairiePool$Leaf" "PrairiePool$Leaf" "of" "J") ∈ lw_all := lw_g (lw_at lw_m6 79 rfl) rfl
theorem q1398 : (Jvm.Cond.soleField "PrairiePool$Leaf" "of") ∈ lw_all := lw_g (lw_at lw_m6 80 rfl) rfl
theorem q1399 : (Jvm.Cond.lays "PrairiePool$Leaf" "PrairiePool$Term" "next" "LPrairiePool$Term;") ∈ lw_all := lw_g (lw_at lw_m6 81 rfl) rfl
theorem q1400 : (Jvm.Cond.lays "PrairiePool$Leaf" "PrairiePool$Term" "how" "I") ∈ lw_all := lw_g (lw_at lw_m6 82 rfl) rfl
theorem q1401 : (Jvm.Cond.superclass "PrairiePool$Leaf" "PrairiePool$Term") ∈ lw_all := lw_g (lw_at lw_m6 83 rfl) rfl
theorem q1402 : (Jvm.Cond.classLink "PrairiePool$Reader" (149 : Nat) "PrairiePool$If") ∈ lw_all := lw_g (lw_at lw_m6 84 rfl) rfl
theorem q1403 : (Jvm.Cond.methodLinkNest "PrairiePool$Reader" (151 : Nat) ({ cls := "PrairiePool$If", name := "<init>", desc := "()V" } : Jvm.MethodName) "PrairiePool") ∈ lw_tbl := lw_at lw_m6 85 rfl
theorem q1404 : (Jvm.Cond.instanceMethod ({ cls := "PrairiePool$If", name := "<init>", desc := "()V" } : Jvm.MethodName)) ∈ lw_all := lw_g (lw_at lw_m6 86 rfl) rfl
theorem q1405 : (Jvm.Cond.code ({ cls := "PrairiePool$If", name := "<init>", desc := "()V" } : Jvm.MethodName) prog_10_method_1_code (1 : Nat) (Option.none : Option Jvm.ClassFile.FieldType)) ∈ lw_all := lw_g (lw_at lw_m6 87 rfl) rfl
theorem q1406 : (Jvm.Cond.methodLinkNest "PrairiePool$If" (1 : Nat) ({ cls := "PrairiePool$Term", name := "<init>", desc := "()V" } : Jvm.MethodName) "PrairiePool") ∈ lw_tbl := lw_at lw_m6 88 rfl
theorem q1407 : (Jvm.Cond.fieldLink "PrairiePool$If" (7 : Nat) "PrairiePool$If" "first" "LPrairiePool$Compare;") ∈ lw_all := lw_g (lw_at lw_m6 89 rfl) rfl
theorem q1408 : (Jvm.Cond.fieldLink "PrairiePool$If" (13 : Nat) "PrairiePool$If" "last" "LPrairiePool$Compare;") ∈ lw_all := lw_g (lw_at lw_m6 90 rfl) rfl
theorem q1409 : (Jvm.Cond.fieldLink "PrairiePool$If" (25 : Nat) "PrairiePool$If" "isOr" "Z") ∈ lw_all := lw_g (lw_at lw_m6 91 rfl) rfl
theorem q1410 : (Jvm.Cond.fieldLinkNest "PrairiePool$Reader" (160 : Nat) "PrairiePool$If" "isOr" "Z" "PrairiePool") ∈ lw_tbl := lw_at lw_m6 92 rfl
theorem q1411 : (Jvm.Cond.fieldLink "PrairiePool$If" (29 : Nat) "PrairiePool$If" "then" "LPrairiePool$Term;") ∈ lw_all := lw_g (lw_at lw_m6 93 rfl) rfl
theorem q1412 : (Jvm.Cond.fieldLinkNest "PrairiePool$Reader" (164 : Nat) "PrairiePool$If" "then" "LPrairiePool$Term;" "PrairiePool") ∈ lw_tbl := lw_at lw_m6 94 rfl
theorem q1413 : (Jvm.Cond.fieldLink "PrairiePool$If" (33 : Nat) "PrairiePool$If" "other" "LPrairiePool$Term;") ∈ lw_all := lw_g (lw_at lw_m6 95 rfl) rfl
theorem q1414 : (Jvm.Cond.fieldLinkNest "PrairiePool$Reader" (168 : Nat) "PrairiePool$If" "other" "LPrairiePool$Term;" "PrairiePool") ∈ lw_tbl := lw_at lw_m6 96 rfl
theorem q1415 : (Jvm.Cond.lays "PrairiePool$If" "PrairiePool$If" "first" "LPrairiePool$Compare;") ∈ lw_all := lw_g (lw_at lw_m6 97 rfl) rfl
theorem q1416 : (Jvm.Cond.soleField "PrairiePool$If" "first") ∈ lw_all := lw_g (lw_at lw_m6 98 rfl) rfl
theorem q1417 : (Jvm.Cond.lays "PrairiePool$If" "PrairiePool$If" "last" "LPrairiePool$Compare;") ∈ lw_all := lw_g (lw_at lw_m6 99 rfl) rfl
theorem q1418 : (Jvm.Cond.soleField "PrairiePool$If" "last") ∈ lw_all := lw_g (lw_at lw_m6 100 rfl) rfl
theorem q1419 : (Jvm.Cond.lays "PrairiePool$If" "PrairiePool$If" "isOr" "Z") ∈ lw_all := lw_g (lw_at lw_m6 101 rfl) rfl
theorem q1420 : (Jvm.Cond.soleField "PrairiePool$If" "isOr") ∈ lw_all := lw_g (lw_at lw_m6 102 rfl) rfl
theorem q1421 : (Jvm.Cond.lays "PrairiePool$If" "PrairiePool$If" "then" "LPrairiePool$Term;") ∈ lw_all := lw_g (lw_at lw_m6 103 rfl) rfl
theorem q1422 : (Jvm.Cond.soleField "PrairiePool$If" "then") ∈ lw_all := lw_g (lw_at lw_m6 104 rfl) rfl
theorem q1423 : (Jvm.Cond.lays "PrairiePool$If" "PrairiePool$If" "other" "LPrairiePool$Term;") ∈ lw_all := lw_g (lw_at lw_m6 105 rfl) rfl
theorem q1424 : (Jvm.Cond.soleField "PrairiePool$If" "other") ∈ lw_all := lw_g (lw_at lw_m6 106 rfl) rfl
theorem q1425 : (Jvm.Cond.lays "PrairiePool$If" "PrairiePool$Term" "next" "LPrairiePool$Term;") ∈ lw_all := lw_g (lw_at lw_m6 107 rfl) rfl
theorem q1426 : (Jvm.Cond.lays "PrairiePool$If" "PrairiePool$Term" "how" "I") ∈ lw_all := lw_g (lw_at lw_m6 108 rfl) rfl
theorem q1427 : (Jvm.Cond.superclass "PrairiePool$If" "PrairiePool$Term") ∈ lw_all := lw_g (lw_at lw_m6 109 rfl) rfl
theorem q1428 : (Jvm.Cond.methodLink "PrairiePool$Reader" (152 : Nat) ({ cls := "PrairiePool$Reader", name := "one", desc := "(I)LPrairiePool$Compare;" } : Jvm.MethodName)) ∈ lw_all := lw_g (lw_at lw_m6 110 rfl) rfl
theorem q1429 : (Jvm.Cond.privateMethod ({ cls := "PrairiePool$Reader", name := "one", desc := "(I)LPrairiePool$Compare;" } : Jvm.MethodName)) ∈ lw_tbl := lw_at lw_m6 111 rfl
theorem q1430 : (Jvm.Cond.instanceMethod ({ cls := "PrairiePool$Reader", name := "one", desc := "(I)LPrairiePool$Compare;" } : Jvm.MethodName)) ∈ lw_all := lw_g (lw_at lw_m6 112 rfl) rfl
theorem q1431 : (Jvm.Cond.code ({ cls := "PrairiePool$Reader", name := "one", desc := "(I)LPrairiePool$Compare;" } : Jvm.MethodName) prog_18_method_18_code (5 : Nat) (Option.some (Jvm.ClassFile.FieldType.object "PrairiePool$Compare"))) ∈ lw_all := lw_g (lw_at lw_m6 113 rfl) rfl
theorem q1432 : (Jvm.Cond.classLink "PrairiePool$Reader" (171 : Nat) "PrairiePool$Compare") ∈ lw_all := lw_g (lw_at lw_m6 114 rfl) rfl
theorem q1433 : (Jvm.Cond.instantiable "PrairiePool$Compare" (5 : Nat)) ∈ lw_all := lw_g (lw_at lw_m6 115 rfl) rfl
theorem q1434 : (Jvm.Cond.methodLink "PrairiePool$Reader" (173 : Nat) ({ cls := "PrairiePool$Compare", name := "<init>", desc := "(ZLPrairiePool$Term;ILPrairiePool$Term;)V" } : Jvm.MethodName)) ∈ lw_all := lw_g (lw_at lw_m6 116 rfl) rfl
theorem q1435 : (Jvm.Cond.instanceMethod ({ cls := "PrairiePool$Compare", name := "<init>", desc := "(ZLPrairiePool$Term;ILPrairiePool$Term;)V" } : Jvm.MethodName)) ∈ lw_all := lw_g (lw_at lw_m6 117 rfl) rfl
theorem q1436 : (Jvm.Cond.code ({ cls := "PrairiePool$Compare", name := "<init>", desc := "(ZLPrairiePool$Term;ILPrairiePool$Term;)V" } : Jvm.MethodName) prog_5_method_1_code (5 : Nat) (Option.none : Option Jvm.ClassFile.FieldType)) ∈ lw_all := lw_g (lw_at lw_m6 118 rfl) rfl
theorem q1437 : (Jvm.Cond.methodLink "PrairiePool$Compare" (1 : Nat) ({ cls := "java/lang/Object", name := "<init>", desc := "()V" } : Jvm.MethodName)) ∈ lw_all := lw_g (lw_at lw_m6 119 rfl) rfl
theorem q1438 : (Jvm.Cond.fieldLink "PrairiePool$Compare" (7 : Nat) "PrairiePool$Compare" "isNot" "Z") ∈ lw_all := lw_g (lw_at lw_m6 120 rfl) rfl
theorem q1439 : (Jvm.Cond.fieldLink "PrairiePool$Compare" (13 : Nat) "PrairiePool$Compare" "left" "LPrairiePool$Term;") ∈ lw_all := lw_g (lw_at lw_m6 121 rfl) rfl
theorem q1440 : (Jvm.Cond.fieldLink "PrairiePool$Compare" (21 : Nat) "PrairiePool$Compare" "right" "LPrairiePool$Term;") ∈ lw_all := lw_g (lw_at lw_m6 122 rfl) rfl
theorem q1441 : (Jvm.Cond.fieldLink "PrairiePool$Compare" (17 : Nat) "PrairiePool$Compare" "how" "I") ∈ lw_all := lw_g (lw_at lw_m6 123 rfl) rfl
theorem q1442 : (Jvm.Cond.fieldLinkNest "PrairiePool$If" (16 : Nat) "PrairiePool$Compare" "next" "LPrairiePool$Compare;" "PrairiePool") ∈ lw_tbl := lw_at lw_m6 124 rfl
theorem q1443 : (Jvm.Cond.laysFinal "PrairiePool$Compare" "PrairiePool$Compare" "isNot" "Z") ∈ lw_all := lw_g (lw_at lw_m6 125 rfl) rfl
theorem q1444 : (Jvm.Cond.soleField "PrairiePool$Compare" "isNot") ∈ lw_all := lw_g (lw_at lw_m6 126 rfl) rfl
theorem q1445 : (Jvm.Cond.laysFinal "PrairiePool$Compare" "PrairiePool$Compare" "left" "LPrairiePool$Term;") ∈ lw_all := lw_g (lw_at lw_m6 127 rfl) rfl
theorem q1446 : (Jvm.Cond.soleField "PrairiePool$Compare" "left") ∈ lw_all := lw_g (lw_at lw_m6 128 rfl) rfl
theorem q1447 : (Jvm.Cond.laysFinal "PrairiePool$Compare" "PrairiePool$Compare" "right" "LPrairiePool$Term;") ∈ lw_all := lw_g (lw_at lw_m6 129 rfl) rfl
theorem q1448 : (Jvm.Cond.soleField "PrairiePool$Compare" "right") ∈ lw_all := lw_g (lw_at lw_m6 130 rfl) rfl
theorem q1449 : (Jvm.Cond.laysFinal "PrairiePool$Compare" "PrairiePool$Compare" "how" "I") ∈ lw_all := lw_g (lw_at lw_m6 131 rfl) rfl
theorem q1450 : (Jvm.Cond.soleField "PrairiePool$Compare" "how") ∈ lw_all := lw_g (lw_at lw_m6 132 rfl) rfl
theorem q1451 : (Jvm.Cond.lays "PrairiePool$Compare" "PrairiePool$Compare" "next" "LPrairiePool$Compare;") ∈ lw_all := lw_g (lw_at lw_m6 133 rfl) rfl
theorem q1452 : (Jvm.Cond.soleField "PrairiePool$Compare" "next") ∈ lw_all := lw_g (lw_at lw_m6 134 rfl) rfl
theorem q1453 : (Jvm.Cond.superclass "PrairiePool$Compare" "java/lang/Object") ∈ lw_all := lw_g (lw_at lw_m6 135 rfl) rfl
theorem q1454 : (Jvm.Cond.methodLink "PrairiePool$Reader" (156 : Nat) ({ cls := "PrairiePool$If", name := "add", desc := "(LPrairiePool$Compare;)V" } : Jvm.MethodName)) ∈ lw_all := lw_g (lw_at lw_m6 136 rfl) rfl
theorem q1455 : (Jvm.Cond.instanceMethod ({ cls := "PrairiePool$If", name := "add", desc := "(LPrairiePool$Compare;)V" } : Jvm.MethodName)) ∈ lw_all := lw_g (lw_at lw_m6 137 rfl) rfl
theorem q1456 : (Jvm.Cond.selects "PrairiePool$If" ({ cls := "PrairiePool$If", name := "add", desc := "(LPrairiePool$Compare;)V" } : Jvm.MethodName) ({ cls := "PrairiePool$If", name := "add", desc := "(LPrairiePool$Compare;)V" } : Jvm.MethodName)) ∈ lw_all := lw_g (lw_at lw_m6 138 rfl) rfl
theorem q1457 : (Jvm.Cond.code ({ cls := "PrairiePool$If", name := "add", desc := "(LPrairiePool$Compare;)V" } : Jvm.MethodName) prog_10_method_2_code (2 : Nat) (Option.none : Option Jvm.ClassFile.FieldType)) ∈ lw_all := lw_g (lw_at lw_m6 139 rfl) rfl
theorem q1458 : (Jvm.Cond.methodLink "PrairiePoolLaw" (98 : Nat) ({ cls := "PrairiePool", name := "fault", desc := "(I)I" } : Jvm.MethodName)) ∈ lw_all := lw_g (lw_at lw_m6 140 rfl) rfl
theorem q1459 : (Jvm.Cond.instanceMethod ({ cls := "PrairiePool", name := "fault", desc := "(I)I" } : Jvm.MethodName)) ∈ lw_all := lw_g (lw_at lw_m6 141 rfl) rfl
theorem q1460 : (Jvm.Cond.selects "PrairiePool" ({ cls := "PrairiePool", name := "fault", desc := "(I)I" } : Jvm.MethodName) ({ cls := "PrairiePool", name := "fault", desc := "(I)I" } : Jvm.MethodName)) ∈ lw_all := lw_g (lw_at lw_m6 142 rfl) rfl
theorem q1461 : (Jvm.Cond.code ({ cls := "PrairiePool", name := "fault", desc := "(I)I" } : Jvm.MethodName) prog_1_method_43_code (2 : Nat) (Option.some Jvm.ClassFile.FieldType.int)) ∈ lw_all := lw_g (lw_at lw_m6 143 rfl) rfl
theorem q1462 : (Jvm.Cond.methodLink "PrairiePoolLaw" (103 : Nat) ({ cls := "PrairiePool", name := "paid", desc := "(IIII)J" } : Jvm.MethodName)) ∈ lw_all := lw_g (lw_at lw_m6 144 rfl) rfl
theorem q1463 : (Jvm.Cond.instanceMethod ({ cls := "PrairiePool", name := "paid", desc := "(IIII)J" } : Jvm.MethodName)) ∈ lw_all := lw_g (lw_at lw_m6 145 rfl) rfl
theorem q1464 : (Jvm.Cond.selects "PrairiePool" ({ cls := "PrairiePool", name := "paid", desc := "(IIII)J" } : Jvm.MethodName) ({ cls := "PrairiePool", name := "paid", desc := "(IIII)J" } : Jvm.MethodName)) ∈ lw_all := lw_g (lw_at lw_m6 146 rfl) rfl
theorem q1465 : (Jvm.Cond.code ({ cls := "PrairiePool", name := "paid", desc := "(IIII)J" } : Jvm.MethodName) prog_1_method_47_code (5 : Nat) (Option.some Jvm.ClassFile.FieldType.long)) ∈ lw_all := lw_g (lw_at lw_m6 147 rfl) rfl
theorem q1466 : (Jvm.Cond.methodLink "PrairiePool" (484 : Nat) ({ cls := "PrairiePool", name := "heldOf", desc := "(II)J" } : Jvm.MethodName)) ∈ lw_all := lw_g (lw_at lw_m6 148 rfl) rfl
theorem q1467 : (Jvm.Cond.privateMethod ({ cls := "PrairiePool", name := "heldOf", desc := "(II)J" } : Jvm.MethodName)) ∈ lw_tbl := lw_at lw_m6 149 rfl
theorem q1468 : (Jvm.Cond.instanceMethod ({ cls := "PrairiePool", name := "heldOf", desc := "(II)J" } : Jvm.MethodName)) ∈ lw_all := lw_g (lw_at lw_m6 150 rfl) rfl
theorem q1469 : (Jvm.Cond.code ({ cls := "PrairiePool", name := "heldOf", desc := "(II)J" } : Jvm.MethodName) prog_1_method_44_code (4 : Nat) (Option.some Jvm.ClassFile.FieldType.long)) ∈ lw_all := lw_g (lw_at lw_m6 151 rfl) rfl
theorem q1470 : (Jvm.Cond.constantLong "PrairiePool" (472 : Nat) (1751477348 : Int64)) ∈ lw_all := lw_g (lw_at lw_m6 152 rfl) rfl
theorem q1471 : (Jvm.Cond.methodLink "PrairiePool" (508 : Nat) ({ cls := "PrairiePool", name := "givesLong", desc := "(J)J" } : Jvm.MethodName)) ∈ lw_all := lw_g (lw_at lw_m6 153 rfl) rfl
theorem q1472 : (Jvm.Cond.privateMethod ({ cls := "PrairiePool", name := "givesLong", desc := "(J)J" } : Jvm.MethodName)) ∈ lw_tbl := lw_at lw_m6 154 rfl
theorem q1473 : (Jvm.Cond.instanceMethod ({ cls := "PrairiePool", name := "givesLong", desc := "(J)J" } : Jvm.MethodName)) ∈ lw_all := lw_g (lw_at lw_m6 155 rfl) rfl
theorem q1474 : (Jvm.Cond.code ({ cls := "PrairiePool", name := "givesLong", desc := "(J)J" } : Jvm.MethodName) prog_1_method_6_code (3 : Nat) (Option.some Jvm.ClassFile.FieldType.long)) ∈ lw_all := lw_g (lw_at lw_m6 156 rfl) rfl
theorem q1475 : (Jvm.Cond.methodLink "PrairiePoolLaw" (108 : Nat) ({ cls := "PrairiePool", name := "last", desc := "(III)J" } : Jvm.MethodName)) ∈ lw_all := lw_g (lw_at lw_m6 157 rfl) rfl
theorem q1476 : (Jvm.Cond.instanceMethod ({ cls := "PrairiePool", name := "last", desc := "(III)J" } : Jvm.MethodName)) ∈ lw_all := lw_g (lw_at lw_m6 158 rfl) rfl
theorem q1477 : (Jvm.Cond.selects "PrairiePool" ({ cls := "PrairiePool", name := "last", desc := "(III)J" } : Jvm.MethodName) ({ cls := "PrairiePool", name := "last", desc := "(III)J" } : Jvm.MethodName)) ∈ lw_all := lw_g (lw_at lw_m6 159 rfl) rfl
theorem q1478 : (Jvm.Cond.code ({ cls := "PrairiePool", name := "last", desc := "(III)J" } : Jvm.MethodName) prog_1_method_49_code (5 : Nat) (Option.some Jvm.ClassFile.FieldType.long)) ∈ lw_all := lw_g (lw_at lw_m6 160 rfl) rfl
theorem q1479 : (Jvm.Cond.methodLink "PrairiePool" (512 : Nat) ({ cls := "PrairiePool", name := "wrongYear", desc := "(III)I" } : Jvm.MethodName)) ∈ lw_all := lw_g (lw_at lw_m6 161 rfl) rfl
theorem q1480 : (Jvm.Cond.privateMethod ({ cls := "PrairiePool", name := "wrongYear", desc := "(III)I" } : Jvm.MethodName)) ∈ lw_tbl := lw_at lw_m6 162 rfl
theorem q1481 : (Jvm.Cond.instanceMethod ({ cls := "PrairiePool", name := "wrongYear", desc := "(III)I" } : Jvm.MethodName)) ∈ lw_all := lw_g (lw_at lw_m6 163 rfl) rfl
theorem q1482 : (Jvm.Cond.code ({ cls := "PrairiePool", name := "wrongYear", desc := "(III)I" } : Jvm.MethodName) prog_1_method_48_code (4 : Nat) (Option.some Jvm.ClassFile.FieldType.int)) ∈ lw_all := lw_g (lw_at lw_m6 164 rfl) rfl
theorem q1483 : (Jvm.Cond.methodLink "PrairiePool" (516 : Nat) ({ cls := "PrairiePool", name := "settle", desc := "(II)V" } : Jvm.MethodName)) ∈ lw_all := lw_g (lw_at lw_m6 165 rfl) rfl
theorem q1484 : (Jvm.Cond.privateMethod ({ cls := "PrairiePool", name := "settle", desc := "(II)V" } : Jvm.MethodName)) ∈ lw_tbl := lw_at lw_m6 166 rfl
theorem q1485 : (Jvm.Cond.instanceMethod ({ cls := "PrairiePool", name := "settle", desc := "(II)V" } : Jvm.MethodName)) ∈ lw_all := lw_g (lw_at lw_m6 167 rfl) rfl
theorem q1486 : (Jvm.Cond.code ({ cls := "PrairiePool", name := "settle", desc := "(II)V" } : Jvm.MethodName) prog_1_method_46_code (8 : Nat) (Option.none : Option Jvm.ClassFile.FieldType)) ∈ lw_all := lw_g (lw_at lw_m6 168 rfl) rfl
theorem q1487 : (Jvm.Cond.methodLink "PrairiePool" (480 : Nat) ({ cls := "PrairiePool", name := "firstOf", desc := "(II)J" } : Jvm.MethodName)) ∈ lw_all := lw_g (lw_at lw_m6 169 rfl) rfl
theorem q1488 : (Jvm.Cond.privateMethod ({ cls := "PrairiePool", name := "firstOf", desc := "(II)J" } : Jvm.MethodName)) ∈ lw_tbl := lw_at lw_m6 170 rfl
theorem q1489 : (Jvm.Cond.instanceMethod ({ cls := "PrairiePool", name := "firstOf", desc := "(II)J" } : Jvm.MethodName)) ∈ lw_all := lw_g (lw_at lw_m6 171 rfl) rfl
theorem q1490 : (Jvm.Cond.code ({ cls := "PrairiePool", name := "firstOf", desc := "(II)J" } : Jvm.MethodName) prog_1_method_45_code (4 : Nat) (Option.some Jvm.ClassFile.FieldType.long)) ∈ lw_all := lw_g (lw_at lw_m6 172 rfl) rfl
theorem q1491 : (Jvm.Cond.constantLong "PrairiePool" (474 : Nat) (439855772532 : Int64)) ∈ lw_all := lw_g (lw_at lw_m6 173 rfl) rfl
theorem q1492 : (Jvm.Cond.methodLink "PrairiePool" (487 : Nat) ({ cls := "PrairiePool$Parts", name := "split", desc := "([IJJ)V" } : Jvm.MethodName)) ∈ lw_all := lw_g (lw_at lw_m6 174 rfl) rfl
theorem q1493 : (Jvm.Cond.constantLong "PrairiePool" (497 : Nat) (495873781348 : Int64)) ∈ lw_all := lw_g (lw_at lw_m6 175 rfl) rfl
theorem q1494 : (Jvm.Cond.methodLink "PrairiePool" (505 : Nat) ({ cls := "PrairiePool$Parts", name := "split", desc := "(JJ)V" } : Jvm.MethodName)) ∈ lw_all := lw_g (lw_at lw_m6 176 rfl) rfl
theorem q1495 : (Jvm.Cond.methodLink "PrairiePoolLaw" (113 : Nat) ({ cls := "PrairiePool", name := "first", desc := "(III)J" } : Jvm.MethodName)) ∈ lw_all := lw_g (lw_at lw_m6 177 rfl) rfl
theorem q1496 : (Jvm.Cond.instanceMethod ({ cls := "PrairiePool", name := "first", desc := "(III)J" } : Jvm.MethodName)) ∈ lw_all := lw_g (lw_at lw_m6 178 rfl) rfl
theorem q1497 : (Jvm.Cond.selects "PrairiePool" ({ cls := "PrairiePool", name := "first", desc := "(III)J" } : Jvm.MethodName) ({ cls := "PrairiePool", name := "first", desc := "(III)J" } : Jvm.MethodName)) ∈ lw_all := lw_g (lw_at lw_m6 179 rfl) rfl
theorem q1498 : (Jvm.Cond.code ({ cls := "PrairiePool", name := "first", desc := "(III)J" } : Jvm.MethodName) prog_1_method_50_code (5 : Nat) (Option.some Jvm.ClassFile.FieldType.long)) ∈ lw_all := lw_g (lw_at lw_m6 180 rfl) rfl
theorem q1499 : (Jvm.Cond.methodLink "PrairiePoolLaw" (117 : Nat) ({ cls := "PrairiePool", name := "below", desc := "(III)J" } : Jvm.MethodName)) ∈ lw_all := lw_g (lw_at lw_m6 181 rfl) rfl
theorem q1500 : (Jvm.Cond.instanceMethod ({ cls := "PrairiePool", name := "below", desc := "(III)J" } : Jvm.MethodName)) ∈ lw_all := lw_g (lw_at lw_m6 182 rfl) rfl
theorem q1501 : (Jvm.Cond.selects "PrairiePool" ({ cls := "PrairiePool", name := "below", desc := "(III)J" } : Jvm.MethodName) ({ cls := "PrairiePool", name := "below", desc := "(III)J" } : Jvm.MethodName)) ∈ lw_all := lw_g (lw_at lw_m6 183 rfl) rfl
theorem q1502 : (Jvm.Cond.code ({ cls := "PrairiePool", name := "below", desc := "(III)J" } : Jvm.MethodName) prog_1_method_51_code (4 : Nat) (Option.some Jvm.ClassFile.FieldType.long)) ∈ lw_all := lw_g (lw_at lw_m6 184 rfl) rfl
theorem q1503 : (Jvm.Cond.methodLink "PrairiePoolLaw" (121 : Nat) ({ cls := "PrairiePool", name := "owed", desc := "(III)J" } : Jvm.MethodName)) ∈ lw_all := lw_g (lw_at lw_m6 185 rfl) rfl
theorem q1504 : (Jvm.Cond.instanceMethod ({ cls := "PrairiePool", name := "owed", desc := "(III)J" } : Jvm.MethodName)) ∈ lw_all := lw_g (lw_at lw_m6 186 rfl) rfl
theorem q1505 : (Jvm.Cond.selects "PrairiePool" ({ cls := "PrairiePool", name := "owed", desc := "(III)J" } : Jvm.MethodName) ({ cls := "PrairiePool", name := "owed", desc := "(III)J" } : Jvm.MethodName)) ∈ lw_all := lw_g (lw_at lw_m6 187 rfl) rfl
theorem q1506 : (Jvm.Cond.code ({ cls := "PrairiePool", name := "owed", desc := "(III)J" } : Jvm.MethodName) prog_1_method_52_code (5 : Nat) (Option.some Jvm.ClassFile.FieldType.long)) ∈ lw_all := lw_g (lw_at lw_m6 188 rfl) rfl
theorem q1507 : (Jvm.Cond.methodLink "PrairiePoolLaw" (125 : Nat) ({ cls := "PrairiePool", name := "turns", desc := "(III)I" } : Jvm.MethodName)) ∈ lw_all := lw_g (lw_at lw_m6 189 rfl) rfl
theorem q1508 : (Jvm.Cond.instanceMethod ({ cls := "PrairiePool", name := "turns", desc := "(III)I" } : Jvm.MethodName)) ∈ lw_all := lw_g (lw_at lw_m6 190 rfl) rfl
theorem q1509 : (Jvm.Cond.selects "PrairiePool" ({ cls := "PrairiePool", name := "turns", desc := "(III)I" } : Jvm.MethodName) ({ cls := "PrairiePool", name := "turns", desc := "(III)I" } : Jvm.MethodName)) ∈ lw_all := lw_g (lw_at lw_m6 191 rfl) rfl
theorem q1510 : (Jvm.Cond.code ({ cls := "PrairiePool", name := "turns", desc := "(III)I" } : Jvm.MethodName) prog_1_method_53_code (12 : Nat) (Option.some Jvm.ClassFile.FieldType.int)) ∈ lw_all := lw_g (lw_at lw_m6 192 rfl) rfl
theorem q1511 : (Jvm.Cond.constantLong "PrairiePool" (523 : Nat) (1953854062 : Int64)) ∈ lw_all := lw_g (lw_at lw_m6 193 rfl) rfl
theorem q1512 : (Jvm.Cond.methodLink "PrairiePool" (525 : Nat) ({ cls := "java/lang/Math", name := "max", desc := "(II)I" } : Jvm.MethodName)) ∈ lw_all := lw_g (lw_at lw_m6 194 rfl) rfl
theorem q1513 : (Jvm.Cond.methodLink "PrairiePoolLaw" (129 : Nat) ({ cls := "PrairiePool", name := "sign", desc := "(III)Z" } : Jvm.MethodName)) ∈ lw_all := lw_g (lw_at lw_m6 195 rfl) rfl
theorem q1514 : (Jvm.Cond.instanceMethod ({ cls := "PrairiePool", name := "sign", desc := "(III)Z" } : Jvm.MethodName)) ∈ lw_all := lw_g (lw_at lw_m6 196 rfl) rfl
theorem q1515 : (Jvm.Cond.selects "PrairiePool" ({ cls := "PrairiePool", name := "sign", desc := "(III)Z" } : Jvm.MethodName) ({ cls := "PrairiePool", name := "sign", desc := "(III)Z" } : Jvm.MethodName)) ∈ lw_all := lw_g (lw_at lw_m6 197 rfl) rfl
theorem q1516 : (Jvm.Cond.code ({ cls := "PrairiePool", name := "sign", desc := "(III)Z" } : Jvm.MethodName) prog_1_method_54_code (4 : Nat) (Option.some Jvm.ClassFile.FieldType.boolean)) ∈ lw_all := lw_g (lw_at lw_m6 198 rfl) rfl
theorem q1517 : (Jvm.Cond.methodLink "PrairiePoolLaw" (133 : Nat) ({ cls := "PrairiePool", name := "let", desc := "(IIZ)Z" } : Jvm.MethodName)) ∈ lw_all := lw_g (lw_at lw_m6 199 rfl) rfl
theorem q1518 : (Jvm.Cond.instanceMethod ({ cls := "PrairiePool", name := "let", desc := "(IIZ)Z" } : Jvm.MethodName)) ∈ lw_all := lw_g (lw_at lw_m6 200 rfl) rfl
theorem q1519 : (Jvm.Cond.selects "PrairiePool" ({ cls := "PrairiePool", name := "let", desc := "(IIZ)Z" } : Jvm.MethodName) ({ cls := "PrairiePool", name := "let", desc := "(IIZ)Z" } : Jvm.MethodName)) ∈ lw_all := lw_g (lw_at lw_m6 201 rfl) rfl
theorem q1520 : (Jvm.Cond.code ({ cls := "PrairiePool", name := "let", desc := "(IIZ)Z" } : Jvm.MethodName) prog_1_method_55_code (4 : Nat) (Option.some Jvm.ClassFile.FieldType.boolean)) ∈ lw_all := lw_g (lw_at lw_m6 202 rfl) rfl
theorem q1521 : (Jvm.Cond.methodLink "PrairiePoolLaw" (138 : Nat) ({ cls := "PrairiePool", name := "outside", desc := "(IIII)I" } : Jvm.MethodName)) ∈ lw_all := lw_g (lw_at lw_m6 203 rfl) rfl
theorem q1522 : (Jvm.Cond.instanceMethod ({ cls := "PrairiePool", name := "outside", desc := "(IIII)I" } : Jvm.MethodName)) ∈ lw_all := lw_g (lw_at lw_m6 204 rfl) rfl
theorem q1523 : (Jvm.Cond.selects "PrairiePool" ({ cls := "PrairiePool", name := "outside", desc := "(IIII)I" } : Jvm.MethodName) ({ cls := "PrairiePool", name := "outside", desc := "(IIII)I" } : Jvm.MethodName)) ∈ lw_all := lw_g (lw_at lw_m6 205 rfl) rfl
theorem q1524 : (Jvm.Cond.code ({ cls := "PrairiePool", name := "outside", desc := "(IIII)I" } : Jvm.MethodName) prog_1_method_56_code (5 : Nat) (Option.some Jvm.ClassFile.FieldType.int)) ∈ lw_all := lw_g (lw_at lw_m6 206 rfl) rfl
theorem q1525 : (Jvm.Cond.methodLink "PrairiePoolLaw" (143 : Nat) ({ cls := "PrairiePool", name := "breach", desc := "(I)I" } : Jvm.MethodName)) ∈ lw_all := lw_g (lw_at lw_m6 207 rfl) rfl
theorem q1526 : (Jvm.Cond.instanceMethod ({ cls := "PrairiePool", name := "breach", desc := "(I)I" } : Jvm.MethodName)) ∈ lw_all := lw_g (lw_at lw_m6 208 rfl) rfl
theorem q1527 : (Jvm.Cond.selects "PrairiePool" ({ cls := "PrairiePool", name := "breach", desc := "(I)I" } : Jvm.MethodName) ({ cls := "PrairiePool", name := "breach", desc := "(I)I" } : Jvm.MethodName)) ∈ lw_all := lw_g (lw_at lw_m6 209 rfl) rfl
theorem q1528 : (Jvm.Cond.code ({ cls := "PrairiePool", name := "breach", desc := "(I)I" } : Jvm.MethodName) prog_1_method_58_code (2 : Nat) (Option.some Jvm.ClassFile.FieldType.int)) ∈ lw_all := lw_g (lw_at lw_m6 210 rfl) rfl
theorem q1529 : (Jvm.Cond.methodLink "PrairiePool" (551 : Nat) ({ cls := "PrairiePool", name := "breachOf", desc := "(I)J" } : Jvm.MethodName)) ∈ lw_all := lw_g (lw_at lw_m6 211 rfl) rfl
theorem q1530 : (Jvm.Cond.privateMethod ({ cls := "PrairiePool", name := "breachOf", desc := "(I)J" } : Jvm.MethodName)) ∈ lw_tbl := lw_at lw_m6 212 rfl
theorem q1531 : (Jvm.Cond.instanceMethod ({ cls := "PrairiePool", name := "breachOf", desc := "(I)J" } : Jvm.MethodName)) ∈ lw_all := lw_g (lw_at lw_m6 213 rfl) rfl
theorem q1532 : (Jvm.Cond.code ({ cls := "PrairiePool", name := "breachOf", desc := "(I)J" } : Jvm.MethodName) prog_1_method_57_code (5 : Nat) (Option.some Jvm.ClassFile.FieldType.long)) ∈ lw_all := lw_g (lw_at lw_m6 214 rfl) rfl
theorem q1533 : (Jvm.Cond.methodLink "PrairiePool" (540 : Nat) ({ cls := "PrairiePool$Farm", name := "isSigned", desc := "(I)Z" } : Jvm.MethodName)) ∈ lw_all := lw_g (lw_at lw_m6 215 rfl) rfl
theorem q1534 : (Jvm.Cond.instanceMethod ({ cls := "PrairiePool$Farm", name := "isSigned", desc := "(I)Z" } : Jvm.MethodName)) ∈ lw_all := lw_g (lw_at lw_m6 216 rfl) rfl
theorem q1535 : (Jvm.Cond.selects "PrairiePool$Farm" ({ cls := "PrairiePool$Farm", name := "isSigned", desc := "(I)Z" } : Jvm.MethodName) ({ cls := "PrairiePool$Farm", name := "isSigned", desc := "(I)Z" } : Jvm.MethodName)) ∈ lw_all := lw_g (lw_at lw_m6 217 rfl) rfl
theorem q1536 : (Jvm.Cond.code ({ cls := "PrairiePool$Farm", name := "isSigned", desc := "(I)Z" } : Jvm.MethodName) prog_8_method_2_code (2 : Nat) (Option.some Jvm.ClassFile.FieldType.boolean)) ∈ lw_all := lw_g (lw_at lw_m6 218 rfl) rfl
theorem q1537 : (Jvm.Cond.constantLong "PrairiePool" (549 : Nat) (108243466675048 : Int64)) ∈ lw_all := lw_g (lw_at lw_m6 219 rfl) rfl
theorem q1538 : (Jvm.Cond.methodLink "PrairiePoolLaw" (147 : Nat) ({ cls := "PrairiePool", name := "cost", desc := "(II)J" } : Jvm.MethodName)) ∈ lw_all := lw_g (lw_at lw_m6 220 rfl) rfl
theorem q1539 : (Jvm.Cond.instanceMethod ({ cls := "PrairiePool", name := "cost", desc := "(II)J" } : Jvm.MethodName)) ∈ lw_all := lw_g (lw_at lw_m6 221 rfl) rfl
theorem q1540 : (Jvm.Cond.selects "PrairiePool" ({ cls := "PrairiePool", name := "cost", desc := "(II)J" } : Jvm.MethodName) ({ cls := "PrairiePool", name := "cost", desc := "(II)J" } : Jvm.MethodName)) ∈ lw_all := lw_g (lw_at lw_m6 222 rfl) rfl
theorem q1541 : (Jvm.Cond.code ({ cls := "PrairiePool", name := "cost", desc := "(II)J" } : Jvm.MethodName) prog_1_method_59_code (6 : Nat) (Option.some Jvm.ClassFile.FieldType.long)) ∈ lw_all := lw_g (lw_at lw_m6 223 rfl) rfl
theorem q1542 : (Jvm.Cond.methodLink "PrairiePoolLaw" (151 : Nat) ({ cls := "PrairiePool", name := "price", desc := "(II)Z" } : Jvm.MethodName)) ∈ lw_all := lw_g (lw_at lw_m6 224 rfl) rfl
theorem q1543 : (Jvm.Cond.instanceMethod ({ cls := "PrairiePool", name := "price", desc := "(II)Z" } : Jvm.MethodName)) ∈ lw_all := lw_g (lw_at lw_m6 225 rfl) rfl
theorem q1544 : (Jvm.Cond.selects "PrairiePool" ({ cls := "PrairiePool", name := "price", desc := "(II)Z" } : Jvm.MethodName) ({ cls := "PrairiePool", name := "price", desc := "(II)Z" } : Jvm.MethodName)) ∈ lw_all := lw_g (lw_at lw_m6 226 rfl) rfl
theorem q1545 : (Jvm.Cond.code ({ cls := "PrairiePool", name := "price", desc := "(II)Z" } : Jvm.MethodName) prog_1_method_60_code (3 : Nat) (Option.some Jvm.ClassFile.FieldType.boolean)) ∈ lw_all := lw_g (lw_at lw_m6 227 rfl) rfl
theorem q1546 : (Jvm.Cond.methodLink "PrairiePoolLaw" (156 : Nat) ({ cls := "PrairiePool", name := "rules", desc := "(II)Z" } : Jvm.MethodName)) ∈ lw_all := lw_g (lw_at lw_m6 228 rfl) rfl
theorem q1547 : (Jvm.Cond.instanceMethod ({ cls := "PrairiePool", name := "rules", desc := "(II)Z" } : Jvm.MethodName)) ∈ lw_all := lw_g (lw_at lw_m6 229 rfl) rfl
theorem q1548 : (Jvm.Cond.selects "PrairiePool" ({ cls := "PrairiePool", name := "rules", desc := "(II)Z" } : Jvm.MethodName) ({ cls := "PrairiePool", name := "rules", desc := "(II)Z" } : Jvm.MethodName)) ∈ lw_all := lw_g (lw_at lw_m6 230 rfl) rfl
theorem q1549 : (Jvm.Cond.code ({ cls := "PrairiePool", name := "rules", desc := "(II)Z" } : Jvm.MethodName) prog_1_method_61_code (3 : Nat) (Option.some Jvm.ClassFile.FieldType.boolean)) ∈ lw_all := lw_g (lw_at lw_m6 231 rfl) rfl
theorem q1550 : (Jvm.Cond.methodLink "PrairiePoolLaw" (160 : Nat) ({ cls := "PrairiePool", name := "alone", desc := "(III)J" } : Jvm.MethodName)) ∈ lw_all := lw_g (lw_at lw_m6 232 rfl) rfl
theorem q1551 : (Jvm.Cond.instanceMethod ({ cls := "PrairiePool", name := "alone", desc := "(III)J" } : Jvm.MethodName)) ∈ lw_all := lw_g (lw_at lw_m6 233 rfl) rfl
theorem q1552 : (Jvm.Cond.selects "PrairiePool" ({ cls := "PrairiePool", name := "alone", desc := "(III)J" } : Jvm.MethodName) ({ cls := "PrairiePool", name := "alone", desc := "(III)J" } : Jvm.MethodName)) ∈ lw_all := lw_g (lw_at lw_m6 234 rfl) rfl
theorem q1553 : (Jvm.Cond.code ({ cls := "PrairiePool", name := "alone", desc := "(III)J" } : Jvm.MethodName) prog_1_method_64_code (5 : Nat) (Option.some Jvm.ClassFile.FieldType.long)) ∈ lw_all := lw_g (lw_at lw_m6 235 rfl) rfl
theorem q1554 : (Jvm.Cond.methodLink "PrairiePool" (557 : Nat) ({ cls := "PrairiePool", name := "playsLoads", desc := "(I)V" } : Jvm.MethodName)) ∈ lw_all := lw_g (lw_at lw_m6 236 rfl) rfl
theorem q1555 : (Jvm.Cond.privateMethod ({ cls := "PrairiePool", name := "playsLoads", desc := "(I)V" } : Jvm.MethodName)) ∈ lw_tbl := lw_at lw_m6 237 rfl
theorem q1556 : (Jvm.Cond.instanceMethod ({ cls := "PrairiePool", name := "playsLoads", desc := "(I)V" } : Jvm.MethodName)) ∈ lw_all := lw_g (lw_at lw_m6 238 rfl) rfl
theorem q1557 : (Jvm.Cond.code ({ cls := "PrairiePool", name := "playsLoads", desc := "(I)V" } : Jvm.MethodName) prog_1_method_63_code (5 : Nat) (Option.none : Option Jvm.ClassFile.FieldType)) ∈ lw_all := lw_g (lw_at lw_m6 239 rfl) rfl
theorem q1558 : (Jvm.Cond.methodLink "PrairiePool" (560 : Nat) ({ cls := "PrairiePool", name := "aloneOf", desc := "(III)J" } : Jvm.MethodName)) ∈ lw_all := lw_g (lw_at lw_m7 0 rfl) rfl
theorem q1559 : (Jvm.Cond.privateMethod ({ cls := "PrairiePool", name := "aloneOf", desc := "(III)J" } : Jvm.MethodName)) ∈ lw_tbl := lw_at lw_m7 1 rfl
theorem q1560 : (Jvm.Cond.instanceMethod ({ cls := "PrairiePool", name := "aloneOf", desc := "(III)J" } : Jvm.MethodName)) ∈ lw_all := lw_g (lw_at lw_m7 2 rfl) rfl
theorem q1561 : (Jvm.Cond.code ({ cls := "PrairiePool", name := "aloneOf", desc := "(III)J" } : Jvm.MethodName) prog_1_method_62_code (9 : Nat) (Option.some Jvm.ClassFile.FieldType.long)) ∈ lw_all := lw_g (lw_at lw_m7 3 rfl) rfl
theorem q1562 : (Jvm.Cond.methodLink "PrairiePoolLaw" (164 : Nat) ({ cls := "PrairiePool", name := "more", desc := "(II)I" } : Jvm.MethodName)) ∈ lw_all := lw_g (lw_at lw_m7 4 rfl) rfl
theorem q1563 : (Jvm.Cond.instanceMethod ({ cls := "PrairiePool", name := "more", desc := "(II)I" } : Jvm.MethodName)) ∈ lw_all := lw_g (lw_at lw_m7 5 rfl) rfl
theorem q1564 : (Jvm.Cond.selects "PrairiePool" ({ cls := "PrairiePool", name := "more", desc := "(II)I" } : Jvm.MethodName) ({ cls := "PrairiePool", name := "more", desc := "(II)I" } : Jvm.MethodName)) ∈ lw_all := lw_g (lw_at lw_m7 6 rfl) rfl
theorem q1565 : (Jvm.Cond.code ({ cls := "PrairiePool", name := "more", desc := "(II)I" } : Jvm.MethodName) prog_1_method_65_code (7 : Nat) (Option.some Jvm.ClassFile.FieldType.int)) ∈ lw_all := lw_g (lw_at lw_m7 7 rfl) rfl
theorem q1566 : (Jvm.Cond.methodLink "PrairiePoolLaw" (168 : Nat) ({ cls := "PrairiePool", name := "vote", desc := "(II)Z" } : Jvm.MethodName)) ∈ lw_all := lw_g (lw_at lw_m7 8 rfl) rfl
theorem q1567 : (Jvm.Cond.instanceMethod ({ cls := "PrairiePool", name := "vote", desc := "(II)Z" } : Jvm.MethodName)) ∈ lw_all := lw_g (lw_at lw_m7 9 rfl) rfl
theorem q1568 : (Jvm.Cond.selects "PrairiePool" ({ cls := "PrairiePool", name := "vote", desc := "(II)Z" } : Jvm.MethodName) ({ cls := "PrairiePool", name := "vote", desc := "(II)Z" } : Jvm.MethodName)) ∈ lw_all := lw_g (lw_at lw_m7 10 rfl) rfl
theorem q1569 : (Jvm.Cond.code ({ cls := "PrairiePool", name := "vote", desc := "(II)Z" } : Jvm.MethodName) prog_1_method_66_code (3 : Nat) (Option.some Jvm.ClassFile.FieldType.boolean)) ∈ lw_all := lw_g (lw_at lw_m7 11 rfl) rfl
theorem q1570 : (Jvm.Cond.methodLink "PrairiePoolLaw" (172 : Nat) ({ cls := "PrairiePool", name := "result", desc := "(II)I" } : Jvm.MethodName)) ∈ lw_all := lw_g (lw_at lw_m7 12 rfl) rfl
theorem q1571 : (Jvm.Cond.instanceMethod ({ cls := "PrairiePool", name := "result", desc := "(II)I" } : Jvm.MethodName)) ∈ lw_all := lw_g (lw_at lw_m7 13 rfl) rfl
theorem q1572 : (Jvm.Cond.selects "PrairiePool" ({ cls := "PrairiePool", name := "result", desc := "(II)I" } : Jvm.MethodName) ({ cls := "PrairiePool", name := "result", desc := "(II)I" } : Jvm.MethodName)) ∈ lw_all := lw_g (lw_at lw_m7 14 rfl) rfl
theorem q1573 : (Jvm.Cond.code ({ cls := "PrairiePool", name := "result", desc := "(II)I" } : Jvm.MethodName) prog_1_method_69_code (4 : Nat) (Option.some Jvm.ClassFile.FieldType.int)) ∈ lw_all := lw_g (lw_at lw_m7 15 rfl) rfl
theorem q1574 : (Jvm.Cond.methodLink "PrairiePool" (569 : Nat) ({ cls := "PrairiePool", name := "weigh", desc := "(I)V" } : Jvm.MethodName)) ∈ lw_all := lw_g (lw_at lw_m7 16 rfl) rfl
theorem q1575 : (Jvm.Cond.privateMethod ({ cls := "PrairiePool", name := "weigh", desc := "(I)V" } : Jvm.MethodName)) ∈ lw_tbl := lw_at lw_m7 17 rfl
theorem q1576 : (Jvm.Cond.instanceMethod ({ cls := "PrairiePool", name := "weigh", desc := "(I)V" } : Jvm.MethodName)) ∈ lw_all := lw_g (lw_at lw_m7 18 rfl) rfl
theorem q1577 : (Jvm.Cond.code ({ cls := "PrairiePool", name := "weigh", desc := "(I)V" } : Jvm.MethodName) prog_1_method_67_code (4 : Nat) (Option.none : Option Jvm.ClassFile.FieldType)) ∈ lw_all := lw_g (lw_at lw_m7 19 rfl) rfl
theorem q1578 : (Jvm.Cond.constantLong "PrairiePool" (567 : Nat) (508676040051 : Int64)) ∈ lw_all := lw_g (lw_at lw_m7 20 rfl) rfl
theorem q1579 : (Jvm.Cond.methodLink "PrairiePool" (572 : Nat) ({ cls := "PrairiePool", name := "wholeFor", desc := "(II)I" } : Jvm.MethodName)) ∈ lw_all := lw_g (lw_at lw_m7 21 rfl) rfl
theorem q1580 : (Jvm.Cond.privateMethod ({ cls := "PrairiePool", name := "wholeFor", desc := "(II)I" } : Jvm.MethodName)) ∈ lw_tbl := lw_at lw_m7 22 rfl
theorem q1581 : (Jvm.Cond.instanceMethod ({ cls := "PrairiePool", name := "wholeFor", desc := "(II)I" } : Jvm.MethodName)) ∈ lw_all := lw_g (lw_at lw_m7 23 rfl) rfl
theorem q1582 : (Jvm.Cond.code ({ cls := "PrairiePool", name := "wholeFor", desc := "(II)I" } : Jvm.MethodName) prog_1_method_68_code (5 : Nat) (Option.some Jvm.ClassFile.FieldType.int)) ∈ lw_all := lw_g (lw_at lw_m7 24 rfl) rfl
theorem q1583 : (Jvm.Cond.methodLink "PrairiePoolLaw" (176 : Nat) ({ cls := "PrairiePool", name := "hangs", desc := "(I)I" } : Jvm.MethodName)) ∈ lw_all := lw_g (lw_at lw_m7 25 rfl) rfl
theorem q1584 : (Jvm.Cond.instanceMethod ({ cls := "PrairiePool", name := "hangs", desc := "(I)I" } : Jvm.MethodName)) ∈ lw_all := lw_g (lw_at lw_m7 26 rfl) rfl
theorem q1585 : (Jvm.Cond.selects "PrairiePool" ({ cls := "PrairiePool", name := "hangs", desc := "(I)I" } : Jvm.MethodName) ({ cls := "PrairiePool", name := "hangs", desc := "(I)I" } : Jvm.MethodName)) ∈ lw_all := lw_g (lw_at lw_m7 27 rfl) rfl
theorem q1586 : (Jvm.Cond.code ({ cls := "PrairiePool", name := "hangs", desc := "(I)I" } : Jvm.MethodName) prog_1_method_70_code (6 : Nat) (Option.some Jvm.ClassFile.FieldType.int)) ∈ lw_all := lw_g (lw_at lw_m7 28 rfl) rfl
theorem q1587 : (Jvm.Cond.methodLink "PrairiePool" (575 : Nat) ({ cls := "java/lang/Integer", name := "bitCount", desc := "(I)I" } : Jvm.MethodName)) ∈ lw_all := lw_g (lw_at lw_m7 29 rfl) rfl
theorem q1588 : (Jvm.Cond.static ({ cls := "java/lang/Integer", name := "bitCount", desc := "(I)I" } : Jvm.MethodName)) ∈ lw_all := lw_g (lw_at lw_m7 30 rfl) rfl
theorem q1589 : (Jvm.Cond.code ({ cls := "java/lang/Integer", name := "bitCount", desc := "(I)I" } : Jvm.MethodName) prog_31_method_49_code (1 : Nat) (Option.some Jvm.ClassFile.FieldType.int)) ∈ lw_all := lw_g (lw_at lw_m7 31 rfl) rfl
theorem q1590 : (Jvm.Cond.constant "java/lang/Integer" (265 : Nat) (1431655765 : Int32)) ∈ lw_all := lw_g (lw_at lw_m7 32 rfl) rfl
theorem q1591 : (Jvm.Cond.constant "java/lang/Integer" (266 : Nat) (858993459 : Int32)) ∈ lw_all := lw_g (lw_at lw_m7 33 rfl) rfl
theorem q1592 : (Jvm.Cond.constant "java/lang/Integer" (267 : Nat) (252645135 : Int32)) ∈ lw_all := lw_g (lw_at lw_m7 34 rfl) rfl
theorem q1593 : (Jvm.Cond.methodLink "PrairiePoolLaw" (180 : Nat) ({ cls := "PrairiePool", name := "warm", desc := "(III)I" } : Jvm.MethodName)) ∈ lw_all := lw_g (lw_at lw_m7 35 rfl) rfl
theorem q1594 : (Jvm.Cond.instanceMethod ({ cls := "PrairiePool", name := "warm", desc := "(III)I" } : Jvm.MethodName)) ∈ lw_all := lw_g (lw_at lw_m7 36 rfl) rfl
theorem q1595 : (Jvm.Cond.selects "PrairiePool" ({ cls := "PrairiePool", name := "warm", desc := "(III)I" } : Jvm.MethodName) ({ cls := "PrairiePool", name := "warm", desc := "(III)I" } : Jvm.MethodName)) ∈ lw_all := lw_g (lw_at lw_m7 37 rfl) rfl
theorem q1596 : (Jvm.Cond.code ({ cls := "PrairiePool", name := "warm", desc := "(III)I" } : Jvm.MethodName) prog_1_method_72_code (8 : Nat) (Option.some Jvm.ClassFile.FieldType.int)) ∈ lw_all := lw_g (lw_at lw_m7 38 rfl) rfl
theorem q1597 : (Jvm.Cond.methodLink "PrairiePool" (580 : Nat) ({ cls := "PrairiePool$Tray", name := "many", desc := "()I" } : Jvm.MethodName)) ∈ lw_all := lw_g (lw_at lw_m7 39 rfl) rfl
theorem q1598 : (Jvm.Cond.instanceMethod ({ cls := "PrairiePool$Tray", name := "many", desc := "()I" } : Jvm.MethodName)) ∈ lw_all := lw_g (lw_at lw_m7 40 rfl) rfl
theorem q1599 : (Jvm.Cond.selects "PrairiePool$Tray" ({ cls := "PrairiePool$Tray", name := "many", desc := "()I" } : Jvm.MethodName) ({ cls := "PrairiePool$Tray", name := "many", desc := "()I" } : Jvm.MethodName)) ∈ lw_all := lw_g (lw_at lw_m7 41 rfl) rfl
theorem q1600 : (Jvm.Cond.code ({ cls := "PrairiePool$Tray", name := "many", desc := "()I" } : Jvm.MethodName) prog_23_method_3_code (1 : Nat) (Option.some Jvm.ClassFile.FieldType.int)) ∈ lw_all := lw_g (lw_at lw_m7 42 rfl) rfl
theorem q1601 : (Jvm.Cond.constantLong "PrairiePool" (582 : Nat) (20 : Int64)) ∈ lw_all := lw_g (lw_at lw_m7 43 rfl) rfl
theorem q1602 : (Jvm.Cond.methodLink "PrairiePool" (584 : Nat) ({ cls := "PrairiePool", name := "areFrom", desc := "(IIJJ)Z" } : Jvm.MethodName)) ∈ lw_all := lw_g (lw_at lw_m7 44 rfl) rfl
theorem q1603 : (Jvm.Cond.privateMethod ({ cls := "PrairiePool", name := "areFrom", desc := "(IIJJ)Z" } : Jvm.MethodName)) ∈ lw_tbl := lw_at lw_m7 45 rfl
theorem q1604 : (Jvm.Cond.instanceMethod ({ cls := "PrairiePool", name := "areFrom", desc := "(IIJJ)Z" } : Jvm.MethodName)) ∈ lw_all := lw_g (lw_at lw_m7 46 rfl) rfl
theorem q1605 : (Jvm.Cond.code ({ cls := "PrairiePool", name := "areFrom", desc := "(IIJJ)Z" } : Jvm.MethodName) prog_1_method_71_code (8 : Nat) (Option.some Jvm.ClassFile.FieldType.boolean)) ∈ lw_all := lw_g (lw_at lw_m7 47 rfl) rfl
theorem q1606 : (Jvm.Cond.methodLink "PrairiePoolLaw" (184 : Nat) ({ cls := "PrairiePool", name := "turned", desc := "(I)I" } : Jvm.MethodName)) ∈ lw_all := lw_g (lw_at lw_m7 48 rfl) rfl
theorem q1607 : (Jvm.Cond.instanceMethod ({ cls := "PrairiePool", name := "turned", desc := "(I)I" } : Jvm.MethodName)) ∈ lw_all := lw_g (lw_at lw_m7 49 rfl) rfl
theorem q1608 : (Jvm.Cond.selects "PrairiePool" ({ cls := "PrairiePool", name := "turned", desc := "(I)I" } : Jvm.MethodName) ({ cls := "PrairiePool", name := "turned", desc := "(I)I" } : Jvm.MethodName)) ∈ lw_all := lw_g (lw_at lw_m7 50 rfl) rfl
theorem q1609 : (Jvm.Cond.code ({ cls := "PrairiePool", name := "turned", desc := "(I)I" } : Jvm.MethodName) prog_1_method_73_code (2 : Nat) (Option.some Jvm.ClassFile.FieldType.int)) ∈ lw_all := lw_g (lw_at lw_m7 51 rfl) rfl
theorem q1610 : (Jvm.Cond.methodLink "PrairiePoolLaw" (188 : Nat) ({ cls := "PrairiePool", name := "send", desc := "(IIIII)I" } : Jvm.MethodName)) ∈ lw_all := lw_g (lw_at lw_m7 52 rfl) rfl
theorem q1611 : (Jvm.Cond.instanceMethod ({ cls := "PrairiePool", name := "send", desc := "(IIIII)I" } : Jvm.MethodName)) ∈ lw_all := lw_g (lw_at lw_m7 53 rfl) rfl
theorem q1612 : (Jvm.Cond.selects "PrairiePool" ({ cls := "PrairiePool", name := "send", desc := "(IIIII)I" } : Jvm.MethodName) ({ cls := "PrairiePool", name := "send", desc := "(IIIII)I" } : Jvm.MethodName)) ∈ lw_all := lw_g (lw_at lw_m7 54 rfl) rfl
theorem q1613 : (Jvm.Cond.code ({ cls := "PrairiePool", name := "send", desc := "(IIIII)I" } : Jvm.MethodName) prog_1_method_75_code (13 : Nat) (Option.some Jvm.ClassFile.FieldType.int)) ∈ lw_all := lw_g (lw_at lw_m7 55 rfl) rfl
theorem q1614 : (Jvm.Cond.constantLong "PrairiePool" (593 : Nat) (30 : Int64)) ∈ lw_all := lw_g (lw_at lw_m7 56 rfl) rfl
theorem q1615 : (Jvm.Cond.constantLong "PrairiePool" (595 : Nat) (100 : Int64)) ∈ lw_all := lw_g (lw_at lw_m7 57 rfl) rfl
theorem q1616 : (Jvm.Cond.methodLink "PrairiePool" (597 : Nat) ({ cls := "PrairiePool", name := "find", desc := "(II)V" } : Jvm.MethodName)) ∈ lw_all := lw_g (lw_at lw_m7 58 rfl) rfl
theorem q1617 : (Jvm.Cond.privateMethod ({ cls := "PrairiePool", name := "find", desc := "(II)V" } : Jvm.MethodName)) ∈ lw_tbl := lw_at lw_m7 59 rfl
theorem q1618 : (Jvm.Cond.instanceMethod ({ cls := "PrairiePool", name := "find", desc := "(II)V" } : Jvm.MethodName)) ∈ lw_all := lw_g (lw_at lw_m7 60 rfl) rfl
theorem q1619 : (Jvm.Cond.code ({ cls := "PrairiePool", name := "find", desc := "(II)V" } : Jvm.MethodName) prog_1_method_74_code (6 : Nat) (Option.none : Option Jvm.ClassFile.FieldType)) ∈ lw_all := lw_g (lw_at lw_m7 61 rfl) rfl
theorem q1620 : (Jvm.Cond.constant "PrairiePool" (592 : Nat) (100000000 : Int32)) ∈ lw_all := lw_g (lw_at lw_m7 62 rfl) rfl
theorem q1621 : (Jvm.Cond.classLink "PrairiePoolLaw" (10 : Nat) "PrairiePoolModel") ∈ lw_all := lw_g (lw_at lw_m7 63 rfl) rfl
theorem q1622 : (Jvm.Cond.instantiable "PrairiePoolModel" (109 : Nat)) ∈ lw_all := lw_g (lw_at lw_m7 64 rfl) rfl
theorem q1623 : (Jvm.Cond.methodLink "PrairiePoolLaw" (12 : Nat) ({ cls := "PrairiePoolModel", name := "<init>", desc := "()V" } : Jvm.MethodName)) ∈ lw_all := lw_g (lw_at lw_m7 65 rfl) rfl
theorem q1624 : (Jvm.Cond.instanceMethod ({ cls := "PrairiePoolModel", name := "<init>", desc := "()V" } : Jvm.MethodName)) ∈ lw_all := lw_g (lw_at lw_m7 66 rfl) rfl
theorem q1625 : (Jvm.Cond.code ({ cls := "PrairiePoolModel", name := "<init>", desc := "()V" } : Jvm.MethodName) prog_27_method_1_code (2 : Nat) (Option.none : Option Jvm.ClassFile.FieldType)) ∈ lw_all := lw_g (lw_at lw_m7 67 rfl) rfl
theorem q1626 : (Jvm.Cond.methodLink "PrairiePoolModel" (1 : Nat) ({ cls := "java/lang/Object", name := "<init>", desc := "()V" } : Jvm.MethodName)) ∈ lw_all := lw_g (lw_at lw_m7 68 rfl) rfl
theorem q1627 : (Jvm.Cond.fieldLink "PrairiePoolModel" (260 : Nat) "PrairiePoolModel" "status" "I") ∈ lw_all := lw_g (lw_at lw_m7 69 rfl) rfl
theorem q1628 : (Jvm.Cond.fieldLink "PrairiePoolModel" (257 : Nat) "PrairiePoolModel" "thrown" "I") ∈ lw_all := lw_g (lw_at lw_m7 70 rfl) rfl
theorem q1629 : (Jvm.Cond.fieldLink "PrairiePoolModel" (7 : Nat) "PrairiePoolModel" "traySort" "[I") ∈ lw_all := lw_g (lw_at lw_m7 71 rfl) rfl
theorem q1630 : (Jvm.Cond.fieldLink "PrairiePoolModel" (13 : Nat) "PrairiePoolModel" "trayMany" "[I") ∈ lw_all := lw_g (lw_at lw_m7 72 rfl) rfl
theorem q1631 : (Jvm.Cond.fieldLink "PrairiePoolModel" (16 : Nat) "PrairiePoolModel" "numbers" "[J") ∈ lw_all := lw_g (lw_at lw_m7 73 rfl) rfl
theorem q1632 : (Jvm.Cond.fieldLink "PrairiePoolModel" (291 : Nat) "PrairiePoolModel" "farms" "I") ∈ lw_all := lw_g (lw_at lw_m7 74 rfl) rfl
theorem q1633 : (Jvm.Cond.fieldLink "PrairiePoolModel" (294 : Nat) "PrairiePoolModel" "elevators" "I") ∈ lw_all := lw_g (lw_at lw_m7 75 rfl) rfl
theorem q1634 : (Jvm.Cond.fieldLink "PrairiePoolModel" (309 : Nat) "PrairiePoolModel" "events" "I") ∈ lw_all := lw_g (lw_at lw_m7 76 rfl) rfl
theorem q1635 : (Jvm.Cond.fieldLink "PrairiePoolModel" (341 : Nat) "PrairiePoolModel" "gradings" "I") ∈ lw_all := lw_g (lw_at lw_m7 77 rfl) rfl
theorem q1636 : (Jvm.Cond.fieldLink "PrairiePoolModel" (315 : Nat) "PrairiePoolModel" "latest" "I") ∈ lw_all := lw_g (lw_at lw_m7 78 rfl) rfl
theorem q1637 : (Jvm.Cond.fieldLink "PrairiePoolModel" (312 : Nat) "PrairiePoolModel" "lastWeek" "I") ∈ lw_all := lw_g (lw_at lw_m7 79 rfl) rfl
theorem q1638 : (Jvm.Cond.fieldLink "PrairiePoolModel" (20 : Nat) "PrairiePoolModel" "farmDistrict" "[I") ∈ lw_all := lw_g (lw_at lw_m7 80 rfl) rfl
theorem q1639 : (Jvm.Cond.fieldLink "PrairiePoolModel" (23 : Nat) "PrairiePoolModel" "acres" "[I") ∈ lw_all := lw_g (lw_at lw_m7 81 rfl) rfl
theorem q1640 : (Jvm.Cond.fieldLink "PrairiePoolModel" (26 : Nat) "PrairiePoolModel" "debt" "[I") ∈ lw_all := lw_g (lw_at lw_m7 82 rfl) rfl
theorem q1641 : (Jvm.Cond.fieldLink "PrairiePoolModel" (29 : Nat) "PrairiePoolModel" "elevatorDistrict" "[I") ∈ lw_all := lw_g (lw_at lw_m7 83 rfl) rfl
theorem q1642 : (Jvm.Cond.fieldLink "PrairiePoolModel" (32 : Nat) "PrairiePoolModel" "room" "[I") ∈ lw_all := lw_g (lw_at lw_m7 84 rfl) rfl
theorem q1643 : (Jvm.Cond.fieldLink "PrairiePoolModel" (35 : Nat) "PrairiePoolModel" "sortOf" "[I") ∈ lw_all := lw_g (lw_at lw_m7 85 rfl) rfl
theorem q1644 : (Jvm.Cond.fieldLink "PrairiePoolModel" (38 : Nat) "PrairiePoolModel" "farmOf" "[I") ∈ lw_all := lw_g (lw_at lw_m7 86 rfl) rfl
theorem q1645 : (Jvm.Cond.fieldLink "PrairiePoolModel" (41 : Nat) "PrairiePoolModel" "at1" "[I") ∈ lw_all := lw_g (lw_at lw_m7 87 rfl) rfl
theorem q1646 : (Jvm.Cond.fieldLink "PrairiePoolModel" (44 : Nat) "PrairiePoolModel" "to1" "[I") ∈ lw_all := lw_g (lw_at lw_m7 88 rfl) rfl
theorem q1647 : (Jvm.Cond.fieldLink "PrairiePoolModel" (47 : Nat) "PrairiePoolModel" "gradeTold" "[I") ∈ lw_all := lw_g (lw_at lw_m7 89 rfl) rfl
theorem q1648 : (Jvm.Cond.fieldLink "PrairiePoolModel" (50 : Nat) "PrairiePoolModel" "yearOf" "[I") ∈ lw_all := lw_g (lw_at lw_m7 90 rfl) rfl
theorem q1649 : (Jvm.Cond.fieldLink "PrairiePoolModel" (53 : Nat) "PrairiePoolModel" "bushels" "[I") ∈ lw_all := lw_g (lw_at lw_m7 91 rfl) rfl
theorem q1650 : (Jvm.Cond.fieldLink "PrairiePoolModel" (56 : Nat) "PrairiePoolModel" "extra" "[I") ∈ lw_all := lw_g (lw_at lw_m7 92 rfl) rfl
theorem q1651 : (Jvm.Cond.fieldLink "PrairiePoolModel" (59 : Nat) "PrairiePoolModel" "weekOf" "[I") ∈ lw_all := lw_g (lw_at lw_m7 93 rfl) rfl
theorem q1652 : (Jvm.Cond.fieldLink "PrairiePoolModel" (62 : Nat) "PrairiePoolModel" "knownOf" "[I") ∈ lw_all := lw_g (lw_at lw_m7 94 rfl) rfl
theorem q1653 : (Jvm.Cond.fieldLink "PrairiePoolModel" (65 : Nat) "PrairiePoolModel" "gradedLoad" "[I") ∈ lw_all := lw_g (lw_at lw_m7 95 rfl) rfl
theorem q1654 : (Jvm.Cond.fieldLink "PrairiePoolModel" (68 : Nat) "PrairiePoolModel" "gradedBy" "[I") ∈ lw_all := lw_g (lw_at lw_m7 96 rfl) rfl
theorem q1655 : (Jvm.Cond.fieldLink "PrairiePoolModel" (71 : Nat) "PrairiePoolModel" "gradedAs" "[I") ∈ lw_all := lw_g (lw_at lw_m7 97 rfl) rfl
theorem q1656 : (Jvm.Cond.fieldLink "PrairiePoolModel" (74 : Nat) "PrairiePoolModel" "gradedKnown" "[I") ∈ lw_all := lw_g (lw_at lw_m7 98 rfl) rfl
theorem q1657 : (Jvm.Cond.fieldLink "PrairiePoolModel" (77 : Nat) "PrairiePoolModel" "bins" "[I") ∈ lw_all := lw_g (lw_at lw_m7 99 rfl) rfl
theorem q1658 : (Jvm.Cond.fieldLink "PrairiePoolModel" (80 : Nat) "PrairiePoolModel" "ports" "[I") ∈ lw_all := lw_g (lw_at lw_m7 100 rfl) rfl
theorem q1659 : (Jvm.Cond.fieldLink "PrairiePoolModel" (83 : Nat) "PrairiePoolModel" "turnedOf" "[I") ∈ lw_all := lw_g (lw_at lw_m7 101 rfl) rfl
theorem q1660 : (Jvm.Cond.fieldLink "PrairiePoolModel" (86 : Nat) "PrairiePoolModel" "takenOf" "[I") ∈ lw_all := lw_g (lw_at lw_m7 102 rfl) rfl
theorem q1661 : (Jvm.Cond.fieldLink "PrairiePoolModel" (89 : Nat) "PrairiePoolModel" "gradeOf1" "[I") ∈ lw_all := lw_g (lw_at lw_m7 103 rfl) rfl
theorem q1662 : (Jvm.Cond.fieldLink "PrairiePoolModel" (92 : Nat) "PrairiePoolModel" "docked" "[I") ∈ lw_all := lw_g (lw_at lw_m7 104 rfl) rfl
theorem q1663 : (Jvm.Cond.fieldLink "PrairiePoolModel" (95 : Nat) "PrairiePoolModel" "turnedAway" "[I") ∈ lw_all := lw_g (lw_at lw_m7 105 rfl) rfl
theorem q1664 : (Jvm.Cond.fieldLink "PrairiePoolModel" (98 : Nat) "PrairiePoolModel" "sold" "[I") ∈ lw_all := lw_g (lw_at lw_m7 106 rfl) rfl
theorem q1665 : (Jvm.Cond.fieldLink "PrairiePoolModel" (101 : Nat) "PrairiePoolModel" "spoilt" "[I") ∈ lw_all := lw_g (lw_at lw_m7 107 rfl) rfl
theorem q1666 : (Jvm.Cond.fieldLink "PrairiePoolModel" (371 : Nat) "PrairiePoolModel" "lacks1" "I") ∈ lw_all := lw_g (lw_at lw_m7 108 rfl) rfl
theorem q1667 : (Jvm.Cond.fieldLink "PrairiePoolModel" (104 : Nat) "PrairiePoolModel" "weight" "[J") ∈ lw_all := lw_g (lw_at lw_m7 109 rfl) rfl
theorem q1668 : (Jvm.Cond.fieldLink "PrairiePoolModel" (107 : Nat) "PrairiePoolModel" "part" "[J") ∈ lw_all := lw_g (lw_at lw_m7 110 rfl) rfl
theorem q1669 : (Jvm.Cond.fieldLink "PrairiePoolModel" (110 : Nat) "PrairiePoolModel" "rest" "[J") ∈ lw_all := lw_g (lw_at lw_m7 111 rfl) rfl
theorem q1670 : (Jvm.Cond.fieldLink "PrairiePoolModel" (113 : Nat) "PrairiePoolModel" "tape" "[B") ∈ lw_all := lw_g (lw_at lw_m7 112 rfl) rfl
theorem q1671 : (Jvm.Cond.fieldLink "PrairiePoolModel" (556 : Nat) "PrairiePoolModel" "taped" "I") ∈ lw_all := lw_g (lw_at lw_m7 113 rfl) rfl
theorem q1672 : (Jvm.Cond.fieldLink "PrairiePoolModel" (410 : Nat) "PrairiePoolModel" "textEnd" "I") ∈ lw_all := lw_g (lw_at lw_m7 114 rfl) rfl
theorem q1673 : (Jvm.Cond.fieldLink "PrairiePoolModel" (117 : Nat) "PrairiePoolModel" "faultKind" "I") ∈ lw_all := lw_g (lw_at lw_m7 115 rfl) rfl
theorem q1674 : (Jvm.Cond.fieldLink "PrairiePoolModel" (121 : Nat) "PrairiePoolModel" "faultAt" "I") ∈ lw_all := lw_g (lw_at lw_m7 116 rfl) rfl
theorem q1675 : (Jvm.Cond.fieldLink "PrairiePoolModel" (453 : Nat) "PrairiePoolModel" "bad" "I") ∈ lw_all := lw_g (lw_at lw_m7 117 rfl) rfl
theorem q1676 : (Jvm.Cond.fieldLink "PrairiePoolModel" (456 : Nat) "PrairiePoolModel" "badAt" "I") ∈ lw_all := lw_g (lw_at lw_m7 118 rfl) rfl
theorem q1677 : (Jvm.Cond.fieldLink "PrairiePoolModel" (422 : Nat) "PrairiePoolModel" "sort" "I") ∈ lw_all := lw_g (lw_at lw_m7 119 rfl) rfl
theorem q1678 : (Jvm.Cond.fieldLink "PrairiePoolModel" (416 : Nat) "PrairiePoolModel" "at" "I") ∈ lw_all := lw_g (lw_at lw_m7 120 rfl) rfl
theorem q1679 : (Jvm.Cond.fieldLink "PrairiePoolModel" (413 : Nat) "PrairiePoolModel" "behind" "I") ∈ lw_all := lw_g (lw_at lw_m7 121 rfl) rfl
theorem q1680 : (Jvm.Cond.fieldLink "PrairiePoolModel" (442 : Nat) "PrairiePoolModel" "number" "I") ∈ lw_all := lw_g (lw_at lw_m7 122 rfl) rfl
theorem q1681 : (Jvm.Cond.fieldLink "PrairiePoolModel" (436 : Nat) "PrairiePoolModel" "letters" "I") ∈ lw_all := lw_g (lw_at lw_m7 123 rfl) rfl
theorem q1682 : (Jvm.Cond.fieldLink "PrairiePoolModel" (428 : Nat) "PrairiePoolModel" "word" "J") ∈ lw_all := lw_g (lw_at lw_m7 124 rfl) rfl
theorem q1683 : (Jvm.Cond.fieldLink "PrairiePoolModel" (562 : Nat) "PrairiePoolModel" "texts" "I") ∈ lw_all := lw_g (lw_at lw_m7 125 rfl) rfl
theorem q1684 : (Jvm.Cond.fieldLink "PrairiePoolModel" (497 : Nat) "PrairiePoolModel" "newDefs" "I") ∈ lw_all := lw_g (lw_at lw_m7 126 rfl) rfl
theorem q1685 : (Jvm.Cond.fieldLink "PrairiePoolModel" (500 : Nat) "PrairiePoolModel" "newMarks" "I") ∈ lw_all := lw_g (lw_at lw_m7 127 rfl) rfl
theorem q1686 : (Jvm.Cond.fieldLink "PrairiePoolModel" (124 : Nat) "PrairiePoolModel" "textFrom" "[I") ∈ lw_all := lw_g (lw_at lw_m7 128 rfl) rfl
theorem q1687 : (Jvm.Cond.fieldLink "PrairiePoolModel" (127 : Nat) "PrairiePoolModel" "textDefs" "[I") ∈ lw_all := lw_g (lw_at lw_m7 129 rfl) rfl
theorem q1688 : (Jvm.Cond.fieldLink "PrairiePoolModel" (130 : Nat) "PrairiePoolModel" "begins" "[I") ∈ lw_all := lw_g (lw_at lw_m7 130 rfl) rfl
theorem q1689 : (Jvm.Cond.fieldLink "PrairiePoolModel" (133 : Nat) "PrairiePoolModel" "marks" "[I") ∈ lw_all := lw_g (lw_at lw_m7 131 rfl) rfl
theorem q1690 : (Jvm.Cond.fieldLink "PrairiePoolModel" (136 : Nat) "PrairiePoolModel" "newBegins" "[I") ∈ lw_all := lw_g (lw_at lw_m7 132 rfl) rfl
theorem q1691 : (Jvm.Cond.fieldLink "PrairiePoolModel" (139 : Nat) "PrairiePoolModel" "nextMarks" "[I") ∈ lw_all := lw_g (lw_at lw_m7 133 rfl) rfl
theorem q1692 : (Jvm.Cond.fieldLink "PrairiePoolModel" (142 : Nat) "PrairiePoolModel" "names" "[J") ∈ lw_all := lw_g (lw_at lw_m7 134 rfl) rfl
theorem q1693 : (Jvm.Cond.fieldLink "PrairiePoolModel" (145 : Nat) "PrairiePoolModel" "newNames" "[J") ∈ lw_all := lw_g (lw_at lw_m7 135 rfl) rfl
theorem q1694 : (Jvm.Cond.fieldLink "PrairiePoolModel" (148 : Nat) "PrairiePoolModel" "heap" "[J") ∈ lw_all := lw_g (lw_at lw_m7 136 rfl) rfl
theorem q1695 : (Jvm.Cond.fieldLink "PrairiePoolModel" (151 : Nat) "PrairiePoolModel" "values" "[J") ∈ lw_all := lw_g (lw_at lw_m7 137 rfl) rfl
theorem q1696 : (Jvm.Cond.fieldLink "PrairiePoolModel" (154 : Nat) "PrairiePoolModel" "defValue" "[J") ∈ lw_all := lw_g (lw_at lw_m7 138 rfl) rfl
theorem q1697 : (Jvm.Cond.fieldLink "PrairiePoolModel" (157 : Nat) "PrairiePoolModel" "lacks" "[Z") ∈ lw_all := lw_g (lw_at lw_m7 139 rfl) rfl
theorem q1698 : (Jvm.Cond.fieldLink "PrairiePoolModel" (161 : Nat) "PrairiePoolModel" "defLacks" "[Z") ∈ lw_all := lw_g (lw_at lw_m7 140 rfl) rfl
theorem q1699 : (Jvm.Cond.fieldLink "PrairiePoolModel" (578 : Nat) "PrairiePoolModel" "high" "I") ∈ lw_all := lw_g (lw_at lw_m7 141 rfl) rfl
theorem q1700 : (Jvm.Cond.fieldLink "PrairiePoolModel" (164 : Nat) "PrairiePoolModel" "brought" "[J") ∈ lw_all := lw_g (lw_at lw_m7 142 rfl) rfl
theorem q1701 : (Jvm.Cond.fieldLink "PrairiePoolModel" (167 : Nat) "PrairiePoolModel" "firsts" "[J") ∈ lw_all := lw_g (lw_at lw_m7 143 rfl) rfl
theorem q1702 : (Jvm.Cond.fieldLink "PrairiePoolModel" (170 : Nat) "PrairiePoolModel" "lasts" "[J") ∈ lw_all := lw_g (lw_at lw_m7 144 rfl) rfl
theorem q1703 : (Jvm.Cond.fieldLink "PrairiePoolModel" (173 : Nat) "PrairiePoolModel" "owes" "[J") ∈ lw_all := lw_g (lw_at lw_m7 145 rfl) rfl
theorem q1704 : (Jvm.Cond.fieldLink "PrairiePoolModel" (612 : Nat) "PrairiePoolModel" "below1" "J") ∈ lw_all := lw_g (lw_at lw_m7 146 rfl) rfl
theorem q1705 : (Jvm.Cond.fieldLink "PrairiePoolModel" (615 : Nat) "PrairiePoolModel" "state" "J") ∈ lw_all := lw_g (lw_at lw_m7 147 rfl) rfl
theorem q1706 : (Jvm.Cond.fieldLink "PrairiePoolModel" (176 : Nat) "PrairiePoolModel" "signedFrom" "[I") ∈ lw_all := lw_g (lw_at lw_m7 148 rfl) rfl
theorem q1707 : (Jvm.Cond.fieldLink "PrairiePoolModel" (179 : Nat) "PrairiePoolModel" "signedTo" "[I") ∈ lw_all := lw_g (lw_at lw_m7 149 rfl) rfl
theorem q1708 : (Jvm.Cond.fieldLink "PrairiePoolModel" (182 : Nat) "PrairiePoolModel" "votesOf" "[I") ∈ lw_all := lw_g (lw_at lw_m7 150 rfl) rfl
theorem q1709 : (Jvm.Cond.fieldLink "PrairiePoolModel" (185 : Nat) "PrairiePoolModel" "outFarm" "[I") ∈ lw_all := lw_g (lw_at lw_m7 151 rfl) rfl
theorem q1710 : (Jvm.Cond.fieldLink "PrairiePoolModel" (188 : Nat) "PrairiePoolModel" "outWeek" "[I") ∈ lw_all := lw_g (lw_at lw_m7 152 rfl) rfl
theorem q1711 : (Jvm.Cond.fieldLink "PrairiePoolModel" (191 : Nat) "PrairiePoolModel" "outBushels" "[I") ∈ lw_all := lw_g (lw_at lw_m7 153 rfl) rfl
theorem q1712 : (Jvm.Cond.fieldLink "PrairiePoolModel" (194 : Nat) "PrairiePoolModel" "outPence" "[I") ∈ lw_all := lw_g (lw_at lw_m7 154 rfl) rfl
theorem q1713 : (Jvm.Cond.fieldLink "PrairiePoolModel" (197 : Nat) "PrairiePoolModel" "prices" "[I") ∈ lw_all := lw_g (lw_at lw_m7 155 rfl) rfl
theorem q1714 : (Jvm.Cond.fieldLink "PrairiePoolModel" (200 : Nat) "PrairiePoolModel" "isLet" "[Z") ∈ lw_all := lw_g (lw_at lw_m7 156 rfl) rfl
theorem q1715 : (Jvm.Cond.fieldLink "PrairiePoolModel" (629 : Nat) "PrairiePoolModel" "outsides" "I") ∈ lw_all := lw_g (lw_at lw_m7 157 rfl) rfl
theorem q1716 : (Jvm.Cond.fieldLink "PrairiePoolModel" (203 : Nat) "PrairiePoolModel" "step" "I") ∈ lw_all := lw_g (lw_at lw_m7 158 rfl) rfl
theorem q1717 : (Jvm.Cond.fieldLink "PrairiePoolModel" (206 : Nat) "PrairiePoolModel" "lag" "I") ∈ lw_all := lw_g (lw_at lw_m7 159 rfl) rfl
theorem q1718 : (Jvm.Cond.fieldLink "PrairiePoolModel" (209 : Nat) "PrairiePoolModel" "open" "[I") ∈ lw_all := lw_g (lw_at lw_m7 160 rfl) rfl
theorem q1719 : (Jvm.Cond.fieldLink "PrairiePoolModel" (212 : Nat) "PrairiePoolModel" "counts" "[I") ∈ lw_all := lw_g (lw_at lw_m7 161 rfl) rfl
theorem q1720 : (Jvm.Cond.fieldLink "PrairiePoolModel" (215 : Nat) "PrairiePoolModel" "forIt" "[J") ∈ lw_all := lw_g (lw_at lw_m7 162 rfl) rfl
theorem q1721 : (Jvm.Cond.fieldLink "PrairiePoolModel" (218 : Nat) "PrairiePoolModel" "againstIt" "[J") ∈ lw_all := lw_g (lw_at lw_m7 163 rfl) rfl
theorem q1722 : (Jvm.Cond.fieldLink "PrairiePoolModel" (221 : Nat) "PrairiePoolModel" "votes" "[J") ∈ lw_all := lw_g (lw_at lw_m7 164 rfl) rfl
theorem q1723 : (Jvm.Cond.fieldLink "PrairiePoolModel" (224 : Nat) "PrairiePoolModel" "spoils" "[I") ∈ lw_all := lw_g (lw_at lw_m7 165 rfl) rfl
theorem q1724 : (Jvm.Cond.fieldLink "PrairiePoolModel" (227 : Nat) "PrairiePoolModel" "holds" "[I") ∈ lw_all := lw_g (lw_at lw_m7 166 rfl) rfl
theorem q1725 : (Jvm.Cond.fieldLink "PrairiePoolModel" (230 : Nat) "PrairiePoolModel" "turned" "[I") ∈ lw_all := lw_g (lw_at lw_m7 167 rfl) rfl
theorem q1726 : (Jvm.Cond.fieldLink "PrairiePoolModel" (233 : Nat) "PrairiePoolModel" "warmest" "[I") ∈ lw_all := lw_g (lw_at lw_m7 168 rfl) rfl
theorem q1727 : (Jvm.Cond.fieldLink "PrairiePoolModel" (236 : Nat) "PrairiePoolModel" "have" "[I") ∈ lw_all := lw_g (lw_at lw_m7 169 rfl) rfl
theorem q1728 : (Jvm.Cond.fieldLink "PrairiePoolModel" (239 : Nat) "PrairiePoolModel" "want" "[I") ∈ lw_all := lw_g (lw_at lw_m7 170 rfl) rfl
theorem q1729 : (Jvm.Cond.fieldLink "PrairiePoolModel" (242 : Nat) "PrairiePoolModel" "costs" "[I") ∈ lw_all := lw_g (lw_at lw_m7 171 rfl) rfl
theorem q1730 : (Jvm.Cond.fieldLink "PrairiePoolModel" (245 : Nat) "PrairiePoolModel" "flow" "[I") ∈ lw_all := lw_g (lw_at lw_m7 172 rfl) rfl
theorem q1731 : (Jvm.Cond.fieldLink "PrairiePoolModel" (248 : Nat) "PrairiePoolModel" "far" "[I") ∈ lw_all := lw_g (lw_at lw_m7 173 rfl) rfl
theorem q1732 : (Jvm.Cond.fieldLink "PrairiePoolModel" (251 : Nat) "PrairiePoolModel" "via" "[I") ∈ lw_all := lw_g (lw_at lw_m7 174 rfl) rfl
theorem q1733 : (Jvm.Cond.fieldLink "PrairiePoolModel" (254 : Nat) "PrairiePoolModel" "carsOf" "[I") ∈ lw_all := lw_g (lw_at lw_m7 175 rfl) rfl
theorem q1734 : (Jvm.Cond.fieldLink "PrairiePoolModel" (666 : Nat) "PrairiePoolModel" "isWarm" "Z") ∈ lw_all := lw_g (lw_at lw_m7 176 rfl) rfl
theorem q1735 : (Jvm.Cond.fieldLink "PrairiePoolModel" (568 : Nat) "PrairiePoolModel" "isNone" "Z") ∈ lw_all := lw_g (lw_at lw_m7 177 rfl) rfl
theorem q1736 : (Jvm.Cond.lays "PrairiePoolModel" "PrairiePoolModel" "status" "I") ∈ lw_all := lw_g (lw_at lw_m7 178 rfl) rfl
theorem q1737 : (Jvm.Cond.soleField "PrairiePoolModel" "status") ∈ lw_all := lw_g (lw_at lw_m7 179 rfl) rfl
theorem q1738 : (Jvm.Cond.lays "PrairiePoolModel" "PrairiePoolModel" "thrown" "I") ∈ lw_all := lw_g (lw_at lw_m7 180 rfl) rfl
theorem q1739 : (Jvm.Cond.soleField "PrairiePoolModel" "thrown") ∈ lw_all := lw_g (lw_at lw_m7 181 rfl) rfl
theorem q1740 : (Jvm.Cond.laysFinal "PrairiePoolModel" "PrairiePoolModel" "traySort" "[I") ∈ lw_all := lw_g (lw_at lw_m7 182 rfl) rfl
theorem q1741 : (Jvm.Cond.soleField "PrairiePoolModel" "traySort") ∈ lw_all := lw_g (lw_at lw_m7 183 rfl) rfl
theorem q1742 : (Jvm.Cond.laysFinal "PrairiePoolModel" "PrairiePoolModel" "trayMany" "[I") ∈ lw_all := lw_g (lw_at lw_m7 184 rfl) rfl
theorem q1743 : (Jvm.Cond.soleField "PrairiePoolModel" "trayMany") ∈ lw_all := lw_g (lw_at lw_m7 185 rfl) rfl
theorem q1744 : (Jvm.Cond.laysFinal "PrairiePoolModel" "PrairiePoolModel" "numbers" "[J") ∈ lw_all := lw_g (lw_at lw_m7 186 rfl) rfl
theorem q1745 : (Jvm.Cond.soleField "PrairiePoolModel" "numbers") ∈ lw_all := lw_g (lw_at lw_m7 187 rfl) rfl
theorem q1746 : (Jvm.Cond.lays "PrairiePoolModel" "PrairiePoolModel" "farms" "I") ∈ lw_all := lw_g (lw_at lw_m7 188 rfl) rfl
theorem q1747 : (Jvm.Cond.soleField "PrairiePoolModel" "farms") ∈ lw_all := lw_g (lw_at lw_m7 189 rfl) rfl
theorem q1748 : (Jvm.Cond.lays "PrairiePoolModel" "PrairiePoolModel" "elevators" "I") ∈ lw_all := lw_g (lw_at lw_m7 190 rfl) rfl
theorem q1749 : (Jvm.Cond.soleField "PrairiePoolModel" "elevators") ∈ lw_all := lw_g (lw_at lw_m7 191 rfl) rfl
theorem q1750 : (Jvm.Cond.lays "PrairiePoolModel" "PrairiePoolModel" "events" "I") ∈ lw_all := lw_g (lw_at lw_m7 192 rfl) rfl
theorem q1751 : (Jvm.Cond.soleField "PrairiePoolModel" "events") ∈ lw_all := lw_g (lw_at lw_m7 193 rfl) rfl
theorem q1752 : (Jvm.Cond.lays "PrairiePoolModel" "PrairiePoolModel" "gradings" "I") ∈ lw_all := lw_g (lw_at lw_m7 194 rfl) rfl
theorem q1753 : (Jvm.Cond.soleField "PrairiePoolModel" "gradings") ∈ lw_all := lw_g (lw_at lw_m7 195 rfl) rfl
theorem q1754 : (Jvm.Cond.lays "PrairiePoolModel" "PrairiePoolModel" "latest" "I") ∈ lw_all := lw_g (lw_at lw_m7 196 rfl) rfl
theorem q1755 : (Jvm.Cond.soleField "PrairiePoolModel" "latest") ∈ lw_all := lw_g (lw_at lw_m7 197 rfl) rfl
theorem q1756 : (Jvm.Cond.lays "PrairiePoolModel" "PrairiePoolModel" "lastWeek" "I") ∈ lw_all := lw_g (lw_at lw_m7 198 rfl) rfl
theorem q1757 : (Jvm.Cond.soleField "PrairiePoolModel" "lastWeek") ∈ lw_all := lw_g (lw_at lw_m7 199 rfl) rfl
theorem q1758 : (Jvm.Cond.laysFinal "PrairiePoolModel" "PrairiePoolModel" "farmDistrict" "[I") ∈ lw_all := lw_g (lw_at lw_m7 200 rfl) rfl
theorem q1759 : (Jvm.Cond.soleField "PrairiePoolModel" "farmDistrict") ∈ lw_all := lw_g (lw_at lw_m7 201 rfl) rfl
theorem q1760 : (Jvm.Cond.laysFinal "PrairiePoolModel" "PrairiePoolModel" "acres" "[I") ∈ lw_all := lw_g (lw_at lw_m7 202 rfl) rfl
theorem q1761 : (Jvm.Cond.soleField "PrairiePoolModel" "acres") ∈ lw_all := lw_g (lw_at lw_m7 203 rfl) rfl
theorem q1762 : (Jvm.Cond.laysFinal "PrairiePoolModel" "PrairiePoolModel" "debt" "[I") ∈ lw_all := lw_g (lw_at lw_m7 204 rfl) rfl
theorem q1763 : (Jvm.Cond.soleField "PrairiePoolModel" "debt") ∈ lw_all := lw_g (lw_at lw_m7 205 rfl) rfl
theorem q1764 : (Jvm.Cond.laysFinal "PrairiePoolModel" "PrairiePoolModel" "elevatorDistrict" "[I") ∈ lw_all := lw_g (lw_at lw_m7 206 rfl) rfl
theorem q1765 : (Jvm.Cond.soleField "PrairiePoolModel" "elevatorDistrict") ∈ lw_all := lw_g (lw_at lw_m7 207 rfl) rfl
theorem q1766 : (Jvm.Cond.laysFinal "PrairiePoolModel" "PrairiePoolModel" "room" "[I") ∈ lw_all := lw_g (lw_at lw_m7 208 rfl) rfl
theorem q1767 : (Jvm.Cond.soleField "PrairiePoolModel" "room") ∈ lw_all := lw_g (lw_at lw_m7 209 rfl) rfl
theorem q1768 : (Jvm.Cond.laysFinal "PrairiePoolModel" "PrairiePoolModel" "sortOf" "[I") ∈ lw_all := lw_g (lw_at lw_m7 210 rfl) rfl
theorem q1769 : (Jvm.Cond.soleField "PrairiePoolModel" "sortOf") ∈ lw_all := lw_g (lw_at lw_m7 211 rfl) rfl
theorem q1770 : (Jvm.Cond.laysFinal "PrairiePoolModel" "PrairiePoolModel" "farmOf" "[I") ∈ lw_all := lw_g (lw_at lw_m7 212 rfl) rfl
theorem q1771 : (Jvm.Cond.soleField "PrairiePoolModel" "farmOf") ∈ lw_all := lw_g (lw_at lw_m7 213 rfl) rfl
theorem q1772 : (Jvm.Cond.laysFinal "PrairiePoolModel" "PrairiePoolModel" "at1" "[I") ∈ lw_all := lw_g (lw_at lw_m7 214 rfl) rfl
theorem q1773 : (Jvm.Cond.soleField "PrairiePoolModel" "at1") ∈ lw_all := lw_g (lw_at lw_m7 215 rfl) rfl
theorem q1774 : (Jvm.Cond.laysFinal "PrairiePoolModel" "PrairiePoolModel" "to1" "[I") ∈ lw_all := lw_g (lw_at lw_m7 216 rfl) rfl
theorem q1775 : (Jvm.Cond.soleField "PrairiePoolModel" "to1") ∈ lw_all := lw_g (lw_at lw_m7 217 rfl) rfl
theorem q1776 : (Jvm.Cond.laysFinal "PrairiePoolModel" "PrairiePoolModel" "gradeTold" "[I") ∈ lw_all := lw_g (lw_at lw_m7 218 rfl) rfl
theorem q1777 : (Jvm.Cond.soleField "PrairiePoolModel" "gradeTold") ∈ lw_all := lw_g (lw_at lw_m7 219 rfl) rfl
theorem q1778 : (Jvm.Cond.laysFinal "PrairiePoolModel" "PrairiePoolModel" "yearOf" "[I") ∈ lw_all := lw_g (lw_at lw_m7 220 rfl) rfl
theorem q1779 : (Jvm.Cond.soleField "PrairiePoolModel" "yearOf") ∈ lw_all := lw_g (lw_at lw_m7 221 rfl) rfl
theorem q1780 : (Jvm.Cond.laysFinal "PrairiePoolModel" "PrairiePoolModel" "bushels" "[I") ∈ lw_all := lw_g (lw_at lw_m7 222 rfl) rfl
theorem q1781 : (Jvm.Cond.soleField "PrairiePoolModel" "bushels") ∈ lw_all := lw_g (lw_at lw_m7 223 rfl) rfl
theorem q1782 : (Jvm.Cond.laysFinal "PrairiePoolModel" "PrairiePoolModel" "extra" "[I") ∈ lw_all := lw_g (lw_at lw_m7 224 rfl) rfl
theorem q1783 : (Jvm.Cond.soleField "PrairiePoolModel" "extra") ∈ lw_all := lw_g (lw_at lw_m7 225 rfl) rfl
theorem q1784 : (Jvm.Cond.laysFinal "PrairiePoolModel" "PrairiePoolModel" "weekOf" "[I") ∈ lw_all := lw_g (lw_at lw_m7 226 rfl) rfl
theorem q1785 : (Jvm.Cond.soleField "PrairiePoolModel" "weekOf") ∈ lw_all := lw_g (lw_at lw_m7 227 rfl) rfl
theorem q1786 : (Jvm.Cond.laysFinal "PrairiePoolModel" "PrairiePoolModel" "knownOf" "[I") ∈ lw_all := lw_g (lw_at lw_m7 228 rfl) rfl
theorem q1787 : (Jvm.Cond.soleField "PrairiePoolModel" "knownOf") ∈ lw_all := lw_g (lw_at lw_m7 229 rfl) rfl
theorem q1788 : (Jvm.Cond.laysFinal "PrairiePoolModel" "PrairiePoolModel" "gradedLoad" "[I") ∈ lw_all := lw_g (lw_at lw_m7 230 rfl) rfl
theorem q1789 : (Jvm.Cond.soleField "PrairiePoolModel" "gradedLoad") ∈ lw_all := lw_g (lw_at lw_m7 231 rfl) rfl
theorem q1790 : (Jvm.Cond.laysFinal "PrairiePoolModel" "PrairiePoolModel" "gradedBy" "[I") ∈ lw_all := lw_g (lw_at lw_m7 232 rfl) rfl
theorem q1791 : (Jvm.Cond.soleField "PrairiePoolModel" "gradedBy") ∈ lw_all := lw_g (lw_at lw_m7 233 rfl) rfl
theorem q1792 : (Jvm.Cond.laysFinal "PrairiePoolModel" "PrairiePoolModel" "gradedAs" "[I") ∈ lw_all := lw_g (lw_at lw_m7 234 rfl) rfl
theorem q1793 : (Jvm.Cond.soleField "PrairiePoolModel" "gradedAs") ∈ lw_all := lw_g (lw_at lw_m7 235 rfl) rfl
theorem q1794 : (Jvm.Cond.laysFinal "PrairiePoolModel" "PrairiePoolModel" "gradedKnown" "[I") ∈ lw_all := lw_g (lw_at lw_m7 236 rfl) rfl
theorem q1795 : (Jvm.Cond.soleField "PrairiePoolModel" "gradedKnown") ∈ lw_all := lw_g (lw_at lw_m7 237 rfl) rfl
theorem q1796 : (Jvm.Cond.laysFinal "PrairiePoolModel" "PrairiePoolModel" "bins" "[I") ∈ lw_all := lw_g (lw_at lw_m7 238 rfl) rfl
theorem q1797 : (Jvm.Cond.soleField "PrairiePoolModel" "bins") ∈ lw_all := lw_g (lw_at lw_m7 239 rfl) rfl
theorem q1798 : (Jvm.Cond.laysFinal "PrairiePoolModel" "PrairiePoolModel" "ports" "[I") ∈ lw_all := lw_g (lw_at lw_m8 0 rfl) rfl
theorem q1799 : (Jvm.Cond.soleField "PrairiePoolModel" "ports") ∈ lw_all := lw_g (lw_at lw_m8 1 rfl) rfl
theorem q1800 : (Jvm.Cond.laysFinal "PrairiePoolModel" "PrairiePoolModel" "turnedOf" "[I") ∈ lw_all := lw_g (lw_at lw_m8 2 rfl) rfl
theorem q1801 : (Jvm.Cond.soleField "PrairiePoolModel" "turnedOf") ∈ lw_all := lw_g (lw_at lw_m8 3 rfl) rfl
theorem q1802 : (Jvm.Cond.laysFinal "PrairiePoolModel" "PrairiePoolModel" "takenOf" "[I") ∈ lw_all := lw_g (lw_at lw_m8 4 rfl) rfl
theorem q1803 : (Jvm.Cond.soleField "PrairiePoolModel" "takenOf") ∈ lw_all := lw_g (lw_at lw_m8 5 rfl) rfl
theorem q1804 : (Jvm.Cond.laysFinal "PrairiePoolModel" "PrairiePoolModel" "gradeOf1" "[I") ∈ lw_all := lw_g (lw_at lw_m8 6 rfl) rfl
theorem q1805 : (Jvm.Cond.soleField "PrairiePoolModel" "gradeOf1") ∈ lw_all := lw_g (lw_at lw_m8 7 rfl) rfl
theorem q1806 : (Jvm.Cond.laysFinal "PrairiePoolModel" "PrairiePoolModel" "docked" "[I") ∈ lw_all := lw_g (lw_at lw_m8 8 rfl) rfl
theorem q1807 : (Jvm.Cond.soleField "PrairiePoolModel" "docked") ∈ lw_all := lw_g (lw_at lw_m8 9 rfl) rfl
theorem q1808 : (Jvm.Cond.laysFinal "PrairiePoolModel" "PrairiePoolModel" "turnedAway" "[I") ∈ lw_all := lw_g (lw_at lw_m8 10 rfl) rfl
theorem q1809 : (Jvm.Cond.soleField "PrairiePoolModel" "turnedAway") ∈ lw_all := lw_g (lw_at lw_m8 11 rfl) rfl
theorem q1810 : (Jvm.Cond.laysFinal "PrairiePoolModel" "PrairiePoolModel" "sold" "[I") ∈ lw_all := lw_g (lw_at lw_m8 12 rfl) rfl
theorem q1811 : (Jvm.Cond.soleField "PrairiePoolModel" "sold") ∈ lw_all := lw_g (lw_at lw_m8 13 rfl) rfl
theorem q1812 : (Jvm.Cond.laysFinal "PrairiePoolModel" "PrairiePoolModel" "spoilt" "[I") ∈ lw_all := lw_g (lw_at lw_m8 14 rfl) rfl
theorem q1813 : (Jvm.Cond.soleField "PrairiePoolModel" "spoilt") ∈ lw_all := lw_g (lw_at lw_m8 15 rfl) rfl
theorem q1814 : (Jvm.Cond.lays "PrairiePoolModel" "PrairiePoolModel" "lacks1" "I") ∈ lw_all := lw_g (lw_at lw_m8 16 rfl) rfl
theorem q1815 : (Jvm.Cond.soleField "PrairiePoolModel" "lacks1") ∈ lw_all := lw_g (lw_at lw_m8 17 rfl) rfl
theorem q1816 : (Jvm.Cond.laysFinal "PrairiePoolModel" "PrairiePoolModel" "weight" "[J") ∈ lw_all := lw_g (lw_at lw_m8 18 rfl) rfl
theorem q1817 : (Jvm.Cond.soleField "PrairiePoolModel" "weight") ∈ lw_all := lw_g (lw_at lw_m8 19 rfl) rfl
theorem q1818 : (Jvm.Cond.laysFinal "PrairiePoolModel" "PrairiePoolModel" "part" "[J") ∈ lw_all := lw_g (lw_at lw_m8 20 rfl) rfl
theorem q1819 : (Jvm.Cond.soleField "PrairiePoolModel" "part") ∈ lw_all := lw_g (lw_at lw_m8 21 rfl) rfl
theorem q1820 : (Jvm.Cond.laysFinal "PrairiePoolModel" "PrairiePoolModel" "rest" "[J") ∈ lw_all := lw_g (lw_at lw_m8 22 rfl) rfl
theorem q1821 : (Jvm.Cond.soleField "PrairiePoolModel" "rest") ∈ lw_all := lw_g (lw_at lw_m8 23 rfl) rfl
theorem q1822 : (Jvm.Cond.laysFinal "PrairiePoolModel" "PrairiePoolModel" "tape" "[B") ∈ lw_all := lw_g (lw_at lw_m8 24 rfl) rfl
theorem q1823 : (Jvm.Cond.soleField "PrairiePoolModel" "tape") ∈ lw_all := lw_g (lw_at lw_m8 25 rfl) rfl
theorem q1824 : (Jvm.Cond.lays "PrairiePoolModel" "PrairiePoolModel" "taped" "I") ∈ lw_all := lw_g (lw_at lw_m8 26 rfl) rfl
theorem q1825 : (Jvm.Cond.soleField "PrairiePoolModel" "taped") ∈ lw_all := lw_g (lw_at lw_m8 27 rfl) rfl
theorem q1826 : (Jvm.Cond.lays "PrairiePoolModel" "PrairiePoolModel" "textEnd" "I") ∈ lw_all := lw_g (lw_at lw_m8 28 rfl) rfl
theorem q1827 : (Jvm.Cond.soleField "PrairiePoolModel" "textEnd") ∈ lw_all := lw_g (lw_at lw_m8 29 rfl) rfl
theorem q1828 : (Jvm.Cond.lays "PrairiePoolModel" "PrairiePoolModel" "faultKind" "I") ∈ lw_all := lw_g (lw_at lw_m8 30 rfl) rfl
theorem q1829 : (Jvm.Cond.soleField "PrairiePoolModel" "faultKind") ∈ lw_all := lw_g (lw_at lw_m8 31 rfl) rfl
theorem q1830 : (Jvm.Cond.lays "PrairiePoolModel" "PrairiePoolModel" "faultAt" "I") ∈ lw_all := lw_g (lw_at lw_m8 32 rfl) rfl
theorem q1831 : (Jvm.Cond.soleField "PrairiePoolModel" "faultAt") ∈ lw_all := lw_g (lw_at lw_m8 33 rfl) rfl
theorem q1832 : (Jvm.Cond.lays "PrairiePoolModel" "PrairiePoolModel" "bad" "I") ∈ lw_all := lw_g (lw_at lw_m8 34 rfl) rfl
theorem q1833 : (Jvm.Cond.soleField "PrairiePoolModel" "bad") ∈ lw_all := lw_g (lw_at lw_m8 35 rfl) rfl
theorem q1834 : (Jvm.Cond.lays "PrairiePoolModel" "PrairiePoolModel" "badAt" "I") ∈ lw_all := lw_g (lw_at lw_m8 36 rfl) rfl
theorem q1835 : (Jvm.Cond.soleField "PrairiePoolModel" "badAt") ∈ lw_all := lw_g (lw_at lw_m8 37 rfl) rfl
theorem q1836 : (Jvm.Cond.lays "PrairiePoolModel" "PrairiePoolModel" "sort" "I") ∈ lw_all := lw_g (lw_at lw_m8 38 rfl) rfl
theorem q1837 : (Jvm.Cond.soleField "PrairiePoolModel" "sort") ∈ lw_all := lw_g (lw_at lw_m8 39 rfl) rfl
theorem q1838 : (Jvm.Cond.lays "PrairiePoolModel" "PrairiePoolModel" "at" "I") ∈ lw_all := lw_g (lw_at lw_m8 40 rfl) rfl
theorem q1839 : (Jvm.Cond.soleField "PrairiePoolModel" "at") ∈ lw_all := lw_g (lw_at lw_m8 41 rfl) rfl
theorem q1840 : (Jvm.Cond.lays "PrairiePoolModel" "PrairiePoolModel" "behind" "I") ∈ lw_all := lw_g (lw_at lw_m8 42 rfl) rfl
theorem q1841 : (Jvm.Cond.soleField "PrairiePoolModel" "behind") ∈ lw_all := lw_g (lw_at lw_m8 43 rfl) rfl
theorem q1842 : (Jvm.Cond.lays "PrairiePoolModel" "PrairiePoolModel" "number" "I") ∈ lw_all := lw_g (lw_at lw_m8 44 rfl) rfl
theorem q1843 : (Jvm.Cond.soleField "PrairiePoolModel" "number") ∈ lw_all := lw_g (lw_at lw_m8 45 rfl) rfl
theorem q1844 : (Jvm.Cond.lays "PrairiePoolModel" "PrairiePoolModel" "letters" "I") ∈ lw_all := lw_g (lw_at lw_m8 46 rfl) rfl
theorem q1845 : (Jvm.Cond.soleField "PrairiePoolModel" "letters") ∈ lw_all := lw_g (lw_at lw_m8 47 rfl) rfl
theorem q1846 : (Jvm.Cond.lays "PrairiePoolModel" "PrairiePoolModel" "word" "J") ∈ lw_all := lw_g (lw_at lw_m8 48 rfl) rfl
theorem q1847 : (Jvm.Cond.soleField "PrairiePoolModel" "word") ∈ lw_all := lw_g (lw_at lw_m8 49 rfl) rfl
theorem q1848 : (Jvm.Cond.lays "PrairiePoolModel" "PrairiePoolModel" "texts" "I") ∈ lw_all := lw_g (lw_at lw_m8 50 rfl) rfl
theorem q1849 : (Jvm.Cond.soleField "PrairiePoolModel" "texts") ∈ lw_all := lw_g (lw_at lw_m8 51 rfl) rfl
theorem q1850 : (Jvm.Cond.lays "PrairiePoolModel" "PrairiePoolModel" "newDefs" "I") ∈ lw_all := lw_g (lw_at lw_m8 52 rfl) rfl
theorem q1851 : (Jvm.Cond.soleField "PrairiePoolModel" "newDefs") ∈ lw_all := lw_g (lw_at lw_m8 53 rfl) rfl
theorem q1852 : (Jvm.Cond.lays "PrairiePoolModel" "PrairiePoolModel" "newMarks" "I") ∈ lw_all := lw_g (lw_at lw_m8 54 rfl) rfl
theorem q1853 : (Jvm.Cond.soleField "PrairiePoolModel" "newMarks") ∈ lw_all := lw_g (lw_at lw_m8 55 rfl) rfl
theorem q1854 : (Jvm.Cond.laysFinal "PrairiePoolModel" "PrairiePoolModel" "textFrom" "[I") ∈ lw_all := lw_g (lw_at lw_m8 56 rfl) rfl
theorem q1855 : (Jvm.Cond.soleField "PrairiePoolModel" "textFrom") ∈ lw_all := lw_g (lw_at lw_m8 57 rfl) rfl
theorem q1856 : (Jvm.Cond.laysFinal "PrairiePoolModel" "PrairiePoolModel" "textDefs" "[I") ∈ lw_all := lw_g (lw_at lw_m8 58 rfl) rfl
theorem q1857 : (Jvm.Cond.soleField "PrairiePoolModel" "textDefs") ∈ lw_all := lw_g (lw_at lw_m8 59 rfl) rfl
theorem q1858 : (Jvm.Cond.laysFinal "PrairiePoolModel" "PrairiePoolModel" "begins" "[I") ∈ lw_all := lw_g (lw_at lw_m8 60 rfl) rfl
theorem q1859 : (Jvm.Cond.soleField "PrairiePoolModel" "begins") ∈ lw_all := lw_g (lw_at lw_m8 61 rfl) rfl
theorem q1860 : (Jvm.Cond.laysFinal "PrairiePoolModel" "PrairiePoolModel" "marks" "[I") ∈ lw_all := lw_g (lw_at lw_m8 62 rfl) rfl
theorem q1861 : (Jvm.Cond.soleField "PrairiePoolModel" "marks") ∈ lw_all := lw_g (lw_at lw_m8 63 rfl) rfl
theorem q1862 : (Jvm.Cond.laysFinal "PrairiePoolModel" "PrairiePoolModel" "newBegins" "[I") ∈ lw_all := lw_g (lw_at lw_m8 64 rfl) rfl
theorem q1863 : (Jvm.Cond.soleField "PrairiePoolModel" "newBegins") ∈ lw_all := lw_g (lw_at lw_m8 65 rfl) rfl
theorem q1864 : (Jvm.Cond.laysFinal "PrairiePoolModel" "PrairiePoolModel" "nextMarks" "[I") ∈ lw_all := lw_g (lw_at lw_m8 66 rfl) rfl
theorem q1865 : (Jvm.Cond.soleField "PrairiePoolModel" "nextMarks") ∈ lw_all := lw_g (lw_at lw_m8 67 rfl) rfl
theorem q1866 : (Jvm.Cond.laysFinal "PrairiePoolModel" "PrairiePoolModel" "names" "[J") ∈ lw_all := lw_g (lw_at lw_m8 68 rfl) rfl
theorem q1867 : (Jvm.Cond.soleField "PrairiePoolModel" "names") ∈ lw_all := lw_g (lw_at lw_m8 69 rfl) rfl
theorem q1868 : (Jvm.Cond.laysFinal "PrairiePoolModel" "PrairiePoolModel" "newNames" "[J") ∈ lw_all := lw_g (lw_at lw_m8 70 rfl) rfl
theorem q1869 : (Jvm.Cond.soleField "PrairiePoolModel" "newNames") ∈ lw_all := lw_g (lw_at lw_m8 71 rfl) rfl
theorem q1870 : (Jvm.Cond.laysFinal "PrairiePoolModel" "PrairiePoolModel" "heap" "[J") ∈ lw_all := lw_g (lw_at lw_m8 72 rfl) rfl
theorem q1871 : (Jvm.Cond.soleField "PrairiePoolModel" "heap") ∈ lw_all := lw_g (lw_at lw_m8 73 rfl) rfl
theorem q1872 : (Jvm.Cond.laysFinal "PrairiePoolModel" "PrairiePoolModel" "values" "[J") ∈ lw_all := lw_g (lw_at lw_m8 74 rfl) rfl
theorem q1873 : (Jvm.Cond.soleField "PrairiePoolModel" "values") ∈ lw_all := lw_g (lw_at lw_m8 75 rfl) rfl
theorem q1874 : (Jvm.Cond.laysFinal "PrairiePoolModel" "PrairiePoolModel" "defValue" "[J") ∈ lw_all := lw_g (lw_at lw_m8 76 rfl) rfl
theorem q1875 : (Jvm.Cond.soleField "PrairiePoolModel" "defValue") ∈ lw_all := lw_g (lw_at lw_m8 77 rfl) rfl
theorem q1876 : (Jvm.Cond.laysFinal "PrairiePoolModel" "PrairiePoolModel" "lacks" "[Z") ∈ lw_all := lw_g (lw_at lw_m8 78 rfl) rfl
theorem q1877 : (Jvm.Cond.soleField "PrairiePoolModel" "lacks") ∈ lw_all := lw_g (lw_at lw_m8 79 rfl) rfl
theorem q1878 : (Jvm.Cond.laysFinal "PrairiePoolModel" "PrairiePoolModel" "defLacks" "[Z") ∈ lw_all := lw_g (lw_at lw_m8 80 rfl) rfl
theorem q1879 : (Jvm.Cond.soleField "PrairiePoolModel" "defLacks") ∈ lw_all := lw_g (lw_at lw_m8 81 rfl) rfl
theorem q1880 : (Jvm.Cond.lays "PrairiePoolModel" "PrairiePoolModel" "high" "I") ∈ lw_all := lw_g (lw_at lw_m8 82 rfl) rfl
theorem q1881 : (Jvm.Cond.soleField "PrairiePoolModel" "high") ∈ lw_all := lw_g (lw_at lw_m8 83 rfl) rfl
theorem q1882 : (Jvm.Cond.laysFinal "PrairiePoolModel" "PrairiePoolModel" "brought" "[J") ∈ lw_all := lw_g (lw_at lw_m8 84 rfl) rfl
theorem q1883 : (Jvm.Cond.soleField "PrairiePoolModel" "brought") ∈ lw_all := lw_g (lw_at lw_m8 85 rfl) rfl
theorem q1884 : (Jvm.Cond.laysFinal "PrairiePoolModel" "PrairiePoolModel" "firsts" "[J") ∈ lw_all := lw_g (lw_at lw_m8 86 rfl) rfl
theorem q1885 : (Jvm.Cond.soleField "PrairiePoolModel" "firsts") ∈ lw_all := lw_g (lw_at lw_m8 87 rfl) rfl
theorem q1886 : (Jvm.Cond.laysFinal "PrairiePoolModel" "PrairiePoolModel" "lasts" "[J") ∈ lw_all := lw_g (lw_at lw_m8 88 rfl) rfl
theorem q1887 : (Jvm.Cond.soleField "PrairiePoolModel" "lasts") ∈ lw_all := lw_g (lw_at lw_m8 89 rfl) rfl
theorem q1888 : (Jvm.Cond.laysFinal "PrairiePoolModel" "PrairiePoolModel" "owes" "[J") ∈ lw_all := lw_g (lw_at lw_m8 90 rfl) rfl
theorem q1889 : (Jvm.Cond.soleField "PrairiePoolModel" "owes") ∈ lw_all := lw_g (lw_at lw_m8 91 rfl) rfl
theorem q1890 : (Jvm.Cond.lays "PrairiePoolModel" "PrairiePoolModel" "below1" "J") ∈ lw_all := lw_g (lw_at lw_m8 92 rfl) rfl
theorem q1891 : (Jvm.Cond.soleField "PrairiePoolModel" "below1") ∈ lw_all := lw_g (lw_at lw_m8 93 rfl) rfl
theorem q1892 : (Jvm.Cond.lays "PrairiePoolModel" "PrairiePoolModel" "state" "J") ∈ lw_all := lw_g (lw_at lw_m8 94 rfl) rfl
theorem q1893 : (Jvm.Cond.soleField "PrairiePoolModel" "state") ∈ lw_all := lw_g (lw_at lw_m8 95 rfl) rfl
theorem q1894 : (Jvm.Cond.laysFinal "PrairiePoolModel" "PrairiePoolModel" "signedFrom" "[I") ∈ lw_all := lw_g (lw_at lw_m8 96 rfl) rfl
theorem q1895 : (Jvm.Cond.soleField "PrairiePoolModel" "signedFrom") ∈ lw_all := lw_g (lw_at lw_m8 97 rfl) rfl
theorem q1896 : (Jvm.Cond.laysFinal "PrairiePoolModel" "PrairiePoolModel" "signedTo" "[I") ∈ lw_all := lw_g (lw_at lw_m8 98 rfl) rfl
theorem q1897 : (Jvm.Cond.soleField "PrairiePoolModel" "signedTo") ∈ lw_all := lw_g (lw_at lw_m8 99 rfl) rfl
theorem q1898 : (Jvm.Cond.laysFinal "PrairiePoolModel" "PrairiePoolModel" "votesOf" "[I") ∈ lw_all := lw_g (lw_at lw_m8 100 rfl) rfl
theorem q1899 : (Jvm.Cond.soleField "PrairiePoolModel" "votesOf") ∈ lw_all := lw_g (lw_at lw_m8 101 rfl) rfl
theorem q1900 : (Jvm.Cond.laysFinal "PrairiePoolModel" "PrairiePoolModel" "outFarm" "[I") ∈ lw_all := lw_g (lw_at lw_m8 102 rfl) rfl
theorem q1901 : (Jvm.Cond.soleField "PrairiePoolModel" "outFarm") ∈ lw_all := lw_g (lw_at lw_m8 103 rfl) rfl
theorem q1902 : (Jvm.Cond.laysFinal "PrairiePoolModel" "PrairiePoolModel" "outWeek" "[I") ∈ lw_all := lw_g (lw_at lw_m8 104 rfl) rfl
theorem q1903 : (Jvm.Cond.soleField "PrairiePoolModel" "outWeek") ∈ lw_all := lw_g (lw_at lw_m8 105 rfl) rfl
theorem q1904 : (Jvm.Cond.laysFinal "PrairiePoolModel" "PrairiePoolModel" "outBushels" "[I") ∈ lw_all := lw_g (lw_at lw_m8 106 rfl) rfl
theorem q1905 : (Jvm.Cond.soleField "PrairiePoolModel" "outBushels") ∈ lw_all := lw_g (lw_at lw_m8 107 rfl) rfl
theorem q1906 : (Jvm.Cond.laysFinal "PrairiePoolModel" "PrairiePoolModel" "outPence" "[I") ∈ lw_all := lw_g (lw_at lw_m8 108 rfl) rfl
theorem q1907 : (Jvm.Cond.soleField "PrairiePoolModel" "outPence") ∈ lw_all := lw_g (lw_at lw_m8 109 rfl) rfl
theorem q1908 : (Jvm.Cond.laysFinal "PrairiePoolModel" "PrairiePoolModel" "prices" "[I") ∈ lw_all := lw_g (lw_at lw_m8 110 rfl) rfl
theorem q1909 : (Jvm.Cond.soleField "PrairiePoolModel" "prices") ∈ lw_all := lw_g (lw_at lw_m8 111 rfl) rfl
theorem q1910 : (Jvm.Cond.laysFinal "PrairiePoolModel" "PrairiePoolModel" "isLet" "[Z") ∈ lw_all := lw_g (lw_at lw_m8 112 rfl) rfl
theorem q1911 : (Jvm.Cond.soleField "PrairiePoolModel" "isLet") ∈ lw_all := lw_g (lw_at lw_m8 113 rfl) rfl
theorem q1912 : (Jvm.Cond.lays "PrairiePoolModel" "PrairiePoolModel" "outsides" "I") ∈ lw_all := lw_g (lw_at lw_m8 114 rfl) rfl
theorem q1913 : (Jvm.Cond.soleField "PrairiePoolModel" "outsides") ∈ lw_all := lw_g (lw_at lw_m8 115 rfl) rfl
theorem q1914 : (Jvm.Cond.lays "PrairiePoolModel" "PrairiePoolModel" "step" "I") ∈ lw_all := lw_g (lw_at lw_m8 116 rfl) rfl
theorem q1915 : (Jvm.Cond.soleField "PrairiePoolModel" "step") ∈ lw_all := lw_g (lw_at lw_m8 117 rfl) rfl
theorem q1916 : (Jvm.Cond.lays "PrairiePoolModel" "PrairiePoolModel" "lag" "I") ∈ lw_all := lw_g (lw_at lw_m8 118 rfl) rfl
theorem q1917 : (Jvm.Cond.soleField "PrairiePoolModel" "lag") ∈ lw_all := lw_g (lw_at lw_m8 119 rfl) rfl
theorem q1918 : (Jvm.Cond.laysFinal "PrairiePoolModel" "PrairiePoolModel" "open" "[I") ∈ lw_all := lw_g (lw_at lw_m8 120 rfl) rfl
theorem q1919 : (Jvm.Cond.soleField "PrairiePoolModel" "open") ∈ lw_all := lw_g (lw_at lw_m8 121 rfl) rfl
theorem q1920 : (Jvm.Cond.laysFinal "PrairiePoolModel" "PrairiePoolModel" "counts" "[I") ∈ lw_all := lw_g (lw_at lw_m8 122 rfl) rfl
theorem q1921 : (Jvm.Cond.soleField "PrairiePoolModel" "counts") ∈ lw_all := lw_g (lw_at lw_m8 123 rfl) rfl
theorem q1922 : (Jvm.Cond.laysFinal "PrairiePoolModel" "PrairiePoolModel" "forIt" "[J") ∈ lw_all := lw_g (lw_at lw_m8 124 rfl) rfl
theorem q1923 : (Jvm.Cond.soleField "PrairiePoolModel" "forIt") ∈ lw_all := lw_g (lw_at lw_m8 125 rfl) rfl
theorem q1924 : (Jvm.Cond.laysFinal "PrairiePoolModel" "PrairiePoolModel" "againstIt" "[J") ∈ lw_all := lw_g (lw_at lw_m8 126 rfl) rfl
theorem q1925 : (Jvm.Cond.soleField "PrairiePoolModel" "againstIt") ∈ lw_all := lw_g (lw_at lw_m8 127 rfl) rfl
theorem q1926 : (Jvm.Cond.laysFinal "PrairiePoolModel" "PrairiePoolModel" "votes" "[J") ∈ lw_all := lw_g (lw_at lw_m8 128 rfl) rfl
theorem q1927 : (Jvm.Cond.soleField "PrairiePoolModel" "votes") ∈ lw_all := lw_g (lw_at lw_m8 129 rfl) rfl
theorem q1928 : (Jvm.Cond.laysFinal "PrairiePoolModel" "PrairiePoolModel" "spoils" "[I") ∈ lw_all := lw_g (lw_at lw_m8 130 rfl) rfl
theorem q1929 : (Jvm.Cond.soleField "PrairiePoolModel" "spoils") ∈ lw_all := lw_g (lw_at lw_m8 131 rfl) rfl
theorem q1930 : (Jvm.Cond.laysFinal "PrairiePoolModel" "PrairiePoolModel" "holds" "[I") ∈ lw_all := lw_g (lw_at lw_m8 132 rfl) rfl
theorem q1931 : (Jvm.Cond.soleField "PrairiePoolModel" "holds") ∈ lw_all := lw_g (lw_at lw_m8 133 rfl) rfl
theorem q1932 : (Jvm.Cond.laysFinal "PrairiePoolModel" "PrairiePoolModel" "turned" "[I") ∈ lw_all := lw_g (lw_at lw_m8 134 rfl) rfl
theorem q1933 : (Jvm.Cond.soleField "PrairiePoolModel" "turned") ∈ lw_all := lw_g (lw_at lw_m8 135 rfl) rfl
theorem q1934 : (Jvm.Cond.laysFinal "PrairiePoolModel" "PrairiePoolModel" "warmest" "[I") ∈ lw_all := lw_g (lw_at lw_m8 136 rfl) rfl
theorem q1935 : (Jvm.Cond.soleField "PrairiePoolModel" "warmest") ∈ lw_all := lw_g (lw_at lw_m8 137 rfl) rfl
theorem q1936 : (Jvm.Cond.laysFinal "PrairiePoolModel" "PrairiePoolModel" "have" "[I") ∈ lw_all := lw_g (lw_at lw_m8 138 rfl) rfl
theorem q1937 : (Jvm.Cond.soleField "PrairiePoolModel" "have") ∈ lw_all := lw_g (lw_at lw_m8 139 rfl) rfl
theorem q1938 : (Jvm.Cond.laysFinal "PrairiePoolModel" "PrairiePoolModel" "want" "[I") ∈ lw_all := lw_g (lw_at lw_m8 140 rfl) rfl
theorem q1939 : (Jvm.Cond.soleField "PrairiePoolModel" "want") ∈ lw_all := lw_g (lw_at lw_m8 141 rfl) rfl
theorem q1940 : (Jvm.Cond.laysFinal "PrairiePoolModel" "PrairiePoolModel" "costs" "[I") ∈ lw_all := lw_g (lw_at lw_m8 142 rfl) rfl
theorem q1941 : (Jvm.Cond.soleField "PrairiePoolModel" "costs") ∈ lw_all := lw_g (lw_at lw_m8 143 rfl) rfl
theorem q1942 : (Jvm.Cond.laysFinal "PrairiePoolModel" "PrairiePoolModel" "flow" "[I") ∈ lw_all := lw_g (lw_at lw_m8 144 rfl) rfl
theorem q1943 : (Jvm.Cond.soleField "PrairiePoolModel" "flow") ∈ lw_all := lw_g (lw_at lw_m8 145 rfl) rfl
theorem q1944 : (Jvm.Cond.laysFinal "PrairiePoolModel" "PrairiePoolModel" "far" "[I") ∈ lw_all := lw_g (lw_at lw_m8 146 rfl) rfl
theorem q1945 : (Jvm.Cond.soleField "PrairiePoolModel" "far") ∈ lw_all := lw_g (lw_at lw_m8 147 rfl) rfl
theorem q1946 : (Jvm.Cond.laysFinal "PrairiePoolModel" "PrairiePoolModel" "via" "[I") ∈ lw_all := lw_g (lw_at lw_m8 148 rfl) rfl
theorem q1947 : (Jvm.Cond.soleField "PrairiePoolModel" "via") ∈ lw_all := lw_g (lw_at lw_m8 149 rfl) rfl
theorem q1948 : (Jvm.Cond.laysFinal "PrairiePoolModel" "PrairiePoolModel" "carsOf" "[I") ∈ lw_all := lw_g (lw_at lw_m8 150 rfl) rfl
theorem q1949 : (Jvm.Cond.soleField "PrairiePoolModel" "carsOf") ∈ lw_all := lw_g (lw_at lw_m8 151 rfl) rfl
theorem q1950 : (Jvm.Cond.lays "PrairiePoolModel" "PrairiePoolModel" "isWarm" "Z") ∈ lw_all := lw_g (lw_at lw_m8 152 rfl) rfl
theorem q1951 : (Jvm.Cond.soleField "PrairiePoolModel" "isWarm") ∈ lw_all := lw_g (lw_at lw_m8 153 rfl) rfl
theorem q1952 : (Jvm.Cond.lays "PrairiePoolModel" "PrairiePoolModel" "isNone" "Z") ∈ lw_all := lw_g (lw_at lw_m8 154 rfl) rfl
theorem q1953 : (Jvm.Cond.soleField "PrairiePoolModel" "isNone") ∈ lw_all := lw_g (lw_at lw_m8 155 rfl) rfl
theorem q1954 : (Jvm.Cond.superclass "PrairiePoolModel" "java/lang/Object") ∈ lw_all := lw_g (lw_at lw_m8 156 rfl) rfl
theorem q1955 : (Jvm.Cond.methodLink "PrairiePoolLaw" (17 : Nat) ({ cls := "PrairiePoolModel", name := "status", desc := "()I" } : Jvm.MethodName)) ∈ lw_all := lw_g (lw_at lw_m8 157 rfl) rfl
theorem q1956 : (Jvm.Cond.instanceMethod ({ cls := "PrairiePoolModel", name := "status", desc := "()I" } : Jvm.MethodName)) ∈ lw_all := lw_g (lw_at lw_m8 158 rfl) rfl
theorem q1957 : (Jvm.Cond.selects "PrairiePoolModel" ({ cls := "PrairiePoolModel", name := "status", desc := "()I" } : Jvm.MethodName) ({ cls := "PrairiePoolModel", name := "status", desc := "()I" } : Jvm.MethodName)) ∈ lw_all := lw_g (lw_at lw_m8 159 rfl) rfl
theorem q1958 : (Jvm.Cond.code ({ cls := "PrairiePoolModel", name := "status", desc := "()I" } : Jvm.MethodName) prog_27_method_3_code (1 : Nat) (Option.some Jvm.ClassFile.FieldType.int)) ∈ lw_all := lw_g (lw_at lw_m8 160 rfl) rfl
theorem q1959 : (Jvm.Cond.methodLink "PrairiePoolLaw" (22 : Nat) ({ cls := "PrairiePoolModel", name := "tray", desc := "(III)Z" } : Jvm.MethodName)) ∈ lw_all := lw_g (lw_at lw_m8 161 rfl) rfl
theorem q1960 : (Jvm.Cond.instanceMethod ({ cls := "PrairiePoolModel", name := "tray", desc := "(III)Z" } : Jvm.MethodName)) ∈ lw_all := lw_g (lw_at lw_m8 162 rfl) rfl
theorem q1961 : (Jvm.Cond.selects "PrairiePoolModel" ({ cls := "PrairiePoolModel", name := "tray", desc := "(III)Z" } : Jvm.MethodName) ({ cls := "PrairiePoolModel", name := "tray", desc := "(III)Z" } : Jvm.MethodName)) ∈ lw_all := lw_g (lw_at lw_m8 163 rfl) rfl
theorem q1962 : (Jvm.Cond.code ({ cls := "PrairiePoolModel", name := "tray", desc := "(III)Z" } : Jvm.MethodName) prog_27_method_11_code (5 : Nat) (Option.some Jvm.ClassFile.FieldType.boolean)) ∈ lw_all := lw_g (lw_at lw_m8 164 rfl) rfl
theorem q1963 : (Jvm.Cond.methodLink "PrairiePoolModel" (273 : Nat) ({ cls := "PrairiePoolModel", name := "no", desc := "(I)Z" } : Jvm.MethodName)) ∈ lw_all := lw_g (lw_at lw_m8 165 rfl) rfl
theorem q1964 : (Jvm.Cond.privateMethod ({ cls := "PrairiePoolModel", name := "no", desc := "(I)Z" } : Jvm.MethodName)) ∈ lw_tbl := lw_at lw_m8 166 rfl
theorem q1965 : (Jvm.Cond.instanceMethod ({ cls := "PrairiePoolModel", name := "no", desc := "(I)Z" } : Jvm.MethodName)) ∈ lw_all := lw_g (lw_at lw_m8 167 rfl) rfl
theorem q1966 : (Jvm.Cond.code ({ cls := "PrairiePoolModel", name := "no", desc := "(I)Z" } : Jvm.MethodName) prog_27_method_5_code (2 : Nat) (Option.some Jvm.ClassFile.FieldType.boolean)) ∈ lw_all := lw_g (lw_at lw_m8 168 rfl) rfl
theorem q1967 : (Jvm.Cond.methodLink "PrairiePoolLaw" (29 : Nat) ({ cls := "PrairiePoolModel", name := "write", desc := "(IIJ)Z" } : Jvm.MethodName)) ∈ lw_all := lw_g (lw_at lw_m8 169 rfl) rfl
theorem q1968 : (Jvm.Cond.instanceMethod ({ cls := "PrairiePoolModel", name := "write", desc := "(IIJ)Z" } : Jvm.MethodName)) ∈ lw_all := lw_g (lw_at lw_m8 170 rfl) rfl
theorem q1969 : (Jvm.Cond.selects "PrairiePoolModel" ({ cls := "PrairiePoolModel", name := "write", desc := "(IIJ)Z" } : Jvm.MethodName) ({ cls := "PrairiePoolModel", name := "write", desc := "(IIJ)Z" } : Jvm.MethodName)) ∈ lw_all := lw_g (lw_at lw_m8 171 rfl) rfl
theorem q1970 : (Jvm.Cond.code ({ cls := "PrairiePoolModel", name := "write", desc := "(IIJ)Z" } : Jvm.MethodName) prog_27_method_14_code (5 : Nat) (Option.some Jvm.ClassFile.FieldType.boolean)) ∈ lw_all := lw_g (lw_at lw_m8 172 rfl) rfl
theorem q1971 : (Jvm.Cond.methodLink "PrairiePoolModel" (281 : Nat) ({ cls := "PrairiePoolModel", name := "placed", desc := "(II)I" } : Jvm.MethodName)) ∈ lw_all := lw_g (lw_at lw_m8 173 rfl) rfl
theorem q1972 : (Jvm.Cond.privateMethod ({ cls := "PrairiePoolModel", name := "placed", desc := "(II)I" } : Jvm.MethodName)) ∈ lw_tbl := lw_at lw_m8 174 rfl
theorem q1973 : (Jvm.Cond.instanceMethod ({ cls := "PrairiePoolModel", name := "placed", desc := "(II)I" } : Jvm.MethodName)) ∈ lw_all := lw_g (lw_at lw_m8 175 rfl) rfl
theorem q1974 : (Jvm.Cond.code ({ cls := "PrairiePoolModel", name := "placed", desc := "(II)I" } : Jvm.MethodName) prog_27_method_13_code (4 : Nat) (Option.some Jvm.ClassFile.FieldType.int)) ∈ lw_all := lw_g (lw_at lw_m8 176 rfl) rfl
theorem q1975 : (Jvm.Cond.methodLink "PrairiePoolModel" (277 : Nat) ({ cls := "PrairiePoolModel", name := "trayed", desc := "(I)I" } : Jvm.MethodName)) ∈ lw_all := lw_g (lw_at lw_m8 177 rfl) rfl
theorem q1976 : (Jvm.Cond.privateMethod ({ cls := "PrairiePoolModel", name := "trayed", desc := "(I)I" } : Jvm.MethodName)) ∈ lw_tbl := lw_at lw_m8 178 rfl
theorem q1977 : (Jvm.Cond.instanceMethod ({ cls := "PrairiePoolModel", name := "trayed", desc := "(I)I" } : Jvm.MethodName)) ∈ lw_all := lw_g (lw_at lw_m8 179 rfl) rfl
theorem q1978 : (Jvm.Cond.code ({ cls := "PrairiePoolModel", name := "trayed", desc := "(I)I" } : Jvm.MethodName) prog_27_method_12_code (2 : Nat) (Option.some Jvm.ClassFile.FieldType.int)) ∈ lw_all := lw_g (lw_at lw_m8 180 rfl) rfl
theorem q1979 : (Jvm.Cond.methodLink "PrairiePoolModel" (285 : Nat) ({ cls := "PrairiePoolModel", name := "cut", desc := "(IJ)J" } : Jvm.MethodName)) ∈ lw_all := lw_g (lw_at lw_m8 181 rfl) rfl
theorem q1980 : (Jvm.Cond.static ({ cls := "PrairiePoolModel", name := "cut", desc := "(IJ)J" } : Jvm.MethodName)) ∈ lw_all := lw_g (lw_at lw_m8 182 rfl) rfl
theorem q1981 : (Jvm.Cond.code ({ cls := "PrairiePoolModel", name := "cut", desc := "(IJ)J" } : Jvm.MethodName) prog_27_method_10_code (3 : Nat) (Option.some Jvm.ClassFile.FieldType.long)) ∈ lw_all := lw_g (lw_at lw_m8 183 rfl) rfl
theorem q1982 : (Jvm.Cond.methodLink "PrairiePoolLaw" (34 : Nat) ({ cls := "PrairiePoolModel", name := "read", desc := "(II)J" } : Jvm.MethodName)) ∈ lw_all := lw_g (lw_at lw_m8 184 rfl) rfl
theorem q1983 : (Jvm.Cond.instanceMethod ({ cls := "PrairiePoolModel", name := "read", desc := "(II)J" } : Jvm.MethodName)) ∈ lw_all := lw_g (lw_at lw_m8 185 rfl) rfl
theorem q1984 : (Jvm.Cond.selects "PrairiePoolModel" ({ cls := "PrairiePoolModel", name := "read", desc := "(II)J" } : Jvm.MethodName) ({ cls := "PrairiePoolModel", name := "read", desc := "(II)J" } : Jvm.MethodName)) ∈ lw_all := lw_g (lw_at lw_m8 186 rfl) rfl
theorem q1985 : (Jvm.Cond.code ({ cls := "PrairiePoolModel", name := "read", desc := "(II)J" } : Jvm.MethodName) prog_27_method_15_code (3 : Nat) (Option.some Jvm.ClassFile.FieldType.long)) ∈ lw_all := lw_g (lw_at lw_m8 187 rfl) rfl
theorem q1986 : (Jvm.Cond.constantLong "PrairiePoolModel" (289 : Nat) (-1 : Int64)) ∈ lw_all := lw_g (lw_at lw_m8 188 rfl) rfl
theorem q1987 : (Jvm.Cond.methodLink "PrairiePoolLaw" (39 : Nat) ({ cls := "PrairiePoolModel", name := "pour", desc := "(IIIII)Z" } : Jvm.MethodName)) ∈ lw_all := lw_g (lw_at lw_m8 189 rfl) rfl
theorem q1988 : (Jvm.Cond.instanceMethod ({ cls := "PrairiePoolModel", name := "pour", desc := "(IIIII)Z" } : Jvm.MethodName)) ∈ lw_all := lw_g (lw_at lw_m8 190 rfl) rfl
theorem q1989 : (Jvm.Cond.selects "PrairiePoolModel" ({ cls := "PrairiePoolModel", name := "pour", desc := "(IIIII)Z" } : Jvm.MethodName) ({ cls := "PrairiePoolModel", name := "pour", desc := "(IIIII)Z" } : Jvm.MethodName)) ∈ lw_all := lw_g (lw_at lw_m8 191 rfl) rfl
theorem q1990 : (Jvm.Cond.code ({ cls := "PrairiePoolModel", name := "pour", desc := "(IIIII)Z" } : Jvm.MethodName) prog_27_method_16_code (9 : Nat) (Option.some Jvm.ClassFile.FieldType.boolean)) ∈ lw_all := lw_g (lw_at lw_m8 192 rfl) rfl
theorem q1991 : (Jvm.Cond.methodLink "PrairiePoolLaw" (44 : Nat) ({ cls := "PrairiePoolModel", name := "farm", desc := "(III)I" } : Jvm.MethodName)) ∈ lw_all := lw_g (lw_at lw_m8 193 rfl) rfl
theorem q1992 : (Jvm.Cond.instanceMethod ({ cls := "PrairiePoolModel", name := "farm", desc := "(III)I" } : Jvm.MethodName)) ∈ lw_all := lw_g (lw_at lw_m8 194 rfl) rfl
theorem q1993 : (Jvm.Cond.selects "PrairiePoolModel" ({ cls := "PrairiePoolModel", name := "farm", desc := "(III)I" } : Jvm.MethodName) ({ cls := "PrairiePoolModel", name := "farm", desc := "(III)I" } : Jvm.MethodName)) ∈ lw_all := lw_g (lw_at lw_m8 195 rfl) rfl
theorem q1994 : (Jvm.Cond.code ({ cls := "PrairiePoolModel", name := "farm", desc := "(III)I" } : Jvm.MethodName) prog_27_method_20_code (4 : Nat) (Option.some Jvm.ClassFile.FieldType.int)) ∈ lw_all := lw_g (lw_at lw_m8 196 rfl) rfl
theorem q1995 : (Jvm.Cond.constantLong "PrairiePoolModel" (271 : Nat) (5 : Int64)) ∈ lw_all := lw_g (lw_at lw_m8 197 rfl) rfl
theorem q1996 : (Jvm.Cond.methodLink "PrairiePoolModel" (265 : Nat) ({ cls := "PrairiePoolModel", name := "isIn", desc := "(JJJ)Z" } : Jvm.MethodName)) ∈ lw_all := lw_g (lw_at lw_m8 198 rfl) rfl
theorem q1997 : (Jvm.Cond.static ({ cls := "PrairiePoolModel", name := "isIn", desc := "(JJJ)Z" } : Jvm.MethodName)) ∈ lw_all := lw_g (lw_at lw_m8 199 rfl) rfl
theorem q1998 : (Jvm.Cond.code ({ cls := "PrairiePoolModel", name := "isIn", desc := "(JJJ)Z" } : Jvm.MethodName) prog_27_method_6_code (6 : Nat) (Option.some Jvm.ClassFile.FieldType.boolean)) ∈ lw_all := lw_g (lw_at lw_m8 200 rfl) rfl
theorem q1999 : (Jvm.Cond.methodLink "PrairiePoolModel" (297 : Nat) ({ cls := "PrairiePoolModel", name := "refuse", desc := "(I)I" } : Jvm.MethodName)) ∈ lw_all := lw_g (lw_at lw_m8 201 rfl) rfl
theorem q2000 : (Jvm.Cond.privateMethod ({ cls := "PrairiePoolModel", name := "refuse", desc := "(I)I" } : Jvm.MethodName)) ∈ lw_tbl := lw_at lw_m8 202 rfl
theorem q2001 : (Jvm.Cond.instanceMethod ({ cls := "PrairiePoolModel", name := "refuse", desc := "(I)I" } : Jvm.MethodName)) ∈ lw_all := lw_g (lw_at lw_m8 203 rfl) rfl
theorem q2002 : (Jvm.Cond.code ({ cls := "PrairiePoolModel", name := "refuse", desc := "(I)I" } : Jvm.MethodName) prog_27_method_4_code (2 : Nat) (Option.some Jvm.ClassFile.FieldType.int)) ∈ lw_all := lw_g (lw_at lw_m8 204 rfl) rfl
theorem q2003 : (Jvm.Cond.constantLong "PrairiePoolModel" (300 : Nat) (5000 : Int64)) ∈ lw_all := lw_g (lw_at lw_m8 205 rfl) rfl
theorem q2004 : (Jvm.Cond.constantLong "PrairiePoolModel" (302 : Nat) (100000 : Int64)) ∈ lw_all := lw_g (lw_at lw_m8 206 rfl) rfl
theorem q2005 : (Jvm.Cond.methodLink "PrairiePoolLaw" (49 : Nat) ({ cls := "PrairiePoolModel", name := "elevator", desc := "(II)I" } : Jvm.MethodName)) ∈ lw_all := lw_g (lw_at lw_m8 207 rfl) rfl
theorem q2006 : (Jvm.Cond.instanceMethod ({ cls := "PrairiePoolModel", name := "elevator", desc := "(II)I" } : Jvm.MethodName)) ∈ lw_all := lw_g (lw_at lw_m8 208 rfl) rfl
theorem q2007 : (Jvm.Cond.selects "PrairiePoolModel" ({ cls := "PrairiePoolModel", name := "elevator", desc := "(II)I" } : Jvm.MethodName) ({ cls := "PrairiePoolModel", name := "elevator", desc := "(II)I" } : Jvm.MethodName)) ∈ lw_all := lw_g (lw_at lw_m8 209 rfl) rfl
theorem q2008 : (Jvm.Cond.code ({ cls := "PrairiePoolModel", name := "elevator", desc := "(II)I" } : Jvm.MethodName) prog_27_method_21_code (3 : Nat) (Option.some Jvm.ClassFile.FieldType.int)) ∈ lw_all := lw_g (lw_at lw_m8 210 rfl) rfl
theorem q2009 : (Jvm.Cond.constantLong "PrairiePoolModel" (304 : Nat) (1000000 : Int64)) ∈ lw_all := lw_g (lw_at lw_m8 211 rfl) rfl
theorem q2010 : (Jvm.Cond.methodLink "PrairiePoolLaw" (54 : Nat) ({ cls := "PrairiePoolModel", name := "load", desc := "(IIIIII)I" } : Jvm.MethodName)) ∈ lw_all := lw_g (lw_at lw_m8 212 rfl) rfl
theorem q2011 : (Jvm.Cond.instanceMethod ({ cls := "PrairiePoolModel", name := "load", desc := "(IIIIII)I" } : Jvm.MethodName)) ∈ lw_all := lw_g (lw_at lw_m8 213 rfl) rfl
theorem q2012 : (Jvm.Cond.selects "PrairiePoolModel" ({ cls := "PrairiePoolModel", name := "load", desc := "(IIIIII)I" } : Jvm.MethodName) ({ cls := "PrairiePoolModel", name := "load", desc := "(IIIIII)I" } : Jvm.MethodName)) ∈ lw_all := lw_g (lw_at lw_m8 214 rfl) rfl
theorem q2013 : (Jvm.Cond.code ({ cls := "PrairiePoolModel", name := "load", desc := "(IIIIII)I" } : Jvm.MethodName) prog_27_method_23_code (7 : Nat) (Option.some Jvm.ClassFile.FieldType.int)) ∈ lw_all := lw_g (lw_at lw_m8 215 rfl) rfl
theorem q2014 : (Jvm.Cond.methodLink "PrairiePoolModel" (318 : Nat) ({ cls := "PrairiePoolModel", name := "isFarm", desc := "(I)Z" } : Jvm.MethodName)) ∈ lw_all := lw_g (lw_at lw_m8 216 rfl) rfl
theorem q2015 : (Jvm.Cond.privateMethod ({ cls := "PrairiePoolModel", name := "isFarm", desc := "(I)Z" } : Jvm.MethodName)) ∈ lw_tbl := lw_at lw_m8 217 rfl
theorem q2016 : (Jvm.Cond.instanceMethod ({ cls := "PrairiePoolModel", name := "isFarm", desc := "(I)Z" } : Jvm.MethodName)) ∈ lw_all := lw_g (lw_at lw_m8 218 rfl) rfl
theorem q2017 : (Jvm.Cond.code ({ cls := "PrairiePoolModel", name := "isFarm", desc := "(I)Z" } : Jvm.MethodName) prog_27_method_18_code (2 : Nat) (Option.some Jvm.ClassFile.FieldType.boolean)) ∈ lw_all := lw_g (lw_at lw_m8 219 rfl) rfl
theorem q2018 : (Jvm.Cond.methodLink "PrairiePoolModel" (321 : Nat) ({ cls := "PrairiePoolModel", name := "isElevator", desc := "(I)Z" } : Jvm.MethodName)) ∈ lw_all := lw_g (lw_at lw_m8 220 rfl) rfl
theorem q2019 : (Jvm.Cond.privateMethod ({ cls := "PrairiePoolModel", name := "isElevator", desc := "(I)Z" } : Jvm.MethodName)) ∈ lw_tbl := lw_at lw_m8 221 rfl
theorem q2020 : (Jvm.Cond.instanceMethod ({ cls := "PrairiePoolModel", name := "isElevator", desc := "(I)Z" } : Jvm.MethodName)) ∈ lw_all := lw_g (lw_at lw_m8 222 rfl) rfl
theorem q2021 : (Jvm.Cond.code ({ cls := "PrairiePoolModel", name := "isElevator", desc := "(I)Z" } : Jvm.MethodName) prog_27_method_19_code (2 : Nat) (Option.some Jvm.ClassFile.FieldType.boolean)) ∈ lw_all := lw_g (lw_at lw_m8 223 rfl) rfl
theorem q2022 : (Jvm.Cond.constantLong "PrairiePoolModel" (324 : Nat) (10000 : Int64)) ∈ lw_all := lw_g (lw_at lw_m8 224 rfl) rfl
theorem q2023 : (Jvm.Cond.constantLong "PrairiePoolModel" (326 : Nat) (1000 : Int64)) ∈ lw_all := lw_g (lw_at lw_m8 225 rfl) rfl
theorem q2024 : (Jvm.Cond.methodLink "PrairiePoolModel" (328 : Nat) ({ cls := "PrairiePoolModel", name := "event", desc := "(IIIIIIIIII)I" } : Jvm.MethodName)) ∈ lw_all := lw_g (lw_at lw_m8 226 rfl) rfl
theorem q2025 : (Jvm.Cond.privateMethod ({ cls := "PrairiePoolModel", name := "event", desc := "(IIIIIIIIII)I" } : Jvm.MethodName)) ∈ lw_tbl := lw_at lw_m8 227 rfl
theorem q2026 : (Jvm.Cond.instanceMethod ({ cls := "PrairiePoolModel", name := "event", desc := "(IIIIIIIIII)I" } : Jvm.MethodName)) ∈ lw_all := lw_g (lw_at lw_m8 228 rfl) rfl
theorem q2027 : (Jvm.Cond.code ({ cls := "PrairiePoolModel", name := "event", desc := "(IIIIIIIIII)I" } : Jvm.MethodName) prog_27_method_22_code (11 : Nat) (Option.some Jvm.ClassFile.FieldType.int)) ∈ lw_all := lw_g (lw_at lw_m8 229 rfl) rfl
theorem q2028 : (Jvm.Cond.methodLink "PrairiePoolModel" (306 : Nat) ({ cls := "PrairiePoolModel", name := "isDay", desc := "(I)Z" } : Jvm.MethodName)) ∈ lw_all := lw_g (lw_at lw_m8 230 rfl) rfl
theorem q2029 : (Jvm.Cond.static ({ cls := "PrairiePoolModel", name := "isDay", desc := "(I)Z" } : Jvm.MethodName)) ∈ lw_all := lw_g (lw_at lw_m8 231 rfl) rfl
theorem q2030 : (Jvm.Cond.code ({ cls := "PrairiePoolModel", name := "isDay", desc := "(I)Z" } : Jvm.MethodName) prog_27_method_7_code (1 : Nat) (Option.some Jvm.ClassFile.FieldType.boolean)) ∈ lw_all := lw_g (lw_at lw_m8 232 rfl) rfl
theorem q2031 : (Jvm.Cond.constantLong "PrairiePoolModel" (263 : Nat) (519 : Int64)) ∈ lw_all := lw_g (lw_at lw_m8 233 rfl) rfl
theorem q2032 : (Jvm.Cond.methodLink "PrairiePoolLaw" (59 : Nat) ({ cls := "PrairiePoolModel", name := "car", desc := "(IIIIIII)I" } : Jvm.MethodName)) ∈ lw_all := lw_g (lw_at lw_m8 234 rfl) rfl
theorem q2033 : (Jvm.Cond.instanceMethod ({ cls := "PrairiePoolModel", name := "car", desc := "(IIIIIII)I" } : Jvm.MethodName)) ∈ lw_all := lw_g (lw_at lw_m8 235 rfl) rfl
theorem q2034 : (Jvm.Cond.selects "PrairiePoolModel" ({ cls := "PrairiePoolModel", name := "car", desc := "(IIIIIII)I" } : Jvm.MethodName) ({ cls := "PrairiePoolModel", name := "car", desc := "(IIIIIII)I" } : Jvm.MethodName)) ∈ lw_all := lw_g (lw_at lw_m8 236 rfl) rfl
theorem q2035 : (Jvm.Cond.code ({ cls := "PrairiePoolModel", name := "car", desc := "(IIIIIII)I" } : Jvm.MethodName) prog_27_method_24_code (8 : Nat) (Option.some Jvm.ClassFile.FieldType.int)) ∈ lw_all := lw_g (lw_at lw_m8 237 rfl) rfl
theorem q2036 : (Jvm.Cond.methodLink "PrairiePoolModel" (332 : Nat) ({ cls := "PrairiePoolModel", name := "isGrade", desc := "(I)Z" } : Jvm.MethodName)) ∈ lw_all := lw_g (lw_at lw_m8 238 rfl) rfl
theorem q2037 : (Jvm.Cond.static ({ cls := "PrairiePoolModel", name := "isGrade", desc := "(I)Z" } : Jvm.MethodName)) ∈ lw_all := lw_g (lw_at lw_m8 239 rfl) rfl
theorem q2038 : (Jvm.Cond.code ({ cls := "PrairiePoolModel", name := "isGrade", desc := "(I)Z" } : Jvm.MethodName) prog_27_method_9_code (1 : Nat) (Option.some Jvm.ClassFile.FieldType.boolean)) ∈ lw_all := lw_g (lw_at lw_m9 0 rfl) rfl
theorem q2039 : (Jvm.Cond.methodLink "PrairiePoolModel" (335 : Nat) ({ cls := "PrairiePoolModel", name := "isYear", desc := "(I)Z" } : Jvm.MethodName)) ∈ lw_all := lw_g (lw_at lw_m9 1 rfl) rfl
theorem q2040 : (Jvm.Cond.static ({ cls := "PrairiePoolModel", name := "isYear", desc := "(I)Z" } : Jvm.MethodName)) ∈ lw_all := lw_g (lw_at lw_m9 2 rfl) rfl
theorem q2041 : (Jvm.Cond.code ({ cls := "PrairiePoolModel", name := "isYear", desc := "(I)Z" } : Jvm.MethodName) prog_27_method_8_code (1 : Nat) (Option.some Jvm.ClassFile.FieldType.boolean)) ∈ lw_all := lw_g (lw_at lw_m9 3 rfl) rfl
theorem q2042 : (Jvm.Cond.constantLong "PrairiePoolModel" (269 : Nat) (9 : Int64)) ∈ lw_all := lw_g (lw_at lw_m9 4 rfl) rfl
theorem q2043 : (Jvm.Cond.methodLink "PrairiePoolLaw" (63 : Nat) ({ cls := "PrairiePoolModel", name := "sale", desc := "(IIIIIII)I" } : Jvm.MethodName)) ∈ lw_all := lw_g (lw_at lw_m9 5 rfl) rfl
theorem q2044 : (Jvm.Cond.instanceMethod ({ cls := "PrairiePoolModel", name := "sale", desc := "(IIIIIII)I" } : Jvm.MethodName)) ∈ lw_all := lw_g (lw_at lw_m9 6 rfl) rfl
theorem q2045 : (Jvm.Cond.selects "PrairiePoolModel" ({ cls := "PrairiePoolModel", name := "sale", desc := "(IIIIIII)I" } : Jvm.MethodName) ({ cls := "PrairiePoolModel", name := "sale", desc := "(IIIIIII)I" } : Jvm.MethodName)) ∈ lw_all := lw_g (lw_at lw_m9 7 rfl) rfl
theorem q2046 : (Jvm.Cond.code ({ cls := "PrairiePoolModel", name := "sale", desc := "(IIIIIII)I" } : Jvm.MethodName) prog_27_method_25_code (8 : Nat) (Option.some Jvm.ClassFile.FieldType.int)) ∈ lw_all := lw_g (lw_at lw_m9 8 rfl) rfl
theorem q2047 : (Jvm.Cond.methodLink "PrairiePoolLaw" (67 : Nat) ({ cls := "PrairiePoolModel", name := "spoil", desc := "(IIIIII)I" } : Jvm.MethodName)) ∈ lw_all := lw_g (lw_at lw_m9 9 rfl) rfl
theorem q2048 : (Jvm.Cond.instanceMethod ({ cls := "PrairiePoolModel", name := "spoil", desc := "(IIIIII)I" } : Jvm.MethodName)) ∈ lw_all := lw_g (lw_at lw_m9 10 rfl) rfl
theorem q2049 : (Jvm.Cond.selects "PrairiePoolModel" ({ cls := "PrairiePoolModel", name := "spoil", desc := "(IIIIII)I" } : Jvm.MethodName) ({ cls := "PrairiePoolModel", name := "spoil", desc := "(IIIIII)I" } : Jvm.MethodName)) ∈ lw_all := lw_g (lw_at lw_m9 11 rfl) rfl
theorem q2050 : (Jvm.Cond.code ({ cls := "PrairiePoolModel", name := "spoil", desc := "(IIIIII)I" } : Jvm.MethodName) prog_27_method_26_code (7 : Nat) (Option.some Jvm.ClassFile.FieldType.int)) ∈ lw_all := lw_g (lw_at lw_m9 12 rfl) rfl
theorem q2051 : (Jvm.Cond.methodLink "PrairiePoolLaw" (72 : Nat) ({ cls := "PrairiePoolModel", name := "grading", desc := "(IIII)Z" } : Jvm.MethodName)) ∈ lw_all := lw_g (lw_at lw_m9 13 rfl) rfl
theorem q2052 : (Jvm.Cond.instanceMethod ({ cls := "PrairiePoolModel", name := "grading", desc := "(IIII)Z" } : Jvm.MethodName)) ∈ lw_all := lw_g (lw_at lw_m9 14 rfl) rfl
theorem q2053 : (Jvm.Cond.selects "PrairiePoolModel" ({ cls := "PrairiePoolModel", name := "grading", desc := "(IIII)Z" } : Jvm.MethodName) ({ cls := "PrairiePoolModel", name := "grading", desc := "(IIII)Z" } : Jvm.MethodName)) ∈ lw_all := lw_g (lw_at lw_m9 15 rfl) rfl
theorem q2054 : (Jvm.Cond.code ({ cls := "PrairiePoolModel", name := "grading", desc := "(IIII)Z" } : Jvm.MethodName) prog_27_method_28_code (5 : Nat) (Option.some Jvm.ClassFile.FieldType.boolean)) ∈ lw_all := lw_g (lw_at lw_m9 16 rfl) rfl
theorem q2055 : (Jvm.Cond.methodLink "PrairiePoolModel" (338 : Nat) ({ cls := "PrairiePoolModel", name := "isLoad", desc := "(I)Z" } : Jvm.MethodName)) ∈ lw_all := lw_g (lw_at lw_m9 17 rfl) rfl
theorem q2056 : (Jvm.Cond.privateMethod ({ cls := "PrairiePoolModel", name := "isLoad", desc := "(I)Z" } : Jvm.MethodName)) ∈ lw_tbl := lw_at lw_m9 18 rfl
theorem q2057 : (Jvm.Cond.instanceMethod ({ cls := "PrairiePoolModel", name := "isLoad", desc := "(I)Z" } : Jvm.MethodName)) ∈ lw_all := lw_g (lw_at lw_m9 19 rfl) rfl
theorem q2058 : (Jvm.Cond.code ({ cls := "PrairiePoolModel", name := "isLoad", desc := "(I)Z" } : Jvm.MethodName) prog_27_method_27_code (2 : Nat) (Option.some Jvm.ClassFile.FieldType.boolean)) ∈ lw_all := lw_g (lw_at lw_m9 20 rfl) rfl
theorem q2059 : (Jvm.Cond.methodLink "PrairiePoolLaw" (76 : Nat) ({ cls := "PrairiePoolModel", name := "grade", desc := "(II)I" } : Jvm.MethodName)) ∈ lw_all := lw_g (lw_at lw_m9 21 rfl) rfl
theorem q2060 : (Jvm.Cond.instanceMethod ({ cls := "PrairiePoolModel", name := "grade", desc := "(II)I" } : Jvm.MethodName)) ∈ lw_all := lw_g (lw_at lw_m9 22 rfl) rfl
theorem q2061 : (Jvm.Cond.selects "PrairiePoolModel" ({ cls := "PrairiePoolModel", name := "grade", desc := "(II)I" } : Jvm.MethodName) ({ cls := "PrairiePoolModel", name := "grade", desc := "(II)I" } : Jvm.MethodName)) ∈ lw_all := lw_g (lw_at lw_m9 23 rfl) rfl
theorem q2062 : (Jvm.Cond.code ({ cls := "PrairiePoolModel", name := "grade", desc := "(II)I" } : Jvm.MethodName) prog_27_method_31_code (3 : Nat) (Option.some Jvm.ClassFile.FieldType.int)) ∈ lw_all := lw_g (lw_at lw_m9 24 rfl) rfl
theorem q2063 : (Jvm.Cond.methodLink "PrairiePoolModel" (363 : Nat) ({ cls := "PrairiePoolModel", name := "gradeOf", desc := "(II)I" } : Jvm.MethodName)) ∈ lw_all := lw_g (lw_at lw_m9 25 rfl) rfl
theorem q2064 : (Jvm.Cond.privateMethod ({ cls := "PrairiePoolModel", name := "gradeOf", desc := "(II)I" } : Jvm.MethodName)) ∈ lw_tbl := lw_at lw_m9 26 rfl
theorem q2065 : (Jvm.Cond.instanceMethod ({ cls := "PrairiePoolModel", name := "gradeOf", desc := "(II)I" } : Jvm.MethodName)) ∈ lw_all := lw_g (lw_at lw_m9 27 rfl) rfl
theorem q2066 : (Jvm.Cond.code ({ cls := "PrairiePoolModel", name := "gradeOf", desc := "(II)I" } : Jvm.MethodName) prog_27_method_30_code (10 : Nat) (Option.some Jvm.ClassFile.FieldType.int)) ∈ lw_all := lw_g (lw_at lw_m9 28 rfl) rfl
theorem q2067 : (Jvm.Cond.methodLink "PrairiePoolModel" (344 : Nat) ({ cls := "PrairiePoolModel", name := "letNothing", desc := "()V" } : Jvm.MethodName)) ∈ lw_all := lw_g (lw_at lw_m9 29 rfl) rfl
theorem q2068 : (Jvm.Cond.privateMethod ({ cls := "PrairiePoolModel", name := "letNothing", desc := "()V" } : Jvm.MethodName)) ∈ lw_tbl := lw_at lw_m9 30 rfl
theorem q2069 : (Jvm.Cond.instanceMethod ({ cls := "PrairiePoolModel", name := "letNothing", desc := "()V" } : Jvm.MethodName)) ∈ lw_all := lw_g (lw_at lw_m9 31 rfl) rfl
theorem q2070 : (Jvm.Cond.code ({ cls := "PrairiePoolModel", name := "letNothing", desc := "()V" } : Jvm.MethodName) prog_27_method_80_code (2 : Nat) (Option.none : Option Jvm.ClassFile.FieldType)) ∈ lw_all := lw_g (lw_at lw_m9 32 rfl) rfl
theorem q2071 : (Jvm.Cond.methodLink "PrairiePoolModel" (347 : Nat) ({ cls := "PrairiePoolModel", name := "net", desc := "(I)I" } : Jvm.MethodName)) ∈ lw_all := lw_g (lw_at lw_m9 33 rfl) rfl
theorem q2072 : (Jvm.Cond.privateMethod ({ cls := "PrairiePoolModel", name := "net", desc := "(I)I" } : Jvm.MethodName)) ∈ lw_tbl := lw_at lw_m9 34 rfl
theorem q2073 : (Jvm.Cond.instanceMethod ({ cls := "PrairiePoolModel", name := "net", desc := "(I)I" } : Jvm.MethodName)) ∈ lw_all := lw_g (lw_at lw_m9 35 rfl) rfl
theorem q2074 : (Jvm.Cond.code ({ cls := "PrairiePoolModel", name := "net", desc := "(I)I" } : Jvm.MethodName) prog_27_method_29_code (2 : Nat) (Option.some Jvm.ClassFile.FieldType.int)) ∈ lw_all := lw_g (lw_at lw_m9 36 rfl) rfl
theorem q2075 : (Jvm.Cond.methodLink "PrairiePoolModel" (350 : Nat) ({ cls := "PrairiePoolModel", name := "spelled", desc := "(IIIIII)J" } : Jvm.MethodName)) ∈ lw_all := lw_g (lw_at lw_m9 37 rfl) rfl
theorem q2076 : (Jvm.Cond.static ({ cls := "PrairiePoolModel", name := "spelled", desc := "(IIIIII)J" } : Jvm.MethodName)) ∈ lw_all := lw_g (lw_at lw_m9 38 rfl) rfl
theorem q2077 : (Jvm.Cond.code ({ cls := "PrairiePoolModel", name := "spelled", desc := "(IIIIII)J" } : Jvm.MethodName) prog_27_method_47_code (8 : Nat) (Option.some Jvm.ClassFile.FieldType.long)) ∈ lw_all := lw_g (lw_at lw_m9 39 rfl) rfl
theorem q2078 : (Jvm.Cond.constantLong "PrairiePoolModel" (434 : Nat) (96 : Int64)) ∈ lw_all := lw_g (lw_at lw_m9 40 rfl) rfl
theorem q2079 : (Jvm.Cond.constantLong "PrairiePoolModel" (432 : Nat) (32 : Int64)) ∈ lw_all := lw_g (lw_at lw_m9 41 rfl) rfl
theorem q2080 : (Jvm.Cond.methodLink "PrairiePoolModel" (354 : Nat) ({ cls := "PrairiePoolModel", name := "told", desc := "(JIJ)J" } : Jvm.MethodName)) ∈ lw_all := lw_g (lw_at lw_m9 42 rfl) rfl
theorem q2081 : (Jvm.Cond.privateMethod ({ cls := "PrairiePoolModel", name := "told", desc := "(JIJ)J" } : Jvm.MethodName)) ∈ lw_tbl := lw_at lw_m9 43 rfl
theorem q2082 : (Jvm.Cond.instanceMethod ({ cls := "PrairiePoolModel", name := "told", desc := "(JIJ)J" } : Jvm.MethodName)) ∈ lw_all := lw_g (lw_at lw_m9 44 rfl) rfl
theorem q2083 : (Jvm.Cond.code ({ cls := "PrairiePoolModel", name := "told", desc := "(JIJ)J" } : Jvm.MethodName) prog_27_method_81_code (9 : Nat) (Option.some Jvm.ClassFile.FieldType.long)) ∈ lw_all := lw_g (lw_at lw_m9 45 rfl) rfl
theorem q2084 : (Jvm.Cond.methodLink "PrairiePoolModel" (572 : Nat) ({ cls := "PrairiePoolModel", name := "force", desc := "(I)I" } : Jvm.MethodName)) ∈ lw_all := lw_g (lw_at lw_m9 46 rfl) rfl
theorem q2085 : (Jvm.Cond.privateMethod ({ cls := "PrairiePoolModel", name := "force", desc := "(I)I" } : Jvm.MethodName)) ∈ lw_tbl := lw_at lw_m9 47 rfl
theorem q2086 : (Jvm.Cond.instanceMethod ({ cls := "PrairiePoolModel", name := "force", desc := "(I)I" } : Jvm.MethodName)) ∈ lw_all := lw_g (lw_at lw_m9 48 rfl) rfl
theorem q2087 : (Jvm.Cond.code ({ cls := "PrairiePoolModel", name := "force", desc := "(I)I" } : Jvm.MethodName) prog_27_method_79_code (4 : Nat) (Option.some Jvm.ClassFile.FieldType.int)) ∈ lw_all := lw_g (lw_at lw_m9 49 rfl) rfl
theorem q2088 : (Jvm.Cond.methodLink "PrairiePoolModel" (575 : Nat) ({ cls := "PrairiePoolModel", name := "work", desc := "(II)V" } : Jvm.MethodName)) ∈ lw_all := lw_g (lw_at lw_m9 50 rfl) rfl
theorem q2089 : (Jvm.Cond.privateMethod ({ cls := "PrairiePoolModel", name := "work", desc := "(II)V" } : Jvm.MethodName)) ∈ lw_tbl := lw_at lw_m9 51 rfl
theorem q2090 : (Jvm.Cond.instanceMethod ({ cls := "PrairiePoolModel", name := "work", desc := "(II)V" } : Jvm.MethodName)) ∈ lw_all := lw_g (lw_at lw_m9 52 rfl) rfl
theorem q2091 : (Jvm.Cond.code ({ cls := "PrairiePoolModel", name := "work", desc := "(II)V" } : Jvm.MethodName) prog_27_method_82_code (6 : Nat) (Option.none : Option Jvm.ClassFile.FieldType)) ∈ lw_all := lw_g (lw_at lw_m9 53 rfl) rfl
theorem q2092 : (Jvm.Cond.methodLink "PrairiePoolModel" (581 : Nat) ({ cls := "PrairiePoolModel", name := "does", desc := "(II)I" } : Jvm.MethodName)) ∈ lw_all := lw_g (lw_at lw_m9 54 rfl) rfl
theorem q2093 : (Jvm.Cond.privateMethod ({ cls := "PrairiePoolModel", name := "does", desc := "(II)I" } : Jvm.MethodName)) ∈ lw_tbl := lw_at lw_m9 55 rfl
theorem q2094 : (Jvm.Cond.instanceMethod ({ cls := "PrairiePoolModel", name := "does", desc := "(II)I" } : Jvm.MethodName)) ∈ lw_all := lw_g (lw_at lw_m9 56 rfl) rfl
theorem q2095 : (Jvm.Cond.code ({ cls := "PrairiePoolModel", name := "does", desc := "(II)I" } : Jvm.MethodName) prog_27_method_84_code (5 : Nat) (Option.some Jvm.ClassFile.FieldType.int)) ∈ lw_all := lw_g (lw_at lw_m9 57 rfl) rfl
theorem q2096 : (Jvm.Cond.constant "PrairiePoolModel" (503 : Nat) (1048576 : Int32)) ∈ lw_all := lw_g (lw_at lw_m9 58 rfl) rfl
theorem q2097 : (Jvm.Cond.methodLink "PrairiePoolModel" (584 : Nat) ({ cls := "PrairiePoolModel", name := "push", desc := "(JZ)V" } : Jvm.MethodName)) ∈ lw_all := lw_g (lw_at lw_m9 59 rfl) rfl
theorem q2098 : (Jvm.Cond.privateMethod ({ cls := "PrairiePoolModel", name := "push", desc := "(JZ)V" } : Jvm.MethodName)) ∈ lw_tbl := lw_at lw_m9 60 rfl
theorem q2099 : (Jvm.Cond.instanceMethod ({ cls := "PrairiePoolModel", name := "push", desc := "(JZ)V" } : Jvm.MethodName)) ∈ lw_all := lw_g (lw_at lw_m9 61 rfl) rfl
theorem q2100 : (Jvm.Cond.code ({ cls := "PrairiePoolModel", name := "push", desc := "(JZ)V" } : Jvm.MethodName) prog_27_method_83_code (4 : Nat) (Option.none : Option Jvm.ClassFile.FieldType)) ∈ lw_all := lw_g (lw_at lw_m9 62 rfl) rfl
theorem q2101 : (Jvm.Cond.methodLink "PrairiePoolModel" (588 : Nat) ({ cls := "PrairiePoolModel", name := "both", desc := "(II)V" } : Jvm.MethodName)) ∈ lw_all := lw_g (lw_at lw_m9 63 rfl) rfl
theorem q2102 : (Jvm.Cond.privateMethod ({ cls := "PrairiePoolModel", name := "both", desc := "(II)V" } : Jvm.MethodName)) ∈ lw_tbl := lw_at lw_m9 64 rfl
theorem q2103 : (Jvm.Cond.instanceMethod ({ cls := "PrairiePoolModel", name := "both", desc := "(II)V" } : Jvm.MethodName)) ∈ lw_all := lw_g (lw_at lw_m9 65 rfl) rfl
theorem q2104 : (Jvm.Cond.code ({ cls := "PrairiePoolModel", name := "both", desc := "(II)V" } : Jvm.MethodName) prog_27_method_85_code (9 : Nat) (Option.none : Option Jvm.ClassFile.FieldType)) ∈ lw_all := lw_g (lw_at lw_m9 66 rfl) rfl
theorem q2105 : (Jvm.Cond.methodLink "PrairiePoolModel" (591 : Nat) ({ cls := "java/lang/Math", name := "min", desc := "(JJ)J" } : Jvm.MethodName)) ∈ lw_all := lw_g (lw_at lw_m9 67 rfl) rfl
theorem q2106 : (Jvm.Cond.methodLink "PrairiePoolModel" (594 : Nat) ({ cls := "java/lang/Math", name := "max", desc := "(JJ)J" } : Jvm.MethodName)) ∈ lw_all := lw_g (lw_at lw_m9 68 rfl) rfl
theorem q2107 : (Jvm.Cond.constantLong "PrairiePoolModel" (358 : Nat) (-1000000 : Int64)) ∈ lw_all := lw_g (lw_at lw_m9 69 rfl) rfl
theorem q2108 : (Jvm.Cond.methodLink "PrairiePoolModel" (360 : Nat) ({ cls := "PrairiePoolModel", name := "cut", desc := "(JJJ)J" } : Jvm.MethodName)) ∈ lw_all := lw_g (lw_at lw_m9 70 rfl) rfl
theorem q2109 : (Jvm.Cond.static ({ cls := "PrairiePoolModel", name := "cut", desc := "(JJJ)J" } : Jvm.MethodName)) ∈ lw_all := lw_g (lw_at lw_m9 71 rfl) rfl
theorem q2110 : (Jvm.Cond.code ({ cls := "PrairiePoolModel", name := "cut", desc := "(JJJ)J" } : Jvm.MethodName) prog_27_method_86_code (6 : Nat) (Option.some Jvm.ClassFile.FieldType.long)) ∈ lw_all := lw_g (lw_at lw_m9 72 rfl) rfl
theorem q2111 : (Jvm.Cond.methodLink "PrairiePoolLaw" (81 : Nat) ({ cls := "PrairiePoolModel", name := "bin", desc := "(IIIII)I" } : Jvm.MethodName)) ∈ lw_all := lw_g (lw_at lw_m9 73 rfl) rfl
theorem q2112 : (Jvm.Cond.instanceMethod ({ cls := "PrairiePoolModel", name := "bin", desc := "(IIIII)I" } : Jvm.MethodName)) ∈ lw_all := lw_g (lw_at lw_m9 74 rfl) rfl
theorem q2113 : (Jvm.Cond.selects "PrairiePoolModel" ({ cls := "PrairiePoolModel", name := "bin", desc := "(IIIII)I" } : Jvm.MethodName) ({ cls := "PrairiePoolModel", name := "bin", desc := "(IIIII)I" } : Jvm.MethodName)) ∈ lw_all := lw_g (lw_at lw_m9 75 rfl) rfl
theorem q2114 : (Jvm.Cond.code ({ cls := "PrairiePoolModel", name := "bin", desc := "(IIIII)I" } : Jvm.MethodName) prog_27_method_40_code (8 : Nat) (Option.some Jvm.ClassFile.FieldType.int)) ∈ lw_all := lw_g (lw_at lw_m9 76 rfl) rfl
theorem q2115 : (Jvm.Cond.methodLink "PrairiePoolModel" (400 : Nat) ({ cls := "PrairiePoolModel", name := "isWho", desc := "(I)Z" } : Jvm.MethodName)) ∈ lw_all := lw_g (lw_at lw_m9 77 rfl) rfl
theorem q2116 : (Jvm.Cond.privateMethod ({ cls := "PrairiePoolModel", name := "isWho", desc := "(I)Z" } : Jvm.MethodName)) ∈ lw_tbl := lw_at lw_m9 78 rfl
theorem q2117 : (Jvm.Cond.instanceMethod ({ cls := "PrairiePoolModel", name := "isWho", desc := "(I)Z" } : Jvm.MethodName)) ∈ lw_all := lw_g (lw_at lw_m9 79 rfl) rfl
theorem q2118 : (Jvm.Cond.code ({ cls := "PrairiePoolModel", name := "isWho", desc := "(I)Z" } : Jvm.MethodName) prog_27_method_39_code (2 : Nat) (Option.some Jvm.ClassFile.FieldType.boolean)) ∈ lw_all := lw_g (lw_at lw_m9 80 rfl) rfl
theorem q2119 : (Jvm.Cond.methodLink "PrairiePoolModel" (403 : Nat) ({ cls := "PrairiePoolModel", name := "play", desc := "(I)V" } : Jvm.MethodName)) ∈ lw_all := lw_g (lw_at lw_m9 81 rfl) rfl
theorem q2120 : (Jvm.Cond.privateMethod ({ cls := "PrairiePoolModel", name := "play", desc := "(I)V" } : Jvm.MethodName)) ∈ lw_tbl := lw_at lw_m9 82 rfl
theorem q2121 : (Jvm.Cond.instanceMethod ({ cls := "PrairiePoolModel", name := "play", desc := "(I)V" } : Jvm.MethodName)) ∈ lw_all := lw_g (lw_at lw_m9 83 rfl) rfl
theorem q2122 : (Jvm.Cond.code ({ cls := "PrairiePoolModel", name := "play", desc := "(I)V" } : Jvm.MethodName) prog_27_method_36_code (3 : Nat) (Option.none : Option Jvm.ClassFile.FieldType)) ∈ lw_all := lw_g (lw_at lw_m9 84 rfl) rfl
theorem q2123 : (Jvm.Cond.methodLink "PrairiePoolModel" (382 : Nat) ({ cls := "PrairiePoolModel", name := "playLoad", desc := "(II)V" } : Jvm.MethodName)) ∈ lw_all := lw_g (lw_at lw_m9 85 rfl) rfl
theorem q2124 : (Jvm.Cond.privateMethod ({ cls := "PrairiePoolModel", name := "playLoad", desc := "(II)V" } : Jvm.MethodName)) ∈ lw_tbl := lw_at lw_m9 86 rfl
theorem q2125 : (Jvm.Cond.instanceMethod ({ cls := "PrairiePoolModel", name := "playLoad", desc := "(II)V" } : Jvm.MethodName)) ∈ lw_all := lw_g (lw_at lw_m9 87 rfl) rfl
theorem q2126 : (Jvm.Cond.code ({ cls := "PrairiePoolModel", name := "playLoad", desc := "(II)V" } : Jvm.MethodName) prog_27_method_37_code (4 : Nat) (Option.none : Option Jvm.ClassFile.FieldType)) ∈ lw_all := lw_g (lw_at lw_m9 88 rfl) rfl
theorem q2127 : (Jvm.Cond.methodLink "PrairiePoolModel" (390 : Nat) ({ cls := "PrairiePoolModel", name := "inElevator", desc := "(I)I" } : Jvm.MethodName)) ∈ lw_all := lw_g (lw_at lw_m9 89 rfl) rfl
theorem q2128 : (Jvm.Cond.privateMethod ({ cls := "PrairiePoolModel", name := "inElevator", desc := "(I)I" } : Jvm.MethodName)) ∈ lw_tbl := lw_at lw_m9 90 rfl
theorem q2129 : (Jvm.Cond.instanceMethod ({ cls := "PrairiePoolModel", name := "inElevator", desc := "(I)I" } : Jvm.MethodName)) ∈ lw_all := lw_g (lw_at lw_m9 91 rfl) rfl
theorem q2130 : (Jvm.Cond.code ({ cls := "PrairiePoolModel", name := "inElevator", desc := "(I)I" } : Jvm.MethodName) prog_27_method_35_code (4 : Nat) (Option.some Jvm.ClassFile.FieldType.int)) ∈ lw_all := lw_g (lw_at lw_m9 92 rfl) rfl
theorem q2131 : (Jvm.Cond.methodLink "PrairiePoolModel" (378 : Nat) ({ cls := "PrairiePoolModel", name := "binAt", desc := "(III)I" } : Jvm.MethodName)) ∈ lw_all := lw_g (lw_at lw_m9 93 rfl) rfl
theorem q2132 : (Jvm.Cond.static ({ cls := "PrairiePoolModel", name := "binAt", desc := "(III)I" } : Jvm.MethodName)) ∈ lw_all := lw_g (lw_at lw_m9 94 rfl) rfl
theorem q2133 : (Jvm.Cond.code ({ cls := "PrairiePoolModel", name := "binAt", desc := "(III)I" } : Jvm.MethodName) prog_27_method_32_code (3 : Nat) (Option.some Jvm.ClassFile.FieldType.int)) ∈ lw_all := lw_g (lw_at lw_m9 95 rfl) rfl
theorem q2134 : (Jvm.Cond.methodLink "PrairiePoolModel" (393 : Nat) ({ cls := "java/lang/Math", name := "max", desc := "(II)I" } : Jvm.MethodName)) ∈ lw_all := lw_g (lw_at lw_m9 96 rfl) rfl
theorem q2135 : (Jvm.Cond.methodLink "PrairiePoolModel" (386 : Nat) ({ cls := "PrairiePoolModel", name := "playOther", desc := "(I)V" } : Jvm.MethodName)) ∈ lw_all := lw_g (lw_at lw_m9 97 rfl) rfl
theorem q2136 : (Jvm.Cond.privateMethod ({ cls := "PrairiePoolModel", name := "playOther", desc := "(I)V" } : Jvm.MethodName)) ∈ lw_tbl := lw_at lw_m9 98 rfl
theorem q2137 : (Jvm.Cond.instanceMethod ({ cls := "PrairiePoolModel", name := "playOther", desc := "(I)V" } : Jvm.MethodName)) ∈ lw_all := lw_g (lw_at lw_m9 99 rfl) rfl
theorem q2138 : (Jvm.Cond.code ({ cls := "PrairiePoolModel", name := "playOther", desc := "(I)V" } : Jvm.MethodName) prog_27_method_38_code (6 : Nat) (Option.none : Option Jvm.ClassFile.FieldType)) ∈ lw_all := lw_g (lw_at lw_m9 100 rfl) rfl
theorem q2139 : (Jvm.Cond.methodLink "PrairiePoolModel" (396 : Nat) ({ cls := "PrairiePoolModel", name := "takeBin", desc := "(IIZ)I" } : Jvm.MethodName)) ∈ lw_all := lw_g (lw_at lw_m9 101 rfl) rfl
theorem q2140 : (Jvm.Cond.privateMethod ({ cls := "PrairiePoolModel", name := "takeBin", desc := "(IIZ)I" } : Jvm.MethodName)) ∈ lw_tbl := lw_at lw_m9 102 rfl
theorem q2141 : (Jvm.Cond.instanceMethod ({ cls := "PrairiePoolModel", name := "takeBin", desc := "(IIZ)I" } : Jvm.MethodName)) ∈ lw_all := lw_g (lw_at lw_m9 103 rfl) rfl
theorem q2142 : (Jvm.Cond.code ({ cls := "PrairiePoolModel", name := "takeBin", desc := "(IIZ)I" } : Jvm.MethodName) prog_27_method_34_code (6 : Nat) (Option.some Jvm.ClassFile.FieldType.int)) ∈ lw_all := lw_g (lw_at lw_m9 104 rfl) rfl
theorem q2143 : (Jvm.Cond.methodLink "PrairiePoolModel" (366 : Nat) ({ cls := "java/lang/Math", name := "min", desc := "(II)I" } : Jvm.MethodName)) ∈ lw_all := lw_g (lw_at lw_m9 105 rfl) rfl
theorem q2144 : (Jvm.Cond.methodLink "PrairiePoolModel" (374 : Nat) ({ cls := "PrairiePoolModel", name := "parts", desc := "(J)V" } : Jvm.MethodName)) ∈ lw_all := lw_g (lw_at lw_m9 106 rfl) rfl
theorem q2145 : (Jvm.Cond.privateMethod ({ cls := "PrairiePoolModel", name := "parts", desc := "(J)V" } : Jvm.MethodName)) ∈ lw_tbl := lw_at lw_m9 107 rfl
theorem q2146 : (Jvm.Cond.instanceMethod ({ cls := "PrairiePoolModel", name := "parts", desc := "(J)V" } : Jvm.MethodName)) ∈ lw_all := lw_g (lw_at lw_m9 108 rfl) rfl
theorem q2147 : (Jvm.Cond.code ({ cls := "PrairiePoolModel", name := "parts", desc := "(J)V" } : Jvm.MethodName) prog_27_method_33_code (9 : Nat) (Option.none : Option Jvm.ClassFile.FieldType)) ∈ lw_all := lw_g (lw_at lw_m9 109 rfl) rfl
theorem q2148 : (Jvm.Cond.methodLink "PrairiePoolLaw" (85 : Nat) ({ cls := "PrairiePoolModel", name := "port", desc := "(IIIII)I" } : Jvm.MethodName)) ∈ lw_all := lw_g (lw_at lw_m9 110 rfl) rfl
theorem q2149 : (Jvm.Cond.instanceMethod ({ cls := "PrairiePoolModel", name := "port", desc := "(IIIII)I" } : Jvm.MethodName)) ∈ lw_all := lw_g (lw_at lw_m9 111 rfl) rfl
theorem q2150 : (Jvm.Cond.selects "PrairiePoolModel" ({ cls := "PrairiePoolModel", name := "port", desc := "(IIIII)I" } : Jvm.MethodName) ({ cls := "PrairiePoolModel", name := "port", desc := "(IIIII)I" } : Jvm.MethodName)) ∈ lw_all := lw_g (lw_at lw_m9 112 rfl) rfl
theorem q2151 : (Jvm.Cond.code ({ cls := "PrairiePoolModel", name := "port", desc := "(IIIII)I" } : Jvm.MethodName) prog_27_method_41_code (8 : Nat) (Option.some Jvm.ClassFile.FieldType.int)) ∈ lw_all := lw_g (lw_at lw_m9 113 rfl) rfl
theorem q2152 : (Jvm.Cond.methodLink "PrairiePoolLaw" (89 : Nat) ({ cls := "PrairiePoolModel", name := "sum", desc := "(III)I" } : Jvm.MethodName)) ∈ lw_all := lw_g (lw_at lw_m9 114 rfl) rfl
theorem q2153 : (Jvm.Cond.instanceMethod ({ cls := "PrairiePoolModel", name := "sum", desc := "(III)I" } : Jvm.MethodName)) ∈ lw_all := lw_g (lw_at lw_m9 115 rfl) rfl
theorem q2154 : (Jvm.Cond.selects "PrairiePoolModel" ({ cls := "PrairiePoolModel", name := "sum", desc := "(III)I" } : Jvm.MethodName) ({ cls := "PrairiePoolModel", name := "sum", desc := "(III)I" } : Jvm.MethodName)) ∈ lw_all := lw_g (lw_at lw_m9 116 rfl) rfl
theorem q2155 : (Jvm.Cond.code ({ cls := "PrairiePoolModel", name := "sum", desc := "(III)I" } : Jvm.MethodName) prog_27_method_42_code (6 : Nat) (Option.some Jvm.ClassFile.FieldType.int)) ∈ lw_all := lw_g (lw_at lw_m9 117 rfl) rfl
theorem q2156 : (Jvm.Cond.constantLong "PrairiePoolModel" (406 : Nat) (4 : Int64)) ∈ lw_all := lw_g (lw_at lw_m9 118 rfl) rfl
theorem q2157 : (Jvm.Cond.constantLong "PrairiePoolModel" (408 : Nat) (3 : Int64)) ∈ lw_all := lw_g (lw_at lw_m9 119 rfl) rfl
theorem q2158 : (Jvm.Cond.methodLink "PrairiePoolLaw" (93 : Nat) ({ cls := "PrairiePoolModel", name := "feed", desc := "(IIIII)I" } : Jvm.MethodName)) ∈ lw_all := lw_g (lw_at lw_m9 120 rfl) rfl
theorem q2159 : (Jvm.Cond.instanceMethod ({ cls := "PrairiePoolModel", name := "feed", desc := "(IIIII)I" } : Jvm.MethodName)) ∈ lw_all := lw_g (lw_at lw_m9 121 rfl) rfl
theorem q2160 : (Jvm.Cond.selects "PrairiePoolModel" ({ cls := "PrairiePoolModel", name := "feed", desc := "(IIIII)I" } : Jvm.MethodName) ({ cls := "PrairiePoolModel", name := "feed", desc := "(IIIII)I" } : Jvm.MethodName)) ∈ lw_all := lw_g (lw_at lw_m9 122 rfl) rfl
theorem q2161 : (Jvm.Cond.code ({ cls := "PrairiePoolModel", name := "feed", desc := "(IIIII)I" } : Jvm.MethodName) prog_27_method_75_code (6 : Nat) (Option.some Jvm.ClassFile.FieldType.int)) ∈ lw_all := lw_g (lw_at lw_m9 123 rfl) rfl
theorem q2162 : (Jvm.Cond.methodLink "PrairiePoolModel" (559 : Nat) ({ cls := "PrairiePoolModel", name := "lay", desc := "(I)V" } : Jvm.MethodName)) ∈ lw_all := lw_g (lw_at lw_m9 124 rfl) rfl
theorem q2163 : (Jvm.Cond.privateMethod ({ cls := "PrairiePoolModel", name := "lay", desc := "(I)V" } : Jvm.MethodName)) ∈ lw_tbl := lw_at lw_m9 125 rfl
theorem q2164 : (Jvm.Cond.instanceMethod ({ cls := "PrairiePoolModel", name := "lay", desc := "(I)V" } : Jvm.MethodName)) ∈ lw_all := lw_g (lw_at lw_m9 126 rfl) rfl
theorem q2165 : (Jvm.Cond.code ({ cls := "PrairiePoolModel", name := "lay", desc := "(I)V" } : Jvm.MethodName) prog_27_method_76_code (3 : Nat) (Option.none : Option Jvm.ClassFile.FieldType)) ∈ lw_all := lw_g (lw_at lw_m9 127 rfl) rfl
theorem q2166 : (Jvm.Cond.methodLink "PrairiePoolLaw" (97 : Nat) ({ cls := "PrairiePoolModel", name := "acts", desc := "(II)I" } : Jvm.MethodName)) ∈ lw_all := lw_g (lw_at lw_m9 128 rfl) rfl
theorem q2167 : (Jvm.Cond.instanceMethod ({ cls := "PrairiePoolModel", name := "acts", desc := "(II)I" } : Jvm.MethodName)) ∈ lw_all := lw_g (lw_at lw_m9 129 rfl) rfl
theorem q2168 : (Jvm.Cond.selects "PrairiePoolModel" ({ cls := "PrairiePoolModel", name := "acts", desc := "(II)I" } : Jvm.MethodName) ({ cls := "PrairiePoolModel", name := "acts", desc := "(II)I" } : Jvm.MethodName)) ∈ lw_all := lw_g (lw_at lw_m9 130 rfl) rfl
theorem q2169 : (Jvm.Cond.code ({ cls := "PrairiePoolModel", name := "acts", desc := "(II)I" } : Jvm.MethodName) prog_27_method_77_code (4 : Nat) (Option.some Jvm.ClassFile.FieldType.int)) ∈ lw_all := lw_g (lw_at lw_m9 131 rfl) rfl
theorem q2170 : (Jvm.Cond.methodLink "PrairiePoolModel" (522 : Nat) ({ cls := "PrairiePoolModel", name := "next", desc := "()V" } : Jvm.MethodName)) ∈ lw_all := lw_g (lw_at lw_m9 132 rfl) rfl
theorem q2171 : (Jvm.Cond.privateMethod ({ cls := "PrairiePoolModel", name := "next", desc := "()V" } : Jvm.MethodName)) ∈ lw_tbl := lw_at lw_m9 133 rfl
theorem q2172 : (Jvm.Cond.instanceMethod ({ cls := "PrairiePoolModel", name := "next", desc := "()V" } : Jvm.MethodName)) ∈ lw_all := lw_g (lw_at lw_m9 134 rfl) rfl
theorem q2173 : (Jvm.Cond.code ({ cls := "PrairiePoolModel", name := "next", desc := "()V" } : Jvm.MethodName) prog_27_method_46_code (2 : Nat) (Option.none : Option Jvm.ClassFile.FieldType)) ∈ lw_all := lw_g (lw_at lw_m9 135 rfl) rfl
theorem q2174 : (Jvm.Cond.methodLink "PrairiePoolModel" (419 : Nat) ({ cls := "PrairiePoolModel", name := "look", desc := "(I)I" } : Jvm.MethodName)) ∈ lw_all := lw_g (lw_at lw_m9 136 rfl) rfl
theorem q2175 : (Jvm.Cond.privateMethod ({ cls := "PrairiePoolModel", name := "look", desc := "(I)I" } : Jvm.MethodName)) ∈ lw_tbl := lw_at lw_m9 137 rfl
theorem q2176 : (Jvm.Cond.instanceMethod ({ cls := "PrairiePoolModel", name := "look", desc := "(I)I" } : Jvm.MethodName)) ∈ lw_all := lw_g (lw_at lw_m9 138 rfl) rfl
theorem q2177 : (Jvm.Cond.code ({ cls := "PrairiePoolModel", name := "look", desc := "(I)I" } : Jvm.MethodName) prog_27_method_43_code (2 : Nat) (Option.some Jvm.ClassFile.FieldType.int)) ∈ lw_all := lw_g (lw_at lw_m9 139 rfl) rfl
theorem q2178 : (Jvm.Cond.methodLink "PrairiePoolModel" (425 : Nat) ({ cls := "PrairiePoolModel", name := "isLetter", desc := "(I)Z" } : Jvm.MethodName)) ∈ lw_all := lw_g (lw_at lw_m9 140 rfl) rfl
theorem q2179 : (Jvm.Cond.static ({ cls := "PrairiePoolModel", name := "isLetter", desc := "(I)Z" } : Jvm.MethodName)) ∈ lw_all := lw_g (lw_at lw_m9 141 rfl) rfl
theorem q2180 : (Jvm.Cond.code ({ cls := "PrairiePoolModel", name := "isLetter", desc := "(I)Z" } : Jvm.MethodName) prog_27_method_44_code (1 : Nat) (Option.some Jvm.ClassFile.FieldType.boolean)) ∈ lw_all := lw_g (lw_at lw_m9 142 rfl) rfl
theorem q2181 : (Jvm.Cond.methodLink "PrairiePoolModel" (439 : Nat) ({ cls := "PrairiePoolModel", name := "isDigit", desc := "(I)Z" } : Jvm.MethodName)) ∈ lw_all := lw_g (lw_at lw_m9 143 rfl) rfl
theorem q2182 : (Jvm.Cond.static ({ cls := "PrairiePoolModel", name := "isDigit", desc := "(I)Z" } : Jvm.MethodName)) ∈ lw_all := lw_g (lw_at lw_m9 144 rfl) rfl
theorem q2183 : (Jvm.Cond.code ({ cls := "PrairiePoolModel", name := "isDigit", desc := "(I)Z" } : Jvm.MethodName) prog_27_method_45_code (1 : Nat) (Option.some Jvm.ClassFile.FieldType.boolean)) ∈ lw_all := lw_g (lw_at lw_m9 145 rfl) rfl
theorem q2184 : (Jvm.Cond.constantLong "PrairiePoolModel" (445 : Nat) (58 : Int64)) ∈ lw_all := lw_g (lw_at lw_m9 146 rfl) rfl
theorem q2185 : (Jvm.Cond.constantLong "PrairiePoolModel" (447 : Nat) (62 : Int64)) ∈ lw_all := lw_g (lw_at lw_m9 147 rfl) rfl
theorem q2186 : (Jvm.Cond.constantLong "PrairiePoolModel" (449 : Nat) (40 : Int64)) ∈ lw_all := lw_g (lw_at lw_m9 148 rfl) rfl
theorem q2187 : (Jvm.Cond.constantLong "PrairiePoolModel" (451 : Nat) (45 : Int64)) ∈ lw_all := lw_g (lw_at lw_m9 149 rfl) rfl
theorem q2188 : (Jvm.Cond.methodLink "PrairiePoolModel" (565 : Nat) ({ cls := "PrairiePoolModel", name := "readDef", desc := "()V" } : Jvm.MethodName)) ∈ lw_all := lw_g (lw_at lw_m9 150 rfl) rfl
theorem q2189 : (Jvm.Cond.privateMethod ({ cls := "PrairiePoolModel", name := "readDef", desc := "()V" } : Jvm.MethodName)) ∈ lw_tbl := lw_at lw_m9 151 rfl
theorem q2190 : (Jvm.Cond.instanceMethod ({ cls := "PrairiePoolModel", name := "readDef", desc := "()V" } : Jvm.MethodName)) ∈ lw_all := lw_g (lw_at lw_m9 152 rfl) rfl
theorem q2191 : (Jvm.Cond.code ({ cls := "PrairiePoolModel", name := "readDef", desc := "()V" } : Jvm.MethodName) prog_27_method_74_code (3 : Nat) (Option.none : Option Jvm.ClassFile.FieldType)) ∈ lw_all := lw_g (lw_at lw_m9 153 rfl) rfl
theorem q2192 : (Jvm.Cond.methodLink "PrairiePoolModel" (546 : Nat) ({ cls := "PrairiePoolModel", name := "variable", desc := "()I" } : Jvm.MethodName)) ∈ lw_all := lw_g (lw_at lw_m9 154 rfl) rfl
theorem q2193 : (Jvm.Cond.privateMethod ({ cls := "PrairiePoolModel", name := "variable", desc := "()I" } : Jvm.MethodName)) ∈ lw_tbl := lw_at lw_m9 155 rfl
theorem q2194 : (Jvm.Cond.instanceMethod ({ cls := "PrairiePoolModel", name := "variable", desc := "()I" } : Jvm.MethodName)) ∈ lw_all := lw_g (lw_at lw_m9 156 rfl) rfl
theorem q2195 : (Jvm.Cond.code ({ cls := "PrairiePoolModel", name := "variable", desc := "()I" } : Jvm.MethodName) prog_27_method_52_code (1 : Nat) (Option.some Jvm.ClassFile.FieldType.int)) ∈ lw_all := lw_g (lw_at lw_m9 157 rfl) rfl
theorem q2196 : (Jvm.Cond.methodLink "PrairiePoolModel" (462 : Nat) ({ cls := "PrairiePoolModel", name := "isWord", desc := "(J)Z" } : Jvm.MethodName)) ∈ lw_all := lw_g (lw_at lw_m9 158 rfl) rfl
theorem q2197 : (Jvm.Cond.privateMethod ({ cls := "PrairiePoolModel", name := "isWord", desc := "(J)Z" } : Jvm.MethodName)) ∈ lw_tbl := lw_at lw_m9 159 rfl
theorem q2198 : (Jvm.Cond.instanceMethod ({ cls := "PrairiePoolModel", name := "isWord", desc := "(J)Z" } : Jvm.MethodName)) ∈ lw_all := lw_g (lw_at lw_m9 160 rfl) rfl
theorem q2199 : (Jvm.Cond.code ({ cls := "PrairiePoolModel", name := "isWord", desc := "(J)Z" } : Jvm.MethodName) prog_27_method_48_code (3 : Nat) (Option.some Jvm.ClassFile.FieldType.boolean)) ∈ lw_all := lw_g (lw_at lw_m9 161 rfl) rfl
theorem q2200 : (Jvm.Cond.constantLong "PrairiePoolModel" (466 : Nat) (253792434 : Int64)) ∈ lw_all := lw_g (lw_at lw_m9 162 rfl) rfl
theorem q2201 : (Jvm.Cond.constantLong "PrairiePoolModel" (468 : Nat) (2872317331 : Int64)) ∈ lw_all := lw_g (lw_at lw_m9 163 rfl) rfl
theorem q2202 : (Jvm.Cond.constantLong "PrairiePoolModel" (470 : Nat) (147761734772 : Int64)) ∈ lw_all := lw_g (lw_at lw_m9 164 rfl) rfl
theorem q2203 : (Jvm.Cond.methodLink "PrairiePoolModel" (510 : Nat) ({ cls := "PrairiePoolModel", name := "isKept", desc := "()Z" } : Jvm.MethodName)) ∈ lw_all := lw_g (lw_at lw_m9 165 rfl) rfl
theorem q2204 : (Jvm.Cond.privateMethod ({ cls := "PrairiePoolModel", name := "isKept", desc := "()Z" } : Jvm.MethodName)) ∈ lw_tbl := lw_at lw_m9 166 rfl
theorem q2205 : (Jvm.Cond.instanceMethod ({ cls := "PrairiePoolModel", name := "isKept", desc := "()Z" } : Jvm.MethodName)) ∈ lw_all := lw_g (lw_at lw_m9 167 rfl) rfl
theorem q2206 : (Jvm.Cond.code ({ cls := "PrairiePoolModel", name := "isKept", desc := "()Z" } : Jvm.MethodName) prog_27_method_61_code (1 : Nat) (Option.some Jvm.ClassFile.FieldType.boolean)) ∈ lw_all := lw_g (lw_at lw_m9 168 rfl) rfl
theorem q2207 : (Jvm.Cond.methodLink "PrairiePoolModel" (472 : Nat) ({ cls := "PrairiePoolModel", name := "isIf", desc := "()Z" } : Jvm.MethodName)) ∈ lw_all := lw_g (lw_at lw_m9 169 rfl) rfl
theorem q2208 : (Jvm.Cond.privateMethod ({ cls := "PrairiePoolModel", name := "isIf", desc := "()Z" } : Jvm.MethodName)) ∈ lw_tbl := lw_at lw_m9 170 rfl
theorem q2209 : (Jvm.Cond.instanceMethod ({ cls := "PrairiePoolModel", name := "isIf", desc := "()Z" } : Jvm.MethodName)) ∈ lw_all := lw_g (lw_at lw_m9 171 rfl) rfl
theorem q2210 : (Jvm.Cond.code ({ cls := "PrairiePoolModel", name := "isIf", desc := "()Z" } : Jvm.MethodName) prog_27_method_53_code (1 : Nat) (Option.some Jvm.ClassFile.FieldType.boolean)) ∈ lw_all := lw_g (lw_at lw_m9 172 rfl) rfl
theorem q2211 : (Jvm.Cond.methodLink "PrairiePoolModel" (476 : Nat) ({ cls := "PrairiePoolModel", name := "isThen", desc := "()Z" } : Jvm.MethodName)) ∈ lw_all := lw_g (lw_at lw_m9 173 rfl) rfl
theorem q2212 : (Jvm.Cond.privateMethod ({ cls := "PrairiePoolModel", name := "isThen", desc := "()Z" } : Jvm.MethodName)) ∈ lw_tbl := lw_at lw_m9 174 rfl
theorem q2213 : (Jvm.Cond.instanceMethod ({ cls := "PrairiePoolModel", name := "isThen", desc := "()Z" } : Jvm.MethodName)) ∈ lw_all := lw_g (lw_at lw_m9 175 rfl) rfl
theorem q2214 : (Jvm.Cond.code ({ cls := "PrairiePoolModel", name := "isThen", desc := "()Z" } : Jvm.MethodName) prog_27_method_54_code (1 : Nat) (Option.some Jvm.ClassFile.FieldType.boolean)) ∈ lw_all := lw_g (lw_at lw_m9 176 rfl) rfl
theorem q2215 : (Jvm.Cond.methodLink "PrairiePoolModel" (479 : Nat) ({ cls := "PrairiePoolModel", name := "isElse", desc := "()Z" } : Jvm.MethodName)) ∈ lw_all := lw_g (lw_at lw_m9 177 rfl) rfl
theorem q2216 : (Jvm.Cond.privateMethod ({ cls := "PrairiePoolModel", name := "isElse", desc := "()Z" } : Jvm.MethodName)) ∈ lw_tbl := lw_at lw_m9 178 rfl
theorem q2217 : (Jvm.Cond.instanceMethod ({ cls := "PrairiePoolModel", name := "isElse", desc := "()Z" } : Jvm.MethodName)) ∈ lw_all := lw_g (lw_at lw_m9 179 rfl) rfl
theorem q2218 : (Jvm.Cond.code ({ cls := "PrairiePoolModel", name := "isElse", desc := "()Z" } : Jvm.MethodName) prog_27_method_55_code (1 : Nat) (Option.some Jvm.ClassFile.FieldType.boolean)) ∈ lw_all := lw_g (lw_at lw_m9 180 rfl) rfl
theorem q2219 : (Jvm.Cond.methodLink "PrairiePoolModel" (482 : Nat) ({ cls := "PrairiePoolModel", name := "isAnd", desc := "()Z" } : Jvm.MethodName)) ∈ lw_all := lw_g (lw_at lw_m9 181 rfl) rfl
theorem q2220 : (Jvm.Cond.privateMethod ({ cls := "PrairiePoolModel", name := "isAnd", desc := "()Z" } : Jvm.MethodName)) ∈ lw_tbl := lw_at lw_m9 182 rfl
theorem q2221 : (Jvm.Cond.instanceMethod ({ cls := "PrairiePoolModel", name := "isAnd", desc := "()Z" } : Jvm.MethodName)) ∈ lw_all := lw_g (lw_at lw_m9 183 rfl) rfl
theorem q2222 : (Jvm.Cond.code ({ cls := "PrairiePoolModel", name := "isAnd", desc := "()Z" } : Jvm.MethodName) prog_27_method_56_code (1 : Nat) (Option.some Jvm.ClassFile.FieldType.boolean)) ∈ lw_all := lw_g (lw_at lw_m9 184 rfl) rfl
theorem q2223 : (Jvm.Cond.methodLink "PrairiePoolModel" (485 : Nat) ({ cls := "PrairiePoolModel", name := "isOr", desc := "()Z" } : Jvm.MethodName)) ∈ lw_all := lw_g (lw_at lw_m9 185 rfl) rfl
theorem q2224 : (Jvm.Cond.privateMethod ({ cls := "PrairiePoolModel", name := "isOr", desc := "()Z" } : Jvm.MethodName)) ∈ lw_tbl := lw_at lw_m9 186 rfl
theorem q2225 : (Jvm.Cond.instanceMethod ({ cls := "PrairiePoolModel", name := "isOr", desc := "()Z" } : Jvm.MethodName)) ∈ lw_all := lw_g (lw_at lw_m9 187 rfl) rfl
theorem q2226 : (Jvm.Cond.code ({ cls := "PrairiePoolModel", name := "isOr", desc := "()Z" } : Jvm.MethodName) prog_27_method_57_code (1 : Nat) (Option.some Jvm.ClassFile.FieldType.boolean)) ∈ lw_all := lw_g (lw_at lw_m9 188 rfl) rfl
theorem q2227 : (Jvm.Cond.methodLink "PrairiePoolModel" (488 : Nat) ({ cls := "PrairiePoolModel", name := "isNot", desc := "()Z" } : Jvm.MethodName)) ∈ lw_all := lw_g (lw_at lw_m9 189 rfl) rfl
theorem q2228 : (Jvm.Cond.privateMethod ({ cls := "PrairiePoolModel", name := "isNot", desc := "()Z" } : Jvm.MethodName)) ∈ lw_tbl := lw_at lw_m9 190 rfl
theorem q2229 : (Jvm.Cond.instanceMethod ({ cls := "PrairiePoolModel", name := "isNot", desc := "()Z" } : Jvm.MethodName)) ∈ lw_all := lw_g (lw_at lw_m9 191 rfl) rfl
theorem q2230 : (Jvm.Cond.code ({ cls := "PrairiePoolModel", name := "isNot", desc := "()Z" } : Jvm.MethodName) prog_27_method_58_code (1 : Nat) (Option.some Jvm.ClassFile.FieldType.boolean)) ∈ lw_all := lw_g (lw_at lw_m9 192 rfl) rfl
theorem q2231 : (Jvm.Cond.methodLink "PrairiePoolModel" (491 : Nat) ({ cls := "PrairiePoolModel", name := "isLeast", desc := "()Z" } : Jvm.MethodName)) ∈ lw_all := lw_g (lw_at lw_m9 193 rfl) rfl
theorem q2232 : (Jvm.Cond.privateMethod ({ cls := "PrairiePoolModel", name := "isLeast", desc := "()Z" } : Jvm.MethodName)) ∈ lw_tbl := lw_at lw_m9 194 rfl
theorem q2233 : (Jvm.Cond.instanceMethod ({ cls := "PrairiePoolModel", name := "isLeast", desc := "()Z" } : Jvm.MethodName)) ∈ lw_all := lw_g (lw_at lw_m9 195 rfl) rfl
theorem q2234 : (Jvm.Cond.code ({ cls := "PrairiePoolModel", name := "isLeast", desc := "()Z" } : Jvm.MethodName) prog_27_method_59_code (1 : Nat) (Option.some Jvm.ClassFile.FieldType.boolean)) ∈ lw_all := lw_g (lw_at lw_m9 196 rfl) rfl
theorem q2235 : (Jvm.Cond.methodLink "PrairiePoolModel" (494 : Nat) ({ cls := "PrairiePoolModel", name := "isMost", desc := "()Z" } : Jvm.MethodName)) ∈ lw_all := lw_g (lw_at lw_m9 197 rfl) rfl
theorem q2236 : (Jvm.Cond.privateMethod ({ cls := "PrairiePoolModel", name := "isMost", desc := "()Z" } : Jvm.MethodName)) ∈ lw_tbl := lw_at lw_m9 198 rfl
theorem q2237 : (Jvm.Cond.instanceMethod ({ cls := "PrairiePoolModel", name := "isMost", desc := "()Z" } : Jvm.MethodName)) ∈ lw_all := lw_g (lw_at lw_m9 199 rfl) rfl
theorem q2238 : (Jvm.Cond.code ({ cls := "PrairiePoolModel", name := "isMost", desc := "()Z" } : Jvm.MethodName) prog_27_method_60_code (1 : Nat) (Option.some Jvm.ClassFile.FieldType.boolean)) ∈ lw_all := lw_g (lw_at lw_m9 200 rfl) rfl
theorem q2239 : (Jvm.Cond.methodLink "PrairiePoolModel" (516 : Nat) ({ cls := "PrairiePoolModel", name := "wrong", desc := "()V" } : Jvm.MethodName)) ∈ lw_all := lw_g (lw_at lw_m9 201 rfl) rfl
theorem q2240 : (Jvm.Cond.privateMethod ({ cls := "PrairiePoolModel", name := "wrong", desc := "()V" } : Jvm.MethodName)) ∈ lw_tbl := lw_at lw_m9 202 rfl
theorem q2241 : (Jvm.Cond.instanceMethod ({ cls := "PrairiePoolModel", name := "wrong", desc := "()V" } : Jvm.MethodName)) ∈ lw_all := lw_g (lw_at lw_m9 203 rfl) rfl
theorem q2242 : (Jvm.Cond.code ({ cls := "PrairiePoolModel", name := "wrong", desc := "()V" } : Jvm.MethodName) prog_27_method_51_code (1 : Nat) (Option.none : Option Jvm.ClassFile.FieldType)) ∈ lw_all := lw_g (lw_at lw_m9 204 rfl) rfl
theorem q2243 : (Jvm.Cond.methodLink "PrairiePoolModel" (459 : Nat) ({ cls := "PrairiePoolModel", name := "fail", desc := "(II)V" } : Jvm.MethodName)) ∈ lw_all := lw_g (lw_at lw_m9 205 rfl) rfl
theorem q2244 : (Jvm.Cond.privateMethod ({ cls := "PrairiePoolModel", name := "fail", desc := "(II)V" } : Jvm.MethodName)) ∈ lw_tbl := lw_at lw_m9 206 rfl
theorem q2245 : (Jvm.Cond.instanceMethod ({ cls := "PrairiePoolModel", name := "fail", desc := "(II)V" } : Jvm.MethodName)) ∈ lw_all := lw_g (lw_at lw_m9 207 rfl) rfl
theorem q2246 : (Jvm.Cond.code ({ cls := "PrairiePoolModel", name := "fail", desc := "(II)V" } : Jvm.MethodName) prog_27_method_50_code (3 : Nat) (Option.none : Option Jvm.ClassFile.FieldType)) ∈ lw_all := lw_g (lw_at lw_m9 208 rfl) rfl
theorem q2247 : (Jvm.Cond.methodLink "PrairiePoolModel" (550 : Nat) ({ cls := "PrairiePoolModel", name := "named", desc := "()I" } : Jvm.MethodName)) ∈ lw_all := lw_g (lw_at lw_m9 209 rfl) rfl
theorem q2248 : (Jvm.Cond.privateMethod ({ cls := "PrairiePoolModel", name := "named", desc := "()I" } : Jvm.MethodName)) ∈ lw_tbl := lw_at lw_m9 210 rfl
theorem q2249 : (Jvm.Cond.instanceMethod ({ cls := "PrairiePoolModel", name := "named", desc := "()I" } : Jvm.MethodName)) ∈ lw_all := lw_g (lw_at lw_m9 211 rfl) rfl
theorem q2250 : (Jvm.Cond.code ({ cls := "PrairiePoolModel", name := "named", desc := "()I" } : Jvm.MethodName) prog_27_method_62_code (2 : Nat) (Option.some Jvm.ClassFile.FieldType.int)) ∈ lw_all := lw_g (lw_at lw_m9 212 rfl) rfl
theorem q2251 : (Jvm.Cond.methodLink "PrairiePoolModel" (507 : Nat) ({ cls := "PrairiePoolModel", name := "isSign", desc := "(I)Z" } : Jvm.MethodName)) ∈ lw_all := lw_g (lw_at lw_m9 213 rfl) rfl
theorem q2252 : (Jvm.Cond.privateMethod ({ cls := "PrairiePoolModel", name := "isSign", desc := "(I)Z" } : Jvm.MethodName)) ∈ lw_tbl := lw_at lw_m9 214 rfl
theorem q2253 : (Jvm.Cond.instanceMethod ({ cls := "PrairiePoolModel", name := "isSign", desc := "(I)Z" } : Jvm.MethodName)) ∈ lw_all := lw_g (lw_at lw_m9 215 rfl) rfl
theorem q2254 : (Jvm.Cond.code ({ cls := "PrairiePoolModel", name := "isSign", desc := "(I)Z" } : Jvm.MethodName) prog_27_method_49_code (2 : Nat) (Option.some Jvm.ClassFile.FieldType.boolean)) ∈ lw_all := lw_g (lw_at lw_m9 216 rfl) rfl
theorem q2255 : (Jvm.Cond.methodLink "PrairiePoolModel" (531 : Nat) ({ cls := "PrairiePoolModel", name := "readWhole", desc := "(I)V" } : Jvm.MethodName)) ∈ lw_all := lw_g (lw_at lw_m9 217 rfl) rfl
theorem q2256 : (Jvm.Cond.privateMethod ({ cls := "PrairiePoolModel", name := "readWhole", desc := "(I)V" } : Jvm.MethodName)) ∈ lw_tbl := lw_at lw_m9 218 rfl
theorem q2257 : (Jvm.Cond.instanceMethod ({ cls := "PrairiePoolModel", name := "readWhole", desc := "(I)V" } : Jvm.MethodName)) ∈ lw_all := lw_g (lw_at lw_m9 219 rfl) rfl
theorem q2258 : (Jvm.Cond.code ({ cls := "PrairiePoolModel", name := "readWhole", desc := "(I)V" } : Jvm.MethodName) prog_27_method_66_code (4 : Nat) (Option.none : Option Jvm.ClassFile.FieldType)) ∈ lw_all := lw_g (lw_at lw_m9 220 rfl) rfl
theorem q2259 : (Jvm.Cond.methodLink "PrairiePoolModel" (513 : Nat) ({ cls := "PrairiePoolModel", name := "canBegin", desc := "()Z" } : Jvm.MethodName)) ∈ lw_all := lw_g (lw_at lw_m9 221 rfl) rfl
theorem q2260 : (Jvm.Cond.privateMethod ({ cls := "PrairiePoolModel", name := "canBegin", desc := "()Z" } : Jvm.MethodName)) ∈ lw_tbl := lw_at lw_m9 222 rfl
theorem q2261 : (Jvm.Cond.instanceMethod ({ cls := "PrairiePoolModel", name := "canBegin", desc := "()Z" } : Jvm.MethodName)) ∈ lw_all := lw_g (lw_at lw_m9 223 rfl) rfl
theorem q2262 : (Jvm.Cond.code ({ cls := "PrairiePoolModel", name := "canBegin", desc := "()Z" } : Jvm.MethodName) prog_27_method_64_code (1 : Nat) (Option.some Jvm.ClassFile.FieldType.boolean)) ∈ lw_all := lw_g (lw_at lw_m9 224 rfl) rfl
theorem q2263 : (Jvm.Cond.methodLink "PrairiePoolModel" (504 : Nat) ({ cls := "PrairiePoolModel", name := "canBeginSum", desc := "()Z" } : Jvm.MethodName)) ∈ lw_all := lw_g (lw_at lw_m9 225 rfl) rfl
theorem q2264 : (Jvm.Cond.privateMethod ({ cls := "PrairiePoolModel", name := "canBeginSum", desc := "()Z" } : Jvm.MethodName)) ∈ lw_tbl := lw_at lw_m9 226 rfl
theorem q2265 : (Jvm.Cond.instanceMethod ({ cls := "PrairiePoolModel", name := "canBeginSum", desc := "()Z" } : Jvm.MethodName)) ∈ lw_all := lw_g (lw_at lw_m9 227 rfl) rfl
theorem q2266 : (Jvm.Cond.code ({ cls := "PrairiePoolModel", name := "canBeginSum", desc := "()Z" } : Jvm.MethodName) prog_27_method_65_code (1 : Nat) (Option.some Jvm.ClassFile.FieldType.boolean)) ∈ lw_all := lw_g (lw_at lw_m9 228 rfl) rfl
theorem q2267 : (Jvm.Cond.methodLink "PrairiePoolModel" (519 : Nat) ({ cls := "PrairiePoolModel", name := "readSum", desc := "(I)V" } : Jvm.MethodName)) ∈ lw_all := lw_g (lw_at lw_m9 229 rfl) rfl
theorem q2268 : (Jvm.Cond.privateMethod ({ cls := "PrairiePoolModel", name := "readSum", desc := "(I)V" } : Jvm.MethodName)) ∈ lw_tbl := lw_at lw_m9 230 rfl
theorem q2269 : (Jvm.Cond.instanceMethod ({ cls := "PrairiePoolModel", name := "readSum", desc := "(I)V" } : Jvm.MethodName)) ∈ lw_all := lw_g (lw_at lw_m9 231 rfl) rfl
theorem q2270 : (Jvm.Cond.code ({ cls := "PrairiePoolModel", name := "readSum", desc := "(I)V" } : Jvm.MethodName) prog_27_method_69_code (3 : Nat) (Option.none : Option Jvm.ClassFile.FieldType)) ∈ lw_all := lw_g (lw_at lw_m9 232 rfl) rfl
theorem q2271 : (Jvm.Cond.methodLink "PrairiePoolModel" (537 : Nat) ({ cls := "PrairiePoolModel", name := "readItem", desc := "(I)V" } : Jvm.MethodName)) ∈ lw_all := lw_g (lw_at lw_m9 233 rfl) rfl
theorem q2272 : (Jvm.Cond.privateMethod ({ cls := "PrairiePoolModel", name := "readItem", desc := "(I)V" } : Jvm.MethodName)) ∈ lw_tbl := lw_at lw_m9 234 rfl
theorem q2273 : (Jvm.Cond.instanceMethod ({ cls := "PrairiePoolModel", name := "readItem", desc := "(I)V" } : Jvm.MethodName)) ∈ lw_all := lw_g (lw_at lw_m9 235 rfl) rfl
theorem q2274 : (Jvm.Cond.code ({ cls := "PrairiePoolModel", name := "readItem", desc := "(I)V" } : Jvm.MethodName) prog_27_method_70_code (3 : Nat) (Option.none : Option Jvm.ClassFile.FieldType)) ∈ lw_all := lw_g (lw_at lw_m9 236 rfl) rfl
theorem q2275 : (Jvm.Cond.methodLink "PrairiePoolModel" (540 : Nat) ({ cls := "PrairiePoolModel", name := "readAtom", desc := "(I)V" } : Jvm.MethodName)) ∈ lw_all := lw_g (lw_at lw_m9 237 rfl) rfl
theorem q2276 : (Jvm.Cond.privateMethod ({ cls := "PrairiePoolModel", name := "readAtom", desc := "(I)V" } : Jvm.MethodName)) ∈ lw_tbl := lw_at lw_m9 238 rfl
theorem q2277 : (Jvm.Cond.instanceMethod ({ cls := "PrairiePoolModel", name := "readAtom", desc := "(I)V" } : Jvm.MethodName)) ∈ lw_all := lw_g (lw_at lw_m9 239 rfl) rfl
theorem q2278 : (Jvm.Cond.code ({ cls := "PrairiePoolModel", name := "readAtom", desc := "(I)V" } : Jvm.MethodName) prog_27_method_71_code (4 : Nat) (Option.none : Option Jvm.ClassFile.FieldType)) ∈ lw_all := lw_g (lw_at lw_m10 0 rfl) rfl
theorem q2279 : (Jvm.Cond.methodLink "PrairiePoolModel" (528 : Nat) ({ cls := "PrairiePoolModel", name := "mark", desc := "(II)V" } : Jvm.MethodName)) ∈ lw_all := lw_g (lw_at lw_m10 1 rfl) rfl
theorem q2280 : (Jvm.Cond.privateMethod ({ cls := "PrairiePoolModel", name := "mark", desc := "(II)V" } : Jvm.MethodName)) ∈ lw_tbl := lw_at lw_m10 2 rfl
theorem q2281 : (Jvm.Cond.instanceMethod ({ cls := "PrairiePoolModel", name := "mark", desc := "(II)V" } : Jvm.MethodName)) ∈ lw_all := lw_g (lw_at lw_m10 3 rfl) rfl
theorem q2282 : (Jvm.Cond.code ({ cls := "PrairiePoolModel", name := "mark", desc := "(II)V" } : Jvm.MethodName) prog_27_method_63_code (3 : Nat) (Option.none : Option Jvm.ClassFile.FieldType)) ∈ lw_all := lw_g (lw_at lw_m10 4 rfl) rfl
theorem q2283 : (Jvm.Cond.methodLink "PrairiePoolModel" (543 : Nat) ({ cls := "PrairiePoolModel", name := "readFew", desc := "(II)V" } : Jvm.MethodName)) ∈ lw_all := lw_g (lw_at lw_m10 5 rfl) rfl
theorem q2284 : (Jvm.Cond.privateMethod ({ cls := "PrairiePoolModel", name := "readFew", desc := "(II)V" } : Jvm.MethodName)) ∈ lw_tbl := lw_at lw_m10 6 rfl
theorem q2285 : (Jvm.Cond.instanceMethod ({ cls := "PrairiePoolModel", name := "readFew", desc := "(II)V" } : Jvm.MethodName)) ∈ lw_all := lw_g (lw_at lw_m10 7 rfl) rfl
theorem q2286 : (Jvm.Cond.code ({ cls := "PrairiePoolModel", name := "readFew", desc := "(II)V" } : Jvm.MethodName) prog_27_method_72_code (3 : Nat) (Option.none : Option Jvm.ClassFile.FieldType)) ∈ lw_all := lw_g (lw_at lw_m10 8 rfl) rfl
theorem q2287 : (Jvm.Cond.methodLink "PrairiePoolModel" (553 : Nat) ({ cls := "PrairiePoolModel", name := "readDeeper", desc := "(I)V" } : Jvm.MethodName)) ∈ lw_all := lw_g (lw_at lw_m10 9 rfl) rfl
theorem q2288 : (Jvm.Cond.privateMethod ({ cls := "PrairiePoolModel", name := "readDeeper", desc := "(I)V" } : Jvm.MethodName)) ∈ lw_tbl := lw_at lw_m10 10 rfl
theorem q2289 : (Jvm.Cond.instanceMethod ({ cls := "PrairiePoolModel", name := "readDeeper", desc := "(I)V" } : Jvm.MethodName)) ∈ lw_all := lw_g (lw_at lw_m10 11 rfl) rfl
theorem q2290 : (Jvm.Cond.code ({ cls := "PrairiePoolModel", name := "readDeeper", desc := "(I)V" } : Jvm.MethodName) prog_27_method_73_code (2 : Nat) (Option.none : Option Jvm.ClassFile.FieldType)) ∈ lw_all := lw_g (lw_at lw_m10 12 rfl) rfl
theorem q2291 : (Jvm.Cond.methodLink "PrairiePoolModel" (525 : Nat) ({ cls := "PrairiePoolModel", name := "readTest", desc := "(I)V" } : Jvm.MethodName)) ∈ lw_all := lw_g (lw_at lw_m10 13 rfl) rfl
theorem q2292 : (Jvm.Cond.privateMethod ({ cls := "PrairiePoolModel", name := "readTest", desc := "(I)V" } : Jvm.MethodName)) ∈ lw_tbl := lw_at lw_m10 14 rfl
theorem q2293 : (Jvm.Cond.instanceMethod ({ cls := "PrairiePoolModel", name := "readTest", desc := "(I)V" } : Jvm.MethodName)) ∈ lw_all := lw_g (lw_at lw_m10 15 rfl) rfl
theorem q2294 : (Jvm.Cond.code ({ cls := "PrairiePoolModel", name := "readTest", desc := "(I)V" } : Jvm.MethodName) prog_27_method_67_code (3 : Nat) (Option.none : Option Jvm.ClassFile.FieldType)) ∈ lw_all := lw_g (lw_at lw_m10 16 rfl) rfl
theorem q2295 : (Jvm.Cond.methodLink "PrairiePoolModel" (534 : Nat) ({ cls := "PrairiePoolModel", name := "readOne", desc := "(I)V" } : Jvm.MethodName)) ∈ lw_all := lw_g (lw_at lw_m10 17 rfl) rfl
theorem q2296 : (Jvm.Cond.privateMethod ({ cls := "PrairiePoolModel", name := "readOne", desc := "(I)V" } : Jvm.MethodName)) ∈ lw_tbl := lw_at lw_m10 18 rfl
theorem q2297 : (Jvm.Cond.instanceMethod ({ cls := "PrairiePoolModel", name := "readOne", desc := "(I)V" } : Jvm.MethodName)) ∈ lw_all := lw_g (lw_at lw_m10 19 rfl) rfl
theorem q2298 : (Jvm.Cond.code ({ cls := "PrairiePoolModel", name := "readOne", desc := "(I)V" } : Jvm.MethodName) prog_27_method_68_code (4 : Nat) (Option.none : Option Jvm.ClassFile.FieldType)) ∈ lw_all := lw_g (lw_at lw_m10 20 rfl) rfl
theorem q2299 : (Jvm.Cond.methodLink "PrairiePoolLaw" (102 : Nat) ({ cls := "PrairiePoolModel", name := "fault", desc := "(I)I" } : Jvm.MethodName)) ∈ lw_all := lw_g (lw_at lw_m10 21 rfl) rfl
theorem q2300 : (Jvm.Cond.instanceMethod ({ cls := "PrairiePoolModel", name := "fault", desc := "(I)I" } : Jvm.MethodName)) ∈ lw_all := lw_g (lw_at lw_m10 22 rfl) rfl
theorem q2301 : (Jvm.Cond.selects "PrairiePoolModel" ({ cls := "PrairiePoolModel", name := "fault", desc := "(I)I" } : Jvm.MethodName) ({ cls := "PrairiePoolModel", name := "fault", desc := "(I)I" } : Jvm.MethodName)) ∈ lw_all := lw_g (lw_at lw_m10 23 rfl) rfl
theorem q2302 : (Jvm.Cond.code ({ cls := "PrairiePoolModel", name := "fault", desc := "(I)I" } : Jvm.MethodName) prog_27_method_78_code (2 : Nat) (Option.some Jvm.ClassFile.FieldType.int)) ∈ lw_all := lw_g (lw_at lw_m10 24 rfl) rfl
theorem q2303 : (Jvm.Cond.methodLink "PrairiePoolLaw" (107 : Nat) ({ cls := "PrairiePoolModel", name := "paid", desc := "(IIII)J" } : Jvm.MethodName)) ∈ lw_all := lw_g (lw_at lw_m10 25 rfl) rfl
theorem q2304 : (Jvm.Cond.instanceMethod ({ cls := "PrairiePoolModel", name := "paid", desc := "(IIII)J" } : Jvm.MethodName)) ∈ lw_all := lw_g (lw_at lw_m10 26 rfl) rfl
theorem q2305 : (Jvm.Cond.selects "PrairiePoolModel" ({ cls := "PrairiePoolModel", name := "paid", desc := "(IIII)J" } : Jvm.MethodName) ({ cls := "PrairiePoolModel", name := "paid", desc := "(IIII)J" } : Jvm.MethodName)) ∈ lw_all := lw_g (lw_at lw_m10 27 rfl) rfl
theorem q2306 : (Jvm.Cond.code ({ cls := "PrairiePoolModel", name := "paid", desc := "(IIII)J" } : Jvm.MethodName) prog_27_method_91_code (5 : Nat) (Option.some Jvm.ClassFile.FieldType.long)) ∈ lw_all := lw_g (lw_at lw_m10 28 rfl) rfl
theorem q2307 : (Jvm.Cond.constantLong "PrairiePoolModel" (604 : Nat) (2 : Int64)) ∈ lw_all := lw_g (lw_at lw_m10 29 rfl) rfl
theorem q2308 : (Jvm.Cond.methodLink "PrairiePoolModel" (596 : Nat) ({ cls := "PrairiePoolModel", name := "came", desc := "(III)J" } : Jvm.MethodName)) ∈ lw_all := lw_g (lw_at lw_m10 30 rfl) rfl
theorem q2309 : (Jvm.Cond.privateMethod ({ cls := "PrairiePoolModel", name := "came", desc := "(III)J" } : Jvm.MethodName)) ∈ lw_tbl := lw_at lw_m10 31 rfl
theorem q2310 : (Jvm.Cond.instanceMethod ({ cls := "PrairiePoolModel", name := "came", desc := "(III)J" } : Jvm.MethodName)) ∈ lw_all := lw_g (lw_at lw_m10 32 rfl) rfl
theorem q2311 : (Jvm.Cond.code ({ cls := "PrairiePoolModel", name := "came", desc := "(III)J" } : Jvm.MethodName) prog_27_method_88_code (7 : Nat) (Option.some Jvm.ClassFile.FieldType.long)) ∈ lw_all := lw_g (lw_at lw_m10 33 rfl) rfl
theorem q2312 : (Jvm.Cond.methodLink "PrairiePoolModel" (606 : Nat) ({ cls := "PrairiePoolModel", name := "kept", desc := "(III)J" } : Jvm.MethodName)) ∈ lw_all := lw_g (lw_at lw_m10 34 rfl) rfl
theorem q2313 : (Jvm.Cond.privateMethod ({ cls := "PrairiePoolModel", name := "kept", desc := "(III)J" } : Jvm.MethodName)) ∈ lw_tbl := lw_at lw_m10 35 rfl
theorem q2314 : (Jvm.Cond.instanceMethod ({ cls := "PrairiePoolModel", name := "kept", desc := "(III)J" } : Jvm.MethodName)) ∈ lw_all := lw_g (lw_at lw_m10 36 rfl) rfl
theorem q2315 : (Jvm.Cond.code ({ cls := "PrairiePoolModel", name := "kept", desc := "(III)J" } : Jvm.MethodName) prog_27_method_90_code (4 : Nat) (Option.some Jvm.ClassFile.FieldType.long)) ∈ lw_all := lw_g (lw_at lw_m10 37 rfl) rfl
theorem q2316 : (Jvm.Cond.methodLink "PrairiePoolModel" (600 : Nat) ({ cls := "PrairiePoolModel", name := "ofYear", desc := "(JII)J" } : Jvm.MethodName)) ∈ lw_all := lw_g (lw_at lw_m10 38 rfl) rfl
theorem q2317 : (Jvm.Cond.privateMethod ({ cls := "PrairiePoolModel", name := "ofYear", desc := "(JII)J" } : Jvm.MethodName)) ∈ lw_tbl := lw_at lw_m10 39 rfl
theorem q2318 : (Jvm.Cond.instanceMethod ({ cls := "PrairiePoolModel", name := "ofYear", desc := "(JII)J" } : Jvm.MethodName)) ∈ lw_all := lw_g (lw_at lw_m10 40 rfl) rfl
theorem q2319 : (Jvm.Cond.code ({ cls := "PrairiePoolModel", name := "ofYear", desc := "(JII)J" } : Jvm.MethodName) prog_27_method_87_code (5 : Nat) (Option.some Jvm.ClassFile.FieldType.long)) ∈ lw_all := lw_g (lw_at lw_m10 41 rfl) rfl
theorem q2320 : (Jvm.Cond.methodLink "PrairiePoolModel" (609 : Nat) ({ cls := "PrairiePoolModel", name := "bring", desc := "(III)J" } : Jvm.MethodName)) ∈ lw_all := lw_g (lw_at lw_m10 42 rfl) rfl
theorem q2321 : (Jvm.Cond.privateMethod ({ cls := "PrairiePoolModel", name := "bring", desc := "(III)J" } : Jvm.MethodName)) ∈ lw_tbl := lw_at lw_m10 43 rfl
theorem q2322 : (Jvm.Cond.instanceMethod ({ cls := "PrairiePoolModel", name := "bring", desc := "(III)J" } : Jvm.MethodName)) ∈ lw_all := lw_g (lw_at lw_m10 44 rfl) rfl
theorem q2323 : (Jvm.Cond.code ({ cls := "PrairiePoolModel", name := "bring", desc := "(III)J" } : Jvm.MethodName) prog_27_method_89_code (7 : Nat) (Option.some Jvm.ClassFile.FieldType.long)) ∈ lw_all := lw_g (lw_at lw_m10 45 rfl) rfl
theorem q2324 : (Jvm.Cond.methodLink "PrairiePoolLaw" (112 : Nat) ({ cls := "PrairiePoolModel", name := "last", desc := "(III)J" } : Jvm.MethodName)) ∈ lw_all := lw_g (lw_at lw_m10 46 rfl) rfl
theorem q2325 : (Jvm.Cond.instanceMethod ({ cls := "PrairiePoolModel", name := "last", desc := "(III)J" } : Jvm.MethodName)) ∈ lw_all := lw_g (lw_at lw_m10 47 rfl) rfl
theorem q2326 : (Jvm.Cond.selects "PrairiePoolModel" ({ cls := "PrairiePoolModel", name := "last", desc := "(III)J" } : Jvm.MethodName) ({ cls := "PrairiePoolModel", name := "last", desc := "(III)J" } : Jvm.MethodName)) ∈ lw_all := lw_g (lw_at lw_m10 48 rfl) rfl
theorem q2327 : (Jvm.Cond.code ({ cls := "PrairiePoolModel", name := "last", desc := "(III)J" } : Jvm.MethodName) prog_27_method_94_code (4 : Nat) (Option.some Jvm.ClassFile.FieldType.long)) ∈ lw_all := lw_g (lw_at lw_m10 49 rfl) rfl
theorem q2328 : (Jvm.Cond.methodLink "PrairiePoolModel" (618 : Nat) ({ cls := "PrairiePoolModel", name := "asksFarm", desc := "(III)I" } : Jvm.MethodName)) ∈ lw_all := lw_g (lw_at lw_m10 50 rfl) rfl
theorem q2329 : (Jvm.Cond.privateMethod ({ cls := "PrairiePoolModel", name := "asksFarm", desc := "(III)I" } : Jvm.MethodName)) ∈ lw_tbl := lw_at lw_m10 51 rfl
theorem q2330 : (Jvm.Cond.instanceMethod ({ cls := "PrairiePoolModel", name := "asksFarm", desc := "(III)I" } : Jvm.MethodName)) ∈ lw_all := lw_g (lw_at lw_m10 52 rfl) rfl
theorem q2331 : (Jvm.Cond.code ({ cls := "PrairiePoolModel", name := "asksFarm", desc := "(III)I" } : Jvm.MethodName) prog_27_method_93_code (4 : Nat) (Option.some Jvm.ClassFile.FieldType.int)) ∈ lw_all := lw_g (lw_at lw_m10 53 rfl) rfl
theorem q2332 : (Jvm.Cond.methodLink "PrairiePoolModel" (621 : Nat) ({ cls := "PrairiePoolModel", name := "pay", desc := "(II)V" } : Jvm.MethodName)) ∈ lw_all := lw_g (lw_at lw_m10 54 rfl) rfl
theorem q2333 : (Jvm.Cond.privateMethod ({ cls := "PrairiePoolModel", name := "pay", desc := "(II)V" } : Jvm.MethodName)) ∈ lw_tbl := lw_at lw_m10 55 rfl
theorem q2334 : (Jvm.Cond.instanceMethod ({ cls := "PrairiePoolModel", name := "pay", desc := "(II)V" } : Jvm.MethodName)) ∈ lw_all := lw_g (lw_at lw_m10 56 rfl) rfl
theorem q2335 : (Jvm.Cond.code ({ cls := "PrairiePoolModel", name := "pay", desc := "(II)V" } : Jvm.MethodName) prog_27_method_92_code (9 : Nat) (Option.none : Option Jvm.ClassFile.FieldType)) ∈ lw_all := lw_g (lw_at lw_m10 57 rfl) rfl
theorem q2336 : (Jvm.Cond.methodLink "PrairiePoolLaw" (116 : Nat) ({ cls := "PrairiePoolModel", name := "first", desc := "(III)J" } : Jvm.MethodName)) ∈ lw_all := lw_g (lw_at lw_m10 58 rfl) rfl
theorem q2337 : (Jvm.Cond.instanceMethod ({ cls := "PrairiePoolModel", name := "first", desc := "(III)J" } : Jvm.MethodName)) ∈ lw_all := lw_g (lw_at lw_m10 59 rfl) rfl
theorem q2338 : (Jvm.Cond.selects "PrairiePoolModel" ({ cls := "PrairiePoolModel", name := "first", desc := "(III)J" } : Jvm.MethodName) ({ cls := "PrairiePoolModel", name := "first", desc := "(III)J" } : Jvm.MethodName)) ∈ lw_all := lw_g (lw_at lw_m10 60 rfl) rfl
theorem q2339 : (Jvm.Cond.code ({ cls := "PrairiePoolModel", name := "first", desc := "(III)J" } : Jvm.MethodName) prog_27_method_95_code (4 : Nat) (Option.some Jvm.ClassFile.FieldType.long)) ∈ lw_all := lw_g (lw_at lw_m10 61 rfl) rfl
theorem q2340 : (Jvm.Cond.methodLink "PrairiePoolLaw" (120 : Nat) ({ cls := "PrairiePoolModel", name := "below", desc := "(III)J" } : Jvm.MethodName)) ∈ lw_all := lw_g (lw_at lw_m10 62 rfl) rfl
theorem q2341 : (Jvm.Cond.instanceMethod ({ cls := "PrairiePoolModel", name := "below", desc := "(III)J" } : Jvm.MethodName)) ∈ lw_all := lw_g (lw_at lw_m10 63 rfl) rfl
theorem q2342 : (Jvm.Cond.selects "PrairiePoolModel" ({ cls := "PrairiePoolModel", name := "below", desc := "(III)J" } : Jvm.MethodName) ({ cls := "PrairiePoolModel", name := "below", desc := "(III)J" } : Jvm.MethodName)) ∈ lw_all := lw_g (lw_at lw_m10 64 rfl) rfl
theorem q2343 : (Jvm.Cond.code ({ cls := "PrairiePoolModel", name := "below", desc := "(III)J" } : Jvm.MethodName) prog_27_method_96_code (4 : Nat) (Option.some Jvm.ClassFile.FieldType.long)) ∈ lw_all := lw_g (lw_at lw_m10 65 rfl) rfl
theorem q2344 : (Jvm.Cond.methodLink "PrairiePoolLaw" (124 : Nat) ({ cls := "PrairiePoolModel", name := "owed", desc := "(III)J" } : Jvm.MethodName)) ∈ lw_all := lw_g (lw_at lw_m10 66 rfl) rfl
theorem q2345 : (Jvm.Cond.instanceMethod ({ cls := "PrairiePoolModel", name := "owed", desc := "(III)J" } : Jvm.MethodName)) ∈ lw_all := lw_g (lw_at lw_m10 67 rfl) rfl
theorem q2346 : (Jvm.Cond.selects "PrairiePoolModel" ({ cls := "PrairiePoolModel", name := "owed", desc := "(III)J" } : Jvm.MethodName) ({ cls := "PrairiePoolModel", name := "owed", desc := "(III)J" } : Jvm.MethodName)) ∈ lw_all := lw_g (lw_at lw_m10 68 rfl) rfl
theorem q2347 : (Jvm.Cond.code ({ cls := "PrairiePoolModel", name := "owed", desc := "(III)J" } : Jvm.MethodName) prog_27_method_97_code (4 : Nat) (Option.some Jvm.ClassFile.FieldType.long)) ∈ lw_all := lw_g (lw_at lw_m10 69 rfl) rfl
theorem q2348 : (Jvm.Cond.methodLink "PrairiePoolLaw" (128 : Nat) ({ cls := "PrairiePoolModel", name := "turns", desc := "(III)I" } : Jvm.MethodName)) ∈ lw_all := lw_g (lw_at lw_m10 70 rfl) rfl
theorem q2349 : (Jvm.Cond.instanceMethod ({ cls := "PrairiePoolModel", name := "turns", desc := "(III)I" } : Jvm.MethodName)) ∈ lw_all := lw_g (lw_at lw_m10 71 rfl) rfl
theorem q2350 : (Jvm.Cond.selects "PrairiePoolModel" ({ cls := "PrairiePoolModel", name := "turns", desc := "(III)I" } : Jvm.MethodName) ({ cls := "PrairiePoolModel", name := "turns", desc := "(III)I" } : Jvm.MethodName)) ∈ lw_all := lw_g (lw_at lw_m10 72 rfl) rfl
theorem q2351 : (Jvm.Cond.code ({ cls := "PrairiePoolModel", name := "turns", desc := "(III)I" } : Jvm.MethodName) prog_27_method_99_code (12 : Nat) (Option.some Jvm.ClassFile.FieldType.int)) ∈ lw_all := lw_g (lw_at lw_m10 73 rfl) rfl
theorem q2352 : (Jvm.Cond.constantLong "PrairiePoolModel" (624 : Nat) (20 : Int64)) ∈ lw_all := lw_g (lw_at lw_m10 74 rfl) rfl
theorem q2353 : (Jvm.Cond.methodLink "PrairiePoolModel" (626 : Nat) ({ cls := "PrairiePoolModel", name := "turnOf", desc := "(III)J" } : Jvm.MethodName)) ∈ lw_all := lw_g (lw_at lw_m10 75 rfl) rfl
theorem q2354 : (Jvm.Cond.privateMethod ({ cls := "PrairiePoolModel", name := "turnOf", desc := "(III)J" } : Jvm.MethodName)) ∈ lw_tbl := lw_at lw_m10 76 rfl
theorem q2355 : (Jvm.Cond.instanceMethod ({ cls := "PrairiePoolModel", name := "turnOf", desc := "(III)J" } : Jvm.MethodName)) ∈ lw_all := lw_g (lw_at lw_m10 77 rfl) rfl
theorem q2356 : (Jvm.Cond.code ({ cls := "PrairiePoolModel", name := "turnOf", desc := "(III)J" } : Jvm.MethodName) prog_27_method_98_code (4 : Nat) (Option.some Jvm.ClassFile.FieldType.long)) ∈ lw_all := lw_g (lw_at lw_m10 78 rfl) rfl
theorem q2357 : (Jvm.Cond.methodLink "PrairiePoolLaw" (132 : Nat) ({ cls := "PrairiePoolModel", name := "sign", desc := "(III)Z" } : Jvm.MethodName)) ∈ lw_all := lw_g (lw_at lw_m10 79 rfl) rfl
theorem q2358 : (Jvm.Cond.instanceMethod ({ cls := "PrairiePoolModel", name := "sign", desc := "(III)Z" } : Jvm.MethodName)) ∈ lw_all := lw_g (lw_at lw_m10 80 rfl) rfl
theorem q2359 : (Jvm.Cond.selects "PrairiePoolModel" ({ cls := "PrairiePoolModel", name := "sign", desc := "(III)Z" } : Jvm.MethodName) ({ cls := "PrairiePoolModel", name := "sign", desc := "(III)Z" } : Jvm.MethodName)) ∈ lw_all := lw_g (lw_at lw_m10 81 rfl) rfl
theorem q2360 : (Jvm.Cond.code ({ cls := "PrairiePoolModel", name := "sign", desc := "(III)Z" } : Jvm.MethodName) prog_27_method_100_code (4 : Nat) (Option.some Jvm.ClassFile.FieldType.boolean)) ∈ lw_all := lw_g (lw_at lw_m10 82 rfl) rfl
theorem q2361 : (Jvm.Cond.methodLink "PrairiePoolLaw" (137 : Nat) ({ cls := "PrairiePoolModel", name := "let", desc := "(IIZ)Z" } : Jvm.MethodName)) ∈ lw_all := lw_g (lw_at lw_m10 83 rfl) rfl
theorem q2362 : (Jvm.Cond.instanceMethod ({ cls := "PrairiePoolModel", name := "let", desc := "(IIZ)Z" } : Jvm.MethodName)) ∈ lw_all := lw_g (lw_at lw_m10 84 rfl) rfl
theorem q2363 : (Jvm.Cond.selects "PrairiePoolModel" ({ cls := "PrairiePoolModel", name := "let", desc := "(IIZ)Z" } : Jvm.MethodName) ({ cls := "PrairiePoolModel", name := "let", desc := "(IIZ)Z" } : Jvm.MethodName)) ∈ lw_all := lw_g (lw_at lw_m10 85 rfl) rfl
theorem q2364 : (Jvm.Cond.code ({ cls := "PrairiePoolModel", name := "let", desc := "(IIZ)Z" } : Jvm.MethodName) prog_27_method_101_code (4 : Nat) (Option.some Jvm.ClassFile.FieldType.boolean)) ∈ lw_all := lw_g (lw_at lw_m10 86 rfl) rfl
theorem q2365 : (Jvm.Cond.methodLink "PrairiePoolLaw" (142 : Nat) ({ cls := "PrairiePoolModel", name := "outside", desc := "(IIII)I" } : Jvm.MethodName)) ∈ lw_all := lw_g (lw_at lw_m10 87 rfl) rfl
theorem q2366 : (Jvm.Cond.instanceMethod ({ cls := "PrairiePoolModel", name := "outside", desc := "(IIII)I" } : Jvm.MethodName)) ∈ lw_all := lw_g (lw_at lw_m10 88 rfl) rfl
theorem q2367 : (Jvm.Cond.selects "PrairiePoolModel" ({ cls := "PrairiePoolModel", name := "outside", desc := "(IIII)I" } : Jvm.MethodName) ({ cls := "PrairiePoolModel", name := "outside", desc := "(IIII)I" } : Jvm.MethodName)) ∈ lw_all := lw_g (lw_at lw_m10 89 rfl) rfl
theorem q2368 : (Jvm.Cond.code ({ cls := "PrairiePoolModel", name := "outside", desc := "(IIII)I" } : Jvm.MethodName) prog_27_method_102_code (5 : Nat) (Option.some Jvm.ClassFile.FieldType.int)) ∈ lw_all := lw_g (lw_at lw_m10 90 rfl) rfl
theorem q2369 : (Jvm.Cond.methodLink "PrairiePoolLaw" (146 : Nat) ({ cls := "PrairiePoolModel", name := "breach", desc := "(I)I" } : Jvm.MethodName)) ∈ lw_all := lw_g (lw_at lw_m10 91 rfl) rfl
theorem q2370 : (Jvm.Cond.instanceMethod ({ cls := "PrairiePoolModel", name := "breach", desc := "(I)I" } : Jvm.MethodName)) ∈ lw_all := lw_g (lw_at lw_m10 92 rfl) rfl
theorem q2371 : (Jvm.Cond.selects "PrairiePoolModel" ({ cls := "PrairiePoolModel", name := "breach", desc := "(I)I" } : Jvm.MethodName) ({ cls := "PrairiePoolModel", name := "breach", desc := "(I)I" } : Jvm.MethodName)) ∈ lw_all := lw_g (lw_at lw_m10 93 rfl) rfl
theorem q2372 : (Jvm.Cond.code ({ cls := "PrairiePoolModel", name := "breach", desc := "(I)I" } : Jvm.MethodName) prog_27_method_104_code (2 : Nat) (Option.some Jvm.ClassFile.FieldType.int)) ∈ lw_all := lw_g (lw_at lw_m10 94 rfl) rfl
theorem q2373 : (Jvm.Cond.methodLink "PrairiePoolModel" (632 : Nat) ({ cls := "PrairiePoolModel", name := "breachOf", desc := "(I)J" } : Jvm.MethodName)) ∈ lw_all := lw_g (lw_at lw_m10 95 rfl) rfl
theorem q2374 : (Jvm.Cond.privateMethod ({ cls := "PrairiePoolModel", name := "breachOf", desc := "(I)J" } : Jvm.MethodName)) ∈ lw_tbl := lw_at lw_m10 96 rfl
theorem q2375 : (Jvm.Cond.instanceMethod ({ cls := "PrairiePoolModel", name := "breachOf", desc := "(I)J" } : Jvm.MethodName)) ∈ lw_all := lw_g (lw_at lw_m10 97 rfl) rfl
theorem q2376 : (Jvm.Cond.code ({ cls := "PrairiePoolModel", name := "breachOf", desc := "(I)J" } : Jvm.MethodName) prog_27_method_103_code (4 : Nat) (Option.some Jvm.ClassFile.FieldType.long)) ∈ lw_all := lw_g (lw_at lw_m10 98 rfl) rfl
theorem q2377 : (Jvm.Cond.methodLink "PrairiePoolLaw" (150 : Nat) ({ cls := "PrairiePoolModel", name := "cost", desc := "(II)J" } : Jvm.MethodName)) ∈ lw_all := lw_g (lw_at lw_m10 99 rfl) rfl
theorem q2378 : (Jvm.Cond.instanceMethod ({ cls := "PrairiePoolModel", name := "cost", desc := "(II)J" } : Jvm.MethodName)) ∈ lw_all := lw_g (lw_at lw_m10 100 rfl) rfl
theorem q2379 : (Jvm.Cond.selects "PrairiePoolModel" ({ cls := "PrairiePoolModel", name := "cost", desc := "(II)J" } : Jvm.MethodName) ({ cls := "PrairiePoolModel", name := "cost", desc := "(II)J" } : Jvm.MethodName)) ∈ lw_all := lw_g (lw_at lw_m10 101 rfl) rfl
theorem q2380 : (Jvm.Cond.code ({ cls := "PrairiePoolModel", name := "cost", desc := "(II)J" } : Jvm.MethodName) prog_27_method_105_code (6 : Nat) (Option.some Jvm.ClassFile.FieldType.long)) ∈ lw_all := lw_g (lw_at lw_m10 102 rfl) rfl
theorem q2381 : (Jvm.Cond.methodLink "PrairiePoolLaw" (155 : Nat) ({ cls := "PrairiePoolModel", name := "price", desc := "(II)Z" } : Jvm.MethodName)) ∈ lw_all := lw_g (lw_at lw_m10 103 rfl) rfl
theorem q2382 : (Jvm.Cond.instanceMethod ({ cls := "PrairiePoolModel", name := "price", desc := "(II)Z" } : Jvm.MethodName)) ∈ lw_all := lw_g (lw_at lw_m10 104 rfl) rfl
theorem q2383 : (Jvm.Cond.selects "PrairiePoolModel" ({ cls := "PrairiePoolModel", name := "price", desc := "(II)Z" } : Jvm.MethodName) ({ cls := "PrairiePoolModel", name := "price", desc := "(II)Z" } : Jvm.MethodName)) ∈ lw_all := lw_g (lw_at lw_m10 105 rfl) rfl
theorem q2384 : (Jvm.Cond.code ({ cls := "PrairiePoolModel", name := "price", desc := "(II)Z" } : Jvm.MethodName) prog_27_method_106_code (3 : Nat) (Option.some Jvm.ClassFile.FieldType.boolean)) ∈ lw_all := lw_g (lw_at lw_m10 106 rfl) rfl
theorem q2385 : (Jvm.Cond.methodLink "PrairiePoolLaw" (159 : Nat) ({ cls := "PrairiePoolModel", name := "rules", desc := "(II)Z" } : Jvm.MethodName)) ∈ lw_all := lw_g (lw_at lw_m10 107 rfl) rfl
theorem q2386 : (Jvm.Cond.instanceMethod ({ cls := "PrairiePoolModel", name := "rules", desc := "(II)Z" } : Jvm.MethodName)) ∈ lw_all := lw_g (lw_at lw_m10 108 rfl) rfl
theorem q2387 : (Jvm.Cond.selects "PrairiePoolModel" ({ cls := "PrairiePoolModel", name := "rules", desc := "(II)Z" } : Jvm.MethodName) ({ cls := "PrairiePoolModel", name := "rules", desc := "(II)Z" } : Jvm.MethodName)) ∈ lw_all := lw_g (lw_at lw_m10 109 rfl) rfl
theorem q2388 : (Jvm.Cond.code ({ cls := "PrairiePoolModel", name := "rules", desc := "(II)Z" } : Jvm.MethodName) prog_27_method_107_code (3 : Nat) (Option.some Jvm.ClassFile.FieldType.boolean)) ∈ lw_all := lw_g (lw_at lw_m10 110 rfl) rfl
theorem q2389 : (Jvm.Cond.constantLong "PrairiePoolModel" (636 : Nat) (100 : Int64)) ∈ lw_all := lw_g (lw_at lw_m10 111 rfl) rfl
theorem q2390 : (Jvm.Cond.methodLink "PrairiePoolLaw" (163 : Nat) ({ cls := "PrairiePoolModel", name := "alone", desc := "(III)J" } : Jvm.MethodName)) ∈ lw_all := lw_g (lw_at lw_m10 112 rfl) rfl
theorem q2391 : (Jvm.Cond.instanceMethod ({ cls := "PrairiePoolModel", name := "alone", desc := "(III)J" } : Jvm.MethodName)) ∈ lw_all := lw_g (lw_at lw_m10 113 rfl) rfl
theorem q2392 : (Jvm.Cond.selects "PrairiePoolModel" ({ cls := "PrairiePoolModel", name := "alone", desc := "(III)J" } : Jvm.MethodName) ({ cls := "PrairiePoolModel", name := "alone", desc := "(III)J" } : Jvm.MethodName)) ∈ lw_all := lw_g (lw_at lw_m10 114 rfl) rfl
theorem q2393 : (Jvm.Cond.code ({ cls := "PrairiePoolModel", name := "alone", desc := "(III)J" } : Jvm.MethodName) prog_27_method_109_code (4 : Nat) (Option.some Jvm.ClassFile.FieldType.long)) ∈ lw_all := lw_g (lw_at lw_m10 115 rfl) rfl
theorem q2394 : (Jvm.Cond.methodLink "PrairiePoolModel" (638 : Nat) ({ cls := "PrairiePoolModel", name := "aloneOf", desc := "(III)J" } : Jvm.MethodName)) ∈ lw_all := lw_g (lw_at lw_m10 116 rfl) rfl
theorem q2395 : (Jvm.Cond.privateMethod ({ cls := "PrairiePoolModel", name := "aloneOf", desc := "(III)J" } : Jvm.MethodName)) ∈ lw_tbl := lw_at lw_m10 117 rfl
theorem q2396 : (Jvm.Cond.instanceMethod ({ cls := "PrairiePoolModel", name := "aloneOf", desc := "(III)J" } : Jvm.MethodName)) ∈ lw_all := lw_g (lw_at lw_m10 118 rfl) rfl
theorem q2397 : (Jvm.Cond.code ({ cls := "PrairiePoolModel", name := "aloneOf", desc := "(III)J" } : Jvm.MethodName) prog_27_method_108_code (8 : Nat) (Option.some Jvm.ClassFile.FieldType.long)) ∈ lw_all := lw_g (lw_at lw_m10 119 rfl) rfl
theorem q2398 : (Jvm.Cond.methodLink "PrairiePoolLaw" (167 : Nat) ({ cls := "PrairiePoolModel", name := "more", desc := "(II)I" } : Jvm.MethodName)) ∈ lw_all := lw_g (lw_at lw_m10 120 rfl) rfl
theorem q2399 : (Jvm.Cond.instanceMethod ({ cls := "PrairiePoolModel", name := "more", desc := "(II)I" } : Jvm.MethodName)) ∈ lw_all := lw_g (lw_at lw_m10 121 rfl) rfl
theorem q2400 : (Jvm.Cond.selects "PrairiePoolModel" ({ cls := "PrairiePoolModel", name := "more", desc := "(II)I" } : Jvm.MethodName) ({ cls := "PrairiePoolModel", name := "more", desc := "(II)I" } : Jvm.MethodName)) ∈ lw_all := lw_g (lw_at lw_m10 122 rfl) rfl
theorem q2401 : (Jvm.Cond.code ({ cls := "PrairiePoolModel", name := "more", desc := "(II)I" } : Jvm.MethodName) prog_27_method_110_code (8 : Nat) (Option.some Jvm.ClassFile.FieldType.int)) ∈ lw_all := lw_g (lw_at lw_m10 123 rfl) rfl
theorem q2402 : (Jvm.Cond.methodLink "PrairiePoolLaw" (171 : Nat) ({ cls := "PrairiePoolModel", name := "vote", desc := "(II)Z" } : Jvm.MethodName)) ∈ lw_all := lw_g (lw_at lw_m10 124 rfl) rfl
theorem q2403 : (Jvm.Cond.instanceMethod ({ cls := "PrairiePoolModel", name := "vote", desc := "(II)Z" } : Jvm.MethodName)) ∈ lw_all := lw_g (lw_at lw_m10 125 rfl) rfl
theorem q2404 : (Jvm.Cond.selects "PrairiePoolModel" ({ cls := "PrairiePoolModel", name := "vote", desc := "(II)Z" } : Jvm.MethodName) ({ cls := "PrairiePoolModel", name := "vote", desc := "(II)Z" } : Jvm.MethodName)) ∈ lw_all := lw_g (lw_at lw_m10 126 rfl) rfl
theorem q2405 : (Jvm.Cond.code ({ cls := "PrairiePoolModel", name := "vote", desc := "(II)Z" } : Jvm.MethodName) prog_27_method_111_code (3 : Nat) (Option.some Jvm.ClassFile.FieldType.boolean)) ∈ lw_all := lw_g (lw_at lw_m10 127 rfl) rfl
theorem q2406 : (Jvm.Cond.methodLink "PrairiePoolLaw" (175 : Nat) ({ cls := "PrairiePoolModel", name := "result", desc := "(II)I" } : Jvm.MethodName)) ∈ lw_all := lw_g (lw_at lw_m10 128 rfl) rfl
theorem q2407 : (Jvm.Cond.instanceMethod ({ cls := "PrairiePoolModel", name := "result", desc := "(II)I" } : Jvm.MethodName)) ∈ lw_all := lw_g (lw_at lw_m10 129 rfl) rfl
theorem q2408 : (Jvm.Cond.selects "PrairiePoolModel" ({ cls := "PrairiePoolModel", name := "result", desc := "(II)I" } : Jvm.MethodName) ({ cls := "PrairiePoolModel", name := "result", desc := "(II)I" } : Jvm.MethodName)) ∈ lw_all := lw_g (lw_at lw_m10 130 rfl) rfl
theorem q2409 : (Jvm.Cond.code ({ cls := "PrairiePoolModel", name := "result", desc := "(II)I" } : Jvm.MethodName) prog_27_method_114_code (3 : Nat) (Option.some Jvm.ClassFile.FieldType.int)) ∈ lw_all := lw_g (lw_at lw_m10 131 rfl) rfl
theorem q2410 : (Jvm.Cond.methodLink "PrairiePoolModel" (641 : Nat) ({ cls := "PrairiePoolModel", name := "findVotes", desc := "(I)V" } : Jvm.MethodName)) ∈ lw_all := lw_g (lw_at lw_m10 132 rfl) rfl
theorem q2411 : (Jvm.Cond.privateMethod ({ cls := "PrairiePoolModel", name := "findVotes", desc := "(I)V" } : Jvm.MethodName)) ∈ lw_tbl := lw_at lw_m10 133 rfl
theorem q2412 : (Jvm.Cond.instanceMethod ({ cls := "PrairiePoolModel", name := "findVotes", desc := "(I)V" } : Jvm.MethodName)) ∈ lw_all := lw_g (lw_at lw_m10 134 rfl) rfl
theorem q2413 : (Jvm.Cond.code ({ cls := "PrairiePoolModel", name := "findVotes", desc := "(I)V" } : Jvm.MethodName) prog_27_method_112_code (3 : Nat) (Option.none : Option Jvm.ClassFile.FieldType)) ∈ lw_all := lw_g (lw_at lw_m10 135 rfl) rfl
theorem q2414 : (Jvm.Cond.methodLink "PrairiePoolModel" (644 : Nat) ({ cls := "PrairiePoolModel", name := "isFor", desc := "()Z" } : Jvm.MethodName)) ∈ lw_all := lw_g (lw_at lw_m10 136 rfl) rfl
theorem q2415 : (Jvm.Cond.privateMethod ({ cls := "PrairiePoolModel", name := "isFor", desc := "()Z" } : Jvm.MethodName)) ∈ lw_tbl := lw_at lw_m10 137 rfl
theorem q2416 : (Jvm.Cond.instanceMethod ({ cls := "PrairiePoolModel", name := "isFor", desc := "()Z" } : Jvm.MethodName)) ∈ lw_all := lw_g (lw_at lw_m10 138 rfl) rfl
theorem q2417 : (Jvm.Cond.code ({ cls := "PrairiePoolModel", name := "isFor", desc := "()Z" } : Jvm.MethodName) prog_27_method_113_code (3 : Nat) (Option.some Jvm.ClassFile.FieldType.boolean)) ∈ lw_all := lw_g (lw_at lw_m10 139 rfl) rfl
theorem q2418 : (Jvm.Cond.methodLink "PrairiePoolLaw" (179 : Nat) ({ cls := "PrairiePoolModel", name := "hangs", desc := "(I)I" } : Jvm.MethodName)) ∈ lw_all := lw_g (lw_at lw_m10 140 rfl) rfl
theorem q2419 : (Jvm.Cond.instanceMethod ({ cls := "PrairiePoolModel", name := "hangs", desc := "(I)I" } : Jvm.MethodName)) ∈ lw_all := lw_g (lw_at lw_m10 141 rfl) rfl
theorem q2420 : (Jvm.Cond.selects "PrairiePoolModel" ({ cls := "PrairiePoolModel", name := "hangs", desc := "(I)I" } : Jvm.MethodName) ({ cls := "PrairiePoolModel", name := "hangs", desc := "(I)I" } : Jvm.MethodName)) ∈ lw_all := lw_g (lw_at lw_m10 142 rfl) rfl
theorem q2421 : (Jvm.Cond.code ({ cls := "PrairiePoolModel", name := "hangs", desc := "(I)I" } : Jvm.MethodName) prog_27_method_115_code (8 : Nat) (Option.some Jvm.ClassFile.FieldType.int)) ∈ lw_all := lw_g (lw_at lw_m10 143 rfl) rfl
theorem q2422 : (Jvm.Cond.methodLink "PrairiePoolModel" (647 : Nat) ({ cls := "java/lang/Integer", name := "bitCount", desc := "(I)I" } : Jvm.MethodName)) ∈ lw_all := lw_g (lw_at lw_m10 144 rfl) rfl
theorem q2423 : (Jvm.Cond.methodLink "PrairiePoolModel" (652 : Nat) ({ cls := "PrairiePoolModel", name := "add", desc := "(IIZI)V" } : Jvm.MethodName)) ∈ lw_all := lw_g (lw_at lw_m10 145 rfl) rfl
theorem q2424 : (Jvm.Cond.privateMethod ({ cls := "PrairiePoolModel", name := "add", desc := "(IIZI)V" } : Jvm.MethodName)) ∈ lw_tbl := lw_at lw_m10 146 rfl
theorem q2425 : (Jvm.Cond.instanceMethod ({ cls := "PrairiePoolModel", name := "add", desc := "(IIZI)V" } : Jvm.MethodName)) ∈ lw_all := lw_g (lw_at lw_m10 147 rfl) rfl
theorem q2426 : (Jvm.Cond.code ({ cls := "PrairiePoolModel", name := "add", desc := "(IIZI)V" } : Jvm.MethodName) prog_27_method_116_code (7 : Nat) (Option.none : Option Jvm.ClassFile.FieldType)) ∈ lw_all := lw_g (lw_at lw_m10 148 rfl) rfl
theorem q2427 : (Jvm.Cond.methodLink "PrairiePoolLaw" (183 : Nat) ({ cls := "PrairiePoolModel", name := "warm", desc := "(III)I" } : Jvm.MethodName)) ∈ lw_all := lw_g (lw_at lw_m10 149 rfl) rfl
theorem q2428 : (Jvm.Cond.instanceMethod ({ cls := "PrairiePoolModel", name := "warm", desc := "(III)I" } : Jvm.MethodName)) ∈ lw_all := lw_g (lw_at lw_m10 150 rfl) rfl
theorem q2429 : (Jvm.Cond.selects "PrairiePoolModel" ({ cls := "PrairiePoolModel", name := "warm", desc := "(III)I" } : Jvm.MethodName) ({ cls := "PrairiePoolModel", name := "warm", desc := "(III)I" } : Jvm.MethodName)) ∈ lw_all := lw_g (lw_at lw_m10 151 rfl) rfl
theorem q2430 : (Jvm.Cond.code ({ cls := "PrairiePoolModel", name := "warm", desc := "(III)I" } : Jvm.MethodName) prog_27_method_117_code (8 : Nat) (Option.some Jvm.ClassFile.FieldType.int)) ∈ lw_all := lw_g (lw_at lw_m10 152 rfl) rfl
theorem q2431 : (Jvm.Cond.constantLong "PrairiePoolModel" (656 : Nat) (8 : Int64)) ∈ lw_all := lw_g (lw_at lw_m10 153 rfl) rfl
theorem q2432 : (Jvm.Cond.methodLink "PrairiePoolModel" (658 : Nat) ({ cls := "PrairiePoolModel", name := "numberOf", desc := "(II)J" } : Jvm.MethodName)) ∈ lw_all := lw_g (lw_at lw_m10 154 rfl) rfl
theorem q2433 : (Jvm.Cond.privateMethod ({ cls := "PrairiePoolModel", name := "numberOf", desc := "(II)J" } : Jvm.MethodName)) ∈ lw_tbl := lw_at lw_m10 155 rfl
theorem q2434 : (Jvm.Cond.instanceMethod ({ cls := "PrairiePoolModel", name := "numberOf", desc := "(II)J" } : Jvm.MethodName)) ∈ lw_all := lw_g (lw_at lw_m10 156 rfl) rfl
theorem q2435 : (Jvm.Cond.code ({ cls := "PrairiePoolModel", name := "numberOf", desc := "(II)J" } : Jvm.MethodName) prog_27_method_17_code (3 : Nat) (Option.some Jvm.ClassFile.FieldType.long)) ∈ lw_all := lw_g (lw_at lw_m10 157 rfl) rfl
theorem q2436 : (Jvm.Cond.methodLink "PrairiePoolModel" (662 : Nat) ({ cls := "PrairiePoolModel", name := "canTurn", desc := "(III)Z" } : Jvm.MethodName)) ∈ lw_all := lw_g (lw_at lw_m10 158 rfl) rfl
theorem q2437 : (Jvm.Cond.privateMethod ({ cls := "PrairiePoolModel", name := "canTurn", desc := "(III)Z" } : Jvm.MethodName)) ∈ lw_tbl := lw_at lw_m10 159 rfl
theorem q2438 : (Jvm.Cond.instanceMethod ({ cls := "PrairiePoolModel", name := "canTurn", desc := "(III)Z" } : Jvm.MethodName)) ∈ lw_all := lw_g (lw_at lw_m10 160 rfl) rfl
theorem q2439 : (Jvm.Cond.code ({ cls := "PrairiePoolModel", name := "canTurn", desc := "(III)Z" } : Jvm.MethodName) prog_27_method_118_code (4 : Nat) (Option.some Jvm.ClassFile.FieldType.boolean)) ∈ lw_all := lw_g (lw_at lw_m10 161 rfl) rfl
theorem q2440 : (Jvm.Cond.methodLink "PrairiePoolLaw" (187 : Nat) ({ cls := "PrairiePoolModel", name := "turned", desc := "(I)I" } : Jvm.MethodName)) ∈ lw_all := lw_g (lw_at lw_m10 162 rfl) rfl
theorem q2441 : (Jvm.Cond.instanceMethod ({ cls := "PrairiePoolModel", name := "turned", desc := "(I)I" } : Jvm.MethodName)) ∈ lw_all := lw_g (lw_at lw_m10 163 rfl) rfl
theorem q2442 : (Jvm.Cond.selects "PrairiePoolModel" ({ cls := "PrairiePoolModel", name := "turned", desc := "(I)I" } : Jvm.MethodName) ({ cls := "PrairiePoolModel", name := "turned", desc := "(I)I" } : Jvm.MethodName)) ∈ lw_all := lw_g (lw_at lw_m10 164 rfl) rfl
theorem q2443 : (Jvm.Cond.code ({ cls := "PrairiePoolModel", name := "turned", desc := "(I)I" } : Jvm.MethodName) prog_27_method_119_code (2 : Nat) (Option.some Jvm.ClassFile.FieldType.int)) ∈ lw_all := lw_g (lw_at lw_m10 165 rfl) rfl
theorem q2444 : (Jvm.Cond.constantLong "PrairiePoolModel" (669 : Nat) (19 : Int64)) ∈ lw_all := lw_g (lw_at lw_m10 166 rfl) rfl
theorem q2445 : (Jvm.Cond.methodLink "PrairiePoolLaw" (191 : Nat) ({ cls := "PrairiePoolModel", name := "send", desc := "(IIIII)I" } : Jvm.MethodName)) ∈ lw_all := lw_g (lw_at lw_m10 167 rfl) rfl
theorem q2446 : (Jvm.Cond.instanceMethod ({ cls := "PrairiePoolModel", name := "send", desc := "(IIIII)I" } : Jvm.MethodName)) ∈ lw_all := lw_g (lw_at lw_m10 168 rfl) rfl
theorem q2447 : (Jvm.Cond.selects "PrairiePoolModel" ({ cls := "PrairiePoolModel", name := "send", desc := "(IIIII)I" } : Jvm.MethodName) ({ cls := "PrairiePoolModel", name := "send", desc := "(IIIII)I" } : Jvm.MethodName)) ∈ lw_all := lw_g (lw_at lw_m10 169 rfl) rfl
theorem q2448 : (Jvm.Cond.code ({ cls := "PrairiePoolModel", name := "send", desc := "(IIIII)I" } : Jvm.MethodName) prog_27_method_121_code (9 : Nat) (Option.some Jvm.ClassFile.FieldType.int)) ∈ lw_all := lw_g (lw_at lw_m10 170 rfl) rfl
theorem q2449 : (Jvm.Cond.methodLink "PrairiePoolModel" (673 : Nat) ({ cls := "PrairiePoolModel", name := "asksSend", desc := "(IIIII)I" } : Jvm.MethodName)) ∈ lw_all := lw_g (lw_at lw_m10 171 rfl) rfl
theorem q2450 : (Jvm.Cond.privateMethod ({ cls := "PrairiePoolModel", name := "asksSend", desc := "(IIIII)I" } : Jvm.MethodName)) ∈ lw_tbl := lw_at lw_m10 172 rfl
theorem q2451 : (Jvm.Cond.instanceMethod ({ cls := "PrairiePoolModel", name := "asksSend", desc := "(IIIII)I" } : Jvm.MethodName)) ∈ lw_all := lw_g (lw_at lw_m10 173 rfl) rfl
theorem q2452 : (Jvm.Cond.code ({ cls := "PrairiePoolModel", name := "asksSend", desc := "(IIIII)I" } : Jvm.MethodName) prog_27_method_120_code (9 : Nat) (Option.some Jvm.ClassFile.FieldType.int)) ∈ lw_all := lw_g (lw_at lw_m10 174 rfl) rfl
theorem q2453 : (Jvm.Cond.constantLong "PrairiePoolModel" (671 : Nat) (30 : Int64)) ∈ lw_all := lw_g (lw_at lw_m10 175 rfl) rfl
theorem q2454 : (Jvm.Cond.methodLink "PrairiePoolModel" (677 : Nat) ({ cls := "PrairiePoolModel", name := "bushel", desc := "(II)I" } : Jvm.MethodName)) ∈ lw_all := lw_g (lw_at lw_m10 176 rfl) rfl
theorem q2455 : (Jvm.Cond.privateMethod ({ cls := "PrairiePoolModel", name := "bushel", desc := "(II)I" } : Jvm.MethodName)) ∈ lw_tbl := lw_at lw_m10 177 rfl
theorem q2456 : (Jvm.Cond.instanceMethod ({ cls := "PrairiePoolModel", name := "bushel", desc := "(II)I" } : Jvm.MethodName)) ∈ lw_all := lw_g (lw_at lw_m10 178 rfl) rfl
theorem q2457 : (Jvm.Cond.code ({ cls := "PrairiePoolModel", name := "bushel", desc := "(II)I" } : Jvm.MethodName) prog_27_method_122_code (8 : Nat) (Option.some Jvm.ClassFile.FieldType.int)) ∈ lw_all := lw_g (lw_at lw_m10 179 rfl) rfl
theorem q2458 : (Jvm.Cond.constant "PrairiePoolModel" (680 : Nat) (100000 : Int32)) ∈ lw_all := lw_g (lw_at lw_m10 180 rfl) rfl
theorem q2459 : (Jvm.Cond.constantLong "PrairiePoolLaw" (23 : Nat) (4294967295 : Int64)) ∈ lw_all := lw_g (lw_at lw_m10 181 rfl) rfl
theorem q2460 : (Jvm.Cond.sameMethod "java/lang/Throwable" "java/lang/Throwable" "fillInStackTrace" "(I)Ljava/lang/Throwable;") ∈ lw_all := lw_g (lw_at lw_m10 182 rfl) rfl
theorem q2461 : (Jvm.Cond.sameMethod "PrairiePool$Event" "PrairiePool$Event" "bushels" "()I") ∈ lw_all := lw_g (lw_at lw_m10 183 rfl) rfl
theorem q2462 : (Jvm.Cond.castable "java/lang/ArrayIndexOutOfBoundsException" "java/lang/IndexOutOfBoundsException") ∈ lw_tbl := lw_at lw_m10 184 rfl
theorem q2463 : (Jvm.Cond.castable "PrairiePool$Load" "PrairiePool$Event") ∈ lw_tbl := lw_at lw_m10 185 rfl
theorem q2464 : (Jvm.Cond.castable "PrairiePool$Car" "PrairiePool$Event") ∈ lw_tbl := lw_at lw_m10 186 rfl
theorem q2465 : (Jvm.Cond.castable "PrairiePool$Sale" "PrairiePool$Event") ∈ lw_tbl := lw_at lw_m10 187 rfl
theorem q2466 : (Jvm.Cond.castable "PrairiePool$Spoil" "PrairiePool$Event") ∈ lw_tbl := lw_at lw_m10 188 rfl
theorem q2467 : (Jvm.Cond.castable "PrairiePool$Chain" "PrairiePool$Term") ∈ lw_tbl := lw_at lw_m10 189 rfl
theorem q2468 : (Jvm.Cond.castable "PrairiePool$Pick" "PrairiePool$Term") ∈ lw_tbl := lw_at lw_m10 190 rfl
theorem q2469 : (Jvm.Cond.castable "PrairiePool$Leaf" "PrairiePool$Term") ∈ lw_tbl := lw_at lw_m10 191 rfl
theorem q2470 : (Jvm.Cond.castable "PrairiePool$If" "PrairiePool$Term") ∈ lw_tbl := lw_at lw_m10 192 rfl
theorem q2471 : (Jvm.Cond.fieldLink "java/lang/String" (9 : Nat) "java/lang/String" "value" "[B") ∈ lw_all := lw_g (lw_at lw_m10 193 rfl) rfl
theorem q2472 : (Jvm.Cond.fieldLink "java/lang/String" (15 : Nat) "java/lang/String" "coder" "B") ∈ lw_all := lw_g (lw_at lw_m10 194 rfl) rfl
theorem qobj1 : Cond.instanceMethod Lib.objectInit ∈ lw_all := q163
theorem qobj2 : Cond.code Lib.objectInit ⟨#[0xb1]⟩ 1 none ∈ lw_all := q164
