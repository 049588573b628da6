/-! the evidence for the tables: printed by gen/pev.py -/
set_option maxRecDepth 100000
theorem q_w112 : (Jvm.Cond.initialized "CaptainClaimsLaw") ∈ lw_all := lw_g (lw_at lw_m1 0 rfl) rfl
theorem q_w113 : (Jvm.Cond.initialized "CaptainClaims") ∈ lw_all := lw_g (lw_at lw_m1 1 rfl) rfl
theorem q_w114 : (Jvm.Cond.initialized "java/util/AbstractCollection") ∈ lw_all := lw_g (lw_at lw_m1 2 rfl) rfl
theorem q_w115 : (Jvm.Cond.initialized "java/util/ArrayDeque") ∈ lw_all := lw_g (lw_at lw_m1 3 rfl) rfl
theorem q_w116 : (Jvm.Cond.initialized "CaptainClaimsModel") ∈ lw_all := lw_g (lw_at lw_m1 4 rfl) rfl
theorem q_w117 : (Jvm.Cond.initialized "java/lang/Throwable") ∈ lw_all := lw_g (lw_at lw_m1 5 rfl) rfl
theorem q_w118 : (Jvm.Cond.initialized "java/lang/Exception") ∈ lw_all := lw_g (lw_at lw_m1 6 rfl) rfl
theorem q_w120 : (Jvm.Cond.initialized "java/lang/IndexOutOfBoundsException") ∈ lw_all := lw_g (lw_at lw_m1 8 rfl) rfl
theorem q_w122 : (Jvm.Cond.initialized "java/lang/String") ∈ lw_all := lw_g (lw_at lw_m1 10 rfl) rfl
theorem q_w123 : (Jvm.Cond.initialized "CaptainClaims$Parser") ∈ lw_all := lw_g (lw_at lw_m1 11 rfl) rfl
theorem q_w126 : (Jvm.Cond.initialized "java/lang/AbstractStringBuilder") ∈ lw_all := lw_g (lw_at lw_m1 14 rfl) rfl
theorem q_w127 : (Jvm.Cond.initialized "java/lang/StringBuilder") ∈ lw_all := lw_g (lw_at lw_m1 15 rfl) rfl
theorem q_w129 : (Jvm.Cond.initialized "jdk/internal/util/ArraysSupport") ∈ lw_all := lw_g (lw_at lw_m1 17 rfl) rfl
theorem q_w130 : (Jvm.Cond.initialized "java/lang/Math") ∈ lw_all := lw_g (lw_at lw_m1 18 rfl) rfl
theorem q_w131 : (Jvm.Cond.initialized "java/util/Arrays") ∈ lw_all := lw_g (lw_at lw_m1 19 rfl) rfl
theorem q_w133 : (Jvm.Cond.initialized "java/lang/StringLatin1") ∈ lw_all := lw_g (lw_at lw_m1 21 rfl) rfl
theorem q_w134 : (Jvm.Cond.initialized "jdk/internal/util/Preconditions") ∈ lw_all := lw_g (lw_at lw_m1 22 rfl) rfl
theorem q_w135 : (Jvm.Cond.initialized "java/lang/IllegalArgumentException") ∈ lw_all := lw_g (lw_at lw_m1 23 rfl) rfl
theorem q_w136 : (Jvm.Cond.initialized "java/lang/Number") ∈ lw_all := lw_g (lw_at lw_m1 24 rfl) rfl
theorem q_w137 : (Jvm.Cond.initialized "java/lang/Integer") ∈ lw_all := lw_g (lw_at lw_m1 25 rfl) rfl
theorem q_w138 : (Jvm.Cond.initialized "CaptainClaims$Mark") ∈ lw_all := lw_g (lw_at lw_m1 26 rfl) rfl
theorem q_w139 : (Jvm.Cond.initialized "CaptainClaims$FormatException") ∈ lw_all := lw_g (lw_at lw_m1 27 rfl) rfl
theorem q_w140 : (Jvm.Cond.initialized "CaptainClaims$Puzzle") ∈ lw_all := lw_g (lw_at lw_m1 28 rfl) rfl
theorem q_w141 : (Jvm.Cond.initialized "CaptainClaims$Register") ∈ lw_all := lw_g (lw_at lw_m1 29 rfl) rfl
theorem q_w142 : (Jvm.Cond.initialized "java/util/AbstractList") ∈ lw_all := lw_g (lw_at lw_m1 30 rfl) rfl
theorem q_w143 : (Jvm.Cond.initialized "java/util/ArrayList") ∈ lw_all := lw_g (lw_at lw_m1 31 rfl) rfl
theorem q_w145 : (Jvm.Cond.initialized "CaptainClaims$MisfitException") ∈ lw_all := lw_g (lw_at lw_m1 33 rfl) rfl
theorem q_w146 : (Jvm.Cond.initialized "java/util/Objects") ∈ lw_all := lw_g (lw_at lw_m1 34 rfl) rfl
theorem q_w147 : (Jvm.Cond.initialized "CaptainClaims$Captain") ∈ lw_all := lw_g (lw_at lw_m1 35 rfl) rfl
theorem q_w148 : (Jvm.Cond.initialized "CaptainClaims$Statement") ∈ lw_all := lw_g (lw_at lw_m1 36 rfl) rfl
theorem q_w149 : (Jvm.Cond.initialized "CaptainClaims$RangeClaim") ∈ lw_all := lw_g (lw_at lw_m1 37 rfl) rfl
theorem q_w150 : (Jvm.Cond.initialized "CaptainClaims$RowClaim") ∈ lw_all := lw_g (lw_at lw_m1 38 rfl) rfl
theorem q_w151 : (Jvm.Cond.initialized "CaptainClaims$ColumnClaim") ∈ lw_all := lw_g (lw_at lw_m1 39 rfl) rfl
theorem q_w152 : (Jvm.Cond.initialized "CaptainClaims$NearClaim") ∈ lw_all := lw_g (lw_at lw_m1 40 rfl) rfl
theorem q_w153 : (Jvm.Cond.initialized "CaptainClaims$SizeClaim") ∈ lw_all := lw_g (lw_at lw_m1 41 rfl) rfl
theorem q_w154 : (Jvm.Cond.initialized "CaptainClaims$CoastClaim") ∈ lw_all := lw_g (lw_at lw_m1 42 rfl) rfl
theorem q_w155 : (Jvm.Cond.initialized "CaptainClaims$SameClaim") ∈ lw_all := lw_g (lw_at lw_m1 43 rfl) rfl
theorem q_w156 : (Jvm.Cond.initialized "CaptainClaims$HonestClaim") ∈ lw_all := lw_g (lw_at lw_m1 44 rfl) rfl
theorem q_w157 : (Jvm.Cond.initialized "CaptainClaims$JoinedClaim") ∈ lw_all := lw_g (lw_at lw_m1 45 rfl) rfl
theorem q_w158 : (Jvm.Cond.initialized "CaptainClaims$NotClaim") ∈ lw_all := lw_g (lw_at lw_m1 46 rfl) rfl
theorem q_w159 : (Jvm.Cond.initialized "CaptainClaims$BothClaim") ∈ lw_all := lw_g (lw_at lw_m1 47 rfl) rfl
theorem q_w160 : (Jvm.Cond.initialized "CaptainClaims$EitherClaim") ∈ lw_all := lw_g (lw_at lw_m1 48 rfl) rfl
theorem q_w161 : (Jvm.Cond.initialized "java/lang/IllegalStateException") ∈ lw_all := lw_g (lw_at lw_m1 49 rfl) rfl
theorem q_w166 : (Jvm.Cond.initialized "java/util/ArrayList$Itr") ∈ lw_all := lw_g (lw_at lw_m1 54 rfl) rfl
theorem q_w167 : (Jvm.Cond.initialized "CaptainClaims$Claim") ∈ lw_all := lw_g (lw_at lw_m1 55 rfl) rfl
theorem q_w168 : (Jvm.Cond.initialized "CaptainClaims$Census") ∈ lw_all := lw_g (lw_at lw_m1 56 rfl) rfl
theorem q_w169 : (Jvm.Cond.classLink "CaptainClaimsLaw" (8 : Nat) "CaptainClaims") ∈ lw_all := lw_g (lw_at lw_m1 57 rfl) rfl
theorem q_w170 : (Jvm.Cond.instantiable "CaptainClaims" (8 : Nat)) ∈ lw_all := lw_g (lw_at lw_m1 58 rfl) rfl
theorem q_w171 : (Jvm.Cond.methodLink "CaptainClaimsLaw" (198 : Nat) ({ cls := "CaptainClaims", name := "<init>", desc := "()V" } : Jvm.MethodName)) ∈ lw_all := lw_g (lw_at lw_m1 59 rfl) rfl
theorem q_w172 : (Jvm.Cond.instanceMethod ({ cls := "CaptainClaims", name := "<init>", desc := "()V" } : Jvm.MethodName)) ∈ lw_all := lw_g (lw_at lw_m1 60 rfl) rfl
theorem q_w173 : (Jvm.Cond.code ({ cls := "CaptainClaims", name := "<init>", desc := "()V" } : Jvm.MethodName) prog_1_method_5_code (1 : Nat) (Option.none : Option Jvm.ClassFile.FieldType)) ∈ lw_all := lw_g (lw_at lw_m1 61 rfl) rfl
theorem q_w174 : (Jvm.Cond.methodLink "CaptainClaims" (19 : Nat) ({ cls := "java/lang/Object", name := "<init>", desc := "()V" } : Jvm.MethodName)) ∈ lw_all := lw_g (lw_at lw_m1 62 rfl) rfl
theorem q_w177 : (Jvm.Cond.classLink "CaptainClaims" (33 : Nat) "java/util/ArrayDeque") ∈ lw_all := lw_g (lw_at lw_m1 65 rfl) rfl
theorem q_w178 : (Jvm.Cond.instantiable "java/util/ArrayDeque" (3 : Nat)) ∈ lw_all := lw_g (lw_at lw_m1 66 rfl) rfl
theorem q_w179 : (Jvm.Cond.methodLink "CaptainClaims" (35 : Nat) ({ cls := "java/util/ArrayDeque", name := "<init>", desc := "(I)V" } : Jvm.MethodName)) ∈ lw_all := lw_g (lw_at lw_m1 67 rfl) rfl
theorem q_w180 : (Jvm.Cond.instanceMethod ({ cls := "java/util/ArrayDeque", name := "<init>", desc := "(I)V" } : Jvm.MethodName)) ∈ lw_all := lw_g (lw_at lw_m1 68 rfl) rfl
theorem q_w181 : (Jvm.Cond.code ({ cls := "java/util/ArrayDeque", name := "<init>", desc := "(I)V" } : Jvm.MethodName) prog_59_method_4_code (2 : Nat) (Option.none : Option Jvm.ClassFile.FieldType)) ∈ lw_all := lw_g (lw_at lw_m1 69 rfl) rfl
theorem q_w182 : (Jvm.Cond.methodLink "java/util/ArrayDeque" (42 : Nat) ({ cls := "java/util/AbstractCollection", name := "<init>", desc := "()V" } : Jvm.MethodName)) ∈ lw_all := lw_g (lw_at lw_m1 70 rfl) rfl
theorem q_w183 : (Jvm.Cond.instanceMethod ({ cls := "java/util/AbstractCollection", name := "<init>", desc := "()V" } : Jvm.MethodName)) ∈ lw_all := lw_g (lw_at lw_m1 71 rfl) rfl
theorem q_w184 : (Jvm.Cond.code ({ cls := "java/util/AbstractCollection", name := "<init>", desc := "()V" } : Jvm.MethodName) prog_57_method_1_code (1 : Nat) (Option.none : Option Jvm.ClassFile.FieldType)) ∈ lw_all := lw_g (lw_at lw_m1 72 rfl) rfl
theorem q_w185 : (Jvm.Cond.methodLink "java/util/AbstractCollection" (1 : Nat) ({ cls := "java/lang/Object", name := "<init>", desc := "()V" } : Jvm.MethodName)) ∈ lw_all := lw_g (lw_at lw_m1 73 rfl) rfl
theorem q_w186 : (Jvm.Cond.constant "java/util/ArrayDeque" (41 : Nat) (2147483647 : Int32)) ∈ lw_all := lw_g (lw_at lw_m1 74 rfl) rfl
theorem q_w187 : (Jvm.Cond.classLink "java/util/ArrayDeque" (47 : Nat) "java/lang/Object") ∈ lw_all := lw_g (lw_at lw_m1 75 rfl) rfl
theorem q_w188 : (Jvm.Cond.arrayOver (Jvm.ClassFile.FieldType.object "java/lang/Object")) ∈ lw_tbl := lw_at lw_m1 76 rfl
theorem q_w189 : (Jvm.Cond.fieldLink "java/util/ArrayDeque" (3 : Nat) "java/util/ArrayDeque" "elements" "[Ljava/lang/Object;") ∈ lw_all := lw_g (lw_at lw_m1 77 rfl) rfl
theorem q_w190 : (Jvm.Cond.fieldLink "java/util/ArrayDeque" (24 : Nat) "java/util/ArrayDeque" "head" "I") ∈ lw_all := lw_g (lw_at lw_m1 78 rfl) rfl
theorem q_w191 : (Jvm.Cond.fieldLink "java/util/ArrayDeque" (20 : Nat) "java/util/ArrayDeque" "tail" "I") ∈ lw_all := lw_g (lw_at lw_m1 79 rfl) rfl
theorem q_w200 : (Jvm.Cond.classLink "CaptainClaims" (42 : Nat) "CaptainClaims$Puzzle") ∈ lw_all := lw_g (lw_at lw_m1 88 rfl) rfl
theorem q_w201 : (Jvm.Cond.arrayOver (Jvm.ClassFile.FieldType.object "CaptainClaims$Puzzle")) ∈ lw_tbl := lw_at lw_m1 89 rfl
theorem q_w203 : (Jvm.Cond.fieldLinkNest "CaptainClaims$Parser" (41 : Nat) "CaptainClaims" "buffer" "[B" "CaptainClaims") ∈ lw_tbl := lw_at lw_m1 91 rfl
theorem q_w204 : (Jvm.Cond.fieldLink "CaptainClaims" (25 : Nat) "CaptainClaims" "buffer" "[B") ∈ lw_all := lw_g (lw_at lw_m1 92 rfl) rfl
theorem q_w205 : (Jvm.Cond.fieldLink "CaptainClaims" (54 : Nat) "CaptainClaims" "bufferLength" "I") ∈ lw_all := lw_g (lw_at lw_m1 93 rfl) rfl
theorem q_w206 : (Jvm.Cond.fieldLink "CaptainClaims" (69 : Nat) "CaptainClaims" "parseError" "I") ∈ lw_all := lw_g (lw_at lw_m1 94 rfl) rfl
theorem q_w207 : (Jvm.Cond.fieldLink "CaptainClaims" (29 : Nat) "CaptainClaims" "errorPosition" "I") ∈ lw_all := lw_g (lw_at lw_m1 95 rfl) rfl
theorem q_w208 : (Jvm.Cond.fieldLink "CaptainClaims" (81 : Nat) "CaptainClaims" "current" "LCaptainClaims$Puzzle;") ∈ lw_all := lw_g (lw_at lw_m1 96 rfl) rfl
theorem q_w209 : (Jvm.Cond.fieldLink "CaptainClaims" (38 : Nat) "CaptainClaims" "undos" "Ljava/util/Deque;") ∈ lw_all := lw_g (lw_at lw_m1 97 rfl) rfl
theorem q_w210 : (Jvm.Cond.fieldLink "CaptainClaims" (44 : Nat) "CaptainClaims" "saved" "[LCaptainClaims$Puzzle;") ∈ lw_all := lw_g (lw_at lw_m1 98 rfl) rfl
theorem q_w211 : (Jvm.Cond.fieldLink "CaptainClaims" (50 : Nat) "CaptainClaims" "written" "Ljava/lang/String;") ∈ lw_all := lw_g (lw_at lw_m1 99 rfl) rfl
theorem q_w229 : (Jvm.Cond.methodLink "CaptainClaimsLaw" (202 : Nat) ({ cls := "CaptainClaims", name := "append", desc := "(IIIII)I" } : Jvm.MethodName)) ∈ lw_all := lw_g (lw_at lw_m1 117 rfl) rfl
theorem q_w230 : (Jvm.Cond.instanceMethod ({ cls := "CaptainClaims", name := "append", desc := "(IIIII)I" } : Jvm.MethodName)) ∈ lw_all := lw_g (lw_at lw_m1 118 rfl) rfl
theorem q_w231 : (Jvm.Cond.selects "CaptainClaims" ({ cls := "CaptainClaims", name := "append", desc := "(IIIII)I" } : Jvm.MethodName) ({ cls := "CaptainClaims", name := "append", desc := "(IIIII)I" } : Jvm.MethodName)) ∈ lw_all := lw_g (lw_at lw_m1 119 rfl) rfl
theorem q_w232 : (Jvm.Cond.code ({ cls := "CaptainClaims", name := "append", desc := "(IIIII)I" } : Jvm.MethodName) prog_1_method_6_code (6 : Nat) (Option.some Jvm.ClassFile.FieldType.int)) ∈ lw_all := lw_g (lw_at lw_m1 120 rfl) rfl
theorem q_w233 : (Jvm.Cond.methodLink "CaptainClaims" (57 : Nat) ({ cls := "CaptainClaims", name := "appendAll", desc := "([I)V" } : Jvm.MethodName)) ∈ lw_all := lw_g (lw_at lw_m1 121 rfl) rfl
theorem q_w235 : (Jvm.Cond.instanceMethod ({ cls := "CaptainClaims", name := "appendAll", desc := "([I)V" } : Jvm.MethodName)) ∈ lw_all := lw_g (lw_at lw_m1 123 rfl) rfl
theorem q_w236 : (Jvm.Cond.code ({ cls := "CaptainClaims", name := "appendAll", desc := "([I)V" } : Jvm.MethodName) prog_1_method_7_code (7 : Nat) (Option.none : Option Jvm.ClassFile.FieldType)) ∈ lw_all := lw_g (lw_at lw_m1 124 rfl) rfl
theorem q_w238 : (Jvm.Cond.methodLink "CaptainClaimsLaw" (216 : Nat) ({ cls := "CaptainClaims", name := "parseError", desc := "()I" } : Jvm.MethodName)) ∈ lw_all := lw_g (lw_at lw_m1 126 rfl) rfl
theorem q_w239 : (Jvm.Cond.instanceMethod ({ cls := "CaptainClaims", name := "parseError", desc := "()I" } : Jvm.MethodName)) ∈ lw_all := lw_g (lw_at lw_m1 127 rfl) rfl
theorem q_w240 : (Jvm.Cond.selects "CaptainClaims" ({ cls := "CaptainClaims", name := "parseError", desc := "()I" } : Jvm.MethodName) ({ cls := "CaptainClaims", name := "parseError", desc := "()I" } : Jvm.MethodName)) ∈ lw_all := lw_g (lw_at lw_m1 128 rfl) rfl
theorem q_w241 : (Jvm.Cond.code ({ cls := "CaptainClaims", name := "parseError", desc := "()I" } : Jvm.MethodName) prog_1_method_9_code (1 : Nat) (Option.some Jvm.ClassFile.FieldType.int)) ∈ lw_all := lw_g (lw_at lw_m1 129 rfl) rfl
theorem q_w242 : (Jvm.Cond.methodLink "CaptainClaimsLaw" (220 : Nat) ({ cls := "CaptainClaims", name := "errorPosition", desc := "()I" } : Jvm.MethodName)) ∈ lw_all := lw_g (lw_at lw_m1 130 rfl) rfl
theorem q_w243 : (Jvm.Cond.instanceMethod ({ cls := "CaptainClaims", name := "errorPosition", desc := "()I" } : Jvm.MethodName)) ∈ lw_all := lw_g (lw_at lw_m1 131 rfl) rfl
theorem q_w244 : (Jvm.Cond.selects "CaptainClaims" ({ cls := "CaptainClaims", name := "errorPosition", desc := "()I" } : Jvm.MethodName) ({ cls := "CaptainClaims", name := "errorPosition", desc := "()I" } : Jvm.MethodName)) ∈ lw_all := lw_g (lw_at lw_m1 132 rfl) rfl
theorem q_w245 : (Jvm.Cond.code ({ cls := "CaptainClaims", name := "errorPosition", desc := "()I" } : Jvm.MethodName) prog_1_method_10_code (1 : Nat) (Option.some Jvm.ClassFile.FieldType.int)) ∈ lw_all := lw_g (lw_at lw_m1 133 rfl) rfl
theorem q_w246 : (Jvm.Cond.methodLink "CaptainClaimsLaw" (224 : Nat) ({ cls := "CaptainClaims", name := "bufferLength", desc := "()I" } : Jvm.MethodName)) ∈ lw_all := lw_g (lw_at lw_m1 134 rfl) rfl
theorem q_w247 : (Jvm.Cond.instanceMethod ({ cls := "CaptainClaims", name := "bufferLength", desc := "()I" } : Jvm.MethodName)) ∈ lw_all := lw_g (lw_at lw_m1 135 rfl) rfl
theorem q_w248 : (Jvm.Cond.selects "CaptainClaims" ({ cls := "CaptainClaims", name := "bufferLength", desc := "()I" } : Jvm.MethodName) ({ cls := "CaptainClaims", name := "bufferLength", desc := "()I" } : Jvm.MethodName)) ∈ lw_all := lw_g (lw_at lw_m1 136 rfl) rfl
theorem q_w249 : (Jvm.Cond.code ({ cls := "CaptainClaims", name := "bufferLength", desc := "()I" } : Jvm.MethodName) prog_1_method_11_code (1 : Nat) (Option.some Jvm.ClassFile.FieldType.int)) ∈ lw_all := lw_g (lw_at lw_m1 137 rfl) rfl
theorem q_w250 : (Jvm.Cond.methodLink "CaptainClaimsLaw" (398 : Nat) ({ cls := "CaptainClaims", name := "undoable", desc := "()I" } : Jvm.MethodName)) ∈ lw_all := lw_g (lw_at lw_m1 138 rfl) rfl
theorem q_w251 : (Jvm.Cond.instanceMethod ({ cls := "CaptainClaims", name := "undoable", desc := "()I" } : Jvm.MethodName)) ∈ lw_all := lw_g (lw_at lw_m1 139 rfl) rfl
theorem q_w252 : (Jvm.Cond.selects "CaptainClaims" ({ cls := "CaptainClaims", name := "undoable", desc := "()I" } : Jvm.MethodName) ({ cls := "CaptainClaims", name := "undoable", desc := "()I" } : Jvm.MethodName)) ∈ lw_all := lw_g (lw_at lw_m1 140 rfl) rfl
theorem q_w253 : (Jvm.Cond.code ({ cls := "CaptainClaims", name := "undoable", desc := "()I" } : Jvm.MethodName) prog_1_method_79_code (1 : Nat) (Option.some Jvm.ClassFile.FieldType.int)) ∈ lw_all := lw_g (lw_at lw_m1 141 rfl) rfl
theorem q_w255 : (Jvm.Cond.methodLink "CaptainClaims" (357 : Nat) ({ cls := "java/util/Deque", name := "size", desc := "()I" } : Jvm.MethodName)) ∈ lw_all := lw_g (lw_at lw_m1 143 rfl) rfl
theorem q_w256 : (Jvm.Cond.interfaceMethod "java/util/Deque" "java/util/Deque" "size" "()I") ∈ lw_tbl := lw_at lw_m1 144 rfl
theorem q_w257 : (Jvm.Cond.declares ({ cls := "java/util/Deque", name := "size", desc := "()I" } : Jvm.MethodName)) ∈ lw_tbl := lw_at lw_m1 145 rfl
theorem q_w258 : (Jvm.Cond.castable "java/util/ArrayDeque" "java/util/Deque") ∈ lw_tbl := lw_at lw_m1 146 rfl
theorem q_w259 : (Jvm.Cond.selects "java/util/ArrayDeque" ({ cls := "java/util/Deque", name := "size", desc := "()I" } : Jvm.MethodName) ({ cls := "java/util/ArrayDeque", name := "size", desc := "()I" } : Jvm.MethodName)) ∈ lw_all := lw_g (lw_at lw_m1 147 rfl) rfl
theorem q_w260 : (Jvm.Cond.unhidden "java/util/ArrayDeque" "size" "()I") ∈ lw_tbl := lw_at lw_m1 148 rfl
theorem q_w261 : (Jvm.Cond.instanceMethod ({ cls := "java/util/ArrayDeque", name := "size", desc := "()I" } : Jvm.MethodName)) ∈ lw_all := lw_g (lw_at lw_m1 149 rfl) rfl
theorem q_w262 : (Jvm.Cond.publicMethod ({ cls := "java/util/ArrayDeque", name := "size", desc := "()I" } : Jvm.MethodName)) ∈ lw_tbl := lw_at lw_m1 150 rfl
theorem q_w263 : (Jvm.Cond.code ({ cls := "java/util/ArrayDeque", name := "size", desc := "()I" } : Jvm.MethodName) prog_59_method_37_code (1 : Nat) (Option.some Jvm.ClassFile.FieldType.int)) ∈ lw_all := lw_g (lw_at lw_m1 151 rfl) rfl
theorem q_w264 : (Jvm.Cond.methodLink "java/util/ArrayDeque" (127 : Nat) ({ cls := "java/util/ArrayDeque", name := "sub", desc := "(III)I" } : Jvm.MethodName)) ∈ lw_all := lw_g (lw_at lw_m1 152 rfl) rfl
theorem q_w265 : (Jvm.Cond.static ({ cls := "java/util/ArrayDeque", name := "sub", desc := "(III)I" } : Jvm.MethodName)) ∈ lw_all := lw_g (lw_at lw_m1 153 rfl) rfl
theorem q_w266 : (Jvm.Cond.code ({ cls := "java/util/ArrayDeque", name := "sub", desc := "(III)I" } : Jvm.MethodName) prog_59_method_9_code (3 : Nat) (Option.some Jvm.ClassFile.FieldType.int)) ∈ lw_all := lw_g (lw_at lw_m1 154 rfl) rfl
theorem q_w267 : (Jvm.Cond.methodLink "CaptainClaimsLaw" (207 : Nat) ({ cls := "CaptainClaimsLaw", name := "load", desc := "(LCaptainClaims;I[J)I" } : Jvm.MethodName)) ∈ lw_all := lw_g (lw_at lw_m1 155 rfl) rfl
theorem q_w268 : (Jvm.Cond.static ({ cls := "CaptainClaimsLaw", name := "load", desc := "(LCaptainClaims;I[J)I" } : Jvm.MethodName)) ∈ lw_all := lw_g (lw_at lw_m1 156 rfl) rfl
theorem q_w269 : (Jvm.Cond.codeWith ({ cls := "CaptainClaimsLaw", name := "load", desc := "(LCaptainClaims;I[J)I" } : Jvm.MethodName) method_3_code (4 : Nat) (Option.some Jvm.ClassFile.FieldType.int) [((0 : Nat), (9 : Nat), (12 : Nat), (13 : Nat)), ((0 : Nat), (9 : Nat), (15 : Nat), (15 : Nat))]) ∈ lw_all := lw_g (lw_at lw_m1 157 rfl) rfl
theorem q_w270 : (Jvm.Cond.classLink "CaptainClaimsLaw" (13 : Nat) "java/lang/IndexOutOfBoundsException") ∈ lw_all := lw_g (lw_at lw_m1 158 rfl) rfl
theorem q_w286 : (Jvm.Cond.methodLink "java/lang/Throwable" (1 : Nat) ({ cls := "java/lang/Object", name := "<init>", desc := "()V" } : Jvm.MethodName)) ∈ lw_all := lw_g (lw_at lw_m1 174 rfl) rfl
theorem q_w287 : (Jvm.Cond.fieldLink "java/lang/Throwable" (13 : Nat) "java/lang/Throwable" "UNASSIGNED_STACK" "[Ljava/lang/StackTraceElement;") ∈ lw_all := lw_g (lw_at lw_m1 175 rfl) rfl
theorem q_w289 : (Jvm.Cond.fieldLink "java/lang/Throwable" (20 : Nat) "java/lang/Throwable" "SUPPRESSED_SENTINEL" "Ljava/util/List;") ∈ lw_all := lw_g (lw_at lw_m1 177 rfl) rfl
theorem q_w307 : (Jvm.Cond.fieldLink "java/lang/Throwable" (31 : Nat) "java/lang/Throwable" "detailMessage" "Ljava/lang/String;") ∈ lw_all := lw_g (lw_at lw_m1 195 rfl) rfl
theorem q_w308 : (Jvm.Cond.fieldLink "java/lang/Throwable" (7 : Nat) "java/lang/Throwable" "cause" "Ljava/lang/Throwable;") ∈ lw_all := lw_g (lw_at lw_m1 196 rfl) rfl
theorem q_w309 : (Jvm.Cond.fieldLink "java/lang/Throwable" (17 : Nat) "java/lang/Throwable" "stackTrace" "[Ljava/lang/StackTraceElement;") ∈ lw_all := lw_g (lw_at lw_m1 197 rfl) rfl
theorem q_w310 : (Jvm.Cond.fieldLink "java/lang/Throwable" (24 : Nat) "java/lang/Throwable" "suppressedExceptions" "Ljava/util/List;") ∈ lw_all := lw_g (lw_at lw_m1 198 rfl) rfl
theorem q_w343 : (Jvm.Cond.instantiable "java/lang/String" (4 : Nat)) ∈ lw_all := lw_g (lw_at lw_m1 231 rfl) rfl
theorem q_w348 : (Jvm.Cond.classLink "CaptainClaimsLaw" (15 : Nat) "java/lang/IllegalArgumentException") ∈ lw_all := lw_g (lw_at lw_m1 236 rfl) rfl
theorem q_w349 : (Jvm.Cond.methodLink "CaptainClaimsLaw" (7 : Nat) ({ cls := "CaptainClaims", name := "load", desc := "(I)I" } : Jvm.MethodName)) ∈ lw_all := lw_g (lw_at lw_m1 237 rfl) rfl
theorem q_w350 : (Jvm.Cond.instanceMethod ({ cls := "CaptainClaims", name := "load", desc := "(I)I" } : Jvm.MethodName)) ∈ lw_all := lw_g (lw_at lw_m1 238 rfl) rfl
theorem q_w351 : (Jvm.Cond.selects "CaptainClaims" ({ cls := "CaptainClaims", name := "load", desc := "(I)I" } : Jvm.MethodName) ({ cls := "CaptainClaims", name := "load", desc := "(I)I" } : Jvm.MethodName)) ∈ lw_all := lw_g (lw_at lw_m1 239 rfl) rfl
theorem q_w352 : (Jvm.Cond.codeWith ({ cls := "CaptainClaims", name := "load", desc := "(I)I" } : Jvm.MethodName) prog_1_method_8_code (3 : Nat) (Option.some Jvm.ClassFile.FieldType.int) [((27 : Nat), (43 : Nat), (46 : Nat), (85 : Nat))]) ∈ lw_all := lw_g (lw_at lw_m2 0 rfl) rfl
theorem q_w353 : (Jvm.Cond.classLink "CaptainClaims" (85 : Nat) "CaptainClaims$FormatException") ∈ lw_all := lw_g (lw_at lw_m2 1 rfl) rfl
theorem q_w354 : (Jvm.Cond.methodLink "CaptainClaims" (61 : Nat) ({ cls := "CaptainClaims", name := "inRange", desc := "(III)Z" } : Jvm.MethodName)) ∈ lw_all := lw_g (lw_at lw_m2 2 rfl) rfl
theorem q_w355 : (Jvm.Cond.static ({ cls := "CaptainClaims", name := "inRange", desc := "(III)Z" } : Jvm.MethodName)) ∈ lw_all := lw_g (lw_at lw_m2 3 rfl) rfl
theorem q_w356 : (Jvm.Cond.code ({ cls := "CaptainClaims", name := "inRange", desc := "(III)Z" } : Jvm.MethodName) prog_1_method_1_code (3 : Nat) (Option.some Jvm.ClassFile.FieldType.boolean)) ∈ lw_all := lw_g (lw_at lw_m2 4 rfl) rfl
theorem q_w357 : (Jvm.Cond.methodLink "CaptainClaims" (65 : Nat) ({ cls := "CaptainClaims", name := "checkIndex", desc := "(Z)V" } : Jvm.MethodName)) ∈ lw_all := lw_g (lw_at lw_m2 5 rfl) rfl
theorem q_w358 : (Jvm.Cond.static ({ cls := "CaptainClaims", name := "checkIndex", desc := "(Z)V" } : Jvm.MethodName)) ∈ lw_all := lw_g (lw_at lw_m2 6 rfl) rfl
theorem q_w359 : (Jvm.Cond.code ({ cls := "CaptainClaims", name := "checkIndex", desc := "(Z)V" } : Jvm.MethodName) prog_1_method_12_code (1 : Nat) (Option.none : Option Jvm.ClassFile.FieldType)) ∈ lw_all := lw_g (lw_at lw_m2 7 rfl) rfl
theorem q_w360 : (Jvm.Cond.classLink "CaptainClaims" (114 : Nat) "java/lang/IndexOutOfBoundsException") ∈ lw_all := lw_g (lw_at lw_m2 8 rfl) rfl
theorem q_w362 : (Jvm.Cond.castable "java/lang/IndexOutOfBoundsException" "java/lang/IndexOutOfBoundsException") ∈ lw_tbl := lw_at lw_m2 10 rfl
theorem q_w381 : (Jvm.Cond.classLink "CaptainClaims" (72 : Nat) "CaptainClaims$Parser") ∈ lw_all := lw_g (lw_at lw_m2 29 rfl) rfl
theorem q_w382 : (Jvm.Cond.instantiable "CaptainClaims$Parser" (10 : Nat)) ∈ lw_all := lw_g (lw_at lw_m2 30 rfl) rfl
theorem q_w383 : (Jvm.Cond.methodLink "CaptainClaims" (74 : Nat) ({ cls := "CaptainClaims$Parser", name := "<init>", desc := "(LCaptainClaims;I)V" } : Jvm.MethodName)) ∈ lw_all := lw_g (lw_at lw_m2 31 rfl) rfl
theorem q_w384 : (Jvm.Cond.instanceMethod ({ cls := "CaptainClaims$Parser", name := "<init>", desc := "(LCaptainClaims;I)V" } : Jvm.MethodName)) ∈ lw_all := lw_g (lw_at lw_m2 32 rfl) rfl
theorem q_w385 : (Jvm.Cond.code ({ cls := "CaptainClaims$Parser", name := "<init>", desc := "(LCaptainClaims;I)V" } : Jvm.MethodName) prog_18_method_1_code (3 : Nat) (Option.none : Option Jvm.ClassFile.FieldType)) ∈ lw_all := lw_g (lw_at lw_m2 33 rfl) rfl
theorem q_w386 : (Jvm.Cond.methodLink "CaptainClaims$Parser" (9 : Nat) ({ cls := "java/lang/Object", name := "<init>", desc := "()V" } : Jvm.MethodName)) ∈ lw_all := lw_g (lw_at lw_m2 34 rfl) rfl
theorem q_w387 : (Jvm.Cond.fieldLink "CaptainClaims$Parser" (15 : Nat) "CaptainClaims$Token" "INVALID" "LCaptainClaims$Token;") ∈ lw_all := lw_g (lw_at lw_m2 35 rfl) rfl
theorem q_w390 : (Jvm.Cond.fieldLink "CaptainClaims$Parser" (30 : Nat) "CaptainClaims$Parser" "length" "I") ∈ lw_all := lw_g (lw_at lw_m2 38 rfl) rfl
theorem q_w391 : (Jvm.Cond.fieldLink "CaptainClaims$Parser" (56 : Nat) "CaptainClaims$Parser" "from" "I") ∈ lw_all := lw_g (lw_at lw_m2 39 rfl) rfl
theorem q_w392 : (Jvm.Cond.fieldLink "CaptainClaims$Parser" (45 : Nat) "CaptainClaims$Parser" "to" "I") ∈ lw_all := lw_g (lw_at lw_m2 40 rfl) rfl
theorem q_w393 : (Jvm.Cond.fieldLink "CaptainClaims$Parser" (75 : Nat) "CaptainClaims$Parser" "value" "I") ∈ lw_all := lw_g (lw_at lw_m2 41 rfl) rfl
theorem q_w394 : (Jvm.Cond.fieldLink "CaptainClaims$Parser" (178 : Nat) "CaptainClaims$Parser" "nodes" "I") ∈ lw_all := lw_g (lw_at lw_m2 42 rfl) rfl
theorem q_w395 : (Jvm.Cond.fieldLink "CaptainClaims$Parser" (181 : Nat) "CaptainClaims$Parser" "depth" "I") ∈ lw_all := lw_g (lw_at lw_m2 43 rfl) rfl
theorem q_w396 : (Jvm.Cond.fieldLink "CaptainClaims$Parser" (21 : Nat) "CaptainClaims$Parser" "token" "LCaptainClaims$Token;") ∈ lw_all := lw_g (lw_at lw_m2 44 rfl) rfl
theorem q_w397 : (Jvm.Cond.fieldLink "CaptainClaims$Parser" (26 : Nat) "CaptainClaims$Parser" "word" "Ljava/lang/String;") ∈ lw_all := lw_g (lw_at lw_m2 45 rfl) rfl
theorem q_w398 : (Jvm.Cond.fieldLink "CaptainClaims$Parser" (37 : Nat) "CaptainClaims$Parser" "puzzle" "LCaptainClaims$Puzzle;") ∈ lw_all := lw_g (lw_at lw_m2 46 rfl) rfl
theorem q_w399 : (Jvm.Cond.fieldLink "CaptainClaims$Parser" (3 : Nat) "CaptainClaims$Parser" "this$0" "LCaptainClaims;") ∈ lw_all := lw_g (lw_at lw_m2 47 rfl) rfl
theorem q_w421 : (Jvm.Cond.methodLink "CaptainClaims" (77 : Nat) ({ cls := "CaptainClaims$Parser", name := "parse", desc := "()LCaptainClaims$Puzzle;" } : Jvm.MethodName)) ∈ lw_all := lw_g (lw_at lw_m2 69 rfl) rfl
theorem q_w422 : (Jvm.Cond.instanceMethod ({ cls := "CaptainClaims$Parser", name := "parse", desc := "()LCaptainClaims$Puzzle;" } : Jvm.MethodName)) ∈ lw_all := lw_g (lw_at lw_m2 70 rfl) rfl
theorem q_w423 : (Jvm.Cond.selects "CaptainClaims$Parser" ({ cls := "CaptainClaims$Parser", name := "parse", desc := "()LCaptainClaims$Puzzle;" } : Jvm.MethodName) ({ cls := "CaptainClaims$Parser", name := "parse", desc := "()LCaptainClaims$Puzzle;" } : Jvm.MethodName)) ∈ lw_all := lw_g (lw_at lw_m2 71 rfl) rfl
theorem q_w424 : (Jvm.Cond.code ({ cls := "CaptainClaims$Parser", name := "parse", desc := "()LCaptainClaims$Puzzle;" } : Jvm.MethodName) prog_18_method_31_code (2 : Nat) (Option.some (Jvm.ClassFile.FieldType.object "CaptainClaims$Puzzle"))) ∈ lw_all := lw_g (lw_at lw_m2 72 rfl) rfl
theorem q_w425 : (Jvm.Cond.methodLink "CaptainClaims$Parser" (122 : Nat) ({ cls := "CaptainClaims$Parser", name := "advance", desc := "()V" } : Jvm.MethodName)) ∈ lw_all := lw_g (lw_at lw_m2 73 rfl) rfl
theorem q_w427 : (Jvm.Cond.instanceMethod ({ cls := "CaptainClaims$Parser", name := "advance", desc := "()V" } : Jvm.MethodName)) ∈ lw_all := lw_g (lw_at lw_m2 75 rfl) rfl
theorem q_w428 : (Jvm.Cond.code ({ cls := "CaptainClaims$Parser", name := "advance", desc := "()V" } : Jvm.MethodName) prog_18_method_8_code (1 : Nat) (Option.none : Option Jvm.ClassFile.FieldType)) ∈ lw_all := lw_g (lw_at lw_m2 76 rfl) rfl
theorem q_w429 : (Jvm.Cond.methodLink "CaptainClaims$Parser" (48 : Nat) ({ cls := "CaptainClaims$Parser", name := "byteAt", desc := "(I)I" } : Jvm.MethodName)) ∈ lw_all := lw_g (lw_at lw_m2 77 rfl) rfl
theorem q_w431 : (Jvm.Cond.instanceMethod ({ cls := "CaptainClaims$Parser", name := "byteAt", desc := "(I)I" } : Jvm.MethodName)) ∈ lw_all := lw_g (lw_at lw_m2 79 rfl) rfl
theorem q_w432 : (Jvm.Cond.code ({ cls := "CaptainClaims$Parser", name := "byteAt", desc := "(I)I" } : Jvm.MethodName) prog_18_method_3_code (2 : Nat) (Option.some Jvm.ClassFile.FieldType.int)) ∈ lw_all := lw_g (lw_at lw_m2 80 rfl) rfl
theorem q_w433 : (Jvm.Cond.methodLink "CaptainClaims$Parser" (106 : Nat) ({ cls := "CaptainClaims$Parser", name := "scan", desc := "()LCaptainClaims$Token;" } : Jvm.MethodName)) ∈ lw_all := lw_g (lw_at lw_m2 81 rfl) rfl
theorem q_w435 : (Jvm.Cond.instanceMethod ({ cls := "CaptainClaims$Parser", name := "scan", desc := "()LCaptainClaims$Token;" } : Jvm.MethodName)) ∈ lw_all := lw_g (lw_at lw_m2 83 rfl) rfl
theorem q_w436 : (Jvm.Cond.code ({ cls := "CaptainClaims$Parser", name := "scan", desc := "()LCaptainClaims$Token;" } : Jvm.MethodName) prog_18_method_7_code (2 : Nat) (Option.some (Jvm.ClassFile.FieldType.object "CaptainClaims$Token"))) ∈ lw_all := lw_g (lw_at lw_m2 84 rfl) rfl
theorem q_w437 : (Jvm.Cond.fieldLink "CaptainClaims$Parser" (90 : Nat) "CaptainClaims$Token" "END" "LCaptainClaims$Token;") ∈ lw_all := lw_g (lw_at lw_m2 85 rfl) rfl
theorem q_w439 : (Jvm.Cond.methodLinkNest "CaptainClaims$Parser" (52 : Nat) ({ cls := "CaptainClaims", name := "inRange", desc := "(III)Z" } : Jvm.MethodName) "CaptainClaims") ∈ lw_tbl := lw_at lw_m2 87 rfl
theorem q_w440 : (Jvm.Cond.methodLink "CaptainClaims$Parser" (93 : Nat) ({ cls := "CaptainClaims$Parser", name := "scanWord", desc := "()LCaptainClaims$Token;" } : Jvm.MethodName)) ∈ lw_all := lw_g (lw_at lw_m2 88 rfl) rfl
theorem q_w442 : (Jvm.Cond.instanceMethod ({ cls := "CaptainClaims$Parser", name := "scanWord", desc := "()LCaptainClaims$Token;" } : Jvm.MethodName)) ∈ lw_all := lw_g (lw_at lw_m2 90 rfl) rfl
theorem q_w443 : (Jvm.Cond.code ({ cls := "CaptainClaims$Parser", name := "scanWord", desc := "()LCaptainClaims$Token;" } : Jvm.MethodName) prog_18_method_4_code (3 : Nat) (Option.some (Jvm.ClassFile.FieldType.object "CaptainClaims$Token"))) ∈ lw_all := lw_g (lw_at lw_m2 91 rfl) rfl
theorem q_w444 : (Jvm.Cond.classLink "CaptainClaims$Parser" (59 : Nat) "java/lang/StringBuilder") ∈ lw_all := lw_g (lw_at lw_m2 92 rfl) rfl
theorem q_w445 : (Jvm.Cond.instantiable "java/lang/StringBuilder" (4 : Nat)) ∈ lw_all := lw_g (lw_at lw_m2 93 rfl) rfl
theorem q_w446 : (Jvm.Cond.methodLink "CaptainClaims$Parser" (61 : Nat) ({ cls := "java/lang/StringBuilder", name := "<init>", desc := "(I)V" } : Jvm.MethodName)) ∈ lw_all := lw_g (lw_at lw_m2 94 rfl) rfl
theorem q_w447 : (Jvm.Cond.instanceMethod ({ cls := "java/lang/StringBuilder", name := "<init>", desc := "(I)V" } : Jvm.MethodName)) ∈ lw_all := lw_g (lw_at lw_m2 95 rfl) rfl
theorem q_w448 : (Jvm.Cond.code ({ cls := "java/lang/StringBuilder", name := "<init>", desc := "(I)V" } : Jvm.MethodName) prog_49_method_2_code (2 : Nat) (Option.none : Option Jvm.ClassFile.FieldType)) ∈ lw_all := lw_g (lw_at lw_m2 96 rfl) rfl
theorem q_w449 : (Jvm.Cond.methodLink "java/lang/StringBuilder" (1 : Nat) ({ cls := "java/lang/AbstractStringBuilder", name := "<init>", desc := "(I)V" } : Jvm.MethodName)) ∈ lw_all := lw_g (lw_at lw_m2 97 rfl) rfl
theorem q_w450 : (Jvm.Cond.instanceMethod ({ cls := "java/lang/AbstractStringBuilder", name := "<init>", desc := "(I)V" } : Jvm.MethodName)) ∈ lw_all := lw_g (lw_at lw_m2 98 rfl) rfl
theorem q_w451 : (Jvm.Cond.code ({ cls := "java/lang/AbstractStringBuilder", name := "<init>", desc := "(I)V" } : Jvm.MethodName) prog_30_method_2_code (2 : Nat) (Option.none : Option Jvm.ClassFile.FieldType)) ∈ lw_all := lw_g (lw_at lw_m2 99 rfl) rfl
theorem q_w452 : (Jvm.Cond.methodLink "java/lang/AbstractStringBuilder" (3 : Nat) ({ cls := "java/lang/Object", name := "<init>", desc := "()V" } : Jvm.MethodName)) ∈ lw_all := lw_g (lw_at lw_m2 100 rfl) rfl
theorem q_w453 : (Jvm.Cond.fieldLink "java/lang/AbstractStringBuilder" (18 : Nat) "java/lang/String" "COMPACT_STRINGS" "Z") ∈ lw_all := lw_g (lw_at lw_m2 101 rfl) rfl
theorem q_w462 : (Jvm.Cond.fieldLink "java/lang/AbstractStringBuilder" (15 : Nat) "java/lang/AbstractStringBuilder" "value" "[B") ∈ lw_all := lw_g (lw_at lw_m2 110 rfl) rfl
theorem q_w463 : (Jvm.Cond.fieldLink "java/lang/AbstractStringBuilder" (22 : Nat) "java/lang/AbstractStringBuilder" "coder" "B") ∈ lw_all := lw_g (lw_at lw_m2 111 rfl) rfl
theorem q_w464 : (Jvm.Cond.fieldLink "java/lang/String" (1048 : Nat) "java/lang/AbstractStringBuilder" "maybeLatin1" "Z") ∈ lw_all := lw_g (lw_at lw_m2 112 rfl) rfl
theorem q_w465 : (Jvm.Cond.fieldLink "java/lang/AbstractStringBuilder" (79 : Nat) "java/lang/AbstractStringBuilder" "count" "I") ∈ lw_all := lw_g (lw_at lw_m2 113 rfl) rfl
theorem q_w474 : (Jvm.Cond.superclass "java/lang/StringBuilder" "java/lang/AbstractStringBuilder") ∈ lw_all := lw_g (lw_at lw_m2 122 rfl) rfl
theorem q_w475 : (Jvm.Cond.methodLink "CaptainClaims$Parser" (64 : Nat) ({ cls := "java/lang/StringBuilder", name := "append", desc := "(C)Ljava/lang/StringBuilder;" } : Jvm.MethodName)) ∈ lw_all := lw_g (lw_at lw_m2 123 rfl) rfl
theorem q_w476 : (Jvm.Cond.instanceMethod ({ cls := "java/lang/StringBuilder", name := "append", desc := "(C)Ljava/lang/StringBuilder;" } : Jvm.MethodName)) ∈ lw_all := lw_g (lw_at lw_m2 124 rfl) rfl
theorem q_w477 : (Jvm.Cond.selects "java/lang/StringBuilder" ({ cls := "java/lang/StringBuilder", name := "append", desc := "(C)Ljava/lang/StringBuilder;" } : Jvm.MethodName) ({ cls := "java/lang/StringBuilder", name := "append", desc := "(C)Ljava/lang/StringBuilder;" } : Jvm.MethodName)) ∈ lw_all := lw_g (lw_at lw_m2 125 rfl) rfl
theorem q_w478 : (Jvm.Cond.code ({ cls := "java/lang/StringBuilder", name := "append", desc := "(C)Ljava/lang/StringBuilder;" } : Jvm.MethodName) prog_49_method_14_code (2 : Nat) (Option.some (Jvm.ClassFile.FieldType.object "java/lang/StringBuilder"))) ∈ lw_all := lw_g (lw_at lw_m2 126 rfl) rfl
theorem q_w479 : (Jvm.Cond.methodLink "java/lang/StringBuilder" (50 : Nat) ({ cls := "java/lang/AbstractStringBuilder", name := "append", desc := "(C)Ljava/lang/AbstractStringBuilder;" } : Jvm.MethodName)) ∈ lw_all := lw_g (lw_at lw_m2 127 rfl) rfl
theorem q_w480 : (Jvm.Cond.instanceMethod ({ cls := "java/lang/AbstractStringBuilder", name := "append", desc := "(C)Ljava/lang/AbstractStringBuilder;" } : Jvm.MethodName)) ∈ lw_all := lw_g (lw_at lw_m2 128 rfl) rfl
theorem q_w481 : (Jvm.Cond.code ({ cls := "java/lang/AbstractStringBuilder", name := "append", desc := "(C)Ljava/lang/AbstractStringBuilder;" } : Jvm.MethodName) prog_30_method_31_code (2 : Nat) (Option.some (Jvm.ClassFile.FieldType.object "java/lang/AbstractStringBuilder"))) ∈ lw_all := lw_g (lw_at lw_m2 129 rfl) rfl
theorem q_w482 : (Jvm.Cond.methodLink "java/lang/AbstractStringBuilder" (100 : Nat) ({ cls := "java/lang/AbstractStringBuilder", name := "ensureCapacityInternal", desc := "(I)V" } : Jvm.MethodName)) ∈ lw_all := lw_g (lw_at lw_m2 130 rfl) rfl
theorem q_w483 : (Jvm.Cond.privateMethod ({ cls := "java/lang/AbstractStringBuilder", name := "ensureCapacityInternal", desc := "(I)V" } : Jvm.MethodName)) ∈ lw_tbl := lw_at lw_m2 131 rfl
theorem q_w484 : (Jvm.Cond.instanceMethod ({ cls := "java/lang/AbstractStringBuilder", name := "ensureCapacityInternal", desc := "(I)V" } : Jvm.MethodName)) ∈ lw_all := lw_g (lw_at lw_m2 132 rfl) rfl
theorem q_w485 : (Jvm.Cond.code ({ cls := "java/lang/AbstractStringBuilder", name := "ensureCapacityInternal", desc := "(I)V" } : Jvm.MethodName) prog_30_method_9_code (3 : Nat) (Option.none : Option Jvm.ClassFile.FieldType)) ∈ lw_all := lw_g (lw_at lw_m2 133 rfl) rfl
theorem q_w494 : (Jvm.Cond.static ({ cls := "java/lang/Math", name := "max", desc := "(II)I" } : Jvm.MethodName)) ∈ lw_all := lw_g (lw_at lw_m2 142 rfl) rfl
theorem q_w495 : (Jvm.Cond.code ({ cls := "java/lang/Math", name := "max", desc := "(II)I" } : Jvm.MethodName) prog_45_method_65_code (2 : Nat) (Option.some Jvm.ClassFile.FieldType.int)) ∈ lw_all := lw_g (lw_at lw_m2 143 rfl) rfl
theorem q_w504 : (Jvm.Cond.methodLink "java/util/Arrays" (310 : Nat) ({ cls := "[B", name := "clone", desc := "()Ljava/lang/Object;" } : Jvm.MethodName)) ∈ lw_all := lw_g (lw_at lw_m2 152 rfl) rfl
theorem q_w510 : (Jvm.Cond.classLink "java/util/Arrays" (311 : Nat) "[B") ∈ lw_all := lw_g (lw_at lw_m2 158 rfl) rfl
theorem q_w511 : (Jvm.Cond.methodLink "java/util/Arrays" (304 : Nat) ({ cls := "java/lang/Math", name := "min", desc := "(II)I" } : Jvm.MethodName)) ∈ lw_all := lw_g (lw_at lw_m2 159 rfl) rfl
theorem q_w512 : (Jvm.Cond.static ({ cls := "java/lang/Math", name := "min", desc := "(II)I" } : Jvm.MethodName)) ∈ lw_all := lw_g (lw_at lw_m2 160 rfl) rfl
theorem q_w513 : (Jvm.Cond.code ({ cls := "java/lang/Math", name := "min", desc := "(II)I" } : Jvm.MethodName) prog_45_method_69_code (2 : Nat) (Option.some Jvm.ClassFile.FieldType.int)) ∈ lw_all := lw_g (lw_at lw_m2 161 rfl) rfl
theorem q_w514 : (Jvm.Cond.methodLink "java/util/Arrays" (150 : Nat) ({ cls := "java/lang/System", name := "arraycopy", desc := "(Ljava/lang/Object;ILjava/lang/Object;II)V" } : Jvm.MethodName)) ∈ lw_all := lw_g (lw_at lw_m2 162 rfl) rfl
theorem q_w517 : (Jvm.Cond.methodLink "java/lang/AbstractStringBuilder" (83 : Nat) ({ cls := "java/lang/AbstractStringBuilder", name := "isLatin1", desc := "()Z" } : Jvm.MethodName)) ∈ lw_all := lw_g (lw_at lw_m2 165 rfl) rfl
theorem q_w518 : (Jvm.Cond.instanceMethod ({ cls := "java/lang/AbstractStringBuilder", name := "isLatin1", desc := "()Z" } : Jvm.MethodName)) ∈ lw_all := lw_g (lw_at lw_m2 166 rfl) rfl
theorem q_w519 : (Jvm.Cond.sameMethod "java/lang/AbstractStringBuilder" "java/lang/AbstractStringBuilder" "isLatin1" "()Z") ∈ lw_all := lw_g (lw_at lw_m2 167 rfl) rfl
theorem q_w520 : (Jvm.Cond.selects "java/lang/StringBuilder" ({ cls := "java/lang/AbstractStringBuilder", name := "isLatin1", desc := "()Z" } : Jvm.MethodName) ({ cls := "java/lang/AbstractStringBuilder", name := "isLatin1", desc := "()Z" } : Jvm.MethodName)) ∈ lw_all := lw_g (lw_at lw_m2 168 rfl) rfl
theorem q_w521 : (Jvm.Cond.code ({ cls := "java/lang/AbstractStringBuilder", name := "isLatin1", desc := "()Z" } : Jvm.MethodName) prog_30_method_68_code (1 : Nat) (Option.some Jvm.ClassFile.FieldType.boolean)) ∈ lw_all := lw_g (lw_at lw_m2 169 rfl) rfl
theorem q_w522 : (Jvm.Cond.methodLink "java/lang/AbstractStringBuilder" (191 : Nat) ({ cls := "java/lang/StringLatin1", name := "canEncode", desc := "(C)Z" } : Jvm.MethodName)) ∈ lw_all := lw_g (lw_at lw_m2 170 rfl) rfl
theorem q_w523 : (Jvm.Cond.static ({ cls := "java/lang/StringLatin1", name := "canEncode", desc := "(C)Z" } : Jvm.MethodName)) ∈ lw_all := lw_g (lw_at lw_m2 171 rfl) rfl
theorem q_w524 : (Jvm.Cond.code ({ cls := "java/lang/StringLatin1", name := "canEncode", desc := "(C)Z" } : Jvm.MethodName) prog_50_method_3_code (1 : Nat) (Option.some Jvm.ClassFile.FieldType.boolean)) ∈ lw_all := lw_g (lw_at lw_m2 172 rfl) rfl
theorem q_w544 : (Jvm.Cond.fieldLink "java/lang/String" (1053 : Nat) "jdk/internal/util/Preconditions" "SIOOBE_FORMATTER" "Ljava/util/function/BiFunction;") ∈ lw_all := lw_g (lw_at lw_m2 192 rfl) rfl
theorem q_w565 : (Jvm.Cond.static ({ cls := "java/lang/String", name := "checkIndex", desc := "(II)V" } : Jvm.MethodName)) ∈ lw_all := lw_g (lw_at lw_m2 213 rfl) rfl
theorem q_w566 : (Jvm.Cond.code ({ cls := "java/lang/String", name := "checkIndex", desc := "(II)V" } : Jvm.MethodName) prog_48_method_155_code (2 : Nat) (Option.none : Option Jvm.ClassFile.FieldType)) ∈ lw_all := lw_g (lw_at lw_m2 214 rfl) rfl
theorem q_w567 : (Jvm.Cond.methodLink "java/lang/String" (1059 : Nat) ({ cls := "jdk/internal/util/Preconditions", name := "checkIndex", desc := "(IILjava/util/function/BiFunction;)I" } : Jvm.MethodName)) ∈ lw_all := lw_g (lw_at lw_m2 215 rfl) rfl
theorem q_w568 : (Jvm.Cond.static ({ cls := "jdk/internal/util/Preconditions", name := "checkIndex", desc := "(IILjava/util/function/BiFunction;)I" } : Jvm.MethodName)) ∈ lw_all := lw_g (lw_at lw_m2 216 rfl) rfl
theorem q_w569 : (Jvm.Cond.code ({ cls := "jdk/internal/util/Preconditions", name := "checkIndex", desc := "(IILjava/util/function/BiFunction;)I" } : Jvm.MethodName) prog_75_method_11_code (3 : Nat) (Option.some Jvm.ClassFile.FieldType.int)) ∈ lw_all := lw_g (lw_at lw_m2 217 rfl) rfl
theorem q_w570 : (Jvm.Cond.methodLink "CaptainClaims$Parser" (68 : Nat) ({ cls := "java/lang/StringBuilder", name := "toString", desc := "()Ljava/lang/String;" } : Jvm.MethodName)) ∈ lw_all := lw_g (lw_at lw_m2 218 rfl) rfl
theorem q_w571 : (Jvm.Cond.instanceMethod ({ cls := "java/lang/StringBuilder", name := "toString", desc := "()Ljava/lang/String;" } : Jvm.MethodName)) ∈ lw_all := lw_g (lw_at lw_m2 219 rfl) rfl
theorem q_w572 : (Jvm.Cond.selects "java/lang/StringBuilder" ({ cls := "java/lang/StringBuilder", name := "toString", desc := "()Ljava/lang/String;" } : Jvm.MethodName) ({ cls := "java/lang/StringBuilder", name := "toString", desc := "()Ljava/lang/String;" } : Jvm.MethodName)) ∈ lw_all := lw_g (lw_at lw_m2 220 rfl) rfl
theorem q_w573 : (Jvm.Cond.code ({ cls := "java/lang/StringBuilder", name := "toString", desc := "()Ljava/lang/String;" } : Jvm.MethodName) prog_49_method_42_code (1 : Nat) (Option.some (Jvm.ClassFile.FieldType.object "java/lang/String"))) ∈ lw_all := lw_g (lw_at lw_m2 221 rfl) rfl
theorem q_w574 : (Jvm.Cond.classLink "java/lang/StringBuilder" (18 : Nat) "java/lang/String") ∈ lw_all := lw_g (lw_at lw_m2 222 rfl) rfl
theorem q_w575 : (Jvm.Cond.methodLink "java/lang/StringBuilder" (137 : Nat) ({ cls := "java/lang/String", name := "<init>", desc := "(Ljava/lang/StringBuilder;)V" } : Jvm.MethodName)) ∈ lw_all := lw_g (lw_at lw_m2 223 rfl) rfl
theorem q_w576 : (Jvm.Cond.instanceMethod ({ cls := "java/lang/String", name := "<init>", desc := "(Ljava/lang/StringBuilder;)V" } : Jvm.MethodName)) ∈ lw_all := lw_g (lw_at lw_m2 224 rfl) rfl
theorem q_w577 : (Jvm.Cond.code ({ cls := "java/lang/String", name := "<init>", desc := "(Ljava/lang/StringBuilder;)V" } : Jvm.MethodName) prog_48_method_53_code (2 : Nat) (Option.none : Option Jvm.ClassFile.FieldType)) ∈ lw_all := lw_g (lw_at lw_m2 225 rfl) rfl
theorem q_w578 : (Jvm.Cond.methodLink "java/lang/String" (489 : Nat) ({ cls := "java/lang/String", name := "<init>", desc := "(Ljava/lang/AbstractStringBuilder;Ljava/lang/Void;)V" } : Jvm.MethodName)) ∈ lw_all := lw_g (lw_at lw_m2 226 rfl) rfl
theorem q_w579 : (Jvm.Cond.instanceMethod ({ cls := "java/lang/String", name := "<init>", desc := "(Ljava/lang/AbstractStringBuilder;Ljava/lang/Void;)V" } : Jvm.MethodName)) ∈ lw_all := lw_g (lw_at lw_m2 227 rfl) rfl
theorem q_w580 : (Jvm.Cond.code ({ cls := "java/lang/String", name := "<init>", desc := "(Ljava/lang/AbstractStringBuilder;Ljava/lang/Void;)V" } : Jvm.MethodName) prog_48_method_150_code (5 : Nat) (Option.none : Option Jvm.ClassFile.FieldType)) ∈ lw_all := lw_g (lw_at lw_m2 228 rfl) rfl
theorem q_w581 : (Jvm.Cond.methodLink "java/lang/String" (1 : Nat) ({ cls := "java/lang/Object", name := "<init>", desc := "()V" } : Jvm.MethodName)) ∈ lw_all := lw_g (lw_at lw_m2 229 rfl) rfl
theorem q_w582 : (Jvm.Cond.methodLink "java/lang/String" (552 : Nat) ({ cls := "java/lang/AbstractStringBuilder", name := "getValue", desc := "()[B" } : Jvm.MethodName)) ∈ lw_all := lw_g (lw_at lw_m2 230 rfl) rfl
theorem q_w583 : (Jvm.Cond.instanceMethod ({ cls := "java/lang/AbstractStringBuilder", name := "getValue", desc := "()[B" } : Jvm.MethodName)) ∈ lw_all := lw_g (lw_at lw_m2 231 rfl) rfl
theorem q_w585 : (Jvm.Cond.selects "java/lang/StringBuilder" ({ cls := "java/lang/AbstractStringBuilder", name := "getValue", desc := "()[B" } : Jvm.MethodName) ({ cls := "java/lang/AbstractStringBuilder", name := "getValue", desc := "()[B" } : Jvm.MethodName)) ∈ lw_all := lw_g (lw_at lw_m2 233 rfl) rfl
theorem q_w586 : (Jvm.Cond.code ({ cls := "java/lang/AbstractStringBuilder", name := "getValue", desc := "()[B" } : Jvm.MethodName) prog_30_method_64_code (1 : Nat) (Option.some (Jvm.ClassFile.FieldType.array Jvm.ClassFile.FieldType.byte))) ∈ lw_all := lw_g (lw_at lw_m2 234 rfl) rfl
theorem q_w587 : (Jvm.Cond.methodLink "java/lang/String" (549 : Nat) ({ cls := "java/lang/AbstractStringBuilder", name := "length", desc := "()I" } : Jvm.MethodName)) ∈ lw_all := lw_g (lw_at lw_m2 235 rfl) rfl
theorem q_w588 : (Jvm.Cond.instanceMethod ({ cls := "java/lang/AbstractStringBuilder", name := "length", desc := "()I" } : Jvm.MethodName)) ∈ lw_all := lw_g (lw_at lw_m2 236 rfl) rfl
theorem q_w589 : (Jvm.Cond.sameMethod "java/lang/AbstractStringBuilder" "java/lang/AbstractStringBuilder" "length" "()I") ∈ lw_all := lw_g (lw_at lw_m2 237 rfl) rfl
theorem q_w590 : (Jvm.Cond.selects "java/lang/StringBuilder" ({ cls := "java/lang/AbstractStringBuilder", name := "length", desc := "()I" } : Jvm.MethodName) ({ cls := "java/lang/StringBuilder", name := "length", desc := "()I" } : Jvm.MethodName)) ∈ lw_all := lw_g (lw_at lw_m2 238 rfl) rfl
theorem q_w591 : (Jvm.Cond.instanceMethod ({ cls := "java/lang/StringBuilder", name := "length", desc := "()I" } : Jvm.MethodName)) ∈ lw_all := lw_g (lw_at lw_m2 239 rfl) rfl
theorem q_w592 : (Jvm.Cond.code ({ cls := "java/lang/StringBuilder", name := "length", desc := "()I" } : Jvm.MethodName) prog_49_method_93_code (1 : Nat) (Option.some Jvm.ClassFile.FieldType.int)) ∈ lw_all := lw_g (lw_at lw_m3 0 rfl) rfl
theorem q_w593 : (Jvm.Cond.methodLink "java/lang/StringBuilder" (343 : Nat) ({ cls := "java/lang/AbstractStringBuilder", name := "length", desc := "()I" } : Jvm.MethodName)) ∈ lw_all := lw_g (lw_at lw_m3 1 rfl) rfl
theorem q_w594 : (Jvm.Cond.code ({ cls := "java/lang/AbstractStringBuilder", name := "length", desc := "()I" } : Jvm.MethodName) prog_30_method_6_code (1 : Nat) (Option.some Jvm.ClassFile.FieldType.int)) ∈ lw_all := lw_g (lw_at lw_m3 2 rfl) rfl
theorem q_w595 : (Jvm.Cond.methodLink "java/lang/String" (1047 : Nat) ({ cls := "java/lang/AbstractStringBuilder", name := "isLatin1", desc := "()Z" } : Jvm.MethodName)) ∈ lw_all := lw_g (lw_at lw_m3 3 rfl) rfl
theorem q_w596 : (Jvm.Cond.methodLink "java/lang/String" (54 : Nat) ({ cls := "java/util/Arrays", name := "copyOfRange", desc := "([BII)[B" } : Jvm.MethodName)) ∈ lw_all := lw_g (lw_at lw_m3 4 rfl) rfl
theorem q_w597 : (Jvm.Cond.static ({ cls := "java/util/Arrays", name := "copyOfRange", desc := "([BII)[B" } : Jvm.MethodName)) ∈ lw_all := lw_g (lw_at lw_m3 5 rfl) rfl
theorem q_w598 : (Jvm.Cond.code ({ cls := "java/util/Arrays", name := "copyOfRange", desc := "([BII)[B" } : Jvm.MethodName) prog_62_method_132_code (3 : Nat) (Option.some (Jvm.ClassFile.FieldType.array Jvm.ClassFile.FieldType.byte))) ∈ lw_all := lw_g (lw_at lw_m3 6 rfl) rfl
theorem q_w599 : (Jvm.Cond.methodLink "java/util/Arrays" (339 : Nat) ({ cls := "java/util/Arrays", name := "copyOfRangeByte", desc := "([BII)[B" } : Jvm.MethodName)) ∈ lw_all := lw_g (lw_at lw_m3 7 rfl) rfl
theorem q_w600 : (Jvm.Cond.static ({ cls := "java/util/Arrays", name := "copyOfRangeByte", desc := "([BII)[B" } : Jvm.MethodName)) ∈ lw_all := lw_g (lw_at lw_m3 8 rfl) rfl
theorem q_w601 : (Jvm.Cond.code ({ cls := "java/util/Arrays", name := "copyOfRangeByte", desc := "([BII)[B" } : Jvm.MethodName) prog_62_method_133_code (5 : Nat) (Option.some (Jvm.ClassFile.FieldType.array Jvm.ClassFile.FieldType.byte))) ∈ lw_all := lw_g (lw_at lw_m3 9 rfl) rfl
theorem q_w602 : (Jvm.Cond.methodLink "java/util/Arrays" (343 : Nat) ({ cls := "java/util/Arrays", name := "checkLength", desc := "(II)V" } : Jvm.MethodName)) ∈ lw_all := lw_g (lw_at lw_m3 10 rfl) rfl
theorem q_w603 : (Jvm.Cond.static ({ cls := "java/util/Arrays", name := "checkLength", desc := "(II)V" } : Jvm.MethodName)) ∈ lw_all := lw_g (lw_at lw_m3 11 rfl) rfl
theorem q_w604 : (Jvm.Cond.code ({ cls := "java/util/Arrays", name := "checkLength", desc := "(II)V" } : Jvm.MethodName) prog_62_method_131_code (2 : Nat) (Option.none : Option Jvm.ClassFile.FieldType)) ∈ lw_all := lw_g (lw_at lw_m3 12 rfl) rfl
theorem q_w605 : (Jvm.Cond.classLink "java/util/Arrays" (43 : Nat) "java/lang/IllegalArgumentException") ∈ lw_all := lw_g (lw_at lw_m3 13 rfl) rfl
theorem q_w607 : (Jvm.Cond.castable "java/lang/IllegalArgumentException" "java/lang/IllegalArgumentException") ∈ lw_tbl := lw_at lw_m3 15 rfl
theorem q_w614 : (Jvm.Cond.classLink "java/util/Arrays" (45 : Nat) "java/lang/StringBuilder") ∈ lw_all := lw_g (lw_at lw_m3 22 rfl) rfl
theorem q_w618 : (Jvm.Cond.methodLink "java/util/Arrays" (54 : Nat) ({ cls := "java/lang/StringBuilder", name := "append", desc := "(I)Ljava/lang/StringBuilder;" } : Jvm.MethodName)) ∈ lw_all := lw_g (lw_at lw_m3 26 rfl) rfl
theorem q_w619 : (Jvm.Cond.instanceMethod ({ cls := "java/lang/StringBuilder", name := "append", desc := "(I)Ljava/lang/StringBuilder;" } : Jvm.MethodName)) ∈ lw_all := lw_g (lw_at lw_m3 27 rfl) rfl
theorem q_w620 : (Jvm.Cond.selects "java/lang/StringBuilder" ({ cls := "java/lang/StringBuilder", name := "append", desc := "(I)Ljava/lang/StringBuilder;" } : Jvm.MethodName) ({ cls := "java/lang/StringBuilder", name := "append", desc := "(I)Ljava/lang/StringBuilder;" } : Jvm.MethodName)) ∈ lw_all := lw_g (lw_at lw_m3 28 rfl) rfl
theorem q_w621 : (Jvm.Cond.code ({ cls := "java/lang/StringBuilder", name := "append", desc := "(I)Ljava/lang/StringBuilder;" } : Jvm.MethodName) prog_49_method_15_code (2 : Nat) (Option.some (Jvm.ClassFile.FieldType.object "java/lang/StringBuilder"))) ∈ lw_all := lw_g (lw_at lw_m3 29 rfl) rfl
theorem q_w622 : (Jvm.Cond.methodLink "java/lang/StringBuilder" (53 : Nat) ({ cls := "java/lang/AbstractStringBuilder", name := "append", desc := "(I)Ljava/lang/AbstractStringBuilder;" } : Jvm.MethodName)) ∈ lw_all := lw_g (lw_at lw_m3 30 rfl) rfl
theorem q_w623 : (Jvm.Cond.instanceMethod ({ cls := "java/lang/AbstractStringBuilder", name := "append", desc := "(I)Ljava/lang/AbstractStringBuilder;" } : Jvm.MethodName)) ∈ lw_all := lw_g (lw_at lw_m3 31 rfl) rfl
theorem q_w624 : (Jvm.Cond.code ({ cls := "java/lang/AbstractStringBuilder", name := "append", desc := "(I)Ljava/lang/AbstractStringBuilder;" } : Jvm.MethodName) prog_30_method_32_code (4 : Nat) (Option.some (Jvm.ClassFile.FieldType.object "java/lang/AbstractStringBuilder"))) ∈ lw_all := lw_g (lw_at lw_m3 32 rfl) rfl
theorem q_w625 : (Jvm.Cond.methodLink "java/lang/AbstractStringBuilder" (245 : Nat) ({ cls := "java/lang/Integer", name := "stringSize", desc := "(I)I" } : Jvm.MethodName)) ∈ lw_all := lw_g (lw_at lw_m3 33 rfl) rfl
theorem q_w626 : (Jvm.Cond.static ({ cls := "java/lang/Integer", name := "stringSize", desc := "(I)I" } : Jvm.MethodName)) ∈ lw_all := lw_g (lw_at lw_m3 34 rfl) rfl
theorem q_w627 : (Jvm.Cond.code ({ cls := "java/lang/Integer", name := "stringSize", desc := "(I)I" } : Jvm.MethodName) prog_41_method_13_code (4 : Nat) (Option.some Jvm.ClassFile.FieldType.int)) ∈ lw_all := lw_g (lw_at lw_m3 35 rfl) rfl
theorem q_w628 : (Jvm.Cond.methodLink "java/lang/AbstractStringBuilder" (248 : Nat) ({ cls := "java/lang/Integer", name := "getChars", desc := "(II[B)I" } : Jvm.MethodName)) ∈ lw_all := lw_g (lw_at lw_m3 36 rfl) rfl
theorem q_w629 : (Jvm.Cond.static ({ cls := "java/lang/Integer", name := "getChars", desc := "(II[B)I" } : Jvm.MethodName)) ∈ lw_all := lw_g (lw_at lw_m3 37 rfl) rfl
theorem q_w630 : (Jvm.Cond.code ({ cls := "java/lang/Integer", name := "getChars", desc := "(II[B)I" } : Jvm.MethodName) prog_41_method_12_code (7 : Nat) (Option.some Jvm.ClassFile.FieldType.int)) ∈ lw_all := lw_g (lw_at lw_m3 38 rfl) rfl
theorem q_w631 : (Jvm.Cond.fieldLink "java/lang/Integer" (83 : Nat) "java/lang/Integer" "DigitOnes" "[B") ∈ lw_all := lw_g (lw_at lw_m3 39 rfl) rfl
theorem q_w633 : (Jvm.Cond.fieldLink "java/lang/Integer" (87 : Nat) "java/lang/Integer" "DigitTens" "[B") ∈ lw_all := lw_g (lw_at lw_m3 41 rfl) rfl
theorem q_w653 : (Jvm.Cond.methodLink "java/util/Arrays" (50 : Nat) ({ cls := "java/lang/StringBuilder", name := "append", desc := "(Ljava/lang/String;)Ljava/lang/StringBuilder;" } : Jvm.MethodName)) ∈ lw_all := lw_g (lw_at lw_m3 61 rfl) rfl
theorem q_w654 : (Jvm.Cond.instanceMethod ({ cls := "java/lang/StringBuilder", name := "append", desc := "(Ljava/lang/String;)Ljava/lang/StringBuilder;" } : Jvm.MethodName)) ∈ lw_all := lw_g (lw_at lw_m3 62 rfl) rfl
theorem q_w655 : (Jvm.Cond.selects "java/lang/StringBuilder" ({ cls := "java/lang/StringBuilder", name := "append", desc := "(Ljava/lang/String;)Ljava/lang/StringBuilder;" } : Jvm.MethodName) ({ cls := "java/lang/StringBuilder", name := "append", desc := "(Ljava/lang/String;)Ljava/lang/StringBuilder;" } : Jvm.MethodName)) ∈ lw_all := lw_g (lw_at lw_m3 63 rfl) rfl
theorem q_w656 : (Jvm.Cond.code ({ cls := "java/lang/StringBuilder", name := "append", desc := "(Ljava/lang/String;)Ljava/lang/StringBuilder;" } : Jvm.MethodName) prog_49_method_7_code (2 : Nat) (Option.some (Jvm.ClassFile.FieldType.object "java/lang/StringBuilder"))) ∈ lw_all := lw_g (lw_at lw_m3 64 rfl) rfl
theorem q_w657 : (Jvm.Cond.methodLink "java/lang/StringBuilder" (29 : Nat) ({ cls := "java/lang/AbstractStringBuilder", name := "append", desc := "(Ljava/lang/String;)Ljava/lang/AbstractStringBuilder;" } : Jvm.MethodName)) ∈ lw_all := lw_g (lw_at lw_m3 65 rfl) rfl
theorem q_w658 : (Jvm.Cond.instanceMethod ({ cls := "java/lang/AbstractStringBuilder", name := "append", desc := "(Ljava/lang/String;)Ljava/lang/AbstractStringBuilder;" } : Jvm.MethodName)) ∈ lw_all := lw_g (lw_at lw_m3 66 rfl) rfl
theorem q_w659 : (Jvm.Cond.code ({ cls := "java/lang/AbstractStringBuilder", name := "append", desc := "(Ljava/lang/String;)Ljava/lang/AbstractStringBuilder;" } : Jvm.MethodName) prog_30_method_22_code (3 : Nat) (Option.some (Jvm.ClassFile.FieldType.object "java/lang/AbstractStringBuilder"))) ∈ lw_all := lw_g (lw_at lw_m3 67 rfl) rfl
theorem q_w667 : (Jvm.Cond.methodLink "java/lang/AbstractStringBuilder" (32 : Nat) ({ cls := "java/lang/String", name := "length", desc := "()I" } : Jvm.MethodName)) ∈ lw_all := lw_g (lw_at lw_m3 75 rfl) rfl
theorem q_w668 : (Jvm.Cond.instanceMethod ({ cls := "java/lang/String", name := "length", desc := "()I" } : Jvm.MethodName)) ∈ lw_all := lw_g (lw_at lw_m3 76 rfl) rfl
theorem q_w669 : (Jvm.Cond.selects "java/lang/String" ({ cls := "java/lang/String", name := "length", desc := "()I" } : Jvm.MethodName) ({ cls := "java/lang/String", name := "length", desc := "()I" } : Jvm.MethodName)) ∈ lw_all := lw_g (lw_at lw_m3 77 rfl) rfl
theorem q_w670 : (Jvm.Cond.code ({ cls := "java/lang/String", name := "length", desc := "()I" } : Jvm.MethodName) prog_48_method_54_code (1 : Nat) (Option.some Jvm.ClassFile.FieldType.int)) ∈ lw_all := lw_g (lw_at lw_m3 78 rfl) rfl
theorem q_w671 : (Jvm.Cond.methodLink "java/lang/String" (335 : Nat) ({ cls := "java/lang/String", name := "coder", desc := "()B" } : Jvm.MethodName)) ∈ lw_all := lw_g (lw_at lw_m3 79 rfl) rfl
theorem q_w672 : (Jvm.Cond.instanceMethod ({ cls := "java/lang/String", name := "coder", desc := "()B" } : Jvm.MethodName)) ∈ lw_all := lw_g (lw_at lw_m3 80 rfl) rfl
theorem q_w673 : (Jvm.Cond.selects "java/lang/String" ({ cls := "java/lang/String", name := "coder", desc := "()B" } : Jvm.MethodName) ({ cls := "java/lang/String", name := "coder", desc := "()B" } : Jvm.MethodName)) ∈ lw_all := lw_g (lw_at lw_m3 81 rfl) rfl
theorem q_w674 : (Jvm.Cond.code ({ cls := "java/lang/String", name := "coder", desc := "()B" } : Jvm.MethodName) prog_48_method_152_code (1 : Nat) (Option.some Jvm.ClassFile.FieldType.byte)) ∈ lw_all := lw_g (lw_at lw_m3 82 rfl) rfl
theorem q_w675 : (Jvm.Cond.fieldLink "java/lang/String" (38 : Nat) "java/lang/String" "COMPACT_STRINGS" "Z") ∈ lw_all := lw_g (lw_at lw_m3 83 rfl) rfl
theorem q_w676 : (Jvm.Cond.methodLink "java/lang/AbstractStringBuilder" (208 : Nat) ({ cls := "java/lang/AbstractStringBuilder", name := "putStringAt", desc := "(ILjava/lang/String;)V" } : Jvm.MethodName)) ∈ lw_all := lw_g (lw_at lw_m3 84 rfl) rfl
theorem q_w677 : (Jvm.Cond.privateMethod ({ cls := "java/lang/AbstractStringBuilder", name := "putStringAt", desc := "(ILjava/lang/String;)V" } : Jvm.MethodName)) ∈ lw_tbl := lw_at lw_m3 85 rfl
theorem q_w678 : (Jvm.Cond.instanceMethod ({ cls := "java/lang/AbstractStringBuilder", name := "putStringAt", desc := "(ILjava/lang/String;)V" } : Jvm.MethodName)) ∈ lw_all := lw_g (lw_at lw_m3 86 rfl) rfl
theorem q_w679 : (Jvm.Cond.code ({ cls := "java/lang/AbstractStringBuilder", name := "putStringAt", desc := "(ILjava/lang/String;)V" } : Jvm.MethodName) prog_30_method_73_code (3 : Nat) (Option.none : Option Jvm.ClassFile.FieldType)) ∈ lw_all := lw_g (lw_at lw_m3 87 rfl) rfl
theorem q_w680 : (Jvm.Cond.methodLink "java/lang/AbstractStringBuilder" (397 : Nat) ({ cls := "java/lang/AbstractStringBuilder", name := "inflateIfNeededFor", desc := "(Ljava/lang/String;)V" } : Jvm.MethodName)) ∈ lw_all := lw_g (lw_at lw_m3 88 rfl) rfl
theorem q_w681 : (Jvm.Cond.privateMethod ({ cls := "java/lang/AbstractStringBuilder", name := "inflateIfNeededFor", desc := "(Ljava/lang/String;)V" } : Jvm.MethodName)) ∈ lw_tbl := lw_at lw_m3 89 rfl
theorem q_w682 : (Jvm.Cond.instanceMethod ({ cls := "java/lang/AbstractStringBuilder", name := "inflateIfNeededFor", desc := "(Ljava/lang/String;)V" } : Jvm.MethodName)) ∈ lw_all := lw_g (lw_at lw_m3 90 rfl) rfl
theorem q_w683 : (Jvm.Cond.code ({ cls := "java/lang/AbstractStringBuilder", name := "inflateIfNeededFor", desc := "(Ljava/lang/String;)V" } : Jvm.MethodName) prog_30_method_71_code (2 : Nat) (Option.none : Option Jvm.ClassFile.FieldType)) ∈ lw_all := lw_g (lw_at lw_m3 91 rfl) rfl
theorem q_w684 : (Jvm.Cond.methodLink "java/lang/AbstractStringBuilder" (40 : Nat) ({ cls := "java/lang/String", name := "coder", desc := "()B" } : Jvm.MethodName)) ∈ lw_all := lw_g (lw_at lw_m3 92 rfl) rfl
theorem q_w685 : (Jvm.Cond.methodLink "java/lang/AbstractStringBuilder" (399 : Nat) ({ cls := "java/lang/String", name := "getBytes", desc := "([BIB)V" } : Jvm.MethodName)) ∈ lw_all := lw_g (lw_at lw_m3 93 rfl) rfl
theorem q_w686 : (Jvm.Cond.instanceMethod ({ cls := "java/lang/String", name := "getBytes", desc := "([BIB)V" } : Jvm.MethodName)) ∈ lw_all := lw_g (lw_at lw_m3 94 rfl) rfl
theorem q_w687 : (Jvm.Cond.selects "java/lang/String" ({ cls := "java/lang/String", name := "getBytes", desc := "([BIB)V" } : Jvm.MethodName) ({ cls := "java/lang/String", name := "getBytes", desc := "([BIB)V" } : Jvm.MethodName)) ∈ lw_all := lw_g (lw_at lw_m3 95 rfl) rfl
theorem q_w688 : (Jvm.Cond.code ({ cls := "java/lang/String", name := "getBytes", desc := "([BIB)V" } : Jvm.MethodName) prog_48_method_147_code (4 : Nat) (Option.none : Option Jvm.ClassFile.FieldType)) ∈ lw_all := lw_g (lw_at lw_m3 96 rfl) rfl
theorem q_w689 : (Jvm.Cond.methodLink "java/lang/String" (212 : Nat) ({ cls := "java/lang/System", name := "arraycopy", desc := "(Ljava/lang/Object;ILjava/lang/Object;II)V" } : Jvm.MethodName)) ∈ lw_all := lw_g (lw_at lw_m3 97 rfl) rfl
theorem q_w691 : (Jvm.Cond.methodLink "java/util/Arrays" (61 : Nat) ({ cls := "java/lang/StringBuilder", name := "toString", desc := "()Ljava/lang/String;" } : Jvm.MethodName)) ∈ lw_all := lw_g (lw_at lw_m3 99 rfl) rfl
theorem q_w711 : (Jvm.Cond.fieldLink "java/lang/String" (9 : Nat) "java/lang/String" "value" "[B") ∈ lw_all := lw_g (lw_at lw_m3 119 rfl) rfl
theorem q_w712 : (Jvm.Cond.fieldLink "java/lang/String" (15 : Nat) "java/lang/String" "coder" "B") ∈ lw_all := lw_g (lw_at lw_m3 120 rfl) rfl
theorem q_w713 : (Jvm.Cond.fieldLink "java/lang/String" (19 : Nat) "java/lang/String" "hash" "I") ∈ lw_all := lw_g (lw_at lw_m3 121 rfl) rfl
theorem q_w714 : (Jvm.Cond.fieldLink "java/lang/String" (23 : Nat) "java/lang/String" "hashIsZero" "Z") ∈ lw_all := lw_g (lw_at lw_m3 122 rfl) rfl
theorem q_w720 : (Jvm.Cond.fieldLink "CaptainClaims$Parser" (72 : Nat) "CaptainClaims$Token" "WORD" "LCaptainClaims$Token;") ∈ lw_all := lw_g (lw_at lw_m3 128 rfl) rfl
theorem q_w722 : (Jvm.Cond.methodLink "CaptainClaims$Parser" (97 : Nat) ({ cls := "CaptainClaims$Parser", name := "scanNumber", desc := "()LCaptainClaims$Token;" } : Jvm.MethodName)) ∈ lw_all := lw_g (lw_at lw_m3 130 rfl) rfl
theorem q_w724 : (Jvm.Cond.instanceMethod ({ cls := "CaptainClaims$Parser", name := "scanNumber", desc := "()LCaptainClaims$Token;" } : Jvm.MethodName)) ∈ lw_all := lw_g (lw_at lw_m3 132 rfl) rfl
theorem q_w725 : (Jvm.Cond.code ({ cls := "CaptainClaims$Parser", name := "scanNumber", desc := "()LCaptainClaims$Token;" } : Jvm.MethodName) prog_18_method_5_code (1 : Nat) (Option.some (Jvm.ClassFile.FieldType.object "CaptainClaims$Token"))) ∈ lw_all := lw_g (lw_at lw_m3 133 rfl) rfl
theorem q_w726 : (Jvm.Cond.fieldLink "CaptainClaims$Parser" (78 : Nat) "CaptainClaims$Token" "NUMBER" "LCaptainClaims$Token;") ∈ lw_all := lw_g (lw_at lw_m3 134 rfl) rfl
theorem q_w728 : (Jvm.Cond.methodLink "CaptainClaims$Parser" (81 : Nat) ({ cls := "CaptainClaims$Mark", name := "isSign", desc := "(I)Z" } : Jvm.MethodName)) ∈ lw_all := lw_g (lw_at lw_m3 136 rfl) rfl
theorem q_w729 : (Jvm.Cond.static ({ cls := "CaptainClaims$Mark", name := "isSign", desc := "(I)Z" } : Jvm.MethodName)) ∈ lw_all := lw_g (lw_at lw_m3 137 rfl) rfl
theorem q_w730 : (Jvm.Cond.code ({ cls := "CaptainClaims$Mark", name := "isSign", desc := "(I)Z" } : Jvm.MethodName) prog_13_method_4_code (1 : Nat) (Option.some Jvm.ClassFile.FieldType.boolean)) ∈ lw_all := lw_g (lw_at lw_m3 138 rfl) rfl
theorem q_w731 : (Jvm.Cond.methodLink "CaptainClaims$Parser" (100 : Nat) ({ cls := "CaptainClaims$Parser", name := "scanMarks", desc := "()LCaptainClaims$Token;" } : Jvm.MethodName)) ∈ lw_all := lw_g (lw_at lw_m3 139 rfl) rfl
theorem q_w733 : (Jvm.Cond.instanceMethod ({ cls := "CaptainClaims$Parser", name := "scanMarks", desc := "()LCaptainClaims$Token;" } : Jvm.MethodName)) ∈ lw_all := lw_g (lw_at lw_m3 141 rfl) rfl
theorem q_w734 : (Jvm.Cond.code ({ cls := "CaptainClaims$Parser", name := "scanMarks", desc := "()LCaptainClaims$Token;" } : Jvm.MethodName) prog_18_method_6_code (1 : Nat) (Option.some (Jvm.ClassFile.FieldType.object "CaptainClaims$Token"))) ∈ lw_all := lw_g (lw_at lw_m3 142 rfl) rfl
theorem q_w735 : (Jvm.Cond.fieldLink "CaptainClaims$Parser" (87 : Nat) "CaptainClaims$Token" "MARKS" "LCaptainClaims$Token;") ∈ lw_all := lw_g (lw_at lw_m3 143 rfl) rfl
theorem q_w737 : (Jvm.Cond.fieldLink "CaptainClaims$Parser" (103 : Nat) "CaptainClaims$Token" "LINE_END" "LCaptainClaims$Token;") ∈ lw_all := lw_g (lw_at lw_m3 145 rfl) rfl
theorem q_w740 : (Jvm.Cond.methodLink "CaptainClaims$Parser" (153 : Nat) ({ cls := "java/lang/String", name := "equals", desc := "(Ljava/lang/Object;)Z" } : Jvm.MethodName)) ∈ lw_all := lw_g (lw_at lw_m3 148 rfl) rfl
theorem q_w741 : (Jvm.Cond.instanceMethod ({ cls := "java/lang/String", name := "equals", desc := "(Ljava/lang/Object;)Z" } : Jvm.MethodName)) ∈ lw_all := lw_g (lw_at lw_m3 149 rfl) rfl
theorem q_w742 : (Jvm.Cond.selects "java/lang/String" ({ cls := "java/lang/String", name := "equals", desc := "(Ljava/lang/Object;)Z" } : Jvm.MethodName) ({ cls := "java/lang/String", name := "equals", desc := "(Ljava/lang/Object;)Z" } : Jvm.MethodName)) ∈ lw_all := lw_g (lw_at lw_m3 150 rfl) rfl
theorem q_w743 : (Jvm.Cond.code ({ cls := "java/lang/String", name := "equals", desc := "(Ljava/lang/Object;)Z" } : Jvm.MethodName) prog_48_method_66_code (3 : Nat) (Option.some Jvm.ClassFile.FieldType.boolean)) ∈ lw_all := lw_g (lw_at lw_m3 151 rfl) rfl
theorem q_w744 : (Jvm.Cond.classLink "java/lang/String" (10 : Nat) "java/lang/String") ∈ lw_all := lw_g (lw_at lw_m3 152 rfl) rfl
theorem q_w745 : (Jvm.Cond.methodLink "java/lang/String" (541 : Nat) ({ cls := "java/lang/StringLatin1", name := "equals", desc := "([B[B)Z" } : Jvm.MethodName)) ∈ lw_all := lw_g (lw_at lw_m3 153 rfl) rfl
theorem q_w746 : (Jvm.Cond.static ({ cls := "java/lang/StringLatin1", name := "equals", desc := "([B[B)Z" } : Jvm.MethodName)) ∈ lw_all := lw_g (lw_at lw_m3 154 rfl) rfl
theorem q_w747 : (Jvm.Cond.code ({ cls := "java/lang/StringLatin1", name := "equals", desc := "([B[B)Z" } : Jvm.MethodName) prog_50_method_13_code (3 : Nat) (Option.some Jvm.ClassFile.FieldType.boolean)) ∈ lw_all := lw_g (lw_at lw_m3 155 rfl) rfl
theorem q_w748 : (Jvm.Cond.methodLink "CaptainClaims$Parser" (114 : Nat) ({ cls := "CaptainClaims$Parser", name := "require", desc := "(ZI)V" } : Jvm.MethodName)) ∈ lw_all := lw_g (lw_at lw_m3 156 rfl) rfl
theorem q_w750 : (Jvm.Cond.instanceMethod ({ cls := "CaptainClaims$Parser", name := "require", desc := "(ZI)V" } : Jvm.MethodName)) ∈ lw_all := lw_g (lw_at lw_m3 158 rfl) rfl
theorem q_w751 : (Jvm.Cond.code ({ cls := "CaptainClaims$Parser", name := "require", desc := "(ZI)V" } : Jvm.MethodName) prog_18_method_9_code (3 : Nat) (Option.none : Option Jvm.ClassFile.FieldType)) ∈ lw_all := lw_g (lw_at lw_m3 159 rfl) rfl
theorem q_w752 : (Jvm.Cond.classLink "CaptainClaims$Parser" (109 : Nat) "CaptainClaims$FormatException") ∈ lw_all := lw_g (lw_at lw_m3 160 rfl) rfl
theorem q_w753 : (Jvm.Cond.instantiable "CaptainClaims$FormatException" (8 : Nat)) ∈ lw_all := lw_g (lw_at lw_m3 161 rfl) rfl
theorem q_w754 : (Jvm.Cond.castable "CaptainClaims$FormatException" "CaptainClaims$FormatException") ∈ lw_tbl := lw_at lw_m3 162 rfl
theorem q_w761 : (Jvm.Cond.methodLink "CaptainClaims$Parser" (111 : Nat) ({ cls := "CaptainClaims$FormatException", name := "<init>", desc := "(IILjava/lang/Exception;)V" } : Jvm.MethodName)) ∈ lw_all := lw_g (lw_at lw_m3 169 rfl) rfl
theorem q_w762 : (Jvm.Cond.instanceMethod ({ cls := "CaptainClaims$FormatException", name := "<init>", desc := "(IILjava/lang/Exception;)V" } : Jvm.MethodName)) ∈ lw_all := lw_g (lw_at lw_m3 170 rfl) rfl
theorem q_w763 : (Jvm.Cond.code ({ cls := "CaptainClaims$FormatException", name := "<init>", desc := "(IILjava/lang/Exception;)V" } : Jvm.MethodName) prog_10_method_1_code (4 : Nat) (Option.none : Option Jvm.ClassFile.FieldType)) ∈ lw_all := lw_g (lw_at lw_m3 171 rfl) rfl
theorem q_w764 : (Jvm.Cond.methodLink "CaptainClaims$FormatException" (3 : Nat) ({ cls := "java/lang/Exception", name := "<init>", desc := "(Ljava/lang/String;Ljava/lang/Throwable;ZZ)V" } : Jvm.MethodName)) ∈ lw_all := lw_g (lw_at lw_m3 172 rfl) rfl
theorem q_w765 : (Jvm.Cond.instanceMethod ({ cls := "java/lang/Exception", name := "<init>", desc := "(Ljava/lang/String;Ljava/lang/Throwable;ZZ)V" } : Jvm.MethodName)) ∈ lw_all := lw_g (lw_at lw_m3 173 rfl) rfl
theorem q_w766 : (Jvm.Cond.code ({ cls := "java/lang/Exception", name := "<init>", desc := "(Ljava/lang/String;Ljava/lang/Throwable;ZZ)V" } : Jvm.MethodName) prog_37_method_5_code (5 : Nat) (Option.none : Option Jvm.ClassFile.FieldType)) ∈ lw_all := lw_g (lw_at lw_m3 174 rfl) rfl
theorem q_w767 : (Jvm.Cond.methodLink "java/lang/Exception" (16 : Nat) ({ cls := "java/lang/Throwable", name := "<init>", desc := "(Ljava/lang/String;Ljava/lang/Throwable;ZZ)V" } : Jvm.MethodName)) ∈ lw_all := lw_g (lw_at lw_m3 175 rfl) rfl
theorem q_w768 : (Jvm.Cond.instanceMethod ({ cls := "java/lang/Throwable", name := "<init>", desc := "(Ljava/lang/String;Ljava/lang/Throwable;ZZ)V" } : Jvm.MethodName)) ∈ lw_all := lw_g (lw_at lw_m3 176 rfl) rfl
theorem q_w769 : (Jvm.Cond.code ({ cls := "java/lang/Throwable", name := "<init>", desc := "(Ljava/lang/String;Ljava/lang/Throwable;ZZ)V" } : Jvm.MethodName) prog_54_method_5_code (5 : Nat) (Option.none : Option Jvm.ClassFile.FieldType)) ∈ lw_all := lw_g (lw_at lw_m3 177 rfl) rfl
theorem q_w770 : (Jvm.Cond.fieldLink "CaptainClaims$FormatException" (9 : Nat) "CaptainClaims$FormatException" "code" "I") ∈ lw_all := lw_g (lw_at lw_m3 178 rfl) rfl
theorem q_w771 : (Jvm.Cond.fieldLink "CaptainClaims$FormatException" (15 : Nat) "CaptainClaims$FormatException" "position" "I") ∈ lw_all := lw_g (lw_at lw_m3 179 rfl) rfl
theorem q_w772 : (Jvm.Cond.fieldLinkNest "CaptainClaims" (90 : Nat) "CaptainClaims$FormatException" "position" "I" "CaptainClaims") ∈ lw_tbl := lw_at lw_m3 180 rfl
theorem q_w779 : (Jvm.Cond.methodLink "CaptainClaims$Parser" (130 : Nat) ({ cls := "CaptainClaims$Parser", name := "number", desc := "(II)I" } : Jvm.MethodName)) ∈ lw_all := lw_g (lw_at lw_m3 187 rfl) rfl
theorem q_w781 : (Jvm.Cond.instanceMethod ({ cls := "CaptainClaims$Parser", name := "number", desc := "(II)I" } : Jvm.MethodName)) ∈ lw_all := lw_g (lw_at lw_m3 189 rfl) rfl
theorem q_w782 : (Jvm.Cond.code ({ cls := "CaptainClaims$Parser", name := "number", desc := "(II)I" } : Jvm.MethodName) prog_18_method_11_code (4 : Nat) (Option.some Jvm.ClassFile.FieldType.int)) ∈ lw_all := lw_g (lw_at lw_m3 190 rfl) rfl
theorem q_w783 : (Jvm.Cond.methodLink "CaptainClaims$Parser" (118 : Nat) ({ cls := "CaptainClaims$Parser", name := "numberHere", desc := "(II)I" } : Jvm.MethodName)) ∈ lw_all := lw_g (lw_at lw_m3 191 rfl) rfl
theorem q_w785 : (Jvm.Cond.instanceMethod ({ cls := "CaptainClaims$Parser", name := "numberHere", desc := "(II)I" } : Jvm.MethodName)) ∈ lw_all := lw_g (lw_at lw_m3 193 rfl) rfl
theorem q_w786 : (Jvm.Cond.code ({ cls := "CaptainClaims$Parser", name := "numberHere", desc := "(II)I" } : Jvm.MethodName) prog_18_method_10_code (3 : Nat) (Option.some Jvm.ClassFile.FieldType.int)) ∈ lw_all := lw_g (lw_at lw_m3 194 rfl) rfl
theorem q_w787 : (Jvm.Cond.classLink "CaptainClaims$Parser" (126 : Nat) "CaptainClaims$Puzzle") ∈ lw_all := lw_g (lw_at lw_m3 195 rfl) rfl
theorem q_w788 : (Jvm.Cond.instantiable "CaptainClaims$Puzzle" (13 : Nat)) ∈ lw_all := lw_g (lw_at lw_m3 196 rfl) rfl
theorem q_w789 : (Jvm.Cond.methodLink "CaptainClaims$Parser" (348 : Nat) ({ cls := "CaptainClaims$Puzzle", name := "<init>", desc := "(II)V" } : Jvm.MethodName)) ∈ lw_all := lw_g (lw_at lw_m3 197 rfl) rfl
theorem q_w790 : (Jvm.Cond.instanceMethod ({ cls := "CaptainClaims$Puzzle", name := "<init>", desc := "(II)V" } : Jvm.MethodName)) ∈ lw_all := lw_g (lw_at lw_m3 198 rfl) rfl
theorem q_w791 : (Jvm.Cond.code ({ cls := "CaptainClaims$Puzzle", name := "<init>", desc := "(II)V" } : Jvm.MethodName) prog_19_method_1_code (3 : Nat) (Option.none : Option Jvm.ClassFile.FieldType)) ∈ lw_all := lw_g (lw_at lw_m3 199 rfl) rfl
theorem q_w792 : (Jvm.Cond.methodLink "CaptainClaims$Puzzle" (3 : Nat) ({ cls := "java/lang/Object", name := "<init>", desc := "()V" } : Jvm.MethodName)) ∈ lw_all := lw_g (lw_at lw_m3 200 rfl) rfl
theorem q_w793 : (Jvm.Cond.classLink "CaptainClaims$Puzzle" (9 : Nat) "CaptainClaims$Register") ∈ lw_all := lw_g (lw_at lw_m3 201 rfl) rfl
theorem q_w794 : (Jvm.Cond.instantiable "CaptainClaims$Register" (1 : Nat)) ∈ lw_all := lw_g (lw_at lw_m3 202 rfl) rfl
theorem q_w795 : (Jvm.Cond.methodLinkNest "CaptainClaims$Puzzle" (11 : Nat) ({ cls := "CaptainClaims$Register", name := "<init>", desc := "()V" } : Jvm.MethodName) "CaptainClaims") ∈ lw_tbl := lw_at lw_m3 203 rfl
theorem q_w796 : (Jvm.Cond.instanceMethod ({ cls := "CaptainClaims$Register", name := "<init>", desc := "()V" } : Jvm.MethodName)) ∈ lw_all := lw_g (lw_at lw_m3 204 rfl) rfl
theorem q_w797 : (Jvm.Cond.code ({ cls := "CaptainClaims$Register", name := "<init>", desc := "()V" } : Jvm.MethodName) prog_21_method_1_code (1 : Nat) (Option.none : Option Jvm.ClassFile.FieldType)) ∈ lw_all := lw_g (lw_at lw_m3 205 rfl) rfl
theorem q_w798 : (Jvm.Cond.methodLink "CaptainClaims$Register" (3 : Nat) ({ cls := "java/lang/Object", name := "<init>", desc := "()V" } : Jvm.MethodName)) ∈ lw_all := lw_g (lw_at lw_m3 206 rfl) rfl
theorem q_w799 : (Jvm.Cond.classLink "CaptainClaims$Register" (9 : Nat) "java/util/ArrayList") ∈ lw_all := lw_g (lw_at lw_m3 207 rfl) rfl
theorem q_w800 : (Jvm.Cond.instantiable "java/util/ArrayList" (3 : Nat)) ∈ lw_all := lw_g (lw_at lw_m3 208 rfl) rfl
theorem q_w801 : (Jvm.Cond.methodLink "CaptainClaims$Register" (11 : Nat) ({ cls := "java/util/ArrayList", name := "<init>", desc := "(I)V" } : Jvm.MethodName)) ∈ lw_all := lw_g (lw_at lw_m3 209 rfl) rfl
theorem q_w802 : (Jvm.Cond.instanceMethod ({ cls := "java/util/ArrayList", name := "<init>", desc := "(I)V" } : Jvm.MethodName)) ∈ lw_all := lw_g (lw_at lw_m3 210 rfl) rfl
theorem q_w803 : (Jvm.Cond.code ({ cls := "java/util/ArrayList", name := "<init>", desc := "(I)V" } : Jvm.MethodName) prog_60_method_1_code (2 : Nat) (Option.none : Option Jvm.ClassFile.FieldType)) ∈ lw_all := lw_g (lw_at lw_m3 211 rfl) rfl
theorem q_w804 : (Jvm.Cond.methodLink "java/util/ArrayList" (1 : Nat) ({ cls := "java/util/AbstractList", name := "<init>", desc := "()V" } : Jvm.MethodName)) ∈ lw_all := lw_g (lw_at lw_m3 212 rfl) rfl
theorem q_w805 : (Jvm.Cond.instanceMethod ({ cls := "java/util/AbstractList", name := "<init>", desc := "()V" } : Jvm.MethodName)) ∈ lw_all := lw_g (lw_at lw_m3 213 rfl) rfl
theorem q_w806 : (Jvm.Cond.code ({ cls := "java/util/AbstractList", name := "<init>", desc := "()V" } : Jvm.MethodName) prog_58_method_1_code (1 : Nat) (Option.none : Option Jvm.ClassFile.FieldType)) ∈ lw_all := lw_g (lw_at lw_m3 214 rfl) rfl
theorem q_w807 : (Jvm.Cond.methodLink "java/util/AbstractList" (1 : Nat) ({ cls := "java/util/AbstractCollection", name := "<init>", desc := "()V" } : Jvm.MethodName)) ∈ lw_all := lw_g (lw_at lw_m3 215 rfl) rfl
theorem q_w808 : (Jvm.Cond.classLink "java/util/ArrayList" (7 : Nat) "java/lang/Object") ∈ lw_all := lw_g (lw_at lw_m3 216 rfl) rfl
theorem q_w809 : (Jvm.Cond.fieldLink "java/util/ArrayList" (15 : Nat) "java/util/ArrayList" "EMPTY_ELEMENTDATA" "[Ljava/lang/Object;") ∈ lw_all := lw_g (lw_at lw_m3 217 rfl) rfl
theorem q_w811 : (Jvm.Cond.classLink "java/util/ArrayList" (18 : Nat) "java/lang/IllegalArgumentException") ∈ lw_all := lw_g (lw_at lw_m3 219 rfl) rfl
theorem q_w812 : (Jvm.Cond.classLink "java/util/ArrayList" (20 : Nat) "java/lang/StringBuilder") ∈ lw_all := lw_g (lw_at lw_m3 220 rfl) rfl
theorem q_w815 : (Jvm.Cond.methodLink "java/util/ArrayList" (25 : Nat) ({ cls := "java/lang/StringBuilder", name := "append", desc := "(Ljava/lang/String;)Ljava/lang/StringBuilder;" } : Jvm.MethodName)) ∈ lw_all := lw_g (lw_at lw_m3 223 rfl) rfl
theorem q_w816 : (Jvm.Cond.methodLink "java/util/ArrayList" (29 : Nat) ({ cls := "java/lang/StringBuilder", name := "append", desc := "(I)Ljava/lang/StringBuilder;" } : Jvm.MethodName)) ∈ lw_all := lw_g (lw_at lw_m3 224 rfl) rfl
theorem q_w817 : (Jvm.Cond.methodLink "java/util/ArrayList" (32 : Nat) ({ cls := "java/lang/StringBuilder", name := "toString", desc := "()Ljava/lang/String;" } : Jvm.MethodName)) ∈ lw_all := lw_g (lw_at lw_m3 225 rfl) rfl
theorem q_w819 : (Jvm.Cond.fieldLink "java/util/ArrayList" (9 : Nat) "java/util/ArrayList" "elementData" "[Ljava/lang/Object;") ∈ lw_all := lw_g (lw_at lw_m3 227 rfl) rfl
theorem q_w820 : (Jvm.Cond.fieldLink "java/util/ArrayList$Itr" (37 : Nat) "java/util/ArrayList" "elementData" "[Ljava/lang/Object;") ∈ lw_all := lw_g (lw_at lw_m3 228 rfl) rfl
theorem q_w821 : (Jvm.Cond.fieldLinkNest "java/util/ArrayList$Itr" (28 : Nat) "java/util/ArrayList" "size" "I" "java/util/ArrayList") ∈ lw_tbl := lw_at lw_m3 229 rfl
theorem q_w822 : (Jvm.Cond.fieldLink "java/util/ArrayList" (48 : Nat) "java/util/ArrayList" "size" "I") ∈ lw_all := lw_g (lw_at lw_m3 230 rfl) rfl
theorem q_w823 : (Jvm.Cond.fieldLink "java/util/AbstractList" (7 : Nat) "java/util/AbstractList" "modCount" "I") ∈ lw_all := lw_g (lw_at lw_m3 231 rfl) rfl
theorem q_w824 : (Jvm.Cond.fieldLink "java/util/ArrayList$Itr" (17 : Nat) "java/util/ArrayList" "modCount" "I") ∈ lw_all := lw_g (lw_at lw_m3 232 rfl) rfl
theorem q_w825 : (Jvm.Cond.sameField "java/util/ArrayList" "java/util/AbstractList" "modCount" "I") ∈ lw_all := lw_g (lw_at lw_m3 233 rfl) rfl
theorem q_w826 : (Jvm.Cond.fieldLink "java/util/ArrayList" (63 : Nat) "java/util/ArrayList" "modCount" "I") ∈ lw_all := lw_g (lw_at lw_m3 234 rfl) rfl
theorem q_w834 : (Jvm.Cond.fieldLink "CaptainClaims$Register" (14 : Nat) "CaptainClaims$Register" "items" "Ljava/util/List;") ∈ lw_all := lw_g (lw_at lw_m4 2 rfl) rfl
theorem q_w838 : (Jvm.Cond.classLink "CaptainClaims$Puzzle" (18 : Nat) "java/util/ArrayList") ∈ lw_all := lw_g (lw_at lw_m4 6 rfl) rfl
theorem q_w839 : (Jvm.Cond.methodLink "CaptainClaims$Puzzle" (20 : Nat) ({ cls := "java/util/ArrayList", name := "<init>", desc := "(I)V" } : Jvm.MethodName)) ∈ lw_all := lw_g (lw_at lw_m4 7 rfl) rfl
theorem q_w840 : (Jvm.Cond.classLink "CaptainClaims$Puzzle" (27 : Nat) "CaptainClaims$Declaration") ∈ lw_all := lw_g (lw_at lw_m4 8 rfl) rfl
theorem q_w841 : (Jvm.Cond.arrayOver (Jvm.ClassFile.FieldType.object "CaptainClaims$Declaration")) ∈ lw_tbl := lw_at lw_m4 9 rfl
theorem q_w842 : (Jvm.Cond.classLink "CaptainClaims$Puzzle" (40 : Nat) "CaptainClaims$Mark") ∈ lw_all := lw_g (lw_at lw_m4 10 rfl) rfl
theorem q_w843 : (Jvm.Cond.arrayOver (Jvm.ClassFile.FieldType.object "CaptainClaims$Mark")) ∈ lw_tbl := lw_at lw_m4 11 rfl
theorem q_w844 : (Jvm.Cond.fieldLink "CaptainClaims$Puzzle" (50 : Nat) "CaptainClaims$Mark" "UNKNOWN" "LCaptainClaims$Mark;") ∈ lw_all := lw_g (lw_at lw_m4 12 rfl) rfl
theorem q_w846 : (Jvm.Cond.methodLink "CaptainClaims$Puzzle" (54 : Nat) ({ cls := "java/util/Arrays", name := "fill", desc := "([Ljava/lang/Object;Ljava/lang/Object;)V" } : Jvm.MethodName)) ∈ lw_all := lw_g (lw_at lw_m4 14 rfl) rfl
theorem q_w847 : (Jvm.Cond.static ({ cls := "java/util/Arrays", name := "fill", desc := "([Ljava/lang/Object;Ljava/lang/Object;)V" } : Jvm.MethodName)) ∈ lw_all := lw_g (lw_at lw_m4 15 rfl) rfl
theorem q_w848 : (Jvm.Cond.code ({ cls := "java/util/Arrays", name := "fill", desc := "([Ljava/lang/Object;Ljava/lang/Object;)V" } : Jvm.MethodName) prog_62_method_117_code (4 : Nat) (Option.none : Option Jvm.ClassFile.FieldType)) ∈ lw_all := lw_g (lw_at lw_m4 16 rfl) rfl
theorem q_w849 : (Jvm.Cond.fieldLink "CaptainClaims$Puzzle" (60 : Nat) "CaptainClaims$Declaration" "NO" "LCaptainClaims$Declaration;") ∈ lw_all := lw_g (lw_at lw_m4 17 rfl) rfl
theorem q_w851 : (Jvm.Cond.methodLink "CaptainClaims$Puzzle" (64 : Nat) ({ cls := "CaptainClaims$Puzzle", name := "findIslands", desc := "()V" } : Jvm.MethodName)) ∈ lw_all := lw_g (lw_at lw_m4 19 rfl) rfl
theorem q_w852 : (Jvm.Cond.instanceMethod ({ cls := "CaptainClaims$Puzzle", name := "findIslands", desc := "()V" } : Jvm.MethodName)) ∈ lw_all := lw_g (lw_at lw_m4 20 rfl) rfl
theorem q_w853 : (Jvm.Cond.selects "CaptainClaims$Puzzle" ({ cls := "CaptainClaims$Puzzle", name := "findIslands", desc := "()V" } : Jvm.MethodName) ({ cls := "CaptainClaims$Puzzle", name := "findIslands", desc := "()V" } : Jvm.MethodName)) ∈ lw_all := lw_g (lw_at lw_m4 21 rfl) rfl
theorem q_w854 : (Jvm.Cond.code ({ cls := "CaptainClaims$Puzzle", name := "findIslands", desc := "()V" } : Jvm.MethodName) prog_19_method_11_code (2 : Nat) (Option.none : Option Jvm.ClassFile.FieldType)) ∈ lw_all := lw_g (lw_at lw_m4 22 rfl) rfl
theorem q_w855 : (Jvm.Cond.methodLink "CaptainClaims$Puzzle" (115 : Nat) ({ cls := "CaptainClaims$Puzzle", name := "cells", desc := "()I" } : Jvm.MethodName)) ∈ lw_all := lw_g (lw_at lw_m4 23 rfl) rfl
theorem q_w856 : (Jvm.Cond.instanceMethod ({ cls := "CaptainClaims$Puzzle", name := "cells", desc := "()I" } : Jvm.MethodName)) ∈ lw_all := lw_g (lw_at lw_m4 24 rfl) rfl
theorem q_w857 : (Jvm.Cond.selects "CaptainClaims$Puzzle" ({ cls := "CaptainClaims$Puzzle", name := "cells", desc := "()I" } : Jvm.MethodName) ({ cls := "CaptainClaims$Puzzle", name := "cells", desc := "()I" } : Jvm.MethodName)) ∈ lw_all := lw_g (lw_at lw_m4 25 rfl) rfl
theorem q_w858 : (Jvm.Cond.code ({ cls := "CaptainClaims$Puzzle", name := "cells", desc := "()I" } : Jvm.MethodName) prog_19_method_4_code (1 : Nat) (Option.some Jvm.ClassFile.FieldType.int)) ∈ lw_all := lw_g (lw_at lw_m4 26 rfl) rfl
theorem q_w859 : (Jvm.Cond.methodLink "CaptainClaims$Puzzle" (143 : Nat) ({ cls := "java/util/Arrays", name := "fill", desc := "([II)V" } : Jvm.MethodName)) ∈ lw_all := lw_g (lw_at lw_m4 27 rfl) rfl
theorem q_w860 : (Jvm.Cond.static ({ cls := "java/util/Arrays", name := "fill", desc := "([II)V" } : Jvm.MethodName)) ∈ lw_all := lw_g (lw_at lw_m4 28 rfl) rfl
theorem q_w861 : (Jvm.Cond.code ({ cls := "java/util/Arrays", name := "fill", desc := "([II)V" } : Jvm.MethodName) prog_62_method_103_code (4 : Nat) (Option.none : Option Jvm.ClassFile.FieldType)) ∈ lw_all := lw_g (lw_at lw_m4 29 rfl) rfl
theorem q_w862 : (Jvm.Cond.methodLink "CaptainClaims$Puzzle" (118 : Nat) ({ cls := "CaptainClaims$Puzzle", name := "isLand", desc := "(I)Z" } : Jvm.MethodName)) ∈ lw_all := lw_g (lw_at lw_m4 30 rfl) rfl
theorem q_w863 : (Jvm.Cond.instanceMethod ({ cls := "CaptainClaims$Puzzle", name := "isLand", desc := "(I)Z" } : Jvm.MethodName)) ∈ lw_all := lw_g (lw_at lw_m4 31 rfl) rfl
theorem q_w864 : (Jvm.Cond.selects "CaptainClaims$Puzzle" ({ cls := "CaptainClaims$Puzzle", name := "isLand", desc := "(I)Z" } : Jvm.MethodName) ({ cls := "CaptainClaims$Puzzle", name := "isLand", desc := "(I)Z" } : Jvm.MethodName)) ∈ lw_all := lw_g (lw_at lw_m4 32 rfl) rfl
theorem q_w865 : (Jvm.Cond.code ({ cls := "CaptainClaims$Puzzle", name := "isLand", desc := "(I)Z" } : Jvm.MethodName) prog_19_method_5_code (2 : Nat) (Option.some Jvm.ClassFile.FieldType.boolean)) ∈ lw_all := lw_g (lw_at lw_m4 33 rfl) rfl
theorem q_w866 : (Jvm.Cond.fieldLink "CaptainClaims$Puzzle" (112 : Nat) "CaptainClaims$Mark" "LAND" "LCaptainClaims$Mark;") ∈ lw_all := lw_g (lw_at lw_m4 34 rfl) rfl
theorem q_w868 : (Jvm.Cond.methodLink "CaptainClaims$Puzzle" (146 : Nat) ({ cls := "CaptainClaims$Puzzle", name := "flood", desc := "(II)V" } : Jvm.MethodName)) ∈ lw_all := lw_g (lw_at lw_m4 36 rfl) rfl
theorem q_w870 : (Jvm.Cond.instanceMethod ({ cls := "CaptainClaims$Puzzle", name := "flood", desc := "(II)V" } : Jvm.MethodName)) ∈ lw_all := lw_g (lw_at lw_m4 38 rfl) rfl
theorem q_w871 : (Jvm.Cond.code ({ cls := "CaptainClaims$Puzzle", name := "flood", desc := "(II)V" } : Jvm.MethodName) prog_19_method_10_code (8 : Nat) (Option.none : Option Jvm.ClassFile.FieldType)) ∈ lw_all := lw_g (lw_at lw_m4 39 rfl) rfl
theorem q_w872 : (Jvm.Cond.methodLink "CaptainClaims$Puzzle" (122 : Nat) ({ cls := "CaptainClaims$Puzzle", name := "neighbor", desc := "(II)I" } : Jvm.MethodName)) ∈ lw_all := lw_g (lw_at lw_m4 40 rfl) rfl
theorem q_w873 : (Jvm.Cond.instanceMethod ({ cls := "CaptainClaims$Puzzle", name := "neighbor", desc := "(II)I" } : Jvm.MethodName)) ∈ lw_all := lw_g (lw_at lw_m4 41 rfl) rfl
theorem q_w874 : (Jvm.Cond.selects "CaptainClaims$Puzzle" ({ cls := "CaptainClaims$Puzzle", name := "neighbor", desc := "(II)I" } : Jvm.MethodName) ({ cls := "CaptainClaims$Puzzle", name := "neighbor", desc := "(II)I" } : Jvm.MethodName)) ∈ lw_all := lw_g (lw_at lw_m4 42 rfl) rfl
theorem q_w875 : (Jvm.Cond.code ({ cls := "CaptainClaims$Puzzle", name := "neighbor", desc := "(II)I" } : Jvm.MethodName) prog_19_method_6_code (4 : Nat) (Option.some Jvm.ClassFile.FieldType.int)) ∈ lw_all := lw_g (lw_at lw_m4 43 rfl) rfl
theorem q_w876 : (Jvm.Cond.fieldLink "CaptainClaims$Puzzle" (33 : Nat) "CaptainClaims$Puzzle" "rows" "I") ∈ lw_all := lw_g (lw_at lw_m4 44 rfl) rfl
theorem q_w877 : (Jvm.Cond.fieldLinkNest "CaptainClaims$Parser" (125 : Nat) "CaptainClaims$Puzzle" "rows" "I" "CaptainClaims") ∈ lw_tbl := lw_at lw_m4 45 rfl
theorem q_w878 : (Jvm.Cond.fieldLinkNest "CaptainClaims" (123 : Nat) "CaptainClaims$Puzzle" "rows" "I" "CaptainClaims") ∈ lw_tbl := lw_at lw_m4 46 rfl
theorem q_w879 : (Jvm.Cond.fieldLink "CaptainClaims$Puzzle" (37 : Nat) "CaptainClaims$Puzzle" "columns" "I") ∈ lw_all := lw_g (lw_at lw_m4 47 rfl) rfl
theorem q_w880 : (Jvm.Cond.fieldLinkNest "CaptainClaims$ColumnClaim" (9 : Nat) "CaptainClaims$Puzzle" "columns" "I" "CaptainClaims") ∈ lw_tbl := lw_at lw_m4 48 rfl
theorem q_w881 : (Jvm.Cond.fieldLinkNest "CaptainClaims$RowClaim" (9 : Nat) "CaptainClaims$Puzzle" "columns" "I" "CaptainClaims") ∈ lw_tbl := lw_at lw_m4 49 rfl
theorem q_w882 : (Jvm.Cond.fieldLinkNest "CaptainClaims$NearClaim" (19 : Nat) "CaptainClaims$Puzzle" "columns" "I" "CaptainClaims") ∈ lw_tbl := lw_at lw_m4 50 rfl
theorem q_w883 : (Jvm.Cond.fieldLinkNest "CaptainClaims$Parser" (133 : Nat) "CaptainClaims$Puzzle" "columns" "I" "CaptainClaims") ∈ lw_tbl := lw_at lw_m4 51 rfl
theorem q_w884 : (Jvm.Cond.fieldLinkNest "CaptainClaims" (126 : Nat) "CaptainClaims$Puzzle" "columns" "I" "CaptainClaims") ∈ lw_tbl := lw_at lw_m4 52 rfl
theorem q_w885 : (Jvm.Cond.fieldLink "CaptainClaims$Puzzle" (42 : Nat) "CaptainClaims$Puzzle" "marks" "[LCaptainClaims$Mark;") ∈ lw_all := lw_g (lw_at lw_m4 53 rfl) rfl
theorem q_w886 : (Jvm.Cond.fieldLinkNest "CaptainClaims" (148 : Nat) "CaptainClaims$Puzzle" "marks" "[LCaptainClaims$Mark;" "CaptainClaims") ∈ lw_tbl := lw_at lw_m4 54 rfl
theorem q_w887 : (Jvm.Cond.fieldLink "CaptainClaims$Puzzle" (46 : Nat) "CaptainClaims$Puzzle" "isEmpty" "[Z") ∈ lw_all := lw_g (lw_at lw_m4 55 rfl) rfl
theorem q_w888 : (Jvm.Cond.fieldLinkNest "CaptainClaims$Parser" (306 : Nat) "CaptainClaims$Puzzle" "isEmpty" "[Z" "CaptainClaims") ∈ lw_tbl := lw_at lw_m4 56 rfl
theorem q_w889 : (Jvm.Cond.fieldLinkNest "CaptainClaims" (290 : Nat) "CaptainClaims$Puzzle" "isEmpty" "[Z" "CaptainClaims") ∈ lw_tbl := lw_at lw_m4 57 rfl
theorem q_w890 : (Jvm.Cond.fieldLinkNest "CaptainClaims$SameClaim" (22 : Nat) "CaptainClaims$Puzzle" "islands" "[I" "CaptainClaims") ∈ lw_tbl := lw_at lw_m4 58 rfl
theorem q_w891 : (Jvm.Cond.fieldLinkNest "CaptainClaims$SizeClaim" (21 : Nat) "CaptainClaims$Puzzle" "islands" "[I" "CaptainClaims") ∈ lw_tbl := lw_at lw_m4 59 rfl
theorem q_w892 : (Jvm.Cond.fieldLink "CaptainClaims$Puzzle" (73 : Nat) "CaptainClaims$Puzzle" "islands" "[I") ∈ lw_all := lw_g (lw_at lw_m4 60 rfl) rfl
theorem q_w893 : (Jvm.Cond.fieldLinkNest "CaptainClaims" (164 : Nat) "CaptainClaims$Puzzle" "islands" "[I" "CaptainClaims") ∈ lw_tbl := lw_at lw_m4 61 rfl
theorem q_w894 : (Jvm.Cond.fieldLinkNest "CaptainClaims$SizeClaim" (17 : Nat) "CaptainClaims$Puzzle" "sizes" "[I" "CaptainClaims") ∈ lw_tbl := lw_at lw_m4 62 rfl
theorem q_w895 : (Jvm.Cond.fieldLink "CaptainClaims$Puzzle" (77 : Nat) "CaptainClaims$Puzzle" "sizes" "[I") ∈ lw_all := lw_g (lw_at lw_m4 63 rfl) rfl
theorem q_w896 : (Jvm.Cond.fieldLinkNest "CaptainClaims" (168 : Nat) "CaptainClaims$Puzzle" "sizes" "[I" "CaptainClaims") ∈ lw_tbl := lw_at lw_m4 64 rfl
theorem q_w897 : (Jvm.Cond.fieldLink "CaptainClaims$Puzzle" (80 : Nat) "CaptainClaims$Puzzle" "islandCount" "I") ∈ lw_all := lw_g (lw_at lw_m4 65 rfl) rfl
theorem q_w898 : (Jvm.Cond.fieldLinkNest "CaptainClaims" (161 : Nat) "CaptainClaims$Puzzle" "islandCount" "I" "CaptainClaims") ∈ lw_tbl := lw_at lw_m4 66 rfl
theorem q_w899 : (Jvm.Cond.fieldLink "CaptainClaims$Puzzle" (83 : Nat) "CaptainClaims$Puzzle" "pieces" "I") ∈ lw_all := lw_g (lw_at lw_m4 67 rfl) rfl
theorem q_w900 : (Jvm.Cond.fieldLinkNest "CaptainClaims" (133 : Nat) "CaptainClaims$Puzzle" "pieces" "I" "CaptainClaims") ∈ lw_tbl := lw_at lw_m4 68 rfl
theorem q_w901 : (Jvm.Cond.fieldLinkNest "CaptainClaims$Parser" (267 : Nat) "CaptainClaims$Puzzle" "pieces" "I" "CaptainClaims") ∈ lw_tbl := lw_at lw_m4 69 rfl
theorem q_w902 : (Jvm.Cond.fieldLink "CaptainClaims$Puzzle" (86 : Nat) "CaptainClaims$Puzzle" "lower" "I") ∈ lw_all := lw_g (lw_at lw_m4 70 rfl) rfl
theorem q_w903 : (Jvm.Cond.fieldLinkNest "CaptainClaims" (210 : Nat) "CaptainClaims$Puzzle" "lower" "I" "CaptainClaims") ∈ lw_tbl := lw_at lw_m4 71 rfl
theorem q_w904 : (Jvm.Cond.fieldLinkNest "CaptainClaims$Parser" (349 : Nat) "CaptainClaims$Puzzle" "lower" "I" "CaptainClaims") ∈ lw_tbl := lw_at lw_m4 72 rfl
theorem q_w905 : (Jvm.Cond.fieldLink "CaptainClaims$Puzzle" (89 : Nat) "CaptainClaims$Puzzle" "upper" "I") ∈ lw_all := lw_g (lw_at lw_m4 73 rfl) rfl
theorem q_w906 : (Jvm.Cond.fieldLinkNest "CaptainClaims" (213 : Nat) "CaptainClaims$Puzzle" "upper" "I" "CaptainClaims") ∈ lw_tbl := lw_at lw_m4 74 rfl
theorem q_w907 : (Jvm.Cond.fieldLinkNest "CaptainClaims$Parser" (352 : Nat) "CaptainClaims$Puzzle" "upper" "I" "CaptainClaims") ∈ lw_tbl := lw_at lw_m4 75 rfl
theorem q_w908 : (Jvm.Cond.fieldLink "CaptainClaims$Puzzle" (12 : Nat) "CaptainClaims$Puzzle" "captains" "LCaptainClaims$Register;") ∈ lw_all := lw_g (lw_at lw_m4 76 rfl) rfl
theorem q_w909 : (Jvm.Cond.fieldLinkNest "CaptainClaims" (107 : Nat) "CaptainClaims$Puzzle" "captains" "LCaptainClaims$Register;" "CaptainClaims") ∈ lw_tbl := lw_at lw_m4 77 rfl
theorem q_w910 : (Jvm.Cond.fieldLinkNest "CaptainClaims$Parser" (136 : Nat) "CaptainClaims$Puzzle" "captains" "LCaptainClaims$Register;" "CaptainClaims") ∈ lw_tbl := lw_at lw_m4 78 rfl
theorem q_w911 : (Jvm.Cond.fieldLink "CaptainClaims$Puzzle" (23 : Nat) "CaptainClaims$Puzzle" "statements" "Ljava/util/List;") ∈ lw_all := lw_g (lw_at lw_m4 79 rfl) rfl
theorem q_w912 : (Jvm.Cond.fieldLinkNest "CaptainClaims" (129 : Nat) "CaptainClaims$Puzzle" "statements" "Ljava/util/List;" "CaptainClaims") ∈ lw_tbl := lw_at lw_m4 80 rfl
theorem q_w913 : (Jvm.Cond.fieldLinkNest "CaptainClaims$Parser" (292 : Nat) "CaptainClaims$Puzzle" "statements" "Ljava/util/List;" "CaptainClaims") ∈ lw_tbl := lw_at lw_m4 81 rfl
theorem q_w914 : (Jvm.Cond.fieldLink "CaptainClaims$Puzzle" (29 : Nat) "CaptainClaims$Puzzle" "declarations" "[LCaptainClaims$Declaration;") ∈ lw_all := lw_g (lw_at lw_m4 82 rfl) rfl
theorem q_w915 : (Jvm.Cond.fieldLinkNest "CaptainClaims$Parser" (331 : Nat) "CaptainClaims$Puzzle" "declarations" "[LCaptainClaims$Declaration;" "CaptainClaims") ∈ lw_tbl := lw_at lw_m4 83 rfl
theorem q_w916 : (Jvm.Cond.fieldLinkNest "CaptainClaims" (216 : Nat) "CaptainClaims$Puzzle" "declarations" "[LCaptainClaims$Declaration;" "CaptainClaims") ∈ lw_tbl := lw_at lw_m4 84 rfl
theorem q_w945 : (Jvm.Cond.methodLink "CaptainClaims$Parser" (355 : Nat) ({ cls := "CaptainClaims$Parser", name := "line", desc := "()V" } : Jvm.MethodName)) ∈ lw_all := lw_g (lw_at lw_m4 113 rfl) rfl
theorem q_w947 : (Jvm.Cond.instanceMethod ({ cls := "CaptainClaims$Parser", name := "line", desc := "()V" } : Jvm.MethodName)) ∈ lw_all := lw_g (lw_at lw_m4 115 rfl) rfl
theorem q_w948 : (Jvm.Cond.code ({ cls := "CaptainClaims$Parser", name := "line", desc := "()V" } : Jvm.MethodName) prog_18_method_30_code (5 : Nat) (Option.none : Option Jvm.ClassFile.FieldType)) ∈ lw_all := lw_g (lw_at lw_m4 116 rfl) rfl
theorem q_w949 : (Jvm.Cond.methodLink "CaptainClaims$Parser" (314 : Nat) ({ cls := "CaptainClaims$Parser", name := "isAllowed", desc := "()Z" } : Jvm.MethodName)) ∈ lw_all := lw_g (lw_at lw_m4 117 rfl) rfl
theorem q_w951 : (Jvm.Cond.instanceMethod ({ cls := "CaptainClaims$Parser", name := "isAllowed", desc := "()Z" } : Jvm.MethodName)) ∈ lw_all := lw_g (lw_at lw_m4 119 rfl) rfl
theorem q_w952 : (Jvm.Cond.code ({ cls := "CaptainClaims$Parser", name := "isAllowed", desc := "()Z" } : Jvm.MethodName) prog_18_method_29_code (3 : Nat) (Option.some Jvm.ClassFile.FieldType.boolean)) ∈ lw_all := lw_g (lw_at lw_m4 120 rfl) rfl
theorem q_w953 : (Jvm.Cond.methodLink "CaptainClaims$Parser" (146 : Nat) ({ cls := "java/lang/String", name := "hashCode", desc := "()I" } : Jvm.MethodName)) ∈ lw_all := lw_g (lw_at lw_m4 121 rfl) rfl
theorem q_w954 : (Jvm.Cond.instanceMethod ({ cls := "java/lang/String", name := "hashCode", desc := "()I" } : Jvm.MethodName)) ∈ lw_all := lw_g (lw_at lw_m4 122 rfl) rfl
theorem q_w955 : (Jvm.Cond.selects "java/lang/String" ({ cls := "java/lang/String", name := "hashCode", desc := "()I" } : Jvm.MethodName) ({ cls := "java/lang/String", name := "hashCode", desc := "()I" } : Jvm.MethodName)) ∈ lw_all := lw_g (lw_at lw_m4 123 rfl) rfl
theorem q_w956 : (Jvm.Cond.code ({ cls := "java/lang/String", name := "hashCode", desc := "()I" } : Jvm.MethodName) prog_48_method_78_code (2 : Nat) (Option.some Jvm.ClassFile.FieldType.int)) ∈ lw_all := lw_g (lw_at lw_m4 124 rfl) rfl
theorem q_w957 : (Jvm.Cond.methodLink "java/lang/String" (492 : Nat) ({ cls := "java/lang/String", name := "isLatin1", desc := "()Z" } : Jvm.MethodName)) ∈ lw_all := lw_g (lw_at lw_m4 125 rfl) rfl
theorem q_w958 : (Jvm.Cond.instanceMethod ({ cls := "java/lang/String", name := "isLatin1", desc := "()Z" } : Jvm.MethodName)) ∈ lw_all := lw_g (lw_at lw_m4 126 rfl) rfl
theorem q_w959 : (Jvm.Cond.selects "java/lang/String" ({ cls := "java/lang/String", name := "isLatin1", desc := "()Z" } : Jvm.MethodName) ({ cls := "java/lang/String", name := "isLatin1", desc := "()Z" } : Jvm.MethodName)) ∈ lw_all := lw_g (lw_at lw_m4 127 rfl) rfl
theorem q_w960 : (Jvm.Cond.code ({ cls := "java/lang/String", name := "isLatin1", desc := "()Z" } : Jvm.MethodName) prog_48_method_154_code (1 : Nat) (Option.some Jvm.ClassFile.FieldType.boolean)) ∈ lw_all := lw_g (lw_at lw_m4 128 rfl) rfl
theorem q_w961 : (Jvm.Cond.methodLink "java/lang/String" (628 : Nat) ({ cls := "java/lang/StringLatin1", name := "hashCode", desc := "([B)I" } : Jvm.MethodName)) ∈ lw_all := lw_g (lw_at lw_m4 129 rfl) rfl
theorem q_w962 : (Jvm.Cond.static ({ cls := "java/lang/StringLatin1", name := "hashCode", desc := "([B)I" } : Jvm.MethodName)) ∈ lw_all := lw_g (lw_at lw_m4 130 rfl) rfl
theorem q_w963 : (Jvm.Cond.code ({ cls := "java/lang/StringLatin1", name := "hashCode", desc := "([B)I" } : Jvm.MethodName) prog_50_method_21_code (1 : Nat) (Option.some Jvm.ClassFile.FieldType.int)) ∈ lw_all := lw_g (lw_at lw_m4 131 rfl) rfl
theorem q_w964 : (Jvm.Cond.methodLink "java/lang/StringLatin1" (84 : Nat) ({ cls := "jdk/internal/util/ArraysSupport", name := "vectorizedHashCode", desc := "(Ljava/lang/Object;IIII)I" } : Jvm.MethodName)) ∈ lw_all := lw_g (lw_at lw_m4 132 rfl) rfl
theorem q_w965 : (Jvm.Cond.static ({ cls := "jdk/internal/util/ArraysSupport", name := "vectorizedHashCode", desc := "(Ljava/lang/Object;IIII)I" } : Jvm.MethodName)) ∈ lw_all := lw_g (lw_at lw_m4 133 rfl) rfl
theorem q_w966 : (Jvm.Cond.code ({ cls := "jdk/internal/util/ArraysSupport", name := "vectorizedHashCode", desc := "(Ljava/lang/Object;IIII)I" } : Jvm.MethodName) prog_74_method_4_code (5 : Nat) (Option.some Jvm.ClassFile.FieldType.int)) ∈ lw_all := lw_g (lw_at lw_m4 134 rfl) rfl
theorem q_w967 : (Jvm.Cond.classLink "jdk/internal/util/ArraysSupport" (60 : Nat) "[B") ∈ lw_all := lw_g (lw_at lw_m4 135 rfl) rfl
theorem q_w968 : (Jvm.Cond.methodLink "jdk/internal/util/ArraysSupport" (62 : Nat) ({ cls := "jdk/internal/util/ArraysSupport", name := "signedHashCode", desc := "(I[BII)I" } : Jvm.MethodName)) ∈ lw_all := lw_g (lw_at lw_m4 136 rfl) rfl
theorem q_w969 : (Jvm.Cond.static ({ cls := "jdk/internal/util/ArraysSupport", name := "signedHashCode", desc := "(I[BII)I" } : Jvm.MethodName)) ∈ lw_all := lw_g (lw_at lw_m4 137 rfl) rfl
theorem q_w970 : (Jvm.Cond.code ({ cls := "jdk/internal/util/ArraysSupport", name := "signedHashCode", desc := "(I[BII)I" } : Jvm.MethodName) prog_74_method_5_code (6 : Nat) (Option.some Jvm.ClassFile.FieldType.int)) ∈ lw_all := lw_g (lw_at lw_m4 138 rfl) rfl
theorem q_w971 : (Jvm.Cond.methodLink "jdk/internal/util/ArraysSupport" (66 : Nat) ({ cls := "jdk/internal/util/ArraysSupport", name := "utf16hashCode", desc := "(I[BII)I" } : Jvm.MethodName)) ∈ lw_all := lw_g (lw_at lw_m4 139 rfl) rfl
theorem q_w972 : (Jvm.Cond.static ({ cls := "jdk/internal/util/ArraysSupport", name := "utf16hashCode", desc := "(I[BII)I" } : Jvm.MethodName)) ∈ lw_all := lw_g (lw_at lw_m4 140 rfl) rfl
theorem q_w973 : (Jvm.Cond.code ({ cls := "jdk/internal/util/ArraysSupport", name := "utf16hashCode", desc := "(I[BII)I" } : Jvm.MethodName) prog_74_method_10_code (6 : Nat) (Option.some Jvm.ClassFile.FieldType.int)) ∈ lw_all := lw_g (lw_at lw_m4 141 rfl) rfl
theorem q_w987 : (Jvm.Cond.classLink "jdk/internal/util/ArraysSupport" (69 : Nat) "[C") ∈ lw_all := lw_g (lw_at lw_m4 155 rfl) rfl
theorem q_w988 : (Jvm.Cond.methodLink "jdk/internal/util/ArraysSupport" (71 : Nat) ({ cls := "jdk/internal/util/ArraysSupport", name := "hashCode", desc := "(I[CII)I" } : Jvm.MethodName)) ∈ lw_all := lw_g (lw_at lw_m4 156 rfl) rfl
theorem q_w989 : (Jvm.Cond.static ({ cls := "jdk/internal/util/ArraysSupport", name := "hashCode", desc := "(I[CII)I" } : Jvm.MethodName)) ∈ lw_all := lw_g (lw_at lw_m4 157 rfl) rfl
theorem q_w990 : (Jvm.Cond.code ({ cls := "jdk/internal/util/ArraysSupport", name := "hashCode", desc := "(I[CII)I" } : Jvm.MethodName) prog_74_method_7_code (6 : Nat) (Option.some Jvm.ClassFile.FieldType.int)) ∈ lw_all := lw_g (lw_at lw_m4 158 rfl) rfl
theorem q_w991 : (Jvm.Cond.methodLink "jdk/internal/util/ArraysSupport" (75 : Nat) ({ cls := "jdk/internal/util/ArraysSupport", name := "hashCode", desc := "(I[BII)I" } : Jvm.MethodName)) ∈ lw_all := lw_g (lw_at lw_m4 159 rfl) rfl
theorem q_w992 : (Jvm.Cond.static ({ cls := "jdk/internal/util/ArraysSupport", name := "hashCode", desc := "(I[BII)I" } : Jvm.MethodName)) ∈ lw_all := lw_g (lw_at lw_m4 160 rfl) rfl
theorem q_w993 : (Jvm.Cond.code ({ cls := "jdk/internal/util/ArraysSupport", name := "hashCode", desc := "(I[BII)I" } : Jvm.MethodName) prog_74_method_6_code (6 : Nat) (Option.some Jvm.ClassFile.FieldType.int)) ∈ lw_all := lw_g (lw_at lw_m4 161 rfl) rfl
theorem q_w994 : (Jvm.Cond.classLink "jdk/internal/util/ArraysSupport" (77 : Nat) "[S") ∈ lw_all := lw_g (lw_at lw_m4 162 rfl) rfl
theorem q_w995 : (Jvm.Cond.methodLink "jdk/internal/util/ArraysSupport" (79 : Nat) ({ cls := "jdk/internal/util/ArraysSupport", name := "hashCode", desc := "(I[SII)I" } : Jvm.MethodName)) ∈ lw_all := lw_g (lw_at lw_m4 163 rfl) rfl
theorem q_w996 : (Jvm.Cond.static ({ cls := "jdk/internal/util/ArraysSupport", name := "hashCode", desc := "(I[SII)I" } : Jvm.MethodName)) ∈ lw_all := lw_g (lw_at lw_m4 164 rfl) rfl
theorem q_w997 : (Jvm.Cond.code ({ cls := "jdk/internal/util/ArraysSupport", name := "hashCode", desc := "(I[SII)I" } : Jvm.MethodName) prog_74_method_8_code (6 : Nat) (Option.some Jvm.ClassFile.FieldType.int)) ∈ lw_all := lw_g (lw_at lw_m4 165 rfl) rfl
theorem q_w998 : (Jvm.Cond.classLink "jdk/internal/util/ArraysSupport" (82 : Nat) "[I") ∈ lw_all := lw_g (lw_at lw_m4 166 rfl) rfl
theorem q_w999 : (Jvm.Cond.methodLink "jdk/internal/util/ArraysSupport" (84 : Nat) ({ cls := "jdk/internal/util/ArraysSupport", name := "hashCode", desc := "(I[III)I" } : Jvm.MethodName)) ∈ lw_all := lw_g (lw_at lw_m4 167 rfl) rfl
theorem q_w1000 : (Jvm.Cond.static ({ cls := "jdk/internal/util/ArraysSupport", name := "hashCode", desc := "(I[III)I" } : Jvm.MethodName)) ∈ lw_all := lw_g (lw_at lw_m4 168 rfl) rfl
theorem q_w1001 : (Jvm.Cond.code ({ cls := "jdk/internal/util/ArraysSupport", name := "hashCode", desc := "(I[III)I" } : Jvm.MethodName) prog_74_method_9_code (6 : Nat) (Option.some Jvm.ClassFile.FieldType.int)) ∈ lw_all := lw_g (lw_at lw_m4 169 rfl) rfl
theorem q_w1002 : (Jvm.Cond.classLink "jdk/internal/util/ArraysSupport" (87 : Nat) "java/lang/IllegalArgumentException") ∈ lw_all := lw_g (lw_at lw_m4 170 rfl) rfl
theorem q_w1003 : (Jvm.Cond.classLink "jdk/internal/util/ArraysSupport" (89 : Nat) "java/lang/StringBuilder") ∈ lw_all := lw_g (lw_at lw_m4 171 rfl) rfl
theorem q_w1006 : (Jvm.Cond.methodLink "jdk/internal/util/ArraysSupport" (94 : Nat) ({ cls := "java/lang/StringBuilder", name := "append", desc := "(Ljava/lang/String;)Ljava/lang/StringBuilder;" } : Jvm.MethodName)) ∈ lw_all := lw_g (lw_at lw_m4 174 rfl) rfl
theorem q_w1007 : (Jvm.Cond.methodLink "jdk/internal/util/ArraysSupport" (98 : Nat) ({ cls := "java/lang/StringBuilder", name := "append", desc := "(I)Ljava/lang/StringBuilder;" } : Jvm.MethodName)) ∈ lw_all := lw_g (lw_at lw_m4 175 rfl) rfl
theorem q_w1008 : (Jvm.Cond.methodLink "jdk/internal/util/ArraysSupport" (101 : Nat) ({ cls := "java/lang/StringBuilder", name := "toString", desc := "()Ljava/lang/String;" } : Jvm.MethodName)) ∈ lw_all := lw_g (lw_at lw_m4 176 rfl) rfl
theorem q_w1016 : (Jvm.Cond.methodLink "CaptainClaims$Parser" (140 : Nat) ({ cls := "CaptainClaims$Register", name := "size", desc := "()I" } : Jvm.MethodName)) ∈ lw_all := lw_g (lw_at lw_m4 184 rfl) rfl
theorem q_w1017 : (Jvm.Cond.instanceMethod ({ cls := "CaptainClaims$Register", name := "size", desc := "()I" } : Jvm.MethodName)) ∈ lw_all := lw_g (lw_at lw_m4 185 rfl) rfl
theorem q_w1018 : (Jvm.Cond.selects "CaptainClaims$Register" ({ cls := "CaptainClaims$Register", name := "size", desc := "()I" } : Jvm.MethodName) ({ cls := "CaptainClaims$Register", name := "size", desc := "()I" } : Jvm.MethodName)) ∈ lw_all := lw_g (lw_at lw_m4 186 rfl) rfl
theorem q_w1019 : (Jvm.Cond.code ({ cls := "CaptainClaims$Register", name := "size", desc := "()I" } : Jvm.MethodName) prog_21_method_4_code (1 : Nat) (Option.some Jvm.ClassFile.FieldType.int)) ∈ lw_all := lw_g (lw_at lw_m4 187 rfl) rfl
theorem q_w1021 : (Jvm.Cond.methodLink "CaptainClaims$Register" (37 : Nat) ({ cls := "java/util/List", name := "size", desc := "()I" } : Jvm.MethodName)) ∈ lw_all := lw_g (lw_at lw_m4 189 rfl) rfl
theorem q_w1022 : (Jvm.Cond.interfaceMethod "java/util/List" "java/util/List" "size" "()I") ∈ lw_tbl := lw_at lw_m4 190 rfl
theorem q_w1023 : (Jvm.Cond.declares ({ cls := "java/util/List", name := "size", desc := "()I" } : Jvm.MethodName)) ∈ lw_tbl := lw_at lw_m4 191 rfl
theorem q_w1024 : (Jvm.Cond.castable "java/util/ArrayList" "java/util/List") ∈ lw_tbl := lw_at lw_m4 192 rfl
theorem q_w1025 : (Jvm.Cond.selects "java/util/ArrayList" ({ cls := "java/util/List", name := "size", desc := "()I" } : Jvm.MethodName) ({ cls := "java/util/ArrayList", name := "size", desc := "()I" } : Jvm.MethodName)) ∈ lw_all := lw_g (lw_at lw_m4 193 rfl) rfl
theorem q_w1026 : (Jvm.Cond.unhidden "java/util/ArrayList" "size" "()I") ∈ lw_tbl := lw_at lw_m4 194 rfl
theorem q_w1027 : (Jvm.Cond.instanceMethod ({ cls := "java/util/ArrayList", name := "size", desc := "()I" } : Jvm.MethodName)) ∈ lw_all := lw_g (lw_at lw_m4 195 rfl) rfl
theorem q_w1028 : (Jvm.Cond.publicMethod ({ cls := "java/util/ArrayList", name := "size", desc := "()I" } : Jvm.MethodName)) ∈ lw_tbl := lw_at lw_m4 196 rfl
theorem q_w1029 : (Jvm.Cond.code ({ cls := "java/util/ArrayList", name := "size", desc := "()I" } : Jvm.MethodName) prog_60_method_8_code (1 : Nat) (Option.some Jvm.ClassFile.FieldType.int)) ∈ lw_all := lw_g (lw_at lw_m4 197 rfl) rfl
theorem q_w1031 : (Jvm.Cond.methodLink "CaptainClaims$Parser" (313 : Nat) ({ cls := "java/util/List", name := "size", desc := "()I" } : Jvm.MethodName)) ∈ lw_all := lw_g (lw_at lw_m4 199 rfl) rfl
theorem q_w1036 : (Jvm.Cond.methodLink "CaptainClaims$Parser" (323 : Nat) ({ cls := "CaptainClaims$Parser", name := "piece", desc := "()V" } : Jvm.MethodName)) ∈ lw_all := lw_g (lw_at lw_m4 204 rfl) rfl
theorem q_w1038 : (Jvm.Cond.instanceMethod ({ cls := "CaptainClaims$Parser", name := "piece", desc := "()V" } : Jvm.MethodName)) ∈ lw_all := lw_g (lw_at lw_m4 206 rfl) rfl
theorem q_w1039 : (Jvm.Cond.codeWith ({ cls := "CaptainClaims$Parser", name := "piece", desc := "()V" } : Jvm.MethodName) prog_18_method_25_code (4 : Nat) (Option.none : Option Jvm.ClassFile.FieldType) [((10 : Nat), (17 : Nat), (20 : Nat), (276 : Nat))]) ∈ lw_all := lw_g (lw_at lw_m4 207 rfl) rfl
theorem q_w1040 : (Jvm.Cond.classLink "CaptainClaims$Parser" (276 : Nat) "CaptainClaims$MisfitException") ∈ lw_all := lw_g (lw_at lw_m4 208 rfl) rfl
theorem q_w1041 : (Jvm.Cond.methodLink "CaptainClaims$Parser" (226 : Nat) ({ cls := "CaptainClaims$Parser", name := "row", desc := "()I" } : Jvm.MethodName)) ∈ lw_all := lw_g (lw_at lw_m4 209 rfl) rfl
theorem q_w1043 : (Jvm.Cond.instanceMethod ({ cls := "CaptainClaims$Parser", name := "row", desc := "()I" } : Jvm.MethodName)) ∈ lw_all := lw_g (lw_at lw_m4 211 rfl) rfl
theorem q_w1044 : (Jvm.Cond.code ({ cls := "CaptainClaims$Parser", name := "row", desc := "()I" } : Jvm.MethodName) prog_18_method_12_code (1 : Nat) (Option.some Jvm.ClassFile.FieldType.int)) ∈ lw_all := lw_g (lw_at lw_m4 212 rfl) rfl
theorem q_w1045 : (Jvm.Cond.methodLink "CaptainClaims$Parser" (233 : Nat) ({ cls := "CaptainClaims$Parser", name := "column", desc := "()I" } : Jvm.MethodName)) ∈ lw_all := lw_g (lw_at lw_m4 213 rfl) rfl
theorem q_w1047 : (Jvm.Cond.instanceMethod ({ cls := "CaptainClaims$Parser", name := "column", desc := "()I" } : Jvm.MethodName)) ∈ lw_all := lw_g (lw_at lw_m4 215 rfl) rfl
theorem q_w1048 : (Jvm.Cond.code ({ cls := "CaptainClaims$Parser", name := "column", desc := "()I" } : Jvm.MethodName) prog_18_method_13_code (1 : Nat) (Option.some Jvm.ClassFile.FieldType.int)) ∈ lw_all := lw_g (lw_at lw_m4 216 rfl) rfl
theorem q_w1049 : (Jvm.Cond.methodLink "CaptainClaims$Parser" (273 : Nat) ({ cls := "CaptainClaims$Parser", name := "marks", desc := "(II)I" } : Jvm.MethodName)) ∈ lw_all := lw_g (lw_at lw_m4 217 rfl) rfl
theorem q_w1051 : (Jvm.Cond.instanceMethod ({ cls := "CaptainClaims$Parser", name := "marks", desc := "(II)I" } : Jvm.MethodName)) ∈ lw_all := lw_g (lw_at lw_m4 219 rfl) rfl
theorem q_w1052 : (Jvm.Cond.code ({ cls := "CaptainClaims$Parser", name := "marks", desc := "(II)I" } : Jvm.MethodName) prog_18_method_24_code (5 : Nat) (Option.some Jvm.ClassFile.FieldType.int)) ∈ lw_all := lw_g (lw_at lw_m4 220 rfl) rfl
theorem q_w1053 : (Jvm.Cond.methodLink "CaptainClaims$Parser" (263 : Nat) ({ cls := "CaptainClaims$Puzzle", name := "place", desc := "(II[BII)I" } : Jvm.MethodName)) ∈ lw_all := lw_g (lw_at lw_m4 221 rfl) rfl
theorem q_w1054 : (Jvm.Cond.instanceMethod ({ cls := "CaptainClaims$Puzzle", name := "place", desc := "(II[BII)I" } : Jvm.MethodName)) ∈ lw_all := lw_g (lw_at lw_m4 222 rfl) rfl
theorem q_w1055 : (Jvm.Cond.selects "CaptainClaims$Puzzle" ({ cls := "CaptainClaims$Puzzle", name := "place", desc := "(II[BII)I" } : Jvm.MethodName) ({ cls := "CaptainClaims$Puzzle", name := "place", desc := "(II[BII)I" } : Jvm.MethodName)) ∈ lw_all := lw_g (lw_at lw_m4 223 rfl) rfl
theorem q_w1056 : (Jvm.Cond.code ({ cls := "CaptainClaims$Puzzle", name := "place", desc := "(II[BII)I" } : Jvm.MethodName) prog_19_method_9_code (10 : Nat) (Option.some Jvm.ClassFile.FieldType.int)) ∈ lw_all := lw_g (lw_at lw_m4 224 rfl) rfl
theorem q_w1057 : (Jvm.Cond.methodLink "CaptainClaims$Puzzle" (132 : Nat) ({ cls := "CaptainClaims$Mark", name := "of", desc := "(I)LCaptainClaims$Mark;" } : Jvm.MethodName)) ∈ lw_all := lw_g (lw_at lw_m4 225 rfl) rfl
theorem q_w1058 : (Jvm.Cond.static ({ cls := "CaptainClaims$Mark", name := "of", desc := "(I)LCaptainClaims$Mark;" } : Jvm.MethodName)) ∈ lw_all := lw_g (lw_at lw_m4 226 rfl) rfl
theorem q_w1059 : (Jvm.Cond.code ({ cls := "CaptainClaims$Mark", name := "of", desc := "(I)LCaptainClaims$Mark;" } : Jvm.MethodName) prog_13_method_5_code (1 : Nat) (Option.some (Jvm.ClassFile.FieldType.object "CaptainClaims$Mark"))) ∈ lw_all := lw_g (lw_at lw_m4 227 rfl) rfl
theorem q_w1060 : (Jvm.Cond.fieldLink "CaptainClaims$Mark" (10 : Nat) "CaptainClaims$Mark" "LAND" "LCaptainClaims$Mark;") ∈ lw_all := lw_g (lw_at lw_m4 228 rfl) rfl
theorem q_w1061 : (Jvm.Cond.fieldLink "CaptainClaims$Mark" (7 : Nat) "CaptainClaims$Mark" "SEA" "LCaptainClaims$Mark;") ∈ lw_all := lw_g (lw_at lw_m4 229 rfl) rfl
theorem q_w1063 : (Jvm.Cond.fieldLink "CaptainClaims$Mark" (3 : Nat) "CaptainClaims$Mark" "UNKNOWN" "LCaptainClaims$Mark;") ∈ lw_all := lw_g (lw_at lw_m4 231 rfl) rfl
theorem q_w1064 : (Jvm.Cond.methodLink "CaptainClaims$Puzzle" (136 : Nat) ({ cls := "CaptainClaims$Puzzle", name := "fits", desc := "(IILCaptainClaims$Mark;)Z" } : Jvm.MethodName)) ∈ lw_all := lw_g (lw_at lw_m4 232 rfl) rfl
theorem q_w1066 : (Jvm.Cond.instanceMethod ({ cls := "CaptainClaims$Puzzle", name := "fits", desc := "(IILCaptainClaims$Mark;)Z" } : Jvm.MethodName)) ∈ lw_all := lw_g (lw_at lw_m4 234 rfl) rfl
theorem q_w1067 : (Jvm.Cond.code ({ cls := "CaptainClaims$Puzzle", name := "fits", desc := "(IILCaptainClaims$Mark;)Z" } : Jvm.MethodName) prog_19_method_8_code (5 : Nat) (Option.some Jvm.ClassFile.FieldType.boolean)) ∈ lw_all := lw_g (lw_at lw_m4 235 rfl) rfl
theorem q_w1068 : (Jvm.Cond.methodLink "CaptainClaims$Puzzle" (129 : Nat) ({ cls := "CaptainClaims$Puzzle", name := "cell", desc := "(II)I" } : Jvm.MethodName)) ∈ lw_all := lw_g (lw_at lw_m4 236 rfl) rfl
theorem q_w1069 : (Jvm.Cond.instanceMethod ({ cls := "CaptainClaims$Puzzle", name := "cell", desc := "(II)I" } : Jvm.MethodName)) ∈ lw_all := lw_g (lw_at lw_m4 237 rfl) rfl
theorem q_w1070 : (Jvm.Cond.selects "CaptainClaims$Puzzle" ({ cls := "CaptainClaims$Puzzle", name := "cell", desc := "(II)I" } : Jvm.MethodName) ({ cls := "CaptainClaims$Puzzle", name := "cell", desc := "(II)I" } : Jvm.MethodName)) ∈ lw_all := lw_g (lw_at lw_m4 238 rfl) rfl
theorem q_w1071 : (Jvm.Cond.code ({ cls := "CaptainClaims$Puzzle", name := "cell", desc := "(II)I" } : Jvm.MethodName) prog_19_method_3_code (3 : Nat) (Option.some Jvm.ClassFile.FieldType.int)) ∈ lw_all := lw_g (lw_at lw_m4 239 rfl) rfl
theorem q_w1072 : (Jvm.Cond.classLink "CaptainClaims$Puzzle" (140 : Nat) "CaptainClaims$MisfitException") ∈ lw_all := lw_g (lw_at lw_m5 0 rfl) rfl
theorem q_w1073 : (Jvm.Cond.instantiable "CaptainClaims$MisfitException" (7 : Nat)) ∈ lw_all := lw_g (lw_at lw_m5 1 rfl) rfl
theorem q_w1074 : (Jvm.Cond.castable "CaptainClaims$MisfitException" "CaptainClaims$MisfitException") ∈ lw_tbl := lw_at lw_m5 2 rfl
theorem q_w1081 : (Jvm.Cond.methodLink "CaptainClaims$Puzzle" (142 : Nat) ({ cls := "CaptainClaims$MisfitException", name := "<init>", desc := "(I)V" } : Jvm.MethodName)) ∈ lw_all := lw_g (lw_at lw_m5 9 rfl) rfl
theorem q_w1082 : (Jvm.Cond.instanceMethod ({ cls := "CaptainClaims$MisfitException", name := "<init>", desc := "(I)V" } : Jvm.MethodName)) ∈ lw_all := lw_g (lw_at lw_m5 10 rfl) rfl
theorem q_w1083 : (Jvm.Cond.code ({ cls := "CaptainClaims$MisfitException", name := "<init>", desc := "(I)V" } : Jvm.MethodName) prog_14_method_1_code (2 : Nat) (Option.none : Option Jvm.ClassFile.FieldType)) ∈ lw_all := lw_g (lw_at lw_m5 11 rfl) rfl
theorem q_w1084 : (Jvm.Cond.methodLink "CaptainClaims$MisfitException" (1 : Nat) ({ cls := "java/lang/Exception", name := "<init>", desc := "(Ljava/lang/String;Ljava/lang/Throwable;ZZ)V" } : Jvm.MethodName)) ∈ lw_all := lw_g (lw_at lw_m5 12 rfl) rfl
theorem q_w1085 : (Jvm.Cond.fieldLink "CaptainClaims$MisfitException" (7 : Nat) "CaptainClaims$MisfitException" "row" "I") ∈ lw_all := lw_g (lw_at lw_m5 13 rfl) rfl
theorem q_w1090 : (Jvm.Cond.methodLink "CaptainClaims$Parser" (270 : Nat) ({ cls := "CaptainClaims$Puzzle", name := "findIslands", desc := "()V" } : Jvm.MethodName)) ∈ lw_all := lw_g (lw_at lw_m5 18 rfl) rfl
theorem q_w1091 : (Jvm.Cond.methodLink "CaptainClaims$Parser" (325 : Nat) ({ cls := "CaptainClaims$Parser", name := "newCaptain", desc := "()V" } : Jvm.MethodName)) ∈ lw_all := lw_g (lw_at lw_m5 19 rfl) rfl
theorem q_w1093 : (Jvm.Cond.instanceMethod ({ cls := "CaptainClaims$Parser", name := "newCaptain", desc := "()V" } : Jvm.MethodName)) ∈ lw_all := lw_g (lw_at lw_m5 21 rfl) rfl
theorem q_w1094 : (Jvm.Cond.code ({ cls := "CaptainClaims$Parser", name := "newCaptain", desc := "()V" } : Jvm.MethodName) prog_18_method_26_code (1 : Nat) (Option.none : Option Jvm.ClassFile.FieldType)) ∈ lw_all := lw_g (lw_at lw_m5 22 rfl) rfl
theorem q_w1095 : (Jvm.Cond.methodLink "CaptainClaims$Parser" (278 : Nat) ({ cls := "java/lang/String", name := "length", desc := "()I" } : Jvm.MethodName)) ∈ lw_all := lw_g (lw_at lw_m5 23 rfl) rfl
theorem q_w1096 : (Jvm.Cond.methodLink "CaptainClaims$Parser" (280 : Nat) ({ cls := "CaptainClaims$Register", name := "hasName", desc := "(Ljava/lang/String;)Z" } : Jvm.MethodName)) ∈ lw_all := lw_g (lw_at lw_m5 24 rfl) rfl
theorem q_w1097 : (Jvm.Cond.instanceMethod ({ cls := "CaptainClaims$Register", name := "hasName", desc := "(Ljava/lang/String;)Z" } : Jvm.MethodName)) ∈ lw_all := lw_g (lw_at lw_m5 25 rfl) rfl
theorem q_w1098 : (Jvm.Cond.selects "CaptainClaims$Register" ({ cls := "CaptainClaims$Register", name := "hasName", desc := "(Ljava/lang/String;)Z" } : Jvm.MethodName) ({ cls := "CaptainClaims$Register", name := "hasName", desc := "(Ljava/lang/String;)Z" } : Jvm.MethodName)) ∈ lw_all := lw_g (lw_at lw_m5 26 rfl) rfl
theorem q_w1099 : (Jvm.Cond.code ({ cls := "CaptainClaims$Register", name := "hasName", desc := "(Ljava/lang/String;)Z" } : Jvm.MethodName) prog_21_method_6_code (3 : Nat) (Option.some Jvm.ClassFile.FieldType.boolean)) ∈ lw_all := lw_g (lw_at lw_m5 27 rfl) rfl
theorem q_w1101 : (Jvm.Cond.methodLink "CaptainClaims$Register" (38 : Nat) ({ cls := "java/util/List", name := "get", desc := "(I)Ljava/lang/Object;" } : Jvm.MethodName)) ∈ lw_all := lw_g (lw_at lw_m5 29 rfl) rfl
theorem q_w1102 : (Jvm.Cond.interfaceMethod "java/util/List" "java/util/List" "get" "(I)Ljava/lang/Object;") ∈ lw_tbl := lw_at lw_m5 30 rfl
theorem q_w1103 : (Jvm.Cond.declares ({ cls := "java/util/List", name := "get", desc := "(I)Ljava/lang/Object;" } : Jvm.MethodName)) ∈ lw_tbl := lw_at lw_m5 31 rfl
theorem q_w1104 : (Jvm.Cond.selects "java/util/ArrayList" ({ cls := "java/util/List", name := "get", desc := "(I)Ljava/lang/Object;" } : Jvm.MethodName) ({ cls := "java/util/ArrayList", name := "get", desc := "(I)Ljava/lang/Object;" } : Jvm.MethodName)) ∈ lw_all := lw_g (lw_at lw_m5 32 rfl) rfl
theorem q_w1105 : (Jvm.Cond.unhidden "java/util/ArrayList" "get" "(I)Ljava/lang/Object;") ∈ lw_tbl := lw_at lw_m5 33 rfl
theorem q_w1106 : (Jvm.Cond.instanceMethod ({ cls := "java/util/ArrayList", name := "get", desc := "(I)Ljava/lang/Object;" } : Jvm.MethodName)) ∈ lw_all := lw_g (lw_at lw_m5 34 rfl) rfl
theorem q_w1107 : (Jvm.Cond.publicMethod ({ cls := "java/util/ArrayList", name := "get", desc := "(I)Ljava/lang/Object;" } : Jvm.MethodName)) ∈ lw_tbl := lw_at lw_m5 35 rfl
theorem q_w1108 : (Jvm.Cond.code ({ cls := "java/util/ArrayList", name := "get", desc := "(I)Ljava/lang/Object;" } : Jvm.MethodName) prog_60_method_20_code (2 : Nat) (Option.some (Jvm.ClassFile.FieldType.object "java/lang/Object"))) ∈ lw_all := lw_g (lw_at lw_m5 36 rfl) rfl
theorem q_w1109 : (Jvm.Cond.methodLink "java/util/ArrayList" (118 : Nat) ({ cls := "java/util/Objects", name := "checkIndex", desc := "(II)I" } : Jvm.MethodName)) ∈ lw_all := lw_g (lw_at lw_m5 37 rfl) rfl
theorem q_w1110 : (Jvm.Cond.static ({ cls := "java/util/Objects", name := "checkIndex", desc := "(II)I" } : Jvm.MethodName)) ∈ lw_all := lw_g (lw_at lw_m5 38 rfl) rfl
theorem q_w1111 : (Jvm.Cond.code ({ cls := "java/util/Objects", name := "checkIndex", desc := "(II)I" } : Jvm.MethodName) prog_67_method_17_code (2 : Nat) (Option.some Jvm.ClassFile.FieldType.int)) ∈ lw_all := lw_g (lw_at lw_m5 39 rfl) rfl
theorem q_w1112 : (Jvm.Cond.methodLink "java/util/Objects" (105 : Nat) ({ cls := "jdk/internal/util/Preconditions", name := "checkIndex", desc := "(IILjava/util/function/BiFunction;)I" } : Jvm.MethodName)) ∈ lw_all := lw_g (lw_at lw_m5 40 rfl) rfl
theorem q_w1113 : (Jvm.Cond.methodLink "java/util/ArrayList" (123 : Nat) ({ cls := "java/util/ArrayList", name := "elementData", desc := "(I)Ljava/lang/Object;" } : Jvm.MethodName)) ∈ lw_all := lw_g (lw_at lw_m5 41 rfl) rfl
theorem q_w1114 : (Jvm.Cond.instanceMethod ({ cls := "java/util/ArrayList", name := "elementData", desc := "(I)Ljava/lang/Object;" } : Jvm.MethodName)) ∈ lw_all := lw_g (lw_at lw_m5 42 rfl) rfl
theorem q_w1115 : (Jvm.Cond.selects "java/util/ArrayList" ({ cls := "java/util/ArrayList", name := "elementData", desc := "(I)Ljava/lang/Object;" } : Jvm.MethodName) ({ cls := "java/util/ArrayList", name := "elementData", desc := "(I)Ljava/lang/Object;" } : Jvm.MethodName)) ∈ lw_all := lw_g (lw_at lw_m5 43 rfl) rfl
theorem q_w1116 : (Jvm.Cond.code ({ cls := "java/util/ArrayList", name := "elementData", desc := "(I)Ljava/lang/Object;" } : Jvm.MethodName) prog_60_method_18_code (2 : Nat) (Option.some (Jvm.ClassFile.FieldType.object "java/lang/Object"))) ∈ lw_all := lw_g (lw_at lw_m5 44 rfl) rfl
theorem q_w1117 : (Jvm.Cond.classLink "CaptainClaims$Register" (41 : Nat) "CaptainClaims$Named") ∈ lw_all := lw_g (lw_at lw_m5 45 rfl) rfl
theorem q_w1119 : (Jvm.Cond.methodLink "CaptainClaims$Register" (43 : Nat) ({ cls := "CaptainClaims$Named", name := "name", desc := "()Ljava/lang/String;" } : Jvm.MethodName)) ∈ lw_all := lw_g (lw_at lw_m5 47 rfl) rfl
theorem q_w1120 : (Jvm.Cond.interfaceMethod "CaptainClaims$Named" "CaptainClaims$Named" "name" "()Ljava/lang/String;") ∈ lw_tbl := lw_at lw_m5 48 rfl
theorem q_w1121 : (Jvm.Cond.declares ({ cls := "CaptainClaims$Named", name := "name", desc := "()Ljava/lang/String;" } : Jvm.MethodName)) ∈ lw_tbl := lw_at lw_m5 49 rfl
theorem q_w1122 : (Jvm.Cond.castable "CaptainClaims$Captain" "CaptainClaims$Named") ∈ lw_tbl := lw_at lw_m5 50 rfl
theorem q_w1123 : (Jvm.Cond.selects "CaptainClaims$Captain" ({ cls := "CaptainClaims$Named", name := "name", desc := "()Ljava/lang/String;" } : Jvm.MethodName) ({ cls := "CaptainClaims$Captain", name := "name", desc := "()Ljava/lang/String;" } : Jvm.MethodName)) ∈ lw_all := lw_g (lw_at lw_m5 51 rfl) rfl
theorem q_w1124 : (Jvm.Cond.unhidden "CaptainClaims$Captain" "name" "()Ljava/lang/String;") ∈ lw_tbl := lw_at lw_m5 52 rfl
theorem q_w1125 : (Jvm.Cond.instanceMethod ({ cls := "CaptainClaims$Captain", name := "name", desc := "()Ljava/lang/String;" } : Jvm.MethodName)) ∈ lw_all := lw_g (lw_at lw_m5 53 rfl) rfl
theorem q_w1126 : (Jvm.Cond.publicMethod ({ cls := "CaptainClaims$Captain", name := "name", desc := "()Ljava/lang/String;" } : Jvm.MethodName)) ∈ lw_tbl := lw_at lw_m5 54 rfl
theorem q_w1127 : (Jvm.Cond.code ({ cls := "CaptainClaims$Captain", name := "name", desc := "()Ljava/lang/String;" } : Jvm.MethodName) prog_3_method_2_code (1 : Nat) (Option.some (Jvm.ClassFile.FieldType.object "java/lang/String"))) ∈ lw_all := lw_g (lw_at lw_m5 55 rfl) rfl
theorem q_w1128 : (Jvm.Cond.methodLink "CaptainClaims$Register" (47 : Nat) ({ cls := "java/lang/String", name := "equals", desc := "(Ljava/lang/Object;)Z" } : Jvm.MethodName)) ∈ lw_all := lw_g (lw_at lw_m5 56 rfl) rfl
theorem q_w1129 : (Jvm.Cond.classLink "CaptainClaims$Parser" (284 : Nat) "CaptainClaims$Captain") ∈ lw_all := lw_g (lw_at lw_m5 57 rfl) rfl
theorem q_w1130 : (Jvm.Cond.instantiable "CaptainClaims$Captain" (1 : Nat)) ∈ lw_all := lw_g (lw_at lw_m5 58 rfl) rfl
theorem q_w1131 : (Jvm.Cond.methodLink "CaptainClaims$Parser" (286 : Nat) ({ cls := "CaptainClaims$Captain", name := "<init>", desc := "(Ljava/lang/String;)V" } : Jvm.MethodName)) ∈ lw_all := lw_g (lw_at lw_m5 59 rfl) rfl
theorem q_w1132 : (Jvm.Cond.instanceMethod ({ cls := "CaptainClaims$Captain", name := "<init>", desc := "(Ljava/lang/String;)V" } : Jvm.MethodName)) ∈ lw_all := lw_g (lw_at lw_m5 60 rfl) rfl
theorem q_w1133 : (Jvm.Cond.code ({ cls := "CaptainClaims$Captain", name := "<init>", desc := "(Ljava/lang/String;)V" } : Jvm.MethodName) prog_3_method_1_code (2 : Nat) (Option.none : Option Jvm.ClassFile.FieldType)) ∈ lw_all := lw_g (lw_at lw_m5 61 rfl) rfl
theorem q_w1134 : (Jvm.Cond.methodLink "CaptainClaims$Captain" (1 : Nat) ({ cls := "java/lang/Object", name := "<init>", desc := "()V" } : Jvm.MethodName)) ∈ lw_all := lw_g (lw_at lw_m5 62 rfl) rfl
theorem q_w1135 : (Jvm.Cond.fieldLink "CaptainClaims$Captain" (7 : Nat) "CaptainClaims$Captain" "name" "Ljava/lang/String;") ∈ lw_all := lw_g (lw_at lw_m5 63 rfl) rfl
theorem q_w1139 : (Jvm.Cond.methodLink "CaptainClaims$Parser" (289 : Nat) ({ cls := "CaptainClaims$Register", name := "add", desc := "(LCaptainClaims$Named;)V" } : Jvm.MethodName)) ∈ lw_all := lw_g (lw_at lw_m5 67 rfl) rfl
theorem q_w1140 : (Jvm.Cond.instanceMethod ({ cls := "CaptainClaims$Register", name := "add", desc := "(LCaptainClaims$Named;)V" } : Jvm.MethodName)) ∈ lw_all := lw_g (lw_at lw_m5 68 rfl) rfl
theorem q_w1141 : (Jvm.Cond.selects "CaptainClaims$Register" ({ cls := "CaptainClaims$Register", name := "add", desc := "(LCaptainClaims$Named;)V" } : Jvm.MethodName) ({ cls := "CaptainClaims$Register", name := "add", desc := "(LCaptainClaims$Named;)V" } : Jvm.MethodName)) ∈ lw_all := lw_g (lw_at lw_m5 69 rfl) rfl
theorem q_w1142 : (Jvm.Cond.code ({ cls := "CaptainClaims$Register", name := "add", desc := "(LCaptainClaims$Named;)V" } : Jvm.MethodName) prog_21_method_2_code (2 : Nat) (Option.none : Option Jvm.ClassFile.FieldType)) ∈ lw_all := lw_g (lw_at lw_m5 70 rfl) rfl
theorem q_w1144 : (Jvm.Cond.methodLink "CaptainClaims$Register" (20 : Nat) ({ cls := "java/util/List", name := "add", desc := "(Ljava/lang/Object;)Z" } : Jvm.MethodName)) ∈ lw_all := lw_g (lw_at lw_m5 72 rfl) rfl
theorem q_w1145 : (Jvm.Cond.interfaceMethod "java/util/List" "java/util/List" "add" "(Ljava/lang/Object;)Z") ∈ lw_tbl := lw_at lw_m5 73 rfl
theorem q_w1146 : (Jvm.Cond.declares ({ cls := "java/util/List", name := "add", desc := "(Ljava/lang/Object;)Z" } : Jvm.MethodName)) ∈ lw_tbl := lw_at lw_m5 74 rfl
theorem q_w1147 : (Jvm.Cond.selects "java/util/ArrayList" ({ cls := "java/util/List", name := "add", desc := "(Ljava/lang/Object;)Z" } : Jvm.MethodName) ({ cls := "java/util/ArrayList", name := "add", desc := "(Ljava/lang/Object;)Z" } : Jvm.MethodName)) ∈ lw_all := lw_g (lw_at lw_m5 75 rfl) rfl
theorem q_w1148 : (Jvm.Cond.unhidden "java/util/ArrayList" "add" "(Ljava/lang/Object;)Z") ∈ lw_tbl := lw_at lw_m5 76 rfl
theorem q_w1149 : (Jvm.Cond.instanceMethod ({ cls := "java/util/ArrayList", name := "add", desc := "(Ljava/lang/Object;)Z" } : Jvm.MethodName)) ∈ lw_all := lw_g (lw_at lw_m5 77 rfl) rfl
theorem q_w1150 : (Jvm.Cond.publicMethod ({ cls := "java/util/ArrayList", name := "add", desc := "(Ljava/lang/Object;)Z" } : Jvm.MethodName)) ∈ lw_tbl := lw_at lw_m5 78 rfl
theorem q_w1151 : (Jvm.Cond.code ({ cls := "java/util/ArrayList", name := "add", desc := "(Ljava/lang/Object;)Z" } : Jvm.MethodName) prog_60_method_25_code (2 : Nat) (Option.some Jvm.ClassFile.FieldType.boolean)) ∈ lw_all := lw_g (lw_at lw_m5 79 rfl) rfl
theorem q_w1152 : (Jvm.Cond.methodLink "java/util/ArrayList" (131 : Nat) ({ cls := "java/util/ArrayList", name := "add", desc := "(Ljava/lang/Object;[Ljava/lang/Object;I)V" } : Jvm.MethodName)) ∈ lw_all := lw_g (lw_at lw_m5 80 rfl) rfl
theorem q_w1154 : (Jvm.Cond.instanceMethod ({ cls := "java/util/ArrayList", name := "add", desc := "(Ljava/lang/Object;[Ljava/lang/Object;I)V" } : Jvm.MethodName)) ∈ lw_all := lw_g (lw_at lw_m5 82 rfl) rfl
theorem q_w1155 : (Jvm.Cond.code ({ cls := "java/util/ArrayList", name := "add", desc := "(Ljava/lang/Object;[Ljava/lang/Object;I)V" } : Jvm.MethodName) prog_60_method_24_code (4 : Nat) (Option.none : Option Jvm.ClassFile.FieldType)) ∈ lw_all := lw_g (lw_at lw_m5 83 rfl) rfl
theorem q_w1215 : (Jvm.Cond.methodLink "CaptainClaims$Parser" (328 : Nat) ({ cls := "CaptainClaims$Parser", name := "statement", desc := "()V" } : Jvm.MethodName)) ∈ lw_all := lw_g (lw_at lw_m5 143 rfl) rfl
theorem q_w1217 : (Jvm.Cond.instanceMethod ({ cls := "CaptainClaims$Parser", name := "statement", desc := "()V" } : Jvm.MethodName)) ∈ lw_all := lw_g (lw_at lw_m5 145 rfl) rfl
theorem q_w1218 : (Jvm.Cond.code ({ cls := "CaptainClaims$Parser", name := "statement", desc := "()V" } : Jvm.MethodName) prog_18_method_27_code (2 : Nat) (Option.none : Option Jvm.ClassFile.FieldType)) ∈ lw_all := lw_g (lw_at lw_m5 146 rfl) rfl
theorem q_w1219 : (Jvm.Cond.methodLink "CaptainClaims$Parser" (209 : Nat) ({ cls := "CaptainClaims$Parser", name := "captain", desc := "()I" } : Jvm.MethodName)) ∈ lw_all := lw_g (lw_at lw_m5 147 rfl) rfl
theorem q_w1221 : (Jvm.Cond.instanceMethod ({ cls := "CaptainClaims$Parser", name := "captain", desc := "()I" } : Jvm.MethodName)) ∈ lw_all := lw_g (lw_at lw_m5 149 rfl) rfl
theorem q_w1222 : (Jvm.Cond.code ({ cls := "CaptainClaims$Parser", name := "captain", desc := "()I" } : Jvm.MethodName) prog_18_method_14_code (1 : Nat) (Option.some Jvm.ClassFile.FieldType.int)) ∈ lw_all := lw_g (lw_at lw_m5 150 rfl) rfl
theorem q_w1223 : (Jvm.Cond.classLink "CaptainClaims$Parser" (295 : Nat) "CaptainClaims$Statement") ∈ lw_all := lw_g (lw_at lw_m5 151 rfl) rfl
theorem q_w1224 : (Jvm.Cond.instantiable "CaptainClaims$Statement" (2 : Nat)) ∈ lw_all := lw_g (lw_at lw_m5 152 rfl) rfl
theorem q_w1225 : (Jvm.Cond.methodLink "CaptainClaims$Parser" (255 : Nat) ({ cls := "CaptainClaims$Parser", name := "claim", desc := "()LCaptainClaims$Claim;" } : Jvm.MethodName)) ∈ lw_all := lw_g (lw_at lw_m5 153 rfl) rfl
theorem q_w1227 : (Jvm.Cond.instanceMethod ({ cls := "CaptainClaims$Parser", name := "claim", desc := "()LCaptainClaims$Claim;" } : Jvm.MethodName)) ∈ lw_all := lw_g (lw_at lw_m5 155 rfl) rfl
theorem q_w1228 : (Jvm.Cond.codeWith ({ cls := "CaptainClaims$Parser", name := "claim", desc := "()LCaptainClaims$Claim;" } : Jvm.MethodName) prog_18_method_16_code (4 : Nat) (Option.some (Jvm.ClassFile.FieldType.object "CaptainClaims$Claim")) [((56 : Nat), (71 : Nat), (83 : Nat), (0 : Nat))]) ∈ lw_all := lw_g (lw_at lw_m5 156 rfl) rfl
theorem q_w1229 : (Jvm.Cond.methodLink "CaptainClaims$Parser" (174 : Nat) ({ cls := "CaptainClaims$Parser", name := "isClaimWord", desc := "()Z" } : Jvm.MethodName)) ∈ lw_all := lw_g (lw_at lw_m5 157 rfl) rfl
theorem q_w1231 : (Jvm.Cond.instanceMethod ({ cls := "CaptainClaims$Parser", name := "isClaimWord", desc := "()Z" } : Jvm.MethodName)) ∈ lw_all := lw_g (lw_at lw_m5 159 rfl) rfl
theorem q_w1232 : (Jvm.Cond.code ({ cls := "CaptainClaims$Parser", name := "isClaimWord", desc := "()Z" } : Jvm.MethodName) prog_18_method_15_code (3 : Nat) (Option.some Jvm.ClassFile.FieldType.boolean)) ∈ lw_all := lw_g (lw_at lw_m5 160 rfl) rfl
theorem q_w1242 : (Jvm.Cond.methodLink "CaptainClaims$Parser" (184 : Nat) ({ cls := "CaptainClaims$Parser", name := "claimOf", desc := "(Ljava/lang/String;)LCaptainClaims$Claim;" } : Jvm.MethodName)) ∈ lw_all := lw_g (lw_at lw_m5 170 rfl) rfl
theorem q_w1244 : (Jvm.Cond.instanceMethod ({ cls := "CaptainClaims$Parser", name := "claimOf", desc := "(Ljava/lang/String;)LCaptainClaims$Claim;" } : Jvm.MethodName)) ∈ lw_all := lw_g (lw_at lw_m5 172 rfl) rfl
theorem q_w1245 : (Jvm.Cond.code ({ cls := "CaptainClaims$Parser", name := "claimOf", desc := "(Ljava/lang/String;)LCaptainClaims$Claim;" } : Jvm.MethodName) prog_18_method_17_code (4 : Nat) (Option.some (Jvm.ClassFile.FieldType.object "CaptainClaims$Claim"))) ∈ lw_all := lw_g (lw_at lw_m5 173 rfl) rfl
theorem q_w1246 : (Jvm.Cond.methodLink "CaptainClaims$Parser" (188 : Nat) ({ cls := "CaptainClaims$Parser", name := "rowClaim", desc := "()LCaptainClaims$Claim;" } : Jvm.MethodName)) ∈ lw_all := lw_g (lw_at lw_m5 174 rfl) rfl
theorem q_w1248 : (Jvm.Cond.instanceMethod ({ cls := "CaptainClaims$Parser", name := "rowClaim", desc := "()LCaptainClaims$Claim;" } : Jvm.MethodName)) ∈ lw_all := lw_g (lw_at lw_m5 176 rfl) rfl
theorem q_w1249 : (Jvm.Cond.code ({ cls := "CaptainClaims$Parser", name := "rowClaim", desc := "()LCaptainClaims$Claim;" } : Jvm.MethodName) prog_18_method_18_code (2 : Nat) (Option.some (Jvm.ClassFile.FieldType.object "CaptainClaims$Claim"))) ∈ lw_all := lw_g (lw_at lw_m5 177 rfl) rfl
theorem q_w1250 : (Jvm.Cond.classLink "CaptainClaims$Parser" (228 : Nat) "CaptainClaims$RowClaim") ∈ lw_all := lw_g (lw_at lw_m5 178 rfl) rfl
theorem q_w1251 : (Jvm.Cond.instantiable "CaptainClaims$RowClaim" (3 : Nat)) ∈ lw_all := lw_g (lw_at lw_m5 179 rfl) rfl
theorem q_w1252 : (Jvm.Cond.methodLink "CaptainClaims$Parser" (230 : Nat) ({ cls := "CaptainClaims$RowClaim", name := "<init>", desc := "(II)V" } : Jvm.MethodName)) ∈ lw_all := lw_g (lw_at lw_m5 180 rfl) rfl
theorem q_w1253 : (Jvm.Cond.instanceMethod ({ cls := "CaptainClaims$RowClaim", name := "<init>", desc := "(II)V" } : Jvm.MethodName)) ∈ lw_all := lw_g (lw_at lw_m5 181 rfl) rfl
theorem q_w1254 : (Jvm.Cond.code ({ cls := "CaptainClaims$RowClaim", name := "<init>", desc := "(II)V" } : Jvm.MethodName) prog_22_method_1_code (3 : Nat) (Option.none : Option Jvm.ClassFile.FieldType)) ∈ lw_all := lw_g (lw_at lw_m5 182 rfl) rfl
theorem q_w1256 : (Jvm.Cond.methodLink "CaptainClaims$RowClaim" (3 : Nat) ({ cls := "CaptainClaims$RangeClaim", name := "<init>", desc := "(Ljava/lang/String;II)V" } : Jvm.MethodName)) ∈ lw_all := lw_g (lw_at lw_m5 184 rfl) rfl
theorem q_w1257 : (Jvm.Cond.instanceMethod ({ cls := "CaptainClaims$RangeClaim", name := "<init>", desc := "(Ljava/lang/String;II)V" } : Jvm.MethodName)) ∈ lw_all := lw_g (lw_at lw_m5 185 rfl) rfl
theorem q_w1258 : (Jvm.Cond.code ({ cls := "CaptainClaims$RangeClaim", name := "<init>", desc := "(Ljava/lang/String;II)V" } : Jvm.MethodName) prog_20_method_1_code (4 : Nat) (Option.none : Option Jvm.ClassFile.FieldType)) ∈ lw_all := lw_g (lw_at lw_m5 186 rfl) rfl
theorem q_w1259 : (Jvm.Cond.methodLink "CaptainClaims$RangeClaim" (1 : Nat) ({ cls := "java/lang/Object", name := "<init>", desc := "()V" } : Jvm.MethodName)) ∈ lw_all := lw_g (lw_at lw_m5 187 rfl) rfl
theorem q_w1260 : (Jvm.Cond.fieldLink "CaptainClaims$RangeClaim" (7 : Nat) "CaptainClaims$RangeClaim" "word" "Ljava/lang/String;") ∈ lw_all := lw_g (lw_at lw_m5 188 rfl) rfl
theorem q_w1261 : (Jvm.Cond.fieldLink "CaptainClaims$RangeClaim" (13 : Nat) "CaptainClaims$RangeClaim" "low" "I") ∈ lw_all := lw_g (lw_at lw_m5 189 rfl) rfl
theorem q_w1262 : (Jvm.Cond.fieldLink "CaptainClaims$RangeClaim" (17 : Nat) "CaptainClaims$RangeClaim" "high" "I") ∈ lw_all := lw_g (lw_at lw_m5 190 rfl) rfl
theorem q_w1270 : (Jvm.Cond.methodLink "CaptainClaims$Parser" (192 : Nat) ({ cls := "CaptainClaims$Parser", name := "columnClaim", desc := "()LCaptainClaims$Claim;" } : Jvm.MethodName)) ∈ lw_all := lw_g (lw_at lw_m5 198 rfl) rfl
theorem q_w1272 : (Jvm.Cond.instanceMethod ({ cls := "CaptainClaims$Parser", name := "columnClaim", desc := "()LCaptainClaims$Claim;" } : Jvm.MethodName)) ∈ lw_all := lw_g (lw_at lw_m5 200 rfl) rfl
theorem q_w1273 : (Jvm.Cond.code ({ cls := "CaptainClaims$Parser", name := "columnClaim", desc := "()LCaptainClaims$Claim;" } : Jvm.MethodName) prog_18_method_19_code (2 : Nat) (Option.some (Jvm.ClassFile.FieldType.object "CaptainClaims$Claim"))) ∈ lw_all := lw_g (lw_at lw_m5 201 rfl) rfl
theorem q_w1274 : (Jvm.Cond.classLink "CaptainClaims$Parser" (235 : Nat) "CaptainClaims$ColumnClaim") ∈ lw_all := lw_g (lw_at lw_m5 202 rfl) rfl
theorem q_w1275 : (Jvm.Cond.instantiable "CaptainClaims$ColumnClaim" (3 : Nat)) ∈ lw_all := lw_g (lw_at lw_m5 203 rfl) rfl
theorem q_w1276 : (Jvm.Cond.methodLink "CaptainClaims$Parser" (237 : Nat) ({ cls := "CaptainClaims$ColumnClaim", name := "<init>", desc := "(II)V" } : Jvm.MethodName)) ∈ lw_all := lw_g (lw_at lw_m5 204 rfl) rfl
theorem q_w1277 : (Jvm.Cond.instanceMethod ({ cls := "CaptainClaims$ColumnClaim", name := "<init>", desc := "(II)V" } : Jvm.MethodName)) ∈ lw_all := lw_g (lw_at lw_m5 205 rfl) rfl
theorem q_w1278 : (Jvm.Cond.code ({ cls := "CaptainClaims$ColumnClaim", name := "<init>", desc := "(II)V" } : Jvm.MethodName) prog_7_method_1_code (3 : Nat) (Option.none : Option Jvm.ClassFile.FieldType)) ∈ lw_all := lw_g (lw_at lw_m5 206 rfl) rfl
theorem q_w1280 : (Jvm.Cond.methodLink "CaptainClaims$ColumnClaim" (3 : Nat) ({ cls := "CaptainClaims$RangeClaim", name := "<init>", desc := "(Ljava/lang/String;II)V" } : Jvm.MethodName)) ∈ lw_all := lw_g (lw_at lw_m5 208 rfl) rfl
theorem q_w1285 : (Jvm.Cond.methodLink "CaptainClaims$Parser" (195 : Nat) ({ cls := "CaptainClaims$Parser", name := "nearClaim", desc := "()LCaptainClaims$Claim;" } : Jvm.MethodName)) ∈ lw_all := lw_g (lw_at lw_m5 213 rfl) rfl
theorem q_w1287 : (Jvm.Cond.instanceMethod ({ cls := "CaptainClaims$Parser", name := "nearClaim", desc := "()LCaptainClaims$Claim;" } : Jvm.MethodName)) ∈ lw_all := lw_g (lw_at lw_m5 215 rfl) rfl
theorem q_w1288 : (Jvm.Cond.code ({ cls := "CaptainClaims$Parser", name := "nearClaim", desc := "()LCaptainClaims$Claim;" } : Jvm.MethodName) prog_18_method_21_code (3 : Nat) (Option.some (Jvm.ClassFile.FieldType.object "CaptainClaims$Claim"))) ∈ lw_all := lw_g (lw_at lw_m5 216 rfl) rfl
theorem q_w1289 : (Jvm.Cond.classLink "CaptainClaims$Parser" (241 : Nat) "CaptainClaims$NearClaim") ∈ lw_all := lw_g (lw_at lw_m5 217 rfl) rfl
theorem q_w1290 : (Jvm.Cond.instantiable "CaptainClaims$NearClaim" (3 : Nat)) ∈ lw_all := lw_g (lw_at lw_m5 218 rfl) rfl
theorem q_w1291 : (Jvm.Cond.methodLink "CaptainClaims$Parser" (243 : Nat) ({ cls := "CaptainClaims$NearClaim", name := "<init>", desc := "(III)V" } : Jvm.MethodName)) ∈ lw_all := lw_g (lw_at lw_m5 219 rfl) rfl
theorem q_w1292 : (Jvm.Cond.instanceMethod ({ cls := "CaptainClaims$NearClaim", name := "<init>", desc := "(III)V" } : Jvm.MethodName)) ∈ lw_all := lw_g (lw_at lw_m5 220 rfl) rfl
theorem q_w1293 : (Jvm.Cond.code ({ cls := "CaptainClaims$NearClaim", name := "<init>", desc := "(III)V" } : Jvm.MethodName) prog_16_method_1_code (4 : Nat) (Option.none : Option Jvm.ClassFile.FieldType)) ∈ lw_all := lw_g (lw_at lw_m5 221 rfl) rfl
theorem q_w1294 : (Jvm.Cond.methodLink "CaptainClaims$NearClaim" (1 : Nat) ({ cls := "java/lang/Object", name := "<init>", desc := "()V" } : Jvm.MethodName)) ∈ lw_all := lw_g (lw_at lw_m5 222 rfl) rfl
theorem q_w1295 : (Jvm.Cond.fieldLink "CaptainClaims$NearClaim" (7 : Nat) "CaptainClaims$NearClaim" "row" "I") ∈ lw_all := lw_g (lw_at lw_m5 223 rfl) rfl
theorem q_w1296 : (Jvm.Cond.fieldLink "CaptainClaims$NearClaim" (13 : Nat) "CaptainClaims$NearClaim" "column" "I") ∈ lw_all := lw_g (lw_at lw_m5 224 rfl) rfl
theorem q_w1297 : (Jvm.Cond.fieldLink "CaptainClaims$NearClaim" (16 : Nat) "CaptainClaims$NearClaim" "distance" "I") ∈ lw_all := lw_g (lw_at lw_m5 225 rfl) rfl
theorem q_w1305 : (Jvm.Cond.methodLink "CaptainClaims$Parser" (198 : Nat) ({ cls := "CaptainClaims$Parser", name := "sizeClaim", desc := "()LCaptainClaims$Claim;" } : Jvm.MethodName)) ∈ lw_all := lw_g (lw_at lw_m5 233 rfl) rfl
theorem q_w1307 : (Jvm.Cond.instanceMethod ({ cls := "CaptainClaims$Parser", name := "sizeClaim", desc := "()LCaptainClaims$Claim;" } : Jvm.MethodName)) ∈ lw_all := lw_g (lw_at lw_m5 235 rfl) rfl
theorem q_w1308 : (Jvm.Cond.code ({ cls := "CaptainClaims$Parser", name := "sizeClaim", desc := "()LCaptainClaims$Claim;" } : Jvm.MethodName) prog_18_method_20_code (2 : Nat) (Option.some (Jvm.ClassFile.FieldType.object "CaptainClaims$Claim"))) ∈ lw_all := lw_g (lw_at lw_m5 236 rfl) rfl
theorem q_w1309 : (Jvm.Cond.classLink "CaptainClaims$Parser" (238 : Nat) "CaptainClaims$SizeClaim") ∈ lw_all := lw_g (lw_at lw_m5 237 rfl) rfl
theorem q_w1310 : (Jvm.Cond.instantiable "CaptainClaims$SizeClaim" (3 : Nat)) ∈ lw_all := lw_g (lw_at lw_m5 238 rfl) rfl
theorem q_w1311 : (Jvm.Cond.methodLink "CaptainClaims$Parser" (240 : Nat) ({ cls := "CaptainClaims$SizeClaim", name := "<init>", desc := "(II)V" } : Jvm.MethodName)) ∈ lw_all := lw_g (lw_at lw_m5 239 rfl) rfl
theorem q_w1312 : (Jvm.Cond.instanceMethod ({ cls := "CaptainClaims$SizeClaim", name := "<init>", desc := "(II)V" } : Jvm.MethodName)) ∈ lw_all := lw_g (lw_at lw_m6 0 rfl) rfl
theorem q_w1313 : (Jvm.Cond.code ({ cls := "CaptainClaims$SizeClaim", name := "<init>", desc := "(II)V" } : Jvm.MethodName) prog_24_method_1_code (3 : Nat) (Option.none : Option Jvm.ClassFile.FieldType)) ∈ lw_all := lw_g (lw_at lw_m6 1 rfl) rfl
theorem q_w1315 : (Jvm.Cond.methodLink "CaptainClaims$SizeClaim" (5 : Nat) ({ cls := "CaptainClaims$RangeClaim", name := "<init>", desc := "(Ljava/lang/String;II)V" } : Jvm.MethodName)) ∈ lw_all := lw_g (lw_at lw_m6 3 rfl) rfl
theorem q_w1320 : (Jvm.Cond.classLink "CaptainClaims$Parser" (201 : Nat) "CaptainClaims$CoastClaim") ∈ lw_all := lw_g (lw_at lw_m6 8 rfl) rfl
theorem q_w1321 : (Jvm.Cond.instantiable "CaptainClaims$CoastClaim" (0 : Nat)) ∈ lw_all := lw_g (lw_at lw_m6 9 rfl) rfl
theorem q_w1322 : (Jvm.Cond.methodLinkNest "CaptainClaims$Parser" (203 : Nat) ({ cls := "CaptainClaims$CoastClaim", name := "<init>", desc := "()V" } : Jvm.MethodName) "CaptainClaims") ∈ lw_tbl := lw_at lw_m6 10 rfl
theorem q_w1323 : (Jvm.Cond.instanceMethod ({ cls := "CaptainClaims$CoastClaim", name := "<init>", desc := "()V" } : Jvm.MethodName)) ∈ lw_all := lw_g (lw_at lw_m6 11 rfl) rfl
theorem q_w1324 : (Jvm.Cond.code ({ cls := "CaptainClaims$CoastClaim", name := "<init>", desc := "()V" } : Jvm.MethodName) prog_6_method_1_code (1 : Nat) (Option.none : Option Jvm.ClassFile.FieldType)) ∈ lw_all := lw_g (lw_at lw_m6 12 rfl) rfl
theorem q_w1325 : (Jvm.Cond.methodLink "CaptainClaims$CoastClaim" (1 : Nat) ({ cls := "java/lang/Object", name := "<init>", desc := "()V" } : Jvm.MethodName)) ∈ lw_all := lw_g (lw_at lw_m6 13 rfl) rfl
theorem q_w1327 : (Jvm.Cond.methodLink "CaptainClaims$Parser" (204 : Nat) ({ cls := "CaptainClaims$Parser", name := "sameClaim", desc := "()LCaptainClaims$Claim;" } : Jvm.MethodName)) ∈ lw_all := lw_g (lw_at lw_m6 15 rfl) rfl
theorem q_w1329 : (Jvm.Cond.instanceMethod ({ cls := "CaptainClaims$Parser", name := "sameClaim", desc := "()LCaptainClaims$Claim;" } : Jvm.MethodName)) ∈ lw_all := lw_g (lw_at lw_m6 17 rfl) rfl
theorem q_w1330 : (Jvm.Cond.code ({ cls := "CaptainClaims$Parser", name := "sameClaim", desc := "()LCaptainClaims$Claim;" } : Jvm.MethodName) prog_18_method_22_code (2 : Nat) (Option.some (Jvm.ClassFile.FieldType.object "CaptainClaims$Claim"))) ∈ lw_all := lw_g (lw_at lw_m6 18 rfl) rfl
theorem q_w1331 : (Jvm.Cond.classLink "CaptainClaims$Parser" (246 : Nat) "CaptainClaims$SameClaim") ∈ lw_all := lw_g (lw_at lw_m6 19 rfl) rfl
theorem q_w1332 : (Jvm.Cond.instantiable "CaptainClaims$SameClaim" (2 : Nat)) ∈ lw_all := lw_g (lw_at lw_m6 20 rfl) rfl
theorem q_w1333 : (Jvm.Cond.methodLink "CaptainClaims$Parser" (248 : Nat) ({ cls := "CaptainClaims$SameClaim", name := "<init>", desc := "(II)V" } : Jvm.MethodName)) ∈ lw_all := lw_g (lw_at lw_m6 21 rfl) rfl
theorem q_w1334 : (Jvm.Cond.instanceMethod ({ cls := "CaptainClaims$SameClaim", name := "<init>", desc := "(II)V" } : Jvm.MethodName)) ∈ lw_all := lw_g (lw_at lw_m6 22 rfl) rfl
theorem q_w1335 : (Jvm.Cond.code ({ cls := "CaptainClaims$SameClaim", name := "<init>", desc := "(II)V" } : Jvm.MethodName) prog_23_method_1_code (3 : Nat) (Option.none : Option Jvm.ClassFile.FieldType)) ∈ lw_all := lw_g (lw_at lw_m6 23 rfl) rfl
theorem q_w1336 : (Jvm.Cond.methodLink "CaptainClaims$SameClaim" (1 : Nat) ({ cls := "java/lang/Object", name := "<init>", desc := "()V" } : Jvm.MethodName)) ∈ lw_all := lw_g (lw_at lw_m6 24 rfl) rfl
theorem q_w1337 : (Jvm.Cond.fieldLink "CaptainClaims$SameClaim" (7 : Nat) "CaptainClaims$SameClaim" "row" "I") ∈ lw_all := lw_g (lw_at lw_m6 25 rfl) rfl
theorem q_w1338 : (Jvm.Cond.fieldLink "CaptainClaims$SameClaim" (13 : Nat) "CaptainClaims$SameClaim" "column" "I") ∈ lw_all := lw_g (lw_at lw_m6 26 rfl) rfl
theorem q_w1344 : (Jvm.Cond.classLink "CaptainClaims$Parser" (207 : Nat) "CaptainClaims$HonestClaim") ∈ lw_all := lw_g (lw_at lw_m6 32 rfl) rfl
theorem q_w1345 : (Jvm.Cond.instantiable "CaptainClaims$HonestClaim" (1 : Nat)) ∈ lw_all := lw_g (lw_at lw_m6 33 rfl) rfl
theorem q_w1346 : (Jvm.Cond.methodLink "CaptainClaims$Parser" (212 : Nat) ({ cls := "CaptainClaims$HonestClaim", name := "<init>", desc := "(I)V" } : Jvm.MethodName)) ∈ lw_all := lw_g (lw_at lw_m6 34 rfl) rfl
theorem q_w1347 : (Jvm.Cond.instanceMethod ({ cls := "CaptainClaims$HonestClaim", name := "<init>", desc := "(I)V" } : Jvm.MethodName)) ∈ lw_all := lw_g (lw_at lw_m6 35 rfl) rfl
theorem q_w1348 : (Jvm.Cond.code ({ cls := "CaptainClaims$HonestClaim", name := "<init>", desc := "(I)V" } : Jvm.MethodName) prog_11_method_1_code (2 : Nat) (Option.none : Option Jvm.ClassFile.FieldType)) ∈ lw_all := lw_g (lw_at lw_m6 36 rfl) rfl
theorem q_w1349 : (Jvm.Cond.methodLink "CaptainClaims$HonestClaim" (1 : Nat) ({ cls := "java/lang/Object", name := "<init>", desc := "()V" } : Jvm.MethodName)) ∈ lw_all := lw_g (lw_at lw_m6 37 rfl) rfl
theorem q_w1350 : (Jvm.Cond.fieldLink "CaptainClaims$HonestClaim" (7 : Nat) "CaptainClaims$HonestClaim" "captain" "I") ∈ lw_all := lw_g (lw_at lw_m6 38 rfl) rfl
theorem q_w1354 : (Jvm.Cond.classLink "CaptainClaims$Parser" (213 : Nat) "CaptainClaims$NotClaim") ∈ lw_all := lw_g (lw_at lw_m6 42 rfl) rfl
theorem q_w1355 : (Jvm.Cond.instantiable "CaptainClaims$NotClaim" (2 : Nat)) ∈ lw_all := lw_g (lw_at lw_m6 43 rfl) rfl
theorem q_w1356 : (Jvm.Cond.methodLink "CaptainClaims$Parser" (215 : Nat) ({ cls := "CaptainClaims$NotClaim", name := "<init>", desc := "()V" } : Jvm.MethodName)) ∈ lw_all := lw_g (lw_at lw_m6 44 rfl) rfl
theorem q_w1357 : (Jvm.Cond.instanceMethod ({ cls := "CaptainClaims$NotClaim", name := "<init>", desc := "()V" } : Jvm.MethodName)) ∈ lw_all := lw_g (lw_at lw_m6 45 rfl) rfl
theorem q_w1358 : (Jvm.Cond.code ({ cls := "CaptainClaims$NotClaim", name := "<init>", desc := "()V" } : Jvm.MethodName) prog_17_method_1_code (1 : Nat) (Option.none : Option Jvm.ClassFile.FieldType)) ∈ lw_all := lw_g (lw_at lw_m6 46 rfl) rfl
theorem q_w1360 : (Jvm.Cond.methodLink "CaptainClaims$NotClaim" (3 : Nat) ({ cls := "CaptainClaims$JoinedClaim", name := "<init>", desc := "(Ljava/lang/String;)V" } : Jvm.MethodName)) ∈ lw_all := lw_g (lw_at lw_m6 48 rfl) rfl
theorem q_w1361 : (Jvm.Cond.instanceMethod ({ cls := "CaptainClaims$JoinedClaim", name := "<init>", desc := "(Ljava/lang/String;)V" } : Jvm.MethodName)) ∈ lw_all := lw_g (lw_at lw_m6 49 rfl) rfl
theorem q_w1362 : (Jvm.Cond.code ({ cls := "CaptainClaims$JoinedClaim", name := "<init>", desc := "(Ljava/lang/String;)V" } : Jvm.MethodName) prog_12_method_1_code (2 : Nat) (Option.none : Option Jvm.ClassFile.FieldType)) ∈ lw_all := lw_g (lw_at lw_m6 50 rfl) rfl
theorem q_w1363 : (Jvm.Cond.methodLink "CaptainClaims$JoinedClaim" (1 : Nat) ({ cls := "java/lang/Object", name := "<init>", desc := "()V" } : Jvm.MethodName)) ∈ lw_all := lw_g (lw_at lw_m6 51 rfl) rfl
theorem q_w1364 : (Jvm.Cond.classLink "CaptainClaims$JoinedClaim" (7 : Nat) "java/util/ArrayList") ∈ lw_all := lw_g (lw_at lw_m6 52 rfl) rfl
theorem q_w1365 : (Jvm.Cond.methodLink "CaptainClaims$JoinedClaim" (9 : Nat) ({ cls := "java/util/ArrayList", name := "<init>", desc := "(I)V" } : Jvm.MethodName)) ∈ lw_all := lw_g (lw_at lw_m6 53 rfl) rfl
theorem q_w1366 : (Jvm.Cond.fieldLink "CaptainClaims$JoinedClaim" (18 : Nat) "CaptainClaims$JoinedClaim" "word" "Ljava/lang/String;") ∈ lw_all := lw_g (lw_at lw_m6 54 rfl) rfl
theorem q_w1367 : (Jvm.Cond.fieldLink "CaptainClaims$JoinedClaim" (12 : Nat) "CaptainClaims$JoinedClaim" "parts" "Ljava/util/List;") ∈ lw_all := lw_g (lw_at lw_m6 55 rfl) rfl
theorem q_w1368 : (Jvm.Cond.fieldLink "CaptainClaims$BothClaim" (9 : Nat) "CaptainClaims$BothClaim" "parts" "Ljava/util/List;") ∈ lw_all := lw_g (lw_at lw_m6 56 rfl) rfl
theorem q_w1369 : (Jvm.Cond.sameField "CaptainClaims$BothClaim" "CaptainClaims$JoinedClaim" "parts" "Ljava/util/List;") ∈ lw_all := lw_g (lw_at lw_m6 57 rfl) rfl
theorem q_w1370 : (Jvm.Cond.fieldLink "CaptainClaims$EitherClaim" (9 : Nat) "CaptainClaims$EitherClaim" "parts" "Ljava/util/List;") ∈ lw_all := lw_g (lw_at lw_m6 58 rfl) rfl
theorem q_w1371 : (Jvm.Cond.sameField "CaptainClaims$EitherClaim" "CaptainClaims$JoinedClaim" "parts" "Ljava/util/List;") ∈ lw_all := lw_g (lw_at lw_m6 59 rfl) rfl
theorem q_w1372 : (Jvm.Cond.fieldLink "CaptainClaims$NotClaim" (9 : Nat) "CaptainClaims$NotClaim" "parts" "Ljava/util/List;") ∈ lw_all := lw_g (lw_at lw_m6 60 rfl) rfl
theorem q_w1373 : (Jvm.Cond.sameField "CaptainClaims$NotClaim" "CaptainClaims$JoinedClaim" "parts" "Ljava/util/List;") ∈ lw_all := lw_g (lw_at lw_m6 61 rfl) rfl
theorem q_w1374 : (Jvm.Cond.fieldLink "CaptainClaims$Parser" (249 : Nat) "CaptainClaims$JoinedClaim" "parts" "Ljava/util/List;") ∈ lw_all := lw_g (lw_at lw_m6 62 rfl) rfl
theorem q_w1380 : (Jvm.Cond.methodLink "CaptainClaims$Parser" (216 : Nat) ({ cls := "CaptainClaims$Parser", name := "joined", desc := "(LCaptainClaims$JoinedClaim;I)LCaptainClaims$JoinedClaim;" } : Jvm.MethodName)) ∈ lw_all := lw_g (lw_at lw_m6 68 rfl) rfl
theorem q_w1382 : (Jvm.Cond.instanceMethod ({ cls := "CaptainClaims$Parser", name := "joined", desc := "(LCaptainClaims$JoinedClaim;I)LCaptainClaims$JoinedClaim;" } : Jvm.MethodName)) ∈ lw_all := lw_g (lw_at lw_m6 70 rfl) rfl
theorem q_w1383 : (Jvm.Cond.code ({ cls := "CaptainClaims$Parser", name := "joined", desc := "(LCaptainClaims$JoinedClaim;I)LCaptainClaims$JoinedClaim;" } : Jvm.MethodName) prog_18_method_23_code (4 : Nat) (Option.some (Jvm.ClassFile.FieldType.object "CaptainClaims$JoinedClaim"))) ∈ lw_all := lw_g (lw_at lw_m6 71 rfl) rfl
theorem q_w1385 : (Jvm.Cond.methodLink "CaptainClaims$Parser" (258 : Nat) ({ cls := "java/util/List", name := "add", desc := "(Ljava/lang/Object;)Z" } : Jvm.MethodName)) ∈ lw_all := lw_g (lw_at lw_m6 73 rfl) rfl
theorem q_w1386 : (Jvm.Cond.classLink "CaptainClaims$Parser" (220 : Nat) "CaptainClaims$BothClaim") ∈ lw_all := lw_g (lw_at lw_m6 74 rfl) rfl
theorem q_w1387 : (Jvm.Cond.instantiable "CaptainClaims$BothClaim" (2 : Nat)) ∈ lw_all := lw_g (lw_at lw_m6 75 rfl) rfl
theorem q_w1388 : (Jvm.Cond.methodLink "CaptainClaims$Parser" (222 : Nat) ({ cls := "CaptainClaims$BothClaim", name := "<init>", desc := "()V" } : Jvm.MethodName)) ∈ lw_all := lw_g (lw_at lw_m6 76 rfl) rfl
theorem q_w1389 : (Jvm.Cond.instanceMethod ({ cls := "CaptainClaims$BothClaim", name := "<init>", desc := "()V" } : Jvm.MethodName)) ∈ lw_all := lw_g (lw_at lw_m6 77 rfl) rfl
theorem q_w1390 : (Jvm.Cond.code ({ cls := "CaptainClaims$BothClaim", name := "<init>", desc := "()V" } : Jvm.MethodName) prog_2_method_1_code (1 : Nat) (Option.none : Option Jvm.ClassFile.FieldType)) ∈ lw_all := lw_g (lw_at lw_m6 78 rfl) rfl
theorem q_w1392 : (Jvm.Cond.methodLink "CaptainClaims$BothClaim" (3 : Nat) ({ cls := "CaptainClaims$JoinedClaim", name := "<init>", desc := "(Ljava/lang/String;)V" } : Jvm.MethodName)) ∈ lw_all := lw_g (lw_at lw_m6 80 rfl) rfl
theorem q_w1396 : (Jvm.Cond.classLink "CaptainClaims$Parser" (223 : Nat) "CaptainClaims$EitherClaim") ∈ lw_all := lw_g (lw_at lw_m6 84 rfl) rfl
theorem q_w1397 : (Jvm.Cond.instantiable "CaptainClaims$EitherClaim" (2 : Nat)) ∈ lw_all := lw_g (lw_at lw_m6 85 rfl) rfl
theorem q_w1398 : (Jvm.Cond.methodLink "CaptainClaims$Parser" (225 : Nat) ({ cls := "CaptainClaims$EitherClaim", name := "<init>", desc := "()V" } : Jvm.MethodName)) ∈ lw_all := lw_g (lw_at lw_m6 86 rfl) rfl
theorem q_w1399 : (Jvm.Cond.instanceMethod ({ cls := "CaptainClaims$EitherClaim", name := "<init>", desc := "()V" } : Jvm.MethodName)) ∈ lw_all := lw_g (lw_at lw_m6 87 rfl) rfl
theorem q_w1400 : (Jvm.Cond.code ({ cls := "CaptainClaims$EitherClaim", name := "<init>", desc := "()V" } : Jvm.MethodName) prog_9_method_1_code (1 : Nat) (Option.none : Option Jvm.ClassFile.FieldType)) ∈ lw_all := lw_g (lw_at lw_m6 88 rfl) rfl
theorem q_w1402 : (Jvm.Cond.methodLink "CaptainClaims$EitherClaim" (3 : Nat) ({ cls := "CaptainClaims$JoinedClaim", name := "<init>", desc := "(Ljava/lang/String;)V" } : Jvm.MethodName)) ∈ lw_all := lw_g (lw_at lw_m6 90 rfl) rfl
theorem q_w1406 : (Jvm.Cond.methodLink "CaptainClaims$Parser" (297 : Nat) ({ cls := "CaptainClaims$Statement", name := "<init>", desc := "(ILCaptainClaims$Claim;)V" } : Jvm.MethodName)) ∈ lw_all := lw_g (lw_at lw_m6 94 rfl) rfl
theorem q_w1407 : (Jvm.Cond.instanceMethod ({ cls := "CaptainClaims$Statement", name := "<init>", desc := "(ILCaptainClaims$Claim;)V" } : Jvm.MethodName)) ∈ lw_all := lw_g (lw_at lw_m6 95 rfl) rfl
theorem q_w1408 : (Jvm.Cond.code ({ cls := "CaptainClaims$Statement", name := "<init>", desc := "(ILCaptainClaims$Claim;)V" } : Jvm.MethodName) prog_25_method_1_code (3 : Nat) (Option.none : Option Jvm.ClassFile.FieldType)) ∈ lw_all := lw_g (lw_at lw_m6 96 rfl) rfl
theorem q_w1409 : (Jvm.Cond.methodLink "CaptainClaims$Statement" (1 : Nat) ({ cls := "java/lang/Object", name := "<init>", desc := "()V" } : Jvm.MethodName)) ∈ lw_all := lw_g (lw_at lw_m6 97 rfl) rfl
theorem q_w1410 : (Jvm.Cond.fieldLink "CaptainClaims$Statement" (7 : Nat) "CaptainClaims$Statement" "captain" "I") ∈ lw_all := lw_g (lw_at lw_m6 98 rfl) rfl
theorem q_w1411 : (Jvm.Cond.fieldLinkNest "CaptainClaims$Puzzle" (185 : Nat) "CaptainClaims$Statement" "captain" "I" "CaptainClaims") ∈ lw_tbl := lw_at lw_m6 99 rfl
theorem q_w1412 : (Jvm.Cond.fieldLinkNest "CaptainClaims" (245 : Nat) "CaptainClaims$Statement" "captain" "I" "CaptainClaims") ∈ lw_tbl := lw_at lw_m6 100 rfl
theorem q_w1413 : (Jvm.Cond.fieldLink "CaptainClaims$Statement" (13 : Nat) "CaptainClaims$Statement" "claim" "LCaptainClaims$Claim;") ∈ lw_all := lw_g (lw_at lw_m6 101 rfl) rfl
theorem q_w1414 : (Jvm.Cond.fieldLinkNest "CaptainClaims$Puzzle" (175 : Nat) "CaptainClaims$Statement" "claim" "LCaptainClaims$Claim;" "CaptainClaims") ∈ lw_tbl := lw_at lw_m6 102 rfl
theorem q_w1415 : (Jvm.Cond.fieldLinkNest "CaptainClaims" (255 : Nat) "CaptainClaims$Statement" "claim" "LCaptainClaims$Claim;" "CaptainClaims") ∈ lw_tbl := lw_at lw_m6 103 rfl
theorem q_w1421 : (Jvm.Cond.fieldLink "CaptainClaims$Parser" (335 : Nat) "CaptainClaims$Declaration" "TRUTHFUL" "LCaptainClaims$Declaration;") ∈ lw_all := lw_g (lw_at lw_m6 109 rfl) rfl
theorem q_w1423 : (Jvm.Cond.fieldLink "CaptainClaims$Parser" (341 : Nat) "CaptainClaims$Declaration" "LIAR" "LCaptainClaims$Declaration;") ∈ lw_all := lw_g (lw_at lw_m6 111 rfl) rfl
theorem q_w1425 : (Jvm.Cond.methodLink "CaptainClaims$Parser" (344 : Nat) ({ cls := "CaptainClaims$Parser", name := "empty", desc := "()V" } : Jvm.MethodName)) ∈ lw_all := lw_g (lw_at lw_m6 113 rfl) rfl
theorem q_w1427 : (Jvm.Cond.instanceMethod ({ cls := "CaptainClaims$Parser", name := "empty", desc := "()V" } : Jvm.MethodName)) ∈ lw_all := lw_g (lw_at lw_m6 115 rfl) rfl
theorem q_w1428 : (Jvm.Cond.code ({ cls := "CaptainClaims$Parser", name := "empty", desc := "()V" } : Jvm.MethodName) prog_18_method_28_code (3 : Nat) (Option.none : Option Jvm.ClassFile.FieldType)) ∈ lw_all := lw_g (lw_at lw_m6 116 rfl) rfl
theorem q_w1429 : (Jvm.Cond.methodLink "CaptainClaims$Parser" (300 : Nat) ({ cls := "CaptainClaims$Puzzle", name := "cell", desc := "(II)I" } : Jvm.MethodName)) ∈ lw_all := lw_g (lw_at lw_m6 117 rfl) rfl
theorem q_w1430 : (Jvm.Cond.methodLink "CaptainClaims$Parser" (303 : Nat) ({ cls := "CaptainClaims$Puzzle", name := "isLand", desc := "(I)Z" } : Jvm.MethodName)) ∈ lw_all := lw_g (lw_at lw_m6 118 rfl) rfl
theorem q_w1431 : (Jvm.Cond.methodLink "CaptainClaims" (87 : Nat) ({ cls := "CaptainClaims$FormatException", name := "reportedCode", desc := "()I" } : Jvm.MethodName)) ∈ lw_all := lw_g (lw_at lw_m6 119 rfl) rfl
theorem q_w1432 : (Jvm.Cond.instanceMethod ({ cls := "CaptainClaims$FormatException", name := "reportedCode", desc := "()I" } : Jvm.MethodName)) ∈ lw_all := lw_g (lw_at lw_m6 120 rfl) rfl
theorem q_w1433 : (Jvm.Cond.selects "CaptainClaims$FormatException" ({ cls := "CaptainClaims$FormatException", name := "reportedCode", desc := "()I" } : Jvm.MethodName) ({ cls := "CaptainClaims$FormatException", name := "reportedCode", desc := "()I" } : Jvm.MethodName)) ∈ lw_all := lw_g (lw_at lw_m6 121 rfl) rfl
theorem q_w1434 : (Jvm.Cond.code ({ cls := "CaptainClaims$FormatException", name := "reportedCode", desc := "()I" } : Jvm.MethodName) prog_10_method_2_code (1 : Nat) (Option.some Jvm.ClassFile.FieldType.int)) ∈ lw_all := lw_g (lw_at lw_m6 122 rfl) rfl
theorem q_w1435 : (Jvm.Cond.methodLink "CaptainClaims$FormatException" (18 : Nat) ({ cls := "CaptainClaims$FormatException", name := "getCause", desc := "()Ljava/lang/Throwable;" } : Jvm.MethodName)) ∈ lw_all := lw_g (lw_at lw_m6 123 rfl) rfl
theorem q_w1441 : (Jvm.Cond.classLink "CaptainClaims$FormatException" (22 : Nat) "CaptainClaims$MisfitException") ∈ lw_all := lw_g (lw_at lw_m6 129 rfl) rfl
theorem q_w1442 : (Jvm.Cond.classLink "CaptainClaims" (93 : Nat) "java/lang/IllegalArgumentException") ∈ lw_all := lw_g (lw_at lw_m6 130 rfl) rfl
theorem q_w1448 : (Jvm.Cond.publicMethod ({ cls := "java/util/Collection", name := "clear", desc := "()V" } : Jvm.MethodName)) ∈ lw_tbl := lw_at lw_m6 136 rfl
theorem q_w1449 : (Jvm.Cond.declares ({ cls := "java/util/Collection", name := "clear", desc := "()V" } : Jvm.MethodName)) ∈ lw_tbl := lw_at lw_m6 137 rfl
theorem q_w1450 : (Jvm.Cond.selects "java/util/ArrayDeque" ({ cls := "java/util/Collection", name := "clear", desc := "()V" } : Jvm.MethodName) ({ cls := "java/util/ArrayDeque", name := "clear", desc := "()V" } : Jvm.MethodName)) ∈ lw_all := lw_g (lw_at lw_m6 138 rfl) rfl
theorem q_w1451 : (Jvm.Cond.unhidden "java/util/ArrayDeque" "clear" "()V") ∈ lw_tbl := lw_at lw_m6 139 rfl
theorem q_w1452 : (Jvm.Cond.instanceMethod ({ cls := "java/util/ArrayDeque", name := "clear", desc := "()V" } : Jvm.MethodName)) ∈ lw_all := lw_g (lw_at lw_m6 140 rfl) rfl
theorem q_w1453 : (Jvm.Cond.publicMethod ({ cls := "java/util/ArrayDeque", name := "clear", desc := "()V" } : Jvm.MethodName)) ∈ lw_tbl := lw_at lw_m6 141 rfl
theorem q_w1454 : (Jvm.Cond.code ({ cls := "java/util/ArrayDeque", name := "clear", desc := "()V" } : Jvm.MethodName) prog_59_method_53_code (1 : Nat) (Option.none : Option Jvm.ClassFile.FieldType)) ∈ lw_all := lw_g (lw_at lw_m6 142 rfl) rfl
theorem q_w1455 : (Jvm.Cond.methodLink "java/util/ArrayDeque" (181 : Nat) ({ cls := "java/util/ArrayDeque", name := "circularClear", desc := "([Ljava/lang/Object;II)V" } : Jvm.MethodName)) ∈ lw_all := lw_g (lw_at lw_m6 143 rfl) rfl
theorem q_w1456 : (Jvm.Cond.static ({ cls := "java/util/ArrayDeque", name := "circularClear", desc := "([Ljava/lang/Object;II)V" } : Jvm.MethodName)) ∈ lw_all := lw_g (lw_at lw_m6 144 rfl) rfl
theorem q_w1457 : (Jvm.Cond.code ({ cls := "java/util/ArrayDeque", name := "circularClear", desc := "([Ljava/lang/Object;II)V" } : Jvm.MethodName) prog_59_method_54_code (4 : Nat) (Option.none : Option Jvm.ClassFile.FieldType)) ∈ lw_all := lw_g (lw_at lw_m6 145 rfl) rfl
theorem q_w1458 : (Jvm.Cond.methodLink "CaptainClaims" (101 : Nat) ({ cls := "java/util/Arrays", name := "fill", desc := "([Ljava/lang/Object;Ljava/lang/Object;)V" } : Jvm.MethodName)) ∈ lw_all := lw_g (lw_at lw_m6 146 rfl) rfl
theorem q_w1459 : (Jvm.Cond.methodLink "CaptainClaims" (111 : Nat) ({ cls := "CaptainClaims$Register", name := "size", desc := "()I" } : Jvm.MethodName)) ∈ lw_all := lw_g (lw_at lw_m6 147 rfl) rfl
theorem q_w1460 : (Jvm.Cond.methodLink "CaptainClaimsLaw" (228 : Nat) ({ cls := "CaptainClaimsLaw", name := "rows", desc := "(LCaptainClaims;[J)I" } : Jvm.MethodName)) ∈ lw_all := lw_g (lw_at lw_m6 148 rfl) rfl
theorem q_w1461 : (Jvm.Cond.static ({ cls := "CaptainClaimsLaw", name := "rows", desc := "(LCaptainClaims;[J)I" } : Jvm.MethodName)) ∈ lw_all := lw_g (lw_at lw_m6 149 rfl) rfl
theorem q_w1462 : (Jvm.Cond.codeWith ({ cls := "CaptainClaimsLaw", name := "rows", desc := "(LCaptainClaims;[J)I" } : Jvm.MethodName) method_4_code (3 : Nat) (Option.some Jvm.ClassFile.FieldType.int) [((0 : Nat), (8 : Nat), (11 : Nat), (21 : Nat))]) ∈ lw_all := lw_g (lw_at lw_m6 150 rfl) rfl
theorem q_w1463 : (Jvm.Cond.classLink "CaptainClaimsLaw" (21 : Nat) "java/lang/IllegalStateException") ∈ lw_all := lw_g (lw_at lw_m6 151 rfl) rfl
theorem q_w1464 : (Jvm.Cond.methodLink "CaptainClaimsLaw" (17 : Nat) ({ cls := "CaptainClaims", name := "rows", desc := "()I" } : Jvm.MethodName)) ∈ lw_all := lw_g (lw_at lw_m6 152 rfl) rfl
theorem q_w1465 : (Jvm.Cond.instanceMethod ({ cls := "CaptainClaims", name := "rows", desc := "()I" } : Jvm.MethodName)) ∈ lw_all := lw_g (lw_at lw_m6 153 rfl) rfl
theorem q_w1466 : (Jvm.Cond.selects "CaptainClaims" ({ cls := "CaptainClaims", name := "rows", desc := "()I" } : Jvm.MethodName) ({ cls := "CaptainClaims", name := "rows", desc := "()I" } : Jvm.MethodName)) ∈ lw_all := lw_g (lw_at lw_m6 154 rfl) rfl
theorem q_w1467 : (Jvm.Cond.code ({ cls := "CaptainClaims", name := "rows", desc := "()I" } : Jvm.MethodName) prog_1_method_18_code (1 : Nat) (Option.some Jvm.ClassFile.FieldType.int)) ∈ lw_all := lw_g (lw_at lw_m6 155 rfl) rfl
theorem q_w1468 : (Jvm.Cond.methodLink "CaptainClaims" (120 : Nat) ({ cls := "CaptainClaims", name := "puzzle", desc := "()LCaptainClaims$Puzzle;" } : Jvm.MethodName)) ∈ lw_all := lw_g (lw_at lw_m6 156 rfl) rfl
theorem q_w1470 : (Jvm.Cond.instanceMethod ({ cls := "CaptainClaims", name := "puzzle", desc := "()LCaptainClaims$Puzzle;" } : Jvm.MethodName)) ∈ lw_all := lw_g (lw_at lw_m6 158 rfl) rfl
theorem q_w1471 : (Jvm.Cond.code ({ cls := "CaptainClaims", name := "puzzle", desc := "()LCaptainClaims$Puzzle;" } : Jvm.MethodName) prog_1_method_14_code (1 : Nat) (Option.some (Jvm.ClassFile.FieldType.object "CaptainClaims$Puzzle"))) ∈ lw_all := lw_g (lw_at lw_m6 159 rfl) rfl
theorem q_w1472 : (Jvm.Cond.classLink "CaptainClaims" (117 : Nat) "java/lang/IllegalStateException") ∈ lw_all := lw_g (lw_at lw_m6 160 rfl) rfl
theorem q_w1474 : (Jvm.Cond.castable "java/lang/IllegalStateException" "java/lang/IllegalStateException") ∈ lw_tbl := lw_at lw_m6 162 rfl
theorem q_w1487 : (Jvm.Cond.methodLink "CaptainClaimsLaw" (232 : Nat) ({ cls := "CaptainClaimsLaw", name := "columns", desc := "(LCaptainClaims;[J)I" } : Jvm.MethodName)) ∈ lw_all := lw_g (lw_at lw_m6 175 rfl) rfl
theorem q_w1488 : (Jvm.Cond.static ({ cls := "CaptainClaimsLaw", name := "columns", desc := "(LCaptainClaims;[J)I" } : Jvm.MethodName)) ∈ lw_all := lw_g (lw_at lw_m6 176 rfl) rfl
theorem q_w1489 : (Jvm.Cond.codeWith ({ cls := "CaptainClaimsLaw", name := "columns", desc := "(LCaptainClaims;[J)I" } : Jvm.MethodName) method_5_code (3 : Nat) (Option.some Jvm.ClassFile.FieldType.int) [((0 : Nat), (8 : Nat), (11 : Nat), (21 : Nat))]) ∈ lw_all := lw_g (lw_at lw_m6 177 rfl) rfl
theorem q_w1490 : (Jvm.Cond.methodLink "CaptainClaimsLaw" (23 : Nat) ({ cls := "CaptainClaims", name := "columns", desc := "()I" } : Jvm.MethodName)) ∈ lw_all := lw_g (lw_at lw_m6 178 rfl) rfl
theorem q_w1491 : (Jvm.Cond.instanceMethod ({ cls := "CaptainClaims", name := "columns", desc := "()I" } : Jvm.MethodName)) ∈ lw_all := lw_g (lw_at lw_m6 179 rfl) rfl
theorem q_w1492 : (Jvm.Cond.selects "CaptainClaims" ({ cls := "CaptainClaims", name := "columns", desc := "()I" } : Jvm.MethodName) ({ cls := "CaptainClaims", name := "columns", desc := "()I" } : Jvm.MethodName)) ∈ lw_all := lw_g (lw_at lw_m6 180 rfl) rfl
theorem q_w1493 : (Jvm.Cond.code ({ cls := "CaptainClaims", name := "columns", desc := "()I" } : Jvm.MethodName) prog_1_method_19_code (1 : Nat) (Option.some Jvm.ClassFile.FieldType.int)) ∈ lw_all := lw_g (lw_at lw_m6 181 rfl) rfl
theorem q_w1494 : (Jvm.Cond.methodLink "CaptainClaimsLaw" (235 : Nat) ({ cls := "CaptainClaimsLaw", name := "pieceCount", desc := "(LCaptainClaims;[J)I" } : Jvm.MethodName)) ∈ lw_all := lw_g (lw_at lw_m6 182 rfl) rfl
theorem q_w1495 : (Jvm.Cond.static ({ cls := "CaptainClaimsLaw", name := "pieceCount", desc := "(LCaptainClaims;[J)I" } : Jvm.MethodName)) ∈ lw_all := lw_g (lw_at lw_m6 183 rfl) rfl
theorem q_w1496 : (Jvm.Cond.codeWith ({ cls := "CaptainClaimsLaw", name := "pieceCount", desc := "(LCaptainClaims;[J)I" } : Jvm.MethodName) method_6_code (3 : Nat) (Option.some Jvm.ClassFile.FieldType.int) [((0 : Nat), (8 : Nat), (11 : Nat), (21 : Nat))]) ∈ lw_all := lw_g (lw_at lw_m6 184 rfl) rfl
theorem q_w1497 : (Jvm.Cond.methodLink "CaptainClaimsLaw" (26 : Nat) ({ cls := "CaptainClaims", name := "pieceCount", desc := "()I" } : Jvm.MethodName)) ∈ lw_all := lw_g (lw_at lw_m6 185 rfl) rfl
theorem q_w1498 : (Jvm.Cond.instanceMethod ({ cls := "CaptainClaims", name := "pieceCount", desc := "()I" } : Jvm.MethodName)) ∈ lw_all := lw_g (lw_at lw_m6 186 rfl) rfl
theorem q_w1499 : (Jvm.Cond.selects "CaptainClaims" ({ cls := "CaptainClaims", name := "pieceCount", desc := "()I" } : Jvm.MethodName) ({ cls := "CaptainClaims", name := "pieceCount", desc := "()I" } : Jvm.MethodName)) ∈ lw_all := lw_g (lw_at lw_m6 187 rfl) rfl
theorem q_w1500 : (Jvm.Cond.code ({ cls := "CaptainClaims", name := "pieceCount", desc := "()I" } : Jvm.MethodName) prog_1_method_20_code (1 : Nat) (Option.some Jvm.ClassFile.FieldType.int)) ∈ lw_all := lw_g (lw_at lw_m6 188 rfl) rfl
theorem q_w1501 : (Jvm.Cond.methodLink "CaptainClaimsLaw" (238 : Nat) ({ cls := "CaptainClaimsLaw", name := "isLand", desc := "(LCaptainClaims;II[J)I" } : Jvm.MethodName)) ∈ lw_all := lw_g (lw_at lw_m6 189 rfl) rfl
theorem q_w1502 : (Jvm.Cond.static ({ cls := "CaptainClaimsLaw", name := "isLand", desc := "(LCaptainClaims;II[J)I" } : Jvm.MethodName)) ∈ lw_all := lw_g (lw_at lw_m6 190 rfl) rfl
theorem q_w1503 : (Jvm.Cond.codeWith ({ cls := "CaptainClaimsLaw", name := "isLand", desc := "(LCaptainClaims;II[J)I" } : Jvm.MethodName) method_7_code (5 : Nat) (Option.some Jvm.ClassFile.FieldType.int) [((0 : Nat), (17 : Nat), (20 : Nat), (21 : Nat)), ((0 : Nat), (17 : Nat), (24 : Nat), (13 : Nat))]) ∈ lw_all := lw_g (lw_at lw_m6 191 rfl) rfl
theorem q_w1504 : (Jvm.Cond.methodLink "CaptainClaimsLaw" (29 : Nat) ({ cls := "CaptainClaims", name := "isLand", desc := "(II)Z" } : Jvm.MethodName)) ∈ lw_all := lw_g (lw_at lw_m6 192 rfl) rfl
theorem q_w1505 : (Jvm.Cond.instanceMethod ({ cls := "CaptainClaims", name := "isLand", desc := "(II)Z" } : Jvm.MethodName)) ∈ lw_all := lw_g (lw_at lw_m6 193 rfl) rfl
theorem q_w1506 : (Jvm.Cond.selects "CaptainClaims" ({ cls := "CaptainClaims", name := "isLand", desc := "(II)Z" } : Jvm.MethodName) ({ cls := "CaptainClaims", name := "isLand", desc := "(II)Z" } : Jvm.MethodName)) ∈ lw_all := lw_g (lw_at lw_m6 194 rfl) rfl
theorem q_w1507 : (Jvm.Cond.code ({ cls := "CaptainClaims", name := "isLand", desc := "(II)Z" } : Jvm.MethodName) prog_1_method_21_code (4 : Nat) (Option.some Jvm.ClassFile.FieldType.boolean)) ∈ lw_all := lw_g (lw_at lw_m6 195 rfl) rfl
theorem q_w1508 : (Jvm.Cond.methodLink "CaptainClaims" (136 : Nat) ({ cls := "CaptainClaims", name := "puzzleWith", desc := "(II)LCaptainClaims$Puzzle;" } : Jvm.MethodName)) ∈ lw_all := lw_g (lw_at lw_m6 196 rfl) rfl
theorem q_w1510 : (Jvm.Cond.instanceMethod ({ cls := "CaptainClaims", name := "puzzleWith", desc := "(II)LCaptainClaims$Puzzle;" } : Jvm.MethodName)) ∈ lw_all := lw_g (lw_at lw_m6 198 rfl) rfl
theorem q_w1511 : (Jvm.Cond.code ({ cls := "CaptainClaims", name := "puzzleWith", desc := "(II)LCaptainClaims$Puzzle;" } : Jvm.MethodName) prog_1_method_15_code (4 : Nat) (Option.some (Jvm.ClassFile.FieldType.object "CaptainClaims$Puzzle"))) ∈ lw_all := lw_g (lw_at lw_m6 199 rfl) rfl
theorem q_w1512 : (Jvm.Cond.methodLink "CaptainClaims" (140 : Nat) ({ cls := "CaptainClaims$Puzzle", name := "cell", desc := "(II)I" } : Jvm.MethodName)) ∈ lw_all := lw_g (lw_at lw_m6 200 rfl) rfl
theorem q_w1513 : (Jvm.Cond.methodLink "CaptainClaims" (144 : Nat) ({ cls := "CaptainClaims$Puzzle", name := "isLand", desc := "(I)Z" } : Jvm.MethodName)) ∈ lw_all := lw_g (lw_at lw_m6 201 rfl) rfl
theorem q_w1514 : (Jvm.Cond.methodLink "CaptainClaimsLaw" (242 : Nat) ({ cls := "CaptainClaimsLaw", name := "isSea", desc := "(LCaptainClaims;II[J)I" } : Jvm.MethodName)) ∈ lw_all := lw_g (lw_at lw_m6 202 rfl) rfl
theorem q_w1515 : (Jvm.Cond.static ({ cls := "CaptainClaimsLaw", name := "isSea", desc := "(LCaptainClaims;II[J)I" } : Jvm.MethodName)) ∈ lw_all := lw_g (lw_at lw_m6 203 rfl) rfl
theorem q_w1516 : (Jvm.Cond.codeWith ({ cls := "CaptainClaimsLaw", name := "isSea", desc := "(LCaptainClaims;II[J)I" } : Jvm.MethodName) method_8_code (5 : Nat) (Option.some Jvm.ClassFile.FieldType.int) [((0 : Nat), (17 : Nat), (20 : Nat), (21 : Nat)), ((0 : Nat), (17 : Nat), (24 : Nat), (13 : Nat))]) ∈ lw_all := lw_g (lw_at lw_m6 204 rfl) rfl
theorem q_w1517 : (Jvm.Cond.methodLink "CaptainClaimsLaw" (33 : Nat) ({ cls := "CaptainClaims", name := "isSea", desc := "(II)Z" } : Jvm.MethodName)) ∈ lw_all := lw_g (lw_at lw_m6 205 rfl) rfl
theorem q_w1518 : (Jvm.Cond.instanceMethod ({ cls := "CaptainClaims", name := "isSea", desc := "(II)Z" } : Jvm.MethodName)) ∈ lw_all := lw_g (lw_at lw_m6 206 rfl) rfl
theorem q_w1519 : (Jvm.Cond.selects "CaptainClaims" ({ cls := "CaptainClaims", name := "isSea", desc := "(II)Z" } : Jvm.MethodName) ({ cls := "CaptainClaims", name := "isSea", desc := "(II)Z" } : Jvm.MethodName)) ∈ lw_all := lw_g (lw_at lw_m6 207 rfl) rfl
theorem q_w1520 : (Jvm.Cond.code ({ cls := "CaptainClaims", name := "isSea", desc := "(II)Z" } : Jvm.MethodName) prog_1_method_22_code (4 : Nat) (Option.some Jvm.ClassFile.FieldType.boolean)) ∈ lw_all := lw_g (lw_at lw_m6 208 rfl) rfl
theorem q_w1521 : (Jvm.Cond.fieldLink "CaptainClaims" (152 : Nat) "CaptainClaims$Mark" "SEA" "LCaptainClaims$Mark;") ∈ lw_all := lw_g (lw_at lw_m6 209 rfl) rfl
theorem q_w1522 : (Jvm.Cond.methodLink "CaptainClaimsLaw" (245 : Nat) ({ cls := "CaptainClaimsLaw", name := "isCoast", desc := "(LCaptainClaims;II[J)I" } : Jvm.MethodName)) ∈ lw_all := lw_g (lw_at lw_m6 210 rfl) rfl
theorem q_w1523 : (Jvm.Cond.static ({ cls := "CaptainClaimsLaw", name := "isCoast", desc := "(LCaptainClaims;II[J)I" } : Jvm.MethodName)) ∈ lw_all := lw_g (lw_at lw_m6 211 rfl) rfl
theorem q_w1524 : (Jvm.Cond.codeWith ({ cls := "CaptainClaimsLaw", name := "isCoast", desc := "(LCaptainClaims;II[J)I" } : Jvm.MethodName) method_9_code (5 : Nat) (Option.some Jvm.ClassFile.FieldType.int) [((0 : Nat), (17 : Nat), (20 : Nat), (21 : Nat)), ((0 : Nat), (17 : Nat), (24 : Nat), (13 : Nat))]) ∈ lw_all := lw_g (lw_at lw_m6 212 rfl) rfl
theorem q_w1525 : (Jvm.Cond.methodLink "CaptainClaimsLaw" (36 : Nat) ({ cls := "CaptainClaims", name := "isCoast", desc := "(II)Z" } : Jvm.MethodName)) ∈ lw_all := lw_g (lw_at lw_m6 213 rfl) rfl
theorem q_w1526 : (Jvm.Cond.instanceMethod ({ cls := "CaptainClaims", name := "isCoast", desc := "(II)Z" } : Jvm.MethodName)) ∈ lw_all := lw_g (lw_at lw_m6 214 rfl) rfl
theorem q_w1527 : (Jvm.Cond.selects "CaptainClaims" ({ cls := "CaptainClaims", name := "isCoast", desc := "(II)Z" } : Jvm.MethodName) ({ cls := "CaptainClaims", name := "isCoast", desc := "(II)Z" } : Jvm.MethodName)) ∈ lw_all := lw_g (lw_at lw_m6 215 rfl) rfl
theorem q_w1528 : (Jvm.Cond.code ({ cls := "CaptainClaims", name := "isCoast", desc := "(II)Z" } : Jvm.MethodName) prog_1_method_23_code (4 : Nat) (Option.some Jvm.ClassFile.FieldType.boolean)) ∈ lw_all := lw_g (lw_at lw_m6 216 rfl) rfl
theorem q_w1529 : (Jvm.Cond.methodLink "CaptainClaims" (158 : Nat) ({ cls := "CaptainClaims$Puzzle", name := "isCoast", desc := "(I)Z" } : Jvm.MethodName)) ∈ lw_all := lw_g (lw_at lw_m6 217 rfl) rfl
theorem q_w1530 : (Jvm.Cond.instanceMethod ({ cls := "CaptainClaims$Puzzle", name := "isCoast", desc := "(I)Z" } : Jvm.MethodName)) ∈ lw_all := lw_g (lw_at lw_m6 218 rfl) rfl
theorem q_w1531 : (Jvm.Cond.selects "CaptainClaims$Puzzle" ({ cls := "CaptainClaims$Puzzle", name := "isCoast", desc := "(I)Z" } : Jvm.MethodName) ({ cls := "CaptainClaims$Puzzle", name := "isCoast", desc := "(I)Z" } : Jvm.MethodName)) ∈ lw_all := lw_g (lw_at lw_m6 219 rfl) rfl
theorem q_w1532 : (Jvm.Cond.code ({ cls := "CaptainClaims$Puzzle", name := "isCoast", desc := "(I)Z" } : Jvm.MethodName) prog_19_method_7_code (4 : Nat) (Option.some Jvm.ClassFile.FieldType.boolean)) ∈ lw_all := lw_g (lw_at lw_m6 220 rfl) rfl
theorem q_w1533 : (Jvm.Cond.fieldLink "CaptainClaims$Puzzle" (126 : Nat) "CaptainClaims$Mark" "SEA" "LCaptainClaims$Mark;") ∈ lw_all := lw_g (lw_at lw_m6 221 rfl) rfl
theorem q_w1534 : (Jvm.Cond.methodLink "CaptainClaimsLaw" (248 : Nat) ({ cls := "CaptainClaimsLaw", name := "islandCount", desc := "(LCaptainClaims;[J)I" } : Jvm.MethodName)) ∈ lw_all := lw_g (lw_at lw_m6 222 rfl) rfl
theorem q_w1535 : (Jvm.Cond.static ({ cls := "CaptainClaimsLaw", name := "islandCount", desc := "(LCaptainClaims;[J)I" } : Jvm.MethodName)) ∈ lw_all := lw_g (lw_at lw_m6 223 rfl) rfl
theorem q_w1536 : (Jvm.Cond.codeWith ({ cls := "CaptainClaimsLaw", name := "islandCount", desc := "(LCaptainClaims;[J)I" } : Jvm.MethodName) method_10_code (3 : Nat) (Option.some Jvm.ClassFile.FieldType.int) [((0 : Nat), (8 : Nat), (11 : Nat), (21 : Nat))]) ∈ lw_all := lw_g (lw_at lw_m6 224 rfl) rfl
theorem q_w1537 : (Jvm.Cond.methodLink "CaptainClaimsLaw" (39 : Nat) ({ cls := "CaptainClaims", name := "islandCount", desc := "()I" } : Jvm.MethodName)) ∈ lw_all := lw_g (lw_at lw_m6 225 rfl) rfl
theorem q_w1538 : (Jvm.Cond.instanceMethod ({ cls := "CaptainClaims", name := "islandCount", desc := "()I" } : Jvm.MethodName)) ∈ lw_all := lw_g (lw_at lw_m6 226 rfl) rfl
theorem q_w1539 : (Jvm.Cond.selects "CaptainClaims" ({ cls := "CaptainClaims", name := "islandCount", desc := "()I" } : Jvm.MethodName) ({ cls := "CaptainClaims", name := "islandCount", desc := "()I" } : Jvm.MethodName)) ∈ lw_all := lw_g (lw_at lw_m6 227 rfl) rfl
theorem q_w1540 : (Jvm.Cond.code ({ cls := "CaptainClaims", name := "islandCount", desc := "()I" } : Jvm.MethodName) prog_1_method_24_code (1 : Nat) (Option.some Jvm.ClassFile.FieldType.int)) ∈ lw_all := lw_g (lw_at lw_m6 228 rfl) rfl
theorem q_w1541 : (Jvm.Cond.methodLink "CaptainClaimsLaw" (251 : Nat) ({ cls := "CaptainClaimsLaw", name := "islandOf", desc := "(LCaptainClaims;II[J)I" } : Jvm.MethodName)) ∈ lw_all := lw_g (lw_at lw_m6 229 rfl) rfl
theorem q_w1542 : (Jvm.Cond.static ({ cls := "CaptainClaimsLaw", name := "islandOf", desc := "(LCaptainClaims;II[J)I" } : Jvm.MethodName)) ∈ lw_all := lw_g (lw_at lw_m6 230 rfl) rfl
theorem q_w1543 : (Jvm.Cond.codeWith ({ cls := "CaptainClaimsLaw", name := "islandOf", desc := "(LCaptainClaims;II[J)I" } : Jvm.MethodName) method_11_code (5 : Nat) (Option.some Jvm.ClassFile.FieldType.int) [((0 : Nat), (10 : Nat), (13 : Nat), (21 : Nat)), ((0 : Nat), (10 : Nat), (17 : Nat), (13 : Nat))]) ∈ lw_all := lw_g (lw_at lw_m6 231 rfl) rfl
theorem q_w1544 : (Jvm.Cond.methodLink "CaptainClaimsLaw" (42 : Nat) ({ cls := "CaptainClaims", name := "islandOf", desc := "(II)I" } : Jvm.MethodName)) ∈ lw_all := lw_g (lw_at lw_m6 232 rfl) rfl
theorem q_w1545 : (Jvm.Cond.instanceMethod ({ cls := "CaptainClaims", name := "islandOf", desc := "(II)I" } : Jvm.MethodName)) ∈ lw_all := lw_g (lw_at lw_m6 233 rfl) rfl
theorem q_w1546 : (Jvm.Cond.selects "CaptainClaims" ({ cls := "CaptainClaims", name := "islandOf", desc := "(II)I" } : Jvm.MethodName) ({ cls := "CaptainClaims", name := "islandOf", desc := "(II)I" } : Jvm.MethodName)) ∈ lw_all := lw_g (lw_at lw_m6 234 rfl) rfl
theorem q_w1547 : (Jvm.Cond.code ({ cls := "CaptainClaims", name := "islandOf", desc := "(II)I" } : Jvm.MethodName) prog_1_method_25_code (4 : Nat) (Option.some Jvm.ClassFile.FieldType.int)) ∈ lw_all := lw_g (lw_at lw_m6 235 rfl) rfl
theorem q_w1548 : (Jvm.Cond.methodLink "CaptainClaimsLaw" (254 : Nat) ({ cls := "CaptainClaimsLaw", name := "islandSize", desc := "(LCaptainClaims;I[J)I" } : Jvm.MethodName)) ∈ lw_all := lw_g (lw_at lw_m6 236 rfl) rfl
theorem q_w1549 : (Jvm.Cond.static ({ cls := "CaptainClaimsLaw", name := "islandSize", desc := "(LCaptainClaims;I[J)I" } : Jvm.MethodName)) ∈ lw_all := lw_g (lw_at lw_m6 237 rfl) rfl
theorem q_w1550 : (Jvm.Cond.codeWith ({ cls := "CaptainClaimsLaw", name := "islandSize", desc := "(LCaptainClaims;I[J)I" } : Jvm.MethodName) method_12_code (4 : Nat) (Option.some Jvm.ClassFile.FieldType.int) [((0 : Nat), (9 : Nat), (12 : Nat), (21 : Nat)), ((0 : Nat), (9 : Nat), (15 : Nat), (13 : Nat))]) ∈ lw_all := lw_g (lw_at lw_m6 238 rfl) rfl
theorem q_w1551 : (Jvm.Cond.methodLink "CaptainClaimsLaw" (46 : Nat) ({ cls := "CaptainClaims", name := "islandSize", desc := "(I)I" } : Jvm.MethodName)) ∈ lw_all := lw_g (lw_at lw_m6 239 rfl) rfl
theorem q_w1552 : (Jvm.Cond.instanceMethod ({ cls := "CaptainClaims", name := "islandSize", desc := "(I)I" } : Jvm.MethodName)) ∈ lw_all := lw_g (lw_at lw_m7 0 rfl) rfl
theorem q_w1553 : (Jvm.Cond.selects "CaptainClaims" ({ cls := "CaptainClaims", name := "islandSize", desc := "(I)I" } : Jvm.MethodName) ({ cls := "CaptainClaims", name := "islandSize", desc := "(I)I" } : Jvm.MethodName)) ∈ lw_all := lw_g (lw_at lw_m7 1 rfl) rfl
theorem q_w1554 : (Jvm.Cond.code ({ cls := "CaptainClaims", name := "islandSize", desc := "(I)I" } : Jvm.MethodName) prog_1_method_26_code (3 : Nat) (Option.some Jvm.ClassFile.FieldType.int)) ∈ lw_all := lw_g (lw_at lw_m7 2 rfl) rfl
theorem q_w1555 : (Jvm.Cond.methodLink "CaptainClaimsLaw" (257 : Nat) ({ cls := "CaptainClaimsLaw", name := "largestIsland", desc := "(LCaptainClaims;[J)I" } : Jvm.MethodName)) ∈ lw_all := lw_g (lw_at lw_m7 3 rfl) rfl
theorem q_w1556 : (Jvm.Cond.static ({ cls := "CaptainClaimsLaw", name := "largestIsland", desc := "(LCaptainClaims;[J)I" } : Jvm.MethodName)) ∈ lw_all := lw_g (lw_at lw_m7 4 rfl) rfl
theorem q_w1557 : (Jvm.Cond.codeWith ({ cls := "CaptainClaimsLaw", name := "largestIsland", desc := "(LCaptainClaims;[J)I" } : Jvm.MethodName) method_13_code (3 : Nat) (Option.some Jvm.ClassFile.FieldType.int) [((0 : Nat), (8 : Nat), (11 : Nat), (21 : Nat))]) ∈ lw_all := lw_g (lw_at lw_m7 5 rfl) rfl
theorem q_w1558 : (Jvm.Cond.methodLink "CaptainClaimsLaw" (49 : Nat) ({ cls := "CaptainClaims", name := "largestIsland", desc := "()I" } : Jvm.MethodName)) ∈ lw_all := lw_g (lw_at lw_m7 6 rfl) rfl
theorem q_w1559 : (Jvm.Cond.instanceMethod ({ cls := "CaptainClaims", name := "largestIsland", desc := "()I" } : Jvm.MethodName)) ∈ lw_all := lw_g (lw_at lw_m7 7 rfl) rfl
theorem q_w1560 : (Jvm.Cond.selects "CaptainClaims" ({ cls := "CaptainClaims", name := "largestIsland", desc := "()I" } : Jvm.MethodName) ({ cls := "CaptainClaims", name := "largestIsland", desc := "()I" } : Jvm.MethodName)) ∈ lw_all := lw_g (lw_at lw_m7 8 rfl) rfl
theorem q_w1561 : (Jvm.Cond.code ({ cls := "CaptainClaims", name := "largestIsland", desc := "()I" } : Jvm.MethodName) prog_1_method_27_code (4 : Nat) (Option.some Jvm.ClassFile.FieldType.int)) ∈ lw_all := lw_g (lw_at lw_m7 9 rfl) rfl
theorem q_w1562 : (Jvm.Cond.classLink "CaptainClaims" (171 : Nat) "java/util/ArrayList") ∈ lw_all := lw_g (lw_at lw_m7 10 rfl) rfl
theorem q_w1563 : (Jvm.Cond.methodLink "CaptainClaims" (173 : Nat) ({ cls := "java/util/ArrayList", name := "<init>", desc := "(I)V" } : Jvm.MethodName)) ∈ lw_all := lw_g (lw_at lw_m7 11 rfl) rfl
theorem q_w1564 : (Jvm.Cond.methodLink "CaptainClaims" (174 : Nat) ({ cls := "java/lang/Integer", name := "valueOf", desc := "(I)Ljava/lang/Integer;" } : Jvm.MethodName)) ∈ lw_all := lw_g (lw_at lw_m7 12 rfl) rfl
theorem q_w1565 : (Jvm.Cond.static ({ cls := "java/lang/Integer", name := "valueOf", desc := "(I)Ljava/lang/Integer;" } : Jvm.MethodName)) ∈ lw_all := lw_g (lw_at lw_m7 13 rfl) rfl
theorem q_w1566 : (Jvm.Cond.code ({ cls := "java/lang/Integer", name := "valueOf", desc := "(I)Ljava/lang/Integer;" } : Jvm.MethodName) prog_41_method_22_code (1 : Nat) (Option.some (Jvm.ClassFile.FieldType.object "java/lang/Integer"))) ∈ lw_all := lw_g (lw_at lw_m7 14 rfl) rfl
theorem q_w1567 : (Jvm.Cond.fieldLink "java/lang/Integer" (191 : Nat) "java/lang/Integer$IntegerCache" "high" "I") ∈ lw_all := lw_g (lw_at lw_m7 15 rfl) rfl
theorem q_w1569 : (Jvm.Cond.fieldLink "java/lang/Integer" (195 : Nat) "java/lang/Integer$IntegerCache" "cache" "[Ljava/lang/Integer;") ∈ lw_all := lw_g (lw_at lw_m7 17 rfl) rfl
theorem q_w1571 : (Jvm.Cond.classLink "java/lang/Integer" (1 : Nat) "java/lang/Integer") ∈ lw_all := lw_g (lw_at lw_m7 19 rfl) rfl
theorem q_w1572 : (Jvm.Cond.instantiable "java/lang/Integer" (1 : Nat)) ∈ lw_all := lw_g (lw_at lw_m7 20 rfl) rfl
theorem q_w1573 : (Jvm.Cond.methodLink "java/lang/Integer" (199 : Nat) ({ cls := "java/lang/Integer", name := "<init>", desc := "(I)V" } : Jvm.MethodName)) ∈ lw_all := lw_g (lw_at lw_m7 21 rfl) rfl
theorem q_w1574 : (Jvm.Cond.instanceMethod ({ cls := "java/lang/Integer", name := "<init>", desc := "(I)V" } : Jvm.MethodName)) ∈ lw_all := lw_g (lw_at lw_m7 22 rfl) rfl
theorem q_w1575 : (Jvm.Cond.code ({ cls := "java/lang/Integer", name := "<init>", desc := "(I)V" } : Jvm.MethodName) prog_41_method_23_code (2 : Nat) (Option.none : Option Jvm.ClassFile.FieldType)) ∈ lw_all := lw_g (lw_at lw_m7 23 rfl) rfl
theorem q_w1576 : (Jvm.Cond.methodLink "java/lang/Integer" (202 : Nat) ({ cls := "java/lang/Number", name := "<init>", desc := "()V" } : Jvm.MethodName)) ∈ lw_all := lw_g (lw_at lw_m7 24 rfl) rfl
theorem q_w1577 : (Jvm.Cond.instanceMethod ({ cls := "java/lang/Number", name := "<init>", desc := "()V" } : Jvm.MethodName)) ∈ lw_all := lw_g (lw_at lw_m7 25 rfl) rfl
theorem q_w1578 : (Jvm.Cond.code ({ cls := "java/lang/Number", name := "<init>", desc := "()V" } : Jvm.MethodName) prog_46_method_1_code (1 : Nat) (Option.none : Option Jvm.ClassFile.FieldType)) ∈ lw_all := lw_g (lw_at lw_m7 26 rfl) rfl
theorem q_w1579 : (Jvm.Cond.methodLink "java/lang/Number" (1 : Nat) ({ cls := "java/lang/Object", name := "<init>", desc := "()V" } : Jvm.MethodName)) ∈ lw_all := lw_g (lw_at lw_m7 27 rfl) rfl
theorem q_w1580 : (Jvm.Cond.fieldLink "java/lang/Integer" (205 : Nat) "java/lang/Integer" "value" "I") ∈ lw_all := lw_g (lw_at lw_m7 28 rfl) rfl
theorem q_w1585 : (Jvm.Cond.methodLink "CaptainClaims" (180 : Nat) ({ cls := "java/util/List", name := "add", desc := "(Ljava/lang/Object;)Z" } : Jvm.MethodName)) ∈ lw_all := lw_g (lw_at lw_m7 33 rfl) rfl
theorem q_w1586 : (Jvm.Cond.methodLink "CaptainClaims" (184 : Nat) ({ cls := "CaptainClaims", name := "greatest", desc := "(Ljava/util/List;)I" } : Jvm.MethodName)) ∈ lw_all := lw_g (lw_at lw_m7 34 rfl) rfl
theorem q_w1587 : (Jvm.Cond.static ({ cls := "CaptainClaims", name := "greatest", desc := "(Ljava/util/List;)I" } : Jvm.MethodName)) ∈ lw_all := lw_g (lw_at lw_m7 35 rfl) rfl
theorem q_w1588 : (Jvm.Cond.code ({ cls := "CaptainClaims", name := "greatest", desc := "(Ljava/util/List;)I" } : Jvm.MethodName) prog_1_method_4_code (3 : Nat) (Option.some Jvm.ClassFile.FieldType.int)) ∈ lw_all := lw_g (lw_at lw_m7 36 rfl) rfl
theorem q_w1590 : (Jvm.Cond.methodLink "CaptainClaims" (3 : Nat) ({ cls := "java/util/List", name := "size", desc := "()I" } : Jvm.MethodName)) ∈ lw_all := lw_g (lw_at lw_m7 38 rfl) rfl
theorem q_w1592 : (Jvm.Cond.methodLink "CaptainClaims" (9 : Nat) ({ cls := "java/util/List", name := "get", desc := "(I)Ljava/lang/Object;" } : Jvm.MethodName)) ∈ lw_all := lw_g (lw_at lw_m7 40 rfl) rfl
theorem q_w1593 : (Jvm.Cond.classLink "CaptainClaims" (13 : Nat) "java/lang/Comparable") ∈ lw_all := lw_g (lw_at lw_m7 41 rfl) rfl
theorem q_w1595 : (Jvm.Cond.methodLink "CaptainClaims" (15 : Nat) ({ cls := "java/lang/Comparable", name := "compareTo", desc := "(Ljava/lang/Object;)I" } : Jvm.MethodName)) ∈ lw_all := lw_g (lw_at lw_m7 43 rfl) rfl
theorem q_w1596 : (Jvm.Cond.interfaceMethod "java/lang/Comparable" "java/lang/Comparable" "compareTo" "(Ljava/lang/Object;)I") ∈ lw_tbl := lw_at lw_m7 44 rfl
theorem q_w1597 : (Jvm.Cond.declares ({ cls := "java/lang/Comparable", name := "compareTo", desc := "(Ljava/lang/Object;)I" } : Jvm.MethodName)) ∈ lw_tbl := lw_at lw_m7 45 rfl
theorem q_w1598 : (Jvm.Cond.castable "CaptainClaims$Declaration" "java/lang/Comparable") ∈ lw_tbl := lw_at lw_m7 46 rfl
theorem q_w1620 : (Jvm.Cond.castable "CaptainClaims$Mark" "java/lang/Comparable") ∈ lw_tbl := lw_at lw_m7 68 rfl
theorem q_w1623 : (Jvm.Cond.castable "CaptainClaims$Token" "java/lang/Comparable") ∈ lw_tbl := lw_at lw_m7 71 rfl
theorem q_w1626 : (Jvm.Cond.castable "java/lang/Integer" "java/lang/Comparable") ∈ lw_tbl := lw_at lw_m7 74 rfl
theorem q_w1627 : (Jvm.Cond.selects "java/lang/Integer" ({ cls := "java/lang/Comparable", name := "compareTo", desc := "(Ljava/lang/Object;)I" } : Jvm.MethodName) ({ cls := "java/lang/Integer", name := "compareTo", desc := "(Ljava/lang/Object;)I" } : Jvm.MethodName)) ∈ lw_all := lw_g (lw_at lw_m7 75 rfl) rfl
theorem q_w1628 : (Jvm.Cond.unhidden "java/lang/Integer" "compareTo" "(Ljava/lang/Object;)I") ∈ lw_tbl := lw_at lw_m7 76 rfl
theorem q_w1629 : (Jvm.Cond.instanceMethod ({ cls := "java/lang/Integer", name := "compareTo", desc := "(Ljava/lang/Object;)I" } : Jvm.MethodName)) ∈ lw_all := lw_g (lw_at lw_m7 77 rfl) rfl
theorem q_w1630 : (Jvm.Cond.publicMethod ({ cls := "java/lang/Integer", name := "compareTo", desc := "(Ljava/lang/Object;)I" } : Jvm.MethodName)) ∈ lw_tbl := lw_at lw_m7 78 rfl
theorem q_w1631 : (Jvm.Cond.code ({ cls := "java/lang/Integer", name := "compareTo", desc := "(Ljava/lang/Object;)I" } : Jvm.MethodName) prog_41_method_63_code (2 : Nat) (Option.some Jvm.ClassFile.FieldType.int)) ∈ lw_all := lw_g (lw_at lw_m7 79 rfl) rfl
theorem q_w1632 : (Jvm.Cond.methodLink "java/lang/Integer" (284 : Nat) ({ cls := "java/lang/Integer", name := "compareTo", desc := "(Ljava/lang/Integer;)I" } : Jvm.MethodName)) ∈ lw_all := lw_g (lw_at lw_m7 80 rfl) rfl
theorem q_w1633 : (Jvm.Cond.instanceMethod ({ cls := "java/lang/Integer", name := "compareTo", desc := "(Ljava/lang/Integer;)I" } : Jvm.MethodName)) ∈ lw_all := lw_g (lw_at lw_m7 81 rfl) rfl
theorem q_w1634 : (Jvm.Cond.selects "java/lang/Integer" ({ cls := "java/lang/Integer", name := "compareTo", desc := "(Ljava/lang/Integer;)I" } : Jvm.MethodName) ({ cls := "java/lang/Integer", name := "compareTo", desc := "(Ljava/lang/Integer;)I" } : Jvm.MethodName)) ∈ lw_all := lw_g (lw_at lw_m7 82 rfl) rfl
theorem q_w1635 : (Jvm.Cond.code ({ cls := "java/lang/Integer", name := "compareTo", desc := "(Ljava/lang/Integer;)I" } : Jvm.MethodName) prog_41_method_39_code (2 : Nat) (Option.some Jvm.ClassFile.FieldType.int)) ∈ lw_all := lw_g (lw_at lw_m7 83 rfl) rfl
theorem q_w1636 : (Jvm.Cond.methodLink "java/lang/Integer" (259 : Nat) ({ cls := "java/lang/Integer", name := "compare", desc := "(II)I" } : Jvm.MethodName)) ∈ lw_all := lw_g (lw_at lw_m7 84 rfl) rfl
theorem q_w1637 : (Jvm.Cond.static ({ cls := "java/lang/Integer", name := "compare", desc := "(II)I" } : Jvm.MethodName)) ∈ lw_all := lw_g (lw_at lw_m7 85 rfl) rfl
theorem q_w1638 : (Jvm.Cond.code ({ cls := "java/lang/Integer", name := "compare", desc := "(II)I" } : Jvm.MethodName) prog_41_method_40_code (2 : Nat) (Option.some Jvm.ClassFile.FieldType.int)) ∈ lw_all := lw_g (lw_at lw_m7 86 rfl) rfl
theorem q_w1639 : (Jvm.Cond.castable "java/lang/String" "java/lang/Comparable") ∈ lw_tbl := lw_at lw_m7 87 rfl
theorem q_w1785 : (Jvm.Cond.castable "java/lang/StringBuilder" "java/lang/Comparable") ∈ lw_tbl := lw_at lw_m7 233 rfl
theorem q_w1817 : (Jvm.Cond.methodLink "CaptainClaimsLaw" (260 : Nat) ({ cls := "CaptainClaimsLaw", name := "captainCount", desc := "(LCaptainClaims;[J)I" } : Jvm.MethodName)) ∈ lw_all := lw_g (lw_at lw_m8 25 rfl) rfl
theorem q_w1818 : (Jvm.Cond.static ({ cls := "CaptainClaimsLaw", name := "captainCount", desc := "(LCaptainClaims;[J)I" } : Jvm.MethodName)) ∈ lw_all := lw_g (lw_at lw_m8 26 rfl) rfl
theorem q_w1819 : (Jvm.Cond.codeWith ({ cls := "CaptainClaimsLaw", name := "captainCount", desc := "(LCaptainClaims;[J)I" } : Jvm.MethodName) method_14_code (3 : Nat) (Option.some Jvm.ClassFile.FieldType.int) [((0 : Nat), (8 : Nat), (11 : Nat), (21 : Nat))]) ∈ lw_all := lw_g (lw_at lw_m8 27 rfl) rfl
theorem q_w1820 : (Jvm.Cond.methodLink "CaptainClaimsLaw" (52 : Nat) ({ cls := "CaptainClaims", name := "captainCount", desc := "()I" } : Jvm.MethodName)) ∈ lw_all := lw_g (lw_at lw_m8 28 rfl) rfl
theorem q_w1821 : (Jvm.Cond.instanceMethod ({ cls := "CaptainClaims", name := "captainCount", desc := "()I" } : Jvm.MethodName)) ∈ lw_all := lw_g (lw_at lw_m8 29 rfl) rfl
theorem q_w1822 : (Jvm.Cond.selects "CaptainClaims" ({ cls := "CaptainClaims", name := "captainCount", desc := "()I" } : Jvm.MethodName) ({ cls := "CaptainClaims", name := "captainCount", desc := "()I" } : Jvm.MethodName)) ∈ lw_all := lw_g (lw_at lw_m8 30 rfl) rfl
theorem q_w1823 : (Jvm.Cond.code ({ cls := "CaptainClaims", name := "captainCount", desc := "()I" } : Jvm.MethodName) prog_1_method_28_code (1 : Nat) (Option.some Jvm.ClassFile.FieldType.int)) ∈ lw_all := lw_g (lw_at lw_m8 31 rfl) rfl
theorem q_w1824 : (Jvm.Cond.methodLink "CaptainClaimsLaw" (263 : Nat) ({ cls := "CaptainClaimsLaw", name := "nameLetter", desc := "(LCaptainClaims;II[J)I" } : Jvm.MethodName)) ∈ lw_all := lw_g (lw_at lw_m8 32 rfl) rfl
theorem q_w1825 : (Jvm.Cond.static ({ cls := "CaptainClaimsLaw", name := "nameLetter", desc := "(LCaptainClaims;II[J)I" } : Jvm.MethodName)) ∈ lw_all := lw_g (lw_at lw_m8 33 rfl) rfl
theorem q_w1826 : (Jvm.Cond.codeWith ({ cls := "CaptainClaimsLaw", name := "nameLetter", desc := "(LCaptainClaims;II[J)I" } : Jvm.MethodName) method_15_code (5 : Nat) (Option.some Jvm.ClassFile.FieldType.int) [((0 : Nat), (10 : Nat), (13 : Nat), (21 : Nat)), ((0 : Nat), (10 : Nat), (17 : Nat), (13 : Nat))]) ∈ lw_all := lw_g (lw_at lw_m8 34 rfl) rfl
theorem q_w1827 : (Jvm.Cond.methodLink "CaptainClaimsLaw" (55 : Nat) ({ cls := "CaptainClaims", name := "nameLetter", desc := "(II)I" } : Jvm.MethodName)) ∈ lw_all := lw_g (lw_at lw_m8 35 rfl) rfl
theorem q_w1828 : (Jvm.Cond.instanceMethod ({ cls := "CaptainClaims", name := "nameLetter", desc := "(II)I" } : Jvm.MethodName)) ∈ lw_all := lw_g (lw_at lw_m8 36 rfl) rfl
theorem q_w1829 : (Jvm.Cond.selects "CaptainClaims" ({ cls := "CaptainClaims", name := "nameLetter", desc := "(II)I" } : Jvm.MethodName) ({ cls := "CaptainClaims", name := "nameLetter", desc := "(II)I" } : Jvm.MethodName)) ∈ lw_all := lw_g (lw_at lw_m8 37 rfl) rfl
theorem q_w1830 : (Jvm.Cond.code ({ cls := "CaptainClaims", name := "nameLetter", desc := "(II)I" } : Jvm.MethodName) prog_1_method_29_code (4 : Nat) (Option.some Jvm.ClassFile.FieldType.int)) ∈ lw_all := lw_g (lw_at lw_m8 38 rfl) rfl
theorem q_w1831 : (Jvm.Cond.methodLink "CaptainClaims" (188 : Nat) ({ cls := "CaptainClaims", name := "puzzleWithCaptain", desc := "(I)LCaptainClaims$Puzzle;" } : Jvm.MethodName)) ∈ lw_all := lw_g (lw_at lw_m8 39 rfl) rfl
theorem q_w1833 : (Jvm.Cond.instanceMethod ({ cls := "CaptainClaims", name := "puzzleWithCaptain", desc := "(I)LCaptainClaims$Puzzle;" } : Jvm.MethodName)) ∈ lw_all := lw_g (lw_at lw_m8 41 rfl) rfl
theorem q_w1834 : (Jvm.Cond.code ({ cls := "CaptainClaims", name := "puzzleWithCaptain", desc := "(I)LCaptainClaims$Puzzle;" } : Jvm.MethodName) prog_1_method_16_code (3 : Nat) (Option.some (Jvm.ClassFile.FieldType.object "CaptainClaims$Puzzle"))) ∈ lw_all := lw_g (lw_at lw_m8 42 rfl) rfl
theorem q_w1835 : (Jvm.Cond.methodLink "CaptainClaims" (192 : Nat) ({ cls := "CaptainClaims$Register", name := "get", desc := "(I)LCaptainClaims$Named;" } : Jvm.MethodName)) ∈ lw_all := lw_g (lw_at lw_m8 43 rfl) rfl
theorem q_w1836 : (Jvm.Cond.instanceMethod ({ cls := "CaptainClaims$Register", name := "get", desc := "(I)LCaptainClaims$Named;" } : Jvm.MethodName)) ∈ lw_all := lw_g (lw_at lw_m8 44 rfl) rfl
theorem q_w1837 : (Jvm.Cond.selects "CaptainClaims$Register" ({ cls := "CaptainClaims$Register", name := "get", desc := "(I)LCaptainClaims$Named;" } : Jvm.MethodName) ({ cls := "CaptainClaims$Register", name := "get", desc := "(I)LCaptainClaims$Named;" } : Jvm.MethodName)) ∈ lw_all := lw_g (lw_at lw_m8 45 rfl) rfl
theorem q_w1838 : (Jvm.Cond.code ({ cls := "CaptainClaims$Register", name := "get", desc := "(I)LCaptainClaims$Named;" } : Jvm.MethodName) prog_21_method_5_code (2 : Nat) (Option.some (Jvm.ClassFile.FieldType.object "CaptainClaims$Named"))) ∈ lw_all := lw_g (lw_at lw_m8 46 rfl) rfl
theorem q_w1839 : (Jvm.Cond.classLink "CaptainClaims" (195 : Nat) "CaptainClaims$Captain") ∈ lw_all := lw_g (lw_at lw_m8 47 rfl) rfl
theorem q_w1840 : (Jvm.Cond.methodLink "CaptainClaims" (197 : Nat) ({ cls := "CaptainClaims$Captain", name := "name", desc := "()Ljava/lang/String;" } : Jvm.MethodName)) ∈ lw_all := lw_g (lw_at lw_m8 48 rfl) rfl
theorem q_w1841 : (Jvm.Cond.methodLink "CaptainClaims" (201 : Nat) ({ cls := "java/lang/String", name := "length", desc := "()I" } : Jvm.MethodName)) ∈ lw_all := lw_g (lw_at lw_m8 49 rfl) rfl
theorem q_w1842 : (Jvm.Cond.methodLink "CaptainClaims" (206 : Nat) ({ cls := "java/lang/String", name := "charAt", desc := "(I)C" } : Jvm.MethodName)) ∈ lw_all := lw_g (lw_at lw_m8 50 rfl) rfl
theorem q_w1843 : (Jvm.Cond.instanceMethod ({ cls := "java/lang/String", name := "charAt", desc := "(I)C" } : Jvm.MethodName)) ∈ lw_all := lw_g (lw_at lw_m8 51 rfl) rfl
theorem q_w1844 : (Jvm.Cond.selects "java/lang/String" ({ cls := "java/lang/String", name := "charAt", desc := "(I)C" } : Jvm.MethodName) ({ cls := "java/lang/String", name := "charAt", desc := "(I)C" } : Jvm.MethodName)) ∈ lw_all := lw_g (lw_at lw_m8 52 rfl) rfl
theorem q_w1845 : (Jvm.Cond.code ({ cls := "java/lang/String", name := "charAt", desc := "(I)C" } : Jvm.MethodName) prog_48_method_56_code (2 : Nat) (Option.some Jvm.ClassFile.FieldType.char)) ∈ lw_all := lw_g (lw_at lw_m8 53 rfl) rfl
theorem q_w1846 : (Jvm.Cond.methodLink "java/lang/String" (495 : Nat) ({ cls := "java/lang/StringLatin1", name := "charAt", desc := "([BI)C" } : Jvm.MethodName)) ∈ lw_all := lw_g (lw_at lw_m8 54 rfl) rfl
theorem q_w1847 : (Jvm.Cond.static ({ cls := "java/lang/StringLatin1", name := "charAt", desc := "([BI)C" } : Jvm.MethodName)) ∈ lw_all := lw_g (lw_at lw_m8 55 rfl) rfl
theorem q_w1848 : (Jvm.Cond.code ({ cls := "java/lang/StringLatin1", name := "charAt", desc := "([BI)C" } : Jvm.MethodName) prog_50_method_2_code (2 : Nat) (Option.some Jvm.ClassFile.FieldType.char)) ∈ lw_all := lw_g (lw_at lw_m8 56 rfl) rfl
theorem q_w1849 : (Jvm.Cond.methodLink "java/lang/StringLatin1" (9 : Nat) ({ cls := "java/lang/String", name := "checkIndex", desc := "(II)V" } : Jvm.MethodName)) ∈ lw_all := lw_g (lw_at lw_m8 57 rfl) rfl
theorem q_w1853 : (Jvm.Cond.methodLink "CaptainClaimsLaw" (266 : Nat) ({ cls := "CaptainClaimsLaw", name := "lowerBound", desc := "(LCaptainClaims;[J)I" } : Jvm.MethodName)) ∈ lw_all := lw_g (lw_at lw_m8 61 rfl) rfl
theorem q_w1854 : (Jvm.Cond.static ({ cls := "CaptainClaimsLaw", name := "lowerBound", desc := "(LCaptainClaims;[J)I" } : Jvm.MethodName)) ∈ lw_all := lw_g (lw_at lw_m8 62 rfl) rfl
theorem q_w1855 : (Jvm.Cond.codeWith ({ cls := "CaptainClaimsLaw", name := "lowerBound", desc := "(LCaptainClaims;[J)I" } : Jvm.MethodName) method_16_code (3 : Nat) (Option.some Jvm.ClassFile.FieldType.int) [((0 : Nat), (8 : Nat), (11 : Nat), (21 : Nat))]) ∈ lw_all := lw_g (lw_at lw_m8 63 rfl) rfl
theorem q_w1856 : (Jvm.Cond.methodLink "CaptainClaimsLaw" (58 : Nat) ({ cls := "CaptainClaims", name := "lowerBound", desc := "()I" } : Jvm.MethodName)) ∈ lw_all := lw_g (lw_at lw_m8 64 rfl) rfl
theorem q_w1857 : (Jvm.Cond.instanceMethod ({ cls := "CaptainClaims", name := "lowerBound", desc := "()I" } : Jvm.MethodName)) ∈ lw_all := lw_g (lw_at lw_m8 65 rfl) rfl
theorem q_w1858 : (Jvm.Cond.selects "CaptainClaims" ({ cls := "CaptainClaims", name := "lowerBound", desc := "()I" } : Jvm.MethodName) ({ cls := "CaptainClaims", name := "lowerBound", desc := "()I" } : Jvm.MethodName)) ∈ lw_all := lw_g (lw_at lw_m8 66 rfl) rfl
theorem q_w1859 : (Jvm.Cond.code ({ cls := "CaptainClaims", name := "lowerBound", desc := "()I" } : Jvm.MethodName) prog_1_method_30_code (1 : Nat) (Option.some Jvm.ClassFile.FieldType.int)) ∈ lw_all := lw_g (lw_at lw_m8 67 rfl) rfl
theorem q_w1860 : (Jvm.Cond.methodLink "CaptainClaimsLaw" (269 : Nat) ({ cls := "CaptainClaimsLaw", name := "upperBound", desc := "(LCaptainClaims;[J)I" } : Jvm.MethodName)) ∈ lw_all := lw_g (lw_at lw_m8 68 rfl) rfl
theorem q_w1861 : (Jvm.Cond.static ({ cls := "CaptainClaimsLaw", name := "upperBound", desc := "(LCaptainClaims;[J)I" } : Jvm.MethodName)) ∈ lw_all := lw_g (lw_at lw_m8 69 rfl) rfl
theorem q_w1862 : (Jvm.Cond.codeWith ({ cls := "CaptainClaimsLaw", name := "upperBound", desc := "(LCaptainClaims;[J)I" } : Jvm.MethodName) method_17_code (3 : Nat) (Option.some Jvm.ClassFile.FieldType.int) [((0 : Nat), (8 : Nat), (11 : Nat), (21 : Nat))]) ∈ lw_all := lw_g (lw_at lw_m8 70 rfl) rfl
theorem q_w1863 : (Jvm.Cond.methodLink "CaptainClaimsLaw" (61 : Nat) ({ cls := "CaptainClaims", name := "upperBound", desc := "()I" } : Jvm.MethodName)) ∈ lw_all := lw_g (lw_at lw_m8 71 rfl) rfl
theorem q_w1864 : (Jvm.Cond.instanceMethod ({ cls := "CaptainClaims", name := "upperBound", desc := "()I" } : Jvm.MethodName)) ∈ lw_all := lw_g (lw_at lw_m8 72 rfl) rfl
theorem q_w1865 : (Jvm.Cond.selects "CaptainClaims" ({ cls := "CaptainClaims", name := "upperBound", desc := "()I" } : Jvm.MethodName) ({ cls := "CaptainClaims", name := "upperBound", desc := "()I" } : Jvm.MethodName)) ∈ lw_all := lw_g (lw_at lw_m8 73 rfl) rfl
theorem q_w1866 : (Jvm.Cond.code ({ cls := "CaptainClaims", name := "upperBound", desc := "()I" } : Jvm.MethodName) prog_1_method_31_code (1 : Nat) (Option.some Jvm.ClassFile.FieldType.int)) ∈ lw_all := lw_g (lw_at lw_m8 74 rfl) rfl
theorem q_w1867 : (Jvm.Cond.methodLink "CaptainClaimsLaw" (272 : Nat) ({ cls := "CaptainClaimsLaw", name := "isDeclaredTruthful", desc := "(LCaptainClaims;I[J)I" } : Jvm.MethodName)) ∈ lw_all := lw_g (lw_at lw_m8 75 rfl) rfl
theorem q_w1868 : (Jvm.Cond.static ({ cls := "CaptainClaimsLaw", name := "isDeclaredTruthful", desc := "(LCaptainClaims;I[J)I" } : Jvm.MethodName)) ∈ lw_all := lw_g (lw_at lw_m8 76 rfl) rfl
theorem q_w1869 : (Jvm.Cond.codeWith ({ cls := "CaptainClaimsLaw", name := "isDeclaredTruthful", desc := "(LCaptainClaims;I[J)I" } : Jvm.MethodName) method_18_code (4 : Nat) (Option.some Jvm.ClassFile.FieldType.int) [((0 : Nat), (16 : Nat), (19 : Nat), (21 : Nat)), ((0 : Nat), (16 : Nat), (22 : Nat), (13 : Nat))]) ∈ lw_all := lw_g (lw_at lw_m8 77 rfl) rfl
theorem q_w1870 : (Jvm.Cond.methodLink "CaptainClaimsLaw" (64 : Nat) ({ cls := "CaptainClaims", name := "isDeclaredTruthful", desc := "(I)Z" } : Jvm.MethodName)) ∈ lw_all := lw_g (lw_at lw_m8 78 rfl) rfl
theorem q_w1871 : (Jvm.Cond.instanceMethod ({ cls := "CaptainClaims", name := "isDeclaredTruthful", desc := "(I)Z" } : Jvm.MethodName)) ∈ lw_all := lw_g (lw_at lw_m8 79 rfl) rfl
theorem q_w1872 : (Jvm.Cond.selects "CaptainClaims" ({ cls := "CaptainClaims", name := "isDeclaredTruthful", desc := "(I)Z" } : Jvm.MethodName) ({ cls := "CaptainClaims", name := "isDeclaredTruthful", desc := "(I)Z" } : Jvm.MethodName)) ∈ lw_all := lw_g (lw_at lw_m8 80 rfl) rfl
theorem q_w1873 : (Jvm.Cond.code ({ cls := "CaptainClaims", name := "isDeclaredTruthful", desc := "(I)Z" } : Jvm.MethodName) prog_1_method_32_code (2 : Nat) (Option.some Jvm.ClassFile.FieldType.boolean)) ∈ lw_all := lw_g (lw_at lw_m8 81 rfl) rfl
theorem q_w1874 : (Jvm.Cond.fieldLink "CaptainClaims" (220 : Nat) "CaptainClaims$Declaration" "TRUTHFUL" "LCaptainClaims$Declaration;") ∈ lw_all := lw_g (lw_at lw_m8 82 rfl) rfl
theorem q_w1875 : (Jvm.Cond.methodLink "CaptainClaimsLaw" (275 : Nat) ({ cls := "CaptainClaimsLaw", name := "isDeclaredLiar", desc := "(LCaptainClaims;I[J)I" } : Jvm.MethodName)) ∈ lw_all := lw_g (lw_at lw_m8 83 rfl) rfl
theorem q_w1876 : (Jvm.Cond.static ({ cls := "CaptainClaimsLaw", name := "isDeclaredLiar", desc := "(LCaptainClaims;I[J)I" } : Jvm.MethodName)) ∈ lw_all := lw_g (lw_at lw_m8 84 rfl) rfl
theorem q_w1877 : (Jvm.Cond.codeWith ({ cls := "CaptainClaimsLaw", name := "isDeclaredLiar", desc := "(LCaptainClaims;I[J)I" } : Jvm.MethodName) method_19_code (4 : Nat) (Option.some Jvm.ClassFile.FieldType.int) [((0 : Nat), (16 : Nat), (19 : Nat), (21 : Nat)), ((0 : Nat), (16 : Nat), (22 : Nat), (13 : Nat))]) ∈ lw_all := lw_g (lw_at lw_m8 85 rfl) rfl
theorem q_w1878 : (Jvm.Cond.methodLink "CaptainClaimsLaw" (68 : Nat) ({ cls := "CaptainClaims", name := "isDeclaredLiar", desc := "(I)Z" } : Jvm.MethodName)) ∈ lw_all := lw_g (lw_at lw_m8 86 rfl) rfl
theorem q_w1879 : (Jvm.Cond.instanceMethod ({ cls := "CaptainClaims", name := "isDeclaredLiar", desc := "(I)Z" } : Jvm.MethodName)) ∈ lw_all := lw_g (lw_at lw_m8 87 rfl) rfl
theorem q_w1880 : (Jvm.Cond.selects "CaptainClaims" ({ cls := "CaptainClaims", name := "isDeclaredLiar", desc := "(I)Z" } : Jvm.MethodName) ({ cls := "CaptainClaims", name := "isDeclaredLiar", desc := "(I)Z" } : Jvm.MethodName)) ∈ lw_all := lw_g (lw_at lw_m8 88 rfl) rfl
theorem q_w1881 : (Jvm.Cond.code ({ cls := "CaptainClaims", name := "isDeclaredLiar", desc := "(I)Z" } : Jvm.MethodName) prog_1_method_33_code (2 : Nat) (Option.some Jvm.ClassFile.FieldType.boolean)) ∈ lw_all := lw_g (lw_at lw_m8 89 rfl) rfl
theorem q_w1882 : (Jvm.Cond.fieldLink "CaptainClaims" (226 : Nat) "CaptainClaims$Declaration" "LIAR" "LCaptainClaims$Declaration;") ∈ lw_all := lw_g (lw_at lw_m8 90 rfl) rfl
theorem q_w1883 : (Jvm.Cond.methodLink "CaptainClaimsLaw" (278 : Nat) ({ cls := "CaptainClaimsLaw", name := "statementCount", desc := "(LCaptainClaims;[J)I" } : Jvm.MethodName)) ∈ lw_all := lw_g (lw_at lw_m8 91 rfl) rfl
theorem q_w1884 : (Jvm.Cond.static ({ cls := "CaptainClaimsLaw", name := "statementCount", desc := "(LCaptainClaims;[J)I" } : Jvm.MethodName)) ∈ lw_all := lw_g (lw_at lw_m8 92 rfl) rfl
theorem q_w1885 : (Jvm.Cond.codeWith ({ cls := "CaptainClaimsLaw", name := "statementCount", desc := "(LCaptainClaims;[J)I" } : Jvm.MethodName) method_20_code (3 : Nat) (Option.some Jvm.ClassFile.FieldType.int) [((0 : Nat), (8 : Nat), (11 : Nat), (21 : Nat))]) ∈ lw_all := lw_g (lw_at lw_m8 93 rfl) rfl
theorem q_w1886 : (Jvm.Cond.methodLink "CaptainClaimsLaw" (71 : Nat) ({ cls := "CaptainClaims", name := "statementCount", desc := "()I" } : Jvm.MethodName)) ∈ lw_all := lw_g (lw_at lw_m8 94 rfl) rfl
theorem q_w1887 : (Jvm.Cond.instanceMethod ({ cls := "CaptainClaims", name := "statementCount", desc := "()I" } : Jvm.MethodName)) ∈ lw_all := lw_g (lw_at lw_m8 95 rfl) rfl
theorem q_w1888 : (Jvm.Cond.selects "CaptainClaims" ({ cls := "CaptainClaims", name := "statementCount", desc := "()I" } : Jvm.MethodName) ({ cls := "CaptainClaims", name := "statementCount", desc := "()I" } : Jvm.MethodName)) ∈ lw_all := lw_g (lw_at lw_m8 96 rfl) rfl
theorem q_w1889 : (Jvm.Cond.code ({ cls := "CaptainClaims", name := "statementCount", desc := "()I" } : Jvm.MethodName) prog_1_method_34_code (1 : Nat) (Option.some Jvm.ClassFile.FieldType.int)) ∈ lw_all := lw_g (lw_at lw_m8 97 rfl) rfl
theorem q_w1890 : (Jvm.Cond.methodLink "CaptainClaimsLaw" (281 : Nat) ({ cls := "CaptainClaimsLaw", name := "statementsOf", desc := "(LCaptainClaims;I[J)I" } : Jvm.MethodName)) ∈ lw_all := lw_g (lw_at lw_m8 98 rfl) rfl
theorem q_w1891 : (Jvm.Cond.static ({ cls := "CaptainClaimsLaw", name := "statementsOf", desc := "(LCaptainClaims;I[J)I" } : Jvm.MethodName)) ∈ lw_all := lw_g (lw_at lw_m8 99 rfl) rfl
theorem q_w1892 : (Jvm.Cond.codeWith ({ cls := "CaptainClaimsLaw", name := "statementsOf", desc := "(LCaptainClaims;I[J)I" } : Jvm.MethodName) method_21_code (4 : Nat) (Option.some Jvm.ClassFile.FieldType.int) [((0 : Nat), (9 : Nat), (12 : Nat), (21 : Nat)), ((0 : Nat), (9 : Nat), (15 : Nat), (13 : Nat))]) ∈ lw_all := lw_g (lw_at lw_m8 100 rfl) rfl
theorem q_w1893 : (Jvm.Cond.methodLink "CaptainClaimsLaw" (74 : Nat) ({ cls := "CaptainClaims", name := "statementsOf", desc := "(I)I" } : Jvm.MethodName)) ∈ lw_all := lw_g (lw_at lw_m8 101 rfl) rfl
theorem q_w1894 : (Jvm.Cond.instanceMethod ({ cls := "CaptainClaims", name := "statementsOf", desc := "(I)I" } : Jvm.MethodName)) ∈ lw_all := lw_g (lw_at lw_m8 102 rfl) rfl
theorem q_w1895 : (Jvm.Cond.selects "CaptainClaims" ({ cls := "CaptainClaims", name := "statementsOf", desc := "(I)I" } : Jvm.MethodName) ({ cls := "CaptainClaims", name := "statementsOf", desc := "(I)I" } : Jvm.MethodName)) ∈ lw_all := lw_g (lw_at lw_m8 103 rfl) rfl
theorem q_w1896 : (Jvm.Cond.code ({ cls := "CaptainClaims", name := "statementsOf", desc := "(I)I" } : Jvm.MethodName) prog_1_method_35_code (5 : Nat) (Option.some Jvm.ClassFile.FieldType.int)) ∈ lw_all := lw_g (lw_at lw_m8 104 rfl) rfl
theorem q_w1898 : (Jvm.Cond.methodLink "CaptainClaims" (229 : Nat) ({ cls := "java/util/List", name := "iterator", desc := "()Ljava/util/Iterator;" } : Jvm.MethodName)) ∈ lw_all := lw_g (lw_at lw_m8 106 rfl) rfl
theorem q_w1899 : (Jvm.Cond.interfaceMethod "java/util/List" "java/util/List" "iterator" "()Ljava/util/Iterator;") ∈ lw_tbl := lw_at lw_m8 107 rfl
theorem q_w1900 : (Jvm.Cond.declares ({ cls := "java/util/List", name := "iterator", desc := "()Ljava/util/Iterator;" } : Jvm.MethodName)) ∈ lw_tbl := lw_at lw_m8 108 rfl
theorem q_w1901 : (Jvm.Cond.selects "java/util/ArrayList" ({ cls := "java/util/List", name := "iterator", desc := "()Ljava/util/Iterator;" } : Jvm.MethodName) ({ cls := "java/util/ArrayList", name := "iterator", desc := "()Ljava/util/Iterator;" } : Jvm.MethodName)) ∈ lw_all := lw_g (lw_at lw_m8 109 rfl) rfl
theorem q_w1902 : (Jvm.Cond.unhidden "java/util/ArrayList" "iterator" "()Ljava/util/Iterator;") ∈ lw_tbl := lw_at lw_m8 110 rfl
theorem q_w1903 : (Jvm.Cond.instanceMethod ({ cls := "java/util/ArrayList", name := "iterator", desc := "()Ljava/util/Iterator;" } : Jvm.MethodName)) ∈ lw_all := lw_g (lw_at lw_m8 111 rfl) rfl
theorem q_w1904 : (Jvm.Cond.publicMethod ({ cls := "java/util/ArrayList", name := "iterator", desc := "()Ljava/util/Iterator;" } : Jvm.MethodName)) ∈ lw_tbl := lw_at lw_m8 112 rfl
theorem q_w1905 : (Jvm.Cond.code ({ cls := "java/util/ArrayList", name := "iterator", desc := "()Ljava/util/Iterator;" } : Jvm.MethodName) prog_60_method_55_code (1 : Nat) (Option.some (Jvm.ClassFile.FieldType.object "java/util/Iterator"))) ∈ lw_all := lw_g (lw_at lw_m8 113 rfl) rfl
theorem q_w1906 : (Jvm.Cond.classLink "java/util/ArrayList" (267 : Nat) "java/util/ArrayList$Itr") ∈ lw_all := lw_g (lw_at lw_m8 114 rfl) rfl
theorem q_w1907 : (Jvm.Cond.instantiable "java/util/ArrayList$Itr" (4 : Nat)) ∈ lw_all := lw_g (lw_at lw_m8 115 rfl) rfl
theorem q_w1908 : (Jvm.Cond.methodLink "java/util/ArrayList" (269 : Nat) ({ cls := "java/util/ArrayList$Itr", name := "<init>", desc := "(Ljava/util/ArrayList;)V" } : Jvm.MethodName)) ∈ lw_all := lw_g (lw_at lw_m8 116 rfl) rfl
theorem q_w1909 : (Jvm.Cond.instanceMethod ({ cls := "java/util/ArrayList$Itr", name := "<init>", desc := "(Ljava/util/ArrayList;)V" } : Jvm.MethodName)) ∈ lw_all := lw_g (lw_at lw_m8 117 rfl) rfl
theorem q_w1910 : (Jvm.Cond.code ({ cls := "java/util/ArrayList$Itr", name := "<init>", desc := "(Ljava/util/ArrayList;)V" } : Jvm.MethodName) prog_61_method_1_code (2 : Nat) (Option.none : Option Jvm.ClassFile.FieldType)) ∈ lw_all := lw_g (lw_at lw_m8 118 rfl) rfl
theorem q_w1911 : (Jvm.Cond.methodLink "java/util/ArrayList$Itr" (7 : Nat) ({ cls := "java/lang/Object", name := "<init>", desc := "()V" } : Jvm.MethodName)) ∈ lw_all := lw_g (lw_at lw_m8 119 rfl) rfl
theorem q_w1912 : (Jvm.Cond.fieldLink "java/util/ArrayList$Itr" (25 : Nat) "java/util/ArrayList$Itr" "cursor" "I") ∈ lw_all := lw_g (lw_at lw_m8 120 rfl) rfl
theorem q_w1913 : (Jvm.Cond.fieldLink "java/util/ArrayList$Itr" (13 : Nat) "java/util/ArrayList$Itr" "lastRet" "I") ∈ lw_all := lw_g (lw_at lw_m8 121 rfl) rfl
theorem q_w1914 : (Jvm.Cond.fieldLink "java/util/ArrayList$Itr" (22 : Nat) "java/util/ArrayList$Itr" "expectedModCount" "I") ∈ lw_all := lw_g (lw_at lw_m8 122 rfl) rfl
theorem q_w1915 : (Jvm.Cond.fieldLink "java/util/ArrayList$Itr" (1 : Nat) "java/util/ArrayList$Itr" "this$0" "Ljava/util/ArrayList;") ∈ lw_all := lw_g (lw_at lw_m8 123 rfl) rfl
theorem q_w1926 : (Jvm.Cond.methodLink "CaptainClaims" (233 : Nat) ({ cls := "java/util/Iterator", name := "hasNext", desc := "()Z" } : Jvm.MethodName)) ∈ lw_all := lw_g (lw_at lw_m8 134 rfl) rfl
theorem q_w1927 : (Jvm.Cond.interfaceMethod "java/util/Iterator" "java/util/Iterator" "hasNext" "()Z") ∈ lw_tbl := lw_at lw_m8 135 rfl
theorem q_w1928 : (Jvm.Cond.declares ({ cls := "java/util/Iterator", name := "hasNext", desc := "()Z" } : Jvm.MethodName)) ∈ lw_tbl := lw_at lw_m8 136 rfl
theorem q_w1929 : (Jvm.Cond.castable "java/util/ArrayList$Itr" "java/util/Iterator") ∈ lw_tbl := lw_at lw_m8 137 rfl
theorem q_w1930 : (Jvm.Cond.selects "java/util/ArrayList$Itr" ({ cls := "java/util/Iterator", name := "hasNext", desc := "()Z" } : Jvm.MethodName) ({ cls := "java/util/ArrayList$Itr", name := "hasNext", desc := "()Z" } : Jvm.MethodName)) ∈ lw_all := lw_g (lw_at lw_m8 138 rfl) rfl
theorem q_w1931 : (Jvm.Cond.unhidden "java/util/ArrayList$Itr" "hasNext" "()Z") ∈ lw_tbl := lw_at lw_m8 139 rfl
theorem q_w1932 : (Jvm.Cond.instanceMethod ({ cls := "java/util/ArrayList$Itr", name := "hasNext", desc := "()Z" } : Jvm.MethodName)) ∈ lw_all := lw_g (lw_at lw_m8 140 rfl) rfl
theorem q_w1933 : (Jvm.Cond.publicMethod ({ cls := "java/util/ArrayList$Itr", name := "hasNext", desc := "()Z" } : Jvm.MethodName)) ∈ lw_tbl := lw_at lw_m8 141 rfl
theorem q_w1934 : (Jvm.Cond.code ({ cls := "java/util/ArrayList$Itr", name := "hasNext", desc := "()Z" } : Jvm.MethodName) prog_61_method_2_code (1 : Nat) (Option.some Jvm.ClassFile.FieldType.boolean)) ∈ lw_all := lw_g (lw_at lw_m8 142 rfl) rfl
theorem q_w1936 : (Jvm.Cond.methodLink "CaptainClaims" (239 : Nat) ({ cls := "java/util/Iterator", name := "next", desc := "()Ljava/lang/Object;" } : Jvm.MethodName)) ∈ lw_all := lw_g (lw_at lw_m8 144 rfl) rfl
theorem q_w1937 : (Jvm.Cond.interfaceMethod "java/util/Iterator" "java/util/Iterator" "next" "()Ljava/lang/Object;") ∈ lw_tbl := lw_at lw_m8 145 rfl
theorem q_w1938 : (Jvm.Cond.declares ({ cls := "java/util/Iterator", name := "next", desc := "()Ljava/lang/Object;" } : Jvm.MethodName)) ∈ lw_tbl := lw_at lw_m8 146 rfl
theorem q_w1939 : (Jvm.Cond.selects "java/util/ArrayList$Itr" ({ cls := "java/util/Iterator", name := "next", desc := "()Ljava/lang/Object;" } : Jvm.MethodName) ({ cls := "java/util/ArrayList$Itr", name := "next", desc := "()Ljava/lang/Object;" } : Jvm.MethodName)) ∈ lw_all := lw_g (lw_at lw_m8 147 rfl) rfl
theorem q_w1940 : (Jvm.Cond.unhidden "java/util/ArrayList$Itr" "next" "()Ljava/lang/Object;") ∈ lw_tbl := lw_at lw_m8 148 rfl
theorem q_w1941 : (Jvm.Cond.instanceMethod ({ cls := "java/util/ArrayList$Itr", name := "next", desc := "()Ljava/lang/Object;" } : Jvm.MethodName)) ∈ lw_all := lw_g (lw_at lw_m8 149 rfl) rfl
theorem q_w1942 : (Jvm.Cond.publicMethod ({ cls := "java/util/ArrayList$Itr", name := "next", desc := "()Ljava/lang/Object;" } : Jvm.MethodName)) ∈ lw_tbl := lw_at lw_m8 150 rfl
theorem q_w1943 : (Jvm.Cond.code ({ cls := "java/util/ArrayList$Itr", name := "next", desc := "()Ljava/lang/Object;" } : Jvm.MethodName) prog_61_method_3_code (3 : Nat) (Option.some (Jvm.ClassFile.FieldType.object "java/lang/Object"))) ∈ lw_all := lw_g (lw_at lw_m8 151 rfl) rfl
theorem q_w1944 : (Jvm.Cond.methodLink "java/util/ArrayList$Itr" (31 : Nat) ({ cls := "java/util/ArrayList$Itr", name := "checkForComodification", desc := "()V" } : Jvm.MethodName)) ∈ lw_all := lw_g (lw_at lw_m8 152 rfl) rfl
theorem q_w1945 : (Jvm.Cond.instanceMethod ({ cls := "java/util/ArrayList$Itr", name := "checkForComodification", desc := "()V" } : Jvm.MethodName)) ∈ lw_all := lw_g (lw_at lw_m8 153 rfl) rfl
theorem q_w1946 : (Jvm.Cond.selects "java/util/ArrayList$Itr" ({ cls := "java/util/ArrayList$Itr", name := "checkForComodification", desc := "()V" } : Jvm.MethodName) ({ cls := "java/util/ArrayList$Itr", name := "checkForComodification", desc := "()V" } : Jvm.MethodName)) ∈ lw_all := lw_g (lw_at lw_m8 154 rfl) rfl
theorem q_w1947 : (Jvm.Cond.code ({ cls := "java/util/ArrayList$Itr", name := "checkForComodification", desc := "()V" } : Jvm.MethodName) prog_61_method_6_code (1 : Nat) (Option.none : Option Jvm.ClassFile.FieldType)) ∈ lw_all := lw_g (lw_at lw_m8 155 rfl) rfl
theorem q_w1948 : (Jvm.Cond.classLink "CaptainClaims" (243 : Nat) "CaptainClaims$Statement") ∈ lw_all := lw_g (lw_at lw_m8 156 rfl) rfl
theorem q_w1949 : (Jvm.Cond.methodLink "CaptainClaims" (248 : Nat) ({ cls := "CaptainClaims", name := "one", desc := "(Z)I" } : Jvm.MethodName)) ∈ lw_all := lw_g (lw_at lw_m8 157 rfl) rfl
theorem q_w1950 : (Jvm.Cond.static ({ cls := "CaptainClaims", name := "one", desc := "(Z)I" } : Jvm.MethodName)) ∈ lw_all := lw_g (lw_at lw_m8 158 rfl) rfl
theorem q_w1951 : (Jvm.Cond.code ({ cls := "CaptainClaims", name := "one", desc := "(Z)I" } : Jvm.MethodName) prog_1_method_2_code (1 : Nat) (Option.some Jvm.ClassFile.FieldType.int)) ∈ lw_all := lw_g (lw_at lw_m8 159 rfl) rfl
theorem q_w1952 : (Jvm.Cond.methodLink "CaptainClaimsLaw" (284 : Nat) ({ cls := "CaptainClaimsLaw", name := "speaker", desc := "(LCaptainClaims;I[J)I" } : Jvm.MethodName)) ∈ lw_all := lw_g (lw_at lw_m8 160 rfl) rfl
theorem q_w1953 : (Jvm.Cond.static ({ cls := "CaptainClaimsLaw", name := "speaker", desc := "(LCaptainClaims;I[J)I" } : Jvm.MethodName)) ∈ lw_all := lw_g (lw_at lw_m8 161 rfl) rfl
theorem q_w1954 : (Jvm.Cond.codeWith ({ cls := "CaptainClaimsLaw", name := "speaker", desc := "(LCaptainClaims;I[J)I" } : Jvm.MethodName) method_22_code (4 : Nat) (Option.some Jvm.ClassFile.FieldType.int) [((0 : Nat), (9 : Nat), (12 : Nat), (21 : Nat)), ((0 : Nat), (9 : Nat), (15 : Nat), (13 : Nat))]) ∈ lw_all := lw_g (lw_at lw_m8 162 rfl) rfl
theorem q_w1955 : (Jvm.Cond.methodLink "CaptainClaimsLaw" (77 : Nat) ({ cls := "CaptainClaims", name := "speaker", desc := "(I)I" } : Jvm.MethodName)) ∈ lw_all := lw_g (lw_at lw_m8 163 rfl) rfl
theorem q_w1956 : (Jvm.Cond.instanceMethod ({ cls := "CaptainClaims", name := "speaker", desc := "(I)I" } : Jvm.MethodName)) ∈ lw_all := lw_g (lw_at lw_m8 164 rfl) rfl
theorem q_w1957 : (Jvm.Cond.selects "CaptainClaims" ({ cls := "CaptainClaims", name := "speaker", desc := "(I)I" } : Jvm.MethodName) ({ cls := "CaptainClaims", name := "speaker", desc := "(I)I" } : Jvm.MethodName)) ∈ lw_all := lw_g (lw_at lw_m8 165 rfl) rfl
theorem q_w1958 : (Jvm.Cond.code ({ cls := "CaptainClaims", name := "speaker", desc := "(I)I" } : Jvm.MethodName) prog_1_method_36_code (2 : Nat) (Option.some Jvm.ClassFile.FieldType.int)) ∈ lw_all := lw_g (lw_at lw_m8 166 rfl) rfl
theorem q_w1959 : (Jvm.Cond.methodLink "CaptainClaims" (252 : Nat) ({ cls := "CaptainClaims", name := "puzzleWithStatement", desc := "(I)LCaptainClaims$Puzzle;" } : Jvm.MethodName)) ∈ lw_all := lw_g (lw_at lw_m8 167 rfl) rfl
theorem q_w1961 : (Jvm.Cond.instanceMethod ({ cls := "CaptainClaims", name := "puzzleWithStatement", desc := "(I)LCaptainClaims$Puzzle;" } : Jvm.MethodName)) ∈ lw_all := lw_g (lw_at lw_m8 169 rfl) rfl
theorem q_w1962 : (Jvm.Cond.code ({ cls := "CaptainClaims", name := "puzzleWithStatement", desc := "(I)LCaptainClaims$Puzzle;" } : Jvm.MethodName) prog_1_method_17_code (3 : Nat) (Option.some (Jvm.ClassFile.FieldType.object "CaptainClaims$Puzzle"))) ∈ lw_all := lw_g (lw_at lw_m8 170 rfl) rfl
theorem q_w1963 : (Jvm.Cond.methodLink "CaptainClaimsLaw" (287 : Nat) ({ cls := "CaptainClaimsLaw", name := "nodeCount", desc := "(LCaptainClaims;I[J)I" } : Jvm.MethodName)) ∈ lw_all := lw_g (lw_at lw_m8 171 rfl) rfl
theorem q_w1964 : (Jvm.Cond.static ({ cls := "CaptainClaimsLaw", name := "nodeCount", desc := "(LCaptainClaims;I[J)I" } : Jvm.MethodName)) ∈ lw_all := lw_g (lw_at lw_m8 172 rfl) rfl
theorem q_w1965 : (Jvm.Cond.codeWith ({ cls := "CaptainClaimsLaw", name := "nodeCount", desc := "(LCaptainClaims;I[J)I" } : Jvm.MethodName) method_23_code (4 : Nat) (Option.some Jvm.ClassFile.FieldType.int) [((0 : Nat), (9 : Nat), (12 : Nat), (21 : Nat)), ((0 : Nat), (9 : Nat), (15 : Nat), (13 : Nat))]) ∈ lw_all := lw_g (lw_at lw_m8 173 rfl) rfl
theorem q_w1966 : (Jvm.Cond.methodLink "CaptainClaimsLaw" (80 : Nat) ({ cls := "CaptainClaims", name := "nodeCount", desc := "(I)I" } : Jvm.MethodName)) ∈ lw_all := lw_g (lw_at lw_m8 174 rfl) rfl
theorem q_w1967 : (Jvm.Cond.instanceMethod ({ cls := "CaptainClaims", name := "nodeCount", desc := "(I)I" } : Jvm.MethodName)) ∈ lw_all := lw_g (lw_at lw_m8 175 rfl) rfl
theorem q_w1968 : (Jvm.Cond.selects "CaptainClaims" ({ cls := "CaptainClaims", name := "nodeCount", desc := "(I)I" } : Jvm.MethodName) ({ cls := "CaptainClaims", name := "nodeCount", desc := "(I)I" } : Jvm.MethodName)) ∈ lw_all := lw_g (lw_at lw_m8 176 rfl) rfl
theorem q_w1969 : (Jvm.Cond.code ({ cls := "CaptainClaims", name := "nodeCount", desc := "(I)I" } : Jvm.MethodName) prog_1_method_37_code (2 : Nat) (Option.some Jvm.ClassFile.FieldType.int)) ∈ lw_all := lw_g (lw_at lw_m8 177 rfl) rfl
theorem q_w1971 : (Jvm.Cond.methodLink "CaptainClaims" (259 : Nat) ({ cls := "CaptainClaims$Claim", name := "nodes", desc := "()I" } : Jvm.MethodName)) ∈ lw_all := lw_g (lw_at lw_m8 179 rfl) rfl
theorem q_w1972 : (Jvm.Cond.interfaceMethod "CaptainClaims$Claim" "CaptainClaims$Claim" "nodes" "()I") ∈ lw_tbl := lw_at lw_m8 180 rfl
theorem q_w1973 : (Jvm.Cond.declares ({ cls := "CaptainClaims$Claim", name := "nodes", desc := "()I" } : Jvm.MethodName)) ∈ lw_tbl := lw_at lw_m8 181 rfl
theorem q_w1974 : (Jvm.Cond.castable "CaptainClaims$BothClaim" "CaptainClaims$Claim") ∈ lw_tbl := lw_at lw_m8 182 rfl
theorem q_w1975 : (Jvm.Cond.selects "CaptainClaims$BothClaim" ({ cls := "CaptainClaims$Claim", name := "nodes", desc := "()I" } : Jvm.MethodName) ({ cls := "CaptainClaims$JoinedClaim", name := "nodes", desc := "()I" } : Jvm.MethodName)) ∈ lw_all := lw_g (lw_at lw_m8 183 rfl) rfl
theorem q_w1976 : (Jvm.Cond.unhidden "CaptainClaims$BothClaim" "nodes" "()I") ∈ lw_tbl := lw_at lw_m8 184 rfl
theorem q_w1977 : (Jvm.Cond.instanceMethod ({ cls := "CaptainClaims$JoinedClaim", name := "nodes", desc := "()I" } : Jvm.MethodName)) ∈ lw_all := lw_g (lw_at lw_m8 185 rfl) rfl
theorem q_w1978 : (Jvm.Cond.publicMethod ({ cls := "CaptainClaims$JoinedClaim", name := "nodes", desc := "()I" } : Jvm.MethodName)) ∈ lw_tbl := lw_at lw_m8 186 rfl
theorem q_w1979 : (Jvm.Cond.code ({ cls := "CaptainClaims$JoinedClaim", name := "nodes", desc := "()I" } : Jvm.MethodName) prog_12_method_2_code (1 : Nat) (Option.some Jvm.ClassFile.FieldType.int)) ∈ lw_all := lw_g (lw_at lw_m8 187 rfl) rfl
theorem q_w1980 : (Jvm.Cond.methodLink "CaptainClaims$JoinedClaim" (22 : Nat) ({ cls := "CaptainClaims$Claim", name := "nodes", desc := "(Ljava/util/List;)I" } : Jvm.MethodName)) ∈ lw_all := lw_g (lw_at lw_m8 188 rfl) rfl
theorem q_w1981 : (Jvm.Cond.static ({ cls := "CaptainClaims$Claim", name := "nodes", desc := "(Ljava/util/List;)I" } : Jvm.MethodName)) ∈ lw_all := lw_g (lw_at lw_m8 189 rfl) rfl
theorem q_w1982 : (Jvm.Cond.code ({ cls := "CaptainClaims$Claim", name := "nodes", desc := "(Ljava/util/List;)I" } : Jvm.MethodName) prog_5_method_5_code (3 : Nat) (Option.some Jvm.ClassFile.FieldType.int)) ∈ lw_all := lw_g (lw_at lw_m8 190 rfl) rfl
theorem q_w1984 : (Jvm.Cond.methodLink "CaptainClaims$Claim" (13 : Nat) ({ cls := "java/util/List", name := "size", desc := "()I" } : Jvm.MethodName)) ∈ lw_all := lw_g (lw_at lw_m8 192 rfl) rfl
theorem q_w1986 : (Jvm.Cond.methodLink "CaptainClaims$Claim" (19 : Nat) ({ cls := "java/util/List", name := "get", desc := "(I)Ljava/lang/Object;" } : Jvm.MethodName)) ∈ lw_all := lw_g (lw_at lw_m8 194 rfl) rfl
theorem q_w1987 : (Jvm.Cond.classLink "CaptainClaims$Claim" (23 : Nat) "CaptainClaims$Claim") ∈ lw_all := lw_g (lw_at lw_m8 195 rfl) rfl
theorem q_w1989 : (Jvm.Cond.methodLink "CaptainClaims$Claim" (25 : Nat) ({ cls := "CaptainClaims$Claim", name := "nodes", desc := "()I" } : Jvm.MethodName)) ∈ lw_all := lw_g (lw_at lw_m8 197 rfl) rfl
theorem q_w1990 : (Jvm.Cond.castable "CaptainClaims$CoastClaim" "CaptainClaims$Claim") ∈ lw_tbl := lw_at lw_m8 198 rfl
theorem q_w1991 : (Jvm.Cond.unhidden "CaptainClaims$CoastClaim" "nodes" "()I") ∈ lw_tbl := lw_at lw_m8 199 rfl
theorem q_w1992 : (Jvm.Cond.instanceMethod ({ cls := "CaptainClaims$Claim", name := "nodes", desc := "()I" } : Jvm.MethodName)) ∈ lw_all := lw_g (lw_at lw_m8 200 rfl) rfl
theorem q_w1993 : (Jvm.Cond.publicMethod ({ cls := "CaptainClaims$Claim", name := "nodes", desc := "()I" } : Jvm.MethodName)) ∈ lw_tbl := lw_at lw_m8 201 rfl
theorem q_w1994 : (Jvm.Cond.code ({ cls := "CaptainClaims$Claim", name := "nodes", desc := "()I" } : Jvm.MethodName) prog_5_method_3_code (1 : Nat) (Option.some Jvm.ClassFile.FieldType.int)) ∈ lw_all := lw_g (lw_at lw_m8 202 rfl) rfl
theorem q_w1995 : (Jvm.Cond.castable "CaptainClaims$ColumnClaim" "CaptainClaims$Claim") ∈ lw_tbl := lw_at lw_m8 203 rfl
theorem q_w1996 : (Jvm.Cond.unhidden "CaptainClaims$ColumnClaim" "nodes" "()I") ∈ lw_tbl := lw_at lw_m8 204 rfl
theorem q_w1997 : (Jvm.Cond.castable "CaptainClaims$EitherClaim" "CaptainClaims$Claim") ∈ lw_tbl := lw_at lw_m8 205 rfl
theorem q_w1998 : (Jvm.Cond.selects "CaptainClaims$EitherClaim" ({ cls := "CaptainClaims$Claim", name := "nodes", desc := "()I" } : Jvm.MethodName) ({ cls := "CaptainClaims$JoinedClaim", name := "nodes", desc := "()I" } : Jvm.MethodName)) ∈ lw_all := lw_g (lw_at lw_m8 206 rfl) rfl
theorem q_w1999 : (Jvm.Cond.unhidden "CaptainClaims$EitherClaim" "nodes" "()I") ∈ lw_tbl := lw_at lw_m8 207 rfl
theorem q_w2000 : (Jvm.Cond.castable "CaptainClaims$HonestClaim" "CaptainClaims$Claim") ∈ lw_tbl := lw_at lw_m8 208 rfl
theorem q_w2001 : (Jvm.Cond.unhidden "CaptainClaims$HonestClaim" "nodes" "()I") ∈ lw_tbl := lw_at lw_m8 209 rfl
theorem q_w2002 : (Jvm.Cond.castable "CaptainClaims$NearClaim" "CaptainClaims$Claim") ∈ lw_tbl := lw_at lw_m8 210 rfl
theorem q_w2003 : (Jvm.Cond.unhidden "CaptainClaims$NearClaim" "nodes" "()I") ∈ lw_tbl := lw_at lw_m8 211 rfl
theorem q_w2004 : (Jvm.Cond.castable "CaptainClaims$NotClaim" "CaptainClaims$Claim") ∈ lw_tbl := lw_at lw_m8 212 rfl
theorem q_w2005 : (Jvm.Cond.selects "CaptainClaims$NotClaim" ({ cls := "CaptainClaims$Claim", name := "nodes", desc := "()I" } : Jvm.MethodName) ({ cls := "CaptainClaims$JoinedClaim", name := "nodes", desc := "()I" } : Jvm.MethodName)) ∈ lw_all := lw_g (lw_at lw_m8 213 rfl) rfl
theorem q_w2006 : (Jvm.Cond.unhidden "CaptainClaims$NotClaim" "nodes" "()I") ∈ lw_tbl := lw_at lw_m8 214 rfl
theorem q_w2007 : (Jvm.Cond.castable "CaptainClaims$RowClaim" "CaptainClaims$Claim") ∈ lw_tbl := lw_at lw_m8 215 rfl
theorem q_w2008 : (Jvm.Cond.unhidden "CaptainClaims$RowClaim" "nodes" "()I") ∈ lw_tbl := lw_at lw_m8 216 rfl
theorem q_w2009 : (Jvm.Cond.castable "CaptainClaims$SameClaim" "CaptainClaims$Claim") ∈ lw_tbl := lw_at lw_m8 217 rfl
theorem q_w2010 : (Jvm.Cond.unhidden "CaptainClaims$SameClaim" "nodes" "()I") ∈ lw_tbl := lw_at lw_m8 218 rfl
theorem q_w2011 : (Jvm.Cond.castable "CaptainClaims$SizeClaim" "CaptainClaims$Claim") ∈ lw_tbl := lw_at lw_m8 219 rfl
theorem q_w2012 : (Jvm.Cond.unhidden "CaptainClaims$SizeClaim" "nodes" "()I") ∈ lw_tbl := lw_at lw_m8 220 rfl
theorem q_w2013 : (Jvm.Cond.methodLink "CaptainClaimsLaw" (290 : Nat) ({ cls := "CaptainClaimsLaw", name := "isTrue", desc := "(LCaptainClaims;IIII[J)I" } : Jvm.MethodName)) ∈ lw_all := lw_g (lw_at lw_m8 221 rfl) rfl
theorem q_w2014 : (Jvm.Cond.static ({ cls := "CaptainClaimsLaw", name := "isTrue", desc := "(LCaptainClaims;IIII[J)I" } : Jvm.MethodName)) ∈ lw_all := lw_g (lw_at lw_m8 222 rfl) rfl
theorem q_w2015 : (Jvm.Cond.codeWith ({ cls := "CaptainClaimsLaw", name := "isTrue", desc := "(LCaptainClaims;IIII[J)I" } : Jvm.MethodName) method_24_code (7 : Nat) (Option.some Jvm.ClassFile.FieldType.int) [((0 : Nat), (21 : Nat), (24 : Nat), (21 : Nat)), ((0 : Nat), (21 : Nat), (28 : Nat), (13 : Nat)), ((0 : Nat), (21 : Nat), (32 : Nat), (15 : Nat))]) ∈ lw_all := lw_g (lw_at lw_m8 223 rfl) rfl
theorem q_w2016 : (Jvm.Cond.methodLink "CaptainClaimsLaw" (83 : Nat) ({ cls := "CaptainClaims", name := "isTrue", desc := "(IIII)Z" } : Jvm.MethodName)) ∈ lw_all := lw_g (lw_at lw_m8 224 rfl) rfl
theorem q_w2017 : (Jvm.Cond.instanceMethod ({ cls := "CaptainClaims", name := "isTrue", desc := "(IIII)Z" } : Jvm.MethodName)) ∈ lw_all := lw_g (lw_at lw_m8 225 rfl) rfl
theorem q_w2018 : (Jvm.Cond.selects "CaptainClaims" ({ cls := "CaptainClaims", name := "isTrue", desc := "(IIII)Z" } : Jvm.MethodName) ({ cls := "CaptainClaims", name := "isTrue", desc := "(IIII)Z" } : Jvm.MethodName)) ∈ lw_all := lw_g (lw_at lw_m8 226 rfl) rfl
theorem q_w2019 : (Jvm.Cond.code ({ cls := "CaptainClaims", name := "isTrue", desc := "(IIII)Z" } : Jvm.MethodName) prog_1_method_38_code (7 : Nat) (Option.some Jvm.ClassFile.FieldType.boolean)) ∈ lw_all := lw_g (lw_at lw_m8 227 rfl) rfl
theorem q_w2020 : (Jvm.Cond.methodLink "CaptainClaims" (264 : Nat) ({ cls := "CaptainClaims", name := "checkArgument", desc := "(Z)V" } : Jvm.MethodName)) ∈ lw_all := lw_g (lw_at lw_m8 228 rfl) rfl
theorem q_w2021 : (Jvm.Cond.static ({ cls := "CaptainClaims", name := "checkArgument", desc := "(Z)V" } : Jvm.MethodName)) ∈ lw_all := lw_g (lw_at lw_m8 229 rfl) rfl
theorem q_w2022 : (Jvm.Cond.code ({ cls := "CaptainClaims", name := "checkArgument", desc := "(Z)V" } : Jvm.MethodName) prog_1_method_13_code (1 : Nat) (Option.none : Option Jvm.ClassFile.FieldType)) ∈ lw_all := lw_g (lw_at lw_m8 230 rfl) rfl
theorem q_w2024 : (Jvm.Cond.methodLink "CaptainClaims" (267 : Nat) ({ cls := "CaptainClaims$Claim", name := "isTrue", desc := "(LCaptainClaims$Puzzle;II)Z" } : Jvm.MethodName)) ∈ lw_all := lw_g (lw_at lw_m8 232 rfl) rfl
theorem q_w2025 : (Jvm.Cond.interfaceMethod "CaptainClaims$Claim" "CaptainClaims$Claim" "isTrue" "(LCaptainClaims$Puzzle;II)Z") ∈ lw_tbl := lw_at lw_m8 233 rfl
theorem q_w2026 : (Jvm.Cond.declares ({ cls := "CaptainClaims$Claim", name := "isTrue", desc := "(LCaptainClaims$Puzzle;II)Z" } : Jvm.MethodName)) ∈ lw_tbl := lw_at lw_m8 234 rfl
theorem q_w2027 : (Jvm.Cond.selects "CaptainClaims$BothClaim" ({ cls := "CaptainClaims$Claim", name := "isTrue", desc := "(LCaptainClaims$Puzzle;II)Z" } : Jvm.MethodName) ({ cls := "CaptainClaims$BothClaim", name := "isTrue", desc := "(LCaptainClaims$Puzzle;II)Z" } : Jvm.MethodName)) ∈ lw_all := lw_g (lw_at lw_m8 235 rfl) rfl
theorem q_w2028 : (Jvm.Cond.unhidden "CaptainClaims$BothClaim" "isTrue" "(LCaptainClaims$Puzzle;II)Z") ∈ lw_tbl := lw_at lw_m8 236 rfl
theorem q_w2029 : (Jvm.Cond.instanceMethod ({ cls := "CaptainClaims$BothClaim", name := "isTrue", desc := "(LCaptainClaims$Puzzle;II)Z" } : Jvm.MethodName)) ∈ lw_all := lw_g (lw_at lw_m8 237 rfl) rfl
theorem q_w2030 : (Jvm.Cond.publicMethod ({ cls := "CaptainClaims$BothClaim", name := "isTrue", desc := "(LCaptainClaims$Puzzle;II)Z" } : Jvm.MethodName)) ∈ lw_tbl := lw_at lw_m8 238 rfl
theorem q_w2031 : (Jvm.Cond.code ({ cls := "CaptainClaims$BothClaim", name := "isTrue", desc := "(LCaptainClaims$Puzzle;II)Z" } : Jvm.MethodName) prog_2_method_2_code (4 : Nat) (Option.some Jvm.ClassFile.FieldType.boolean)) ∈ lw_all := lw_g (lw_at lw_m8 239 rfl) rfl
theorem q_w2033 : (Jvm.Cond.methodLink "CaptainClaims$BothClaim" (15 : Nat) ({ cls := "java/util/List", name := "get", desc := "(I)Ljava/lang/Object;" } : Jvm.MethodName)) ∈ lw_all := lw_g (lw_at lw_m9 1 rfl) rfl
theorem q_w2034 : (Jvm.Cond.classLink "CaptainClaims$BothClaim" (21 : Nat) "CaptainClaims$Claim") ∈ lw_all := lw_g (lw_at lw_m9 2 rfl) rfl
theorem q_w2036 : (Jvm.Cond.methodLink "CaptainClaims$BothClaim" (23 : Nat) ({ cls := "CaptainClaims$Claim", name := "isTrue", desc := "(LCaptainClaims$Puzzle;II)Z" } : Jvm.MethodName)) ∈ lw_all := lw_g (lw_at lw_m9 4 rfl) rfl
theorem q_w2037 : (Jvm.Cond.selects "CaptainClaims$CoastClaim" ({ cls := "CaptainClaims$Claim", name := "isTrue", desc := "(LCaptainClaims$Puzzle;II)Z" } : Jvm.MethodName) ({ cls := "CaptainClaims$CoastClaim", name := "isTrue", desc := "(LCaptainClaims$Puzzle;II)Z" } : Jvm.MethodName)) ∈ lw_all := lw_g (lw_at lw_m9 5 rfl) rfl
theorem q_w2038 : (Jvm.Cond.unhidden "CaptainClaims$CoastClaim" "isTrue" "(LCaptainClaims$Puzzle;II)Z") ∈ lw_tbl := lw_at lw_m9 6 rfl
theorem q_w2039 : (Jvm.Cond.instanceMethod ({ cls := "CaptainClaims$CoastClaim", name := "isTrue", desc := "(LCaptainClaims$Puzzle;II)Z" } : Jvm.MethodName)) ∈ lw_all := lw_g (lw_at lw_m9 7 rfl) rfl
theorem q_w2040 : (Jvm.Cond.publicMethod ({ cls := "CaptainClaims$CoastClaim", name := "isTrue", desc := "(LCaptainClaims$Puzzle;II)Z" } : Jvm.MethodName)) ∈ lw_tbl := lw_at lw_m9 8 rfl
theorem q_w2041 : (Jvm.Cond.code ({ cls := "CaptainClaims$CoastClaim", name := "isTrue", desc := "(LCaptainClaims$Puzzle;II)Z" } : Jvm.MethodName) prog_6_method_2_code (4 : Nat) (Option.some Jvm.ClassFile.FieldType.boolean)) ∈ lw_all := lw_g (lw_at lw_m9 9 rfl) rfl
theorem q_w2042 : (Jvm.Cond.methodLink "CaptainClaims$CoastClaim" (7 : Nat) ({ cls := "CaptainClaims$Puzzle", name := "isCoast", desc := "(I)Z" } : Jvm.MethodName)) ∈ lw_all := lw_g (lw_at lw_m9 10 rfl) rfl
theorem q_w2043 : (Jvm.Cond.selects "CaptainClaims$ColumnClaim" ({ cls := "CaptainClaims$Claim", name := "isTrue", desc := "(LCaptainClaims$Puzzle;II)Z" } : Jvm.MethodName) ({ cls := "CaptainClaims$RangeClaim", name := "isTrue", desc := "(LCaptainClaims$Puzzle;II)Z" } : Jvm.MethodName)) ∈ lw_all := lw_g (lw_at lw_m9 11 rfl) rfl
theorem q_w2044 : (Jvm.Cond.unhidden "CaptainClaims$ColumnClaim" "isTrue" "(LCaptainClaims$Puzzle;II)Z") ∈ lw_tbl := lw_at lw_m9 12 rfl
theorem q_w2045 : (Jvm.Cond.instanceMethod ({ cls := "CaptainClaims$RangeClaim", name := "isTrue", desc := "(LCaptainClaims$Puzzle;II)Z" } : Jvm.MethodName)) ∈ lw_all := lw_g (lw_at lw_m9 13 rfl) rfl
theorem q_w2046 : (Jvm.Cond.publicMethod ({ cls := "CaptainClaims$RangeClaim", name := "isTrue", desc := "(LCaptainClaims$Puzzle;II)Z" } : Jvm.MethodName)) ∈ lw_tbl := lw_at lw_m9 14 rfl
theorem q_w2047 : (Jvm.Cond.code ({ cls := "CaptainClaims$RangeClaim", name := "isTrue", desc := "(LCaptainClaims$Puzzle;II)Z" } : Jvm.MethodName) prog_20_method_3_code (4 : Nat) (Option.some Jvm.ClassFile.FieldType.boolean)) ∈ lw_all := lw_g (lw_at lw_m9 15 rfl) rfl
theorem q_w2048 : (Jvm.Cond.methodLink "CaptainClaims$RangeClaim" (20 : Nat) ({ cls := "CaptainClaims$RangeClaim", name := "value", desc := "(LCaptainClaims$Puzzle;I)I" } : Jvm.MethodName)) ∈ lw_all := lw_g (lw_at lw_m9 16 rfl) rfl
theorem q_w2049 : (Jvm.Cond.declares ({ cls := "CaptainClaims$RangeClaim", name := "value", desc := "(LCaptainClaims$Puzzle;I)I" } : Jvm.MethodName)) ∈ lw_tbl := lw_at lw_m9 17 rfl
theorem q_w2050 : (Jvm.Cond.sameMethod "CaptainClaims$RangeClaim" "CaptainClaims$RangeClaim" "value" "(LCaptainClaims$Puzzle;I)I") ∈ lw_all := lw_g (lw_at lw_m9 18 rfl) rfl
theorem q_w2051 : (Jvm.Cond.selects "CaptainClaims$ColumnClaim" ({ cls := "CaptainClaims$RangeClaim", name := "value", desc := "(LCaptainClaims$Puzzle;I)I" } : Jvm.MethodName) ({ cls := "CaptainClaims$ColumnClaim", name := "value", desc := "(LCaptainClaims$Puzzle;I)I" } : Jvm.MethodName)) ∈ lw_all := lw_g (lw_at lw_m9 19 rfl) rfl
theorem q_w2052 : (Jvm.Cond.instanceMethod ({ cls := "CaptainClaims$ColumnClaim", name := "value", desc := "(LCaptainClaims$Puzzle;I)I" } : Jvm.MethodName)) ∈ lw_all := lw_g (lw_at lw_m9 20 rfl) rfl
theorem q_w2053 : (Jvm.Cond.code ({ cls := "CaptainClaims$ColumnClaim", name := "value", desc := "(LCaptainClaims$Puzzle;I)I" } : Jvm.MethodName) prog_7_method_2_code (3 : Nat) (Option.some Jvm.ClassFile.FieldType.int)) ∈ lw_all := lw_g (lw_at lw_m9 21 rfl) rfl
theorem q_w2054 : (Jvm.Cond.selects "CaptainClaims$RowClaim" ({ cls := "CaptainClaims$RangeClaim", name := "value", desc := "(LCaptainClaims$Puzzle;I)I" } : Jvm.MethodName) ({ cls := "CaptainClaims$RowClaim", name := "value", desc := "(LCaptainClaims$Puzzle;I)I" } : Jvm.MethodName)) ∈ lw_all := lw_g (lw_at lw_m9 22 rfl) rfl
theorem q_w2055 : (Jvm.Cond.instanceMethod ({ cls := "CaptainClaims$RowClaim", name := "value", desc := "(LCaptainClaims$Puzzle;I)I" } : Jvm.MethodName)) ∈ lw_all := lw_g (lw_at lw_m9 23 rfl) rfl
theorem q_w2056 : (Jvm.Cond.code ({ cls := "CaptainClaims$RowClaim", name := "value", desc := "(LCaptainClaims$Puzzle;I)I" } : Jvm.MethodName) prog_22_method_2_code (3 : Nat) (Option.some Jvm.ClassFile.FieldType.int)) ∈ lw_all := lw_g (lw_at lw_m9 24 rfl) rfl
theorem q_w2057 : (Jvm.Cond.selects "CaptainClaims$SizeClaim" ({ cls := "CaptainClaims$RangeClaim", name := "value", desc := "(LCaptainClaims$Puzzle;I)I" } : Jvm.MethodName) ({ cls := "CaptainClaims$SizeClaim", name := "value", desc := "(LCaptainClaims$Puzzle;I)I" } : Jvm.MethodName)) ∈ lw_all := lw_g (lw_at lw_m9 25 rfl) rfl
theorem q_w2058 : (Jvm.Cond.instanceMethod ({ cls := "CaptainClaims$SizeClaim", name := "value", desc := "(LCaptainClaims$Puzzle;I)I" } : Jvm.MethodName)) ∈ lw_all := lw_g (lw_at lw_m9 26 rfl) rfl
theorem q_w2059 : (Jvm.Cond.code ({ cls := "CaptainClaims$SizeClaim", name := "value", desc := "(LCaptainClaims$Puzzle;I)I" } : Jvm.MethodName) prog_24_method_2_code (3 : Nat) (Option.some Jvm.ClassFile.FieldType.int)) ∈ lw_all := lw_g (lw_at lw_m9 27 rfl) rfl
theorem q_w2060 : (Jvm.Cond.methodLink "CaptainClaims$SizeClaim" (11 : Nat) ({ cls := "CaptainClaims$Puzzle", name := "isLand", desc := "(I)Z" } : Jvm.MethodName)) ∈ lw_all := lw_g (lw_at lw_m9 28 rfl) rfl
theorem q_w2061 : (Jvm.Cond.methodLinkNest "CaptainClaims$RangeClaim" (24 : Nat) ({ cls := "CaptainClaims", name := "inRange", desc := "(III)Z" } : Jvm.MethodName) "CaptainClaims") ∈ lw_tbl := lw_at lw_m9 29 rfl
theorem q_w2062 : (Jvm.Cond.selects "CaptainClaims$EitherClaim" ({ cls := "CaptainClaims$Claim", name := "isTrue", desc := "(LCaptainClaims$Puzzle;II)Z" } : Jvm.MethodName) ({ cls := "CaptainClaims$EitherClaim", name := "isTrue", desc := "(LCaptainClaims$Puzzle;II)Z" } : Jvm.MethodName)) ∈ lw_all := lw_g (lw_at lw_m9 30 rfl) rfl
theorem q_w2063 : (Jvm.Cond.unhidden "CaptainClaims$EitherClaim" "isTrue" "(LCaptainClaims$Puzzle;II)Z") ∈ lw_tbl := lw_at lw_m9 31 rfl
theorem q_w2064 : (Jvm.Cond.instanceMethod ({ cls := "CaptainClaims$EitherClaim", name := "isTrue", desc := "(LCaptainClaims$Puzzle;II)Z" } : Jvm.MethodName)) ∈ lw_all := lw_g (lw_at lw_m9 32 rfl) rfl
theorem q_w2065 : (Jvm.Cond.publicMethod ({ cls := "CaptainClaims$EitherClaim", name := "isTrue", desc := "(LCaptainClaims$Puzzle;II)Z" } : Jvm.MethodName)) ∈ lw_tbl := lw_at lw_m9 33 rfl
theorem q_w2066 : (Jvm.Cond.code ({ cls := "CaptainClaims$EitherClaim", name := "isTrue", desc := "(LCaptainClaims$Puzzle;II)Z" } : Jvm.MethodName) prog_9_method_2_code (4 : Nat) (Option.some Jvm.ClassFile.FieldType.boolean)) ∈ lw_all := lw_g (lw_at lw_m9 34 rfl) rfl
theorem q_w2068 : (Jvm.Cond.methodLink "CaptainClaims$EitherClaim" (15 : Nat) ({ cls := "java/util/List", name := "get", desc := "(I)Ljava/lang/Object;" } : Jvm.MethodName)) ∈ lw_all := lw_g (lw_at lw_m9 36 rfl) rfl
theorem q_w2069 : (Jvm.Cond.classLink "CaptainClaims$EitherClaim" (21 : Nat) "CaptainClaims$Claim") ∈ lw_all := lw_g (lw_at lw_m9 37 rfl) rfl
theorem q_w2071 : (Jvm.Cond.methodLink "CaptainClaims$EitherClaim" (23 : Nat) ({ cls := "CaptainClaims$Claim", name := "isTrue", desc := "(LCaptainClaims$Puzzle;II)Z" } : Jvm.MethodName)) ∈ lw_all := lw_g (lw_at lw_m9 39 rfl) rfl
theorem q_w2072 : (Jvm.Cond.selects "CaptainClaims$HonestClaim" ({ cls := "CaptainClaims$Claim", name := "isTrue", desc := "(LCaptainClaims$Puzzle;II)Z" } : Jvm.MethodName) ({ cls := "CaptainClaims$HonestClaim", name := "isTrue", desc := "(LCaptainClaims$Puzzle;II)Z" } : Jvm.MethodName)) ∈ lw_all := lw_g (lw_at lw_m9 40 rfl) rfl
theorem q_w2073 : (Jvm.Cond.unhidden "CaptainClaims$HonestClaim" "isTrue" "(LCaptainClaims$Puzzle;II)Z") ∈ lw_tbl := lw_at lw_m9 41 rfl
theorem q_w2074 : (Jvm.Cond.instanceMethod ({ cls := "CaptainClaims$HonestClaim", name := "isTrue", desc := "(LCaptainClaims$Puzzle;II)Z" } : Jvm.MethodName)) ∈ lw_all := lw_g (lw_at lw_m9 42 rfl) rfl
theorem q_w2075 : (Jvm.Cond.publicMethod ({ cls := "CaptainClaims$HonestClaim", name := "isTrue", desc := "(LCaptainClaims$Puzzle;II)Z" } : Jvm.MethodName)) ∈ lw_tbl := lw_at lw_m9 43 rfl
theorem q_w2076 : (Jvm.Cond.code ({ cls := "CaptainClaims$HonestClaim", name := "isTrue", desc := "(LCaptainClaims$Puzzle;II)Z" } : Jvm.MethodName) prog_11_method_2_code (4 : Nat) (Option.some Jvm.ClassFile.FieldType.boolean)) ∈ lw_all := lw_g (lw_at lw_m9 44 rfl) rfl
theorem q_w2077 : (Jvm.Cond.methodLinkNest "CaptainClaims$HonestClaim" (13 : Nat) ({ cls := "CaptainClaims", name := "contains", desc := "(II)Z" } : Jvm.MethodName) "CaptainClaims") ∈ lw_tbl := lw_at lw_m9 45 rfl
theorem q_w2078 : (Jvm.Cond.static ({ cls := "CaptainClaims", name := "contains", desc := "(II)Z" } : Jvm.MethodName)) ∈ lw_all := lw_g (lw_at lw_m9 46 rfl) rfl
theorem q_w2079 : (Jvm.Cond.code ({ cls := "CaptainClaims", name := "contains", desc := "(II)Z" } : Jvm.MethodName) prog_1_method_3_code (2 : Nat) (Option.some Jvm.ClassFile.FieldType.boolean)) ∈ lw_all := lw_g (lw_at lw_m9 47 rfl) rfl
theorem q_w2080 : (Jvm.Cond.selects "CaptainClaims$NearClaim" ({ cls := "CaptainClaims$Claim", name := "isTrue", desc := "(LCaptainClaims$Puzzle;II)Z" } : Jvm.MethodName) ({ cls := "CaptainClaims$NearClaim", name := "isTrue", desc := "(LCaptainClaims$Puzzle;II)Z" } : Jvm.MethodName)) ∈ lw_all := lw_g (lw_at lw_m9 48 rfl) rfl
theorem q_w2081 : (Jvm.Cond.unhidden "CaptainClaims$NearClaim" "isTrue" "(LCaptainClaims$Puzzle;II)Z") ∈ lw_tbl := lw_at lw_m9 49 rfl
theorem q_w2082 : (Jvm.Cond.instanceMethod ({ cls := "CaptainClaims$NearClaim", name := "isTrue", desc := "(LCaptainClaims$Puzzle;II)Z" } : Jvm.MethodName)) ∈ lw_all := lw_g (lw_at lw_m9 50 rfl) rfl
theorem q_w2083 : (Jvm.Cond.publicMethod ({ cls := "CaptainClaims$NearClaim", name := "isTrue", desc := "(LCaptainClaims$Puzzle;II)Z" } : Jvm.MethodName)) ∈ lw_tbl := lw_at lw_m9 51 rfl
theorem q_w2084 : (Jvm.Cond.code ({ cls := "CaptainClaims$NearClaim", name := "isTrue", desc := "(LCaptainClaims$Puzzle;II)Z" } : Jvm.MethodName) prog_16_method_2_code (4 : Nat) (Option.some Jvm.ClassFile.FieldType.boolean)) ∈ lw_all := lw_g (lw_at lw_m9 52 rfl) rfl
theorem q_w2085 : (Jvm.Cond.methodLink "CaptainClaims$NearClaim" (24 : Nat) ({ cls := "java/lang/Math", name := "abs", desc := "(I)I" } : Jvm.MethodName)) ∈ lw_all := lw_g (lw_at lw_m9 53 rfl) rfl
theorem q_w2086 : (Jvm.Cond.static ({ cls := "java/lang/Math", name := "abs", desc := "(I)I" } : Jvm.MethodName)) ∈ lw_all := lw_g (lw_at lw_m9 54 rfl) rfl
theorem q_w2087 : (Jvm.Cond.code ({ cls := "java/lang/Math", name := "abs", desc := "(I)I" } : Jvm.MethodName) prog_45_method_59_code (1 : Nat) (Option.some Jvm.ClassFile.FieldType.int)) ∈ lw_all := lw_g (lw_at lw_m9 55 rfl) rfl
theorem q_w2088 : (Jvm.Cond.selects "CaptainClaims$NotClaim" ({ cls := "CaptainClaims$Claim", name := "isTrue", desc := "(LCaptainClaims$Puzzle;II)Z" } : Jvm.MethodName) ({ cls := "CaptainClaims$NotClaim", name := "isTrue", desc := "(LCaptainClaims$Puzzle;II)Z" } : Jvm.MethodName)) ∈ lw_all := lw_g (lw_at lw_m9 56 rfl) rfl
theorem q_w2089 : (Jvm.Cond.unhidden "CaptainClaims$NotClaim" "isTrue" "(LCaptainClaims$Puzzle;II)Z") ∈ lw_tbl := lw_at lw_m9 57 rfl
theorem q_w2090 : (Jvm.Cond.instanceMethod ({ cls := "CaptainClaims$NotClaim", name := "isTrue", desc := "(LCaptainClaims$Puzzle;II)Z" } : Jvm.MethodName)) ∈ lw_all := lw_g (lw_at lw_m9 58 rfl) rfl
theorem q_w2091 : (Jvm.Cond.publicMethod ({ cls := "CaptainClaims$NotClaim", name := "isTrue", desc := "(LCaptainClaims$Puzzle;II)Z" } : Jvm.MethodName)) ∈ lw_tbl := lw_at lw_m9 59 rfl
theorem q_w2092 : (Jvm.Cond.code ({ cls := "CaptainClaims$NotClaim", name := "isTrue", desc := "(LCaptainClaims$Puzzle;II)Z" } : Jvm.MethodName) prog_17_method_2_code (4 : Nat) (Option.some Jvm.ClassFile.FieldType.boolean)) ∈ lw_all := lw_g (lw_at lw_m9 60 rfl) rfl
theorem q_w2094 : (Jvm.Cond.methodLink "CaptainClaims$NotClaim" (15 : Nat) ({ cls := "java/util/List", name := "get", desc := "(I)Ljava/lang/Object;" } : Jvm.MethodName)) ∈ lw_all := lw_g (lw_at lw_m9 62 rfl) rfl
theorem q_w2095 : (Jvm.Cond.classLink "CaptainClaims$NotClaim" (21 : Nat) "CaptainClaims$Claim") ∈ lw_all := lw_g (lw_at lw_m9 63 rfl) rfl
theorem q_w2097 : (Jvm.Cond.methodLink "CaptainClaims$NotClaim" (23 : Nat) ({ cls := "CaptainClaims$Claim", name := "isTrue", desc := "(LCaptainClaims$Puzzle;II)Z" } : Jvm.MethodName)) ∈ lw_all := lw_g (lw_at lw_m9 65 rfl) rfl
theorem q_w2098 : (Jvm.Cond.selects "CaptainClaims$RowClaim" ({ cls := "CaptainClaims$Claim", name := "isTrue", desc := "(LCaptainClaims$Puzzle;II)Z" } : Jvm.MethodName) ({ cls := "CaptainClaims$RangeClaim", name := "isTrue", desc := "(LCaptainClaims$Puzzle;II)Z" } : Jvm.MethodName)) ∈ lw_all := lw_g (lw_at lw_m9 66 rfl) rfl
theorem q_w2099 : (Jvm.Cond.unhidden "CaptainClaims$RowClaim" "isTrue" "(LCaptainClaims$Puzzle;II)Z") ∈ lw_tbl := lw_at lw_m9 67 rfl
theorem q_w2100 : (Jvm.Cond.selects "CaptainClaims$SameClaim" ({ cls := "CaptainClaims$Claim", name := "isTrue", desc := "(LCaptainClaims$Puzzle;II)Z" } : Jvm.MethodName) ({ cls := "CaptainClaims$SameClaim", name := "isTrue", desc := "(LCaptainClaims$Puzzle;II)Z" } : Jvm.MethodName)) ∈ lw_all := lw_g (lw_at lw_m9 68 rfl) rfl
theorem q_w2101 : (Jvm.Cond.unhidden "CaptainClaims$SameClaim" "isTrue" "(LCaptainClaims$Puzzle;II)Z") ∈ lw_tbl := lw_at lw_m9 69 rfl
theorem q_w2102 : (Jvm.Cond.instanceMethod ({ cls := "CaptainClaims$SameClaim", name := "isTrue", desc := "(LCaptainClaims$Puzzle;II)Z" } : Jvm.MethodName)) ∈ lw_all := lw_g (lw_at lw_m9 70 rfl) rfl
theorem q_w2103 : (Jvm.Cond.publicMethod ({ cls := "CaptainClaims$SameClaim", name := "isTrue", desc := "(LCaptainClaims$Puzzle;II)Z" } : Jvm.MethodName)) ∈ lw_tbl := lw_at lw_m9 71 rfl
theorem q_w2104 : (Jvm.Cond.code ({ cls := "CaptainClaims$SameClaim", name := "isTrue", desc := "(LCaptainClaims$Puzzle;II)Z" } : Jvm.MethodName) prog_23_method_2_code (4 : Nat) (Option.some Jvm.ClassFile.FieldType.boolean)) ∈ lw_all := lw_g (lw_at lw_m9 72 rfl) rfl
theorem q_w2105 : (Jvm.Cond.methodLink "CaptainClaims$SameClaim" (16 : Nat) ({ cls := "CaptainClaims$Puzzle", name := "isLand", desc := "(I)Z" } : Jvm.MethodName)) ∈ lw_all := lw_g (lw_at lw_m9 73 rfl) rfl
theorem q_w2106 : (Jvm.Cond.methodLink "CaptainClaims$SameClaim" (26 : Nat) ({ cls := "CaptainClaims$Puzzle", name := "cell", desc := "(II)I" } : Jvm.MethodName)) ∈ lw_all := lw_g (lw_at lw_m9 74 rfl) rfl
theorem q_w2107 : (Jvm.Cond.selects "CaptainClaims$SizeClaim" ({ cls := "CaptainClaims$Claim", name := "isTrue", desc := "(LCaptainClaims$Puzzle;II)Z" } : Jvm.MethodName) ({ cls := "CaptainClaims$RangeClaim", name := "isTrue", desc := "(LCaptainClaims$Puzzle;II)Z" } : Jvm.MethodName)) ∈ lw_all := lw_g (lw_at lw_m9 75 rfl) rfl
theorem q_w2108 : (Jvm.Cond.unhidden "CaptainClaims$SizeClaim" "isTrue" "(LCaptainClaims$Puzzle;II)Z") ∈ lw_tbl := lw_at lw_m9 76 rfl
theorem q_w2109 : (Jvm.Cond.methodLink "CaptainClaimsLaw" (294 : Nat) ({ cls := "CaptainClaimsLaw", name := "scenarioCount", desc := "(LCaptainClaims;[J)I" } : Jvm.MethodName)) ∈ lw_all := lw_g (lw_at lw_m9 77 rfl) rfl
theorem q_w2110 : (Jvm.Cond.static ({ cls := "CaptainClaimsLaw", name := "scenarioCount", desc := "(LCaptainClaims;[J)I" } : Jvm.MethodName)) ∈ lw_all := lw_g (lw_at lw_m9 78 rfl) rfl
theorem q_w2111 : (Jvm.Cond.codeWith ({ cls := "CaptainClaimsLaw", name := "scenarioCount", desc := "(LCaptainClaims;[J)I" } : Jvm.MethodName) method_25_code (3 : Nat) (Option.some Jvm.ClassFile.FieldType.int) [((0 : Nat), (8 : Nat), (11 : Nat), (21 : Nat))]) ∈ lw_all := lw_g (lw_at lw_m9 79 rfl) rfl
theorem q_w2112 : (Jvm.Cond.methodLink "CaptainClaimsLaw" (87 : Nat) ({ cls := "CaptainClaims", name := "scenarioCount", desc := "()I" } : Jvm.MethodName)) ∈ lw_all := lw_g (lw_at lw_m9 80 rfl) rfl
theorem q_w2113 : (Jvm.Cond.instanceMethod ({ cls := "CaptainClaims", name := "scenarioCount", desc := "()I" } : Jvm.MethodName)) ∈ lw_all := lw_g (lw_at lw_m9 81 rfl) rfl
theorem q_w2114 : (Jvm.Cond.selects "CaptainClaims" ({ cls := "CaptainClaims", name := "scenarioCount", desc := "()I" } : Jvm.MethodName) ({ cls := "CaptainClaims", name := "scenarioCount", desc := "()I" } : Jvm.MethodName)) ∈ lw_all := lw_g (lw_at lw_m9 82 rfl) rfl
theorem q_w2115 : (Jvm.Cond.code ({ cls := "CaptainClaims", name := "scenarioCount", desc := "()I" } : Jvm.MethodName) prog_1_method_39_code (1 : Nat) (Option.some Jvm.ClassFile.FieldType.int)) ∈ lw_all := lw_g (lw_at lw_m9 83 rfl) rfl
theorem q_w2116 : (Jvm.Cond.methodLink "CaptainClaims" (271 : Nat) ({ cls := "CaptainClaims$Puzzle", name := "census", desc := "()LCaptainClaims$Census;" } : Jvm.MethodName)) ∈ lw_all := lw_g (lw_at lw_m9 84 rfl) rfl
theorem q_w2117 : (Jvm.Cond.instanceMethod ({ cls := "CaptainClaims$Puzzle", name := "census", desc := "()LCaptainClaims$Census;" } : Jvm.MethodName)) ∈ lw_all := lw_g (lw_at lw_m9 85 rfl) rfl
theorem q_w2118 : (Jvm.Cond.selects "CaptainClaims$Puzzle" ({ cls := "CaptainClaims$Puzzle", name := "census", desc := "()LCaptainClaims$Census;" } : Jvm.MethodName) ({ cls := "CaptainClaims$Puzzle", name := "census", desc := "()LCaptainClaims$Census;" } : Jvm.MethodName)) ∈ lw_all := lw_g (lw_at lw_m9 86 rfl) rfl
theorem q_w2119 : (Jvm.Cond.code ({ cls := "CaptainClaims$Puzzle", name := "census", desc := "()LCaptainClaims$Census;" } : Jvm.MethodName) prog_19_method_16_code (1 : Nat) (Option.some (Jvm.ClassFile.FieldType.object "CaptainClaims$Census"))) ∈ lw_all := lw_g (lw_at lw_m9 87 rfl) rfl
theorem q_w2120 : (Jvm.Cond.methodLink "CaptainClaims$Puzzle" (199 : Nat) ({ cls := "CaptainClaims$Puzzle", name := "census", desc := "(I)LCaptainClaims$Census;" } : Jvm.MethodName)) ∈ lw_all := lw_g (lw_at lw_m9 88 rfl) rfl
theorem q_w2121 : (Jvm.Cond.instanceMethod ({ cls := "CaptainClaims$Puzzle", name := "census", desc := "(I)LCaptainClaims$Census;" } : Jvm.MethodName)) ∈ lw_all := lw_g (lw_at lw_m9 89 rfl) rfl
theorem q_w2122 : (Jvm.Cond.selects "CaptainClaims$Puzzle" ({ cls := "CaptainClaims$Puzzle", name := "census", desc := "(I)LCaptainClaims$Census;" } : Jvm.MethodName) ({ cls := "CaptainClaims$Puzzle", name := "census", desc := "(I)LCaptainClaims$Census;" } : Jvm.MethodName)) ∈ lw_all := lw_g (lw_at lw_m9 90 rfl) rfl
theorem q_w2123 : (Jvm.Cond.code ({ cls := "CaptainClaims$Puzzle", name := "census", desc := "(I)LCaptainClaims$Census;" } : Jvm.MethodName) prog_19_method_15_code (5 : Nat) (Option.some (Jvm.ClassFile.FieldType.object "CaptainClaims$Census"))) ∈ lw_all := lw_g (lw_at lw_m9 91 rfl) rfl
theorem q_w2124 : (Jvm.Cond.classLink "CaptainClaims$Puzzle" (188 : Nat) "CaptainClaims$Census") ∈ lw_all := lw_g (lw_at lw_m9 92 rfl) rfl
theorem q_w2125 : (Jvm.Cond.instantiable "CaptainClaims$Census" (4 : Nat)) ∈ lw_all := lw_g (lw_at lw_m9 93 rfl) rfl
theorem q_w2126 : (Jvm.Cond.methodLink "CaptainClaims$Puzzle" (190 : Nat) ({ cls := "CaptainClaims$Census", name := "<init>", desc := "(I)V" } : Jvm.MethodName)) ∈ lw_all := lw_g (lw_at lw_m9 94 rfl) rfl
theorem q_w2127 : (Jvm.Cond.instanceMethod ({ cls := "CaptainClaims$Census", name := "<init>", desc := "(I)V" } : Jvm.MethodName)) ∈ lw_all := lw_g (lw_at lw_m9 95 rfl) rfl
theorem q_w2128 : (Jvm.Cond.code ({ cls := "CaptainClaims$Census", name := "<init>", desc := "(I)V" } : Jvm.MethodName) prog_4_method_1_code (2 : Nat) (Option.none : Option Jvm.ClassFile.FieldType)) ∈ lw_all := lw_g (lw_at lw_m9 96 rfl) rfl
theorem q_w2129 : (Jvm.Cond.methodLink "CaptainClaims$Census" (3 : Nat) ({ cls := "java/lang/Object", name := "<init>", desc := "()V" } : Jvm.MethodName)) ∈ lw_all := lw_g (lw_at lw_m9 97 rfl) rfl
theorem q_w2130 : (Jvm.Cond.fieldLink "CaptainClaims$Census" (15 : Nat) "CaptainClaims$Census" "at" "[I") ∈ lw_all := lw_g (lw_at lw_m9 98 rfl) rfl
theorem q_w2131 : (Jvm.Cond.fieldLinkNest "CaptainClaims" (280 : Nat) "CaptainClaims$Census" "at" "[I" "CaptainClaims") ∈ lw_tbl := lw_at lw_m9 99 rfl
theorem q_w2132 : (Jvm.Cond.fieldLink "CaptainClaims$Census" (9 : Nat) "CaptainClaims$Census" "lying" "[I") ∈ lw_all := lw_g (lw_at lw_m9 100 rfl) rfl
theorem q_w2133 : (Jvm.Cond.fieldLinkNest "CaptainClaims" (294 : Nat) "CaptainClaims$Census" "lying" "[I" "CaptainClaims") ∈ lw_tbl := lw_at lw_m9 101 rfl
theorem q_w2134 : (Jvm.Cond.fieldLink "CaptainClaims$Census" (18 : Nat) "CaptainClaims$Census" "total" "I") ∈ lw_all := lw_g (lw_at lw_m9 102 rfl) rfl
theorem q_w2135 : (Jvm.Cond.fieldLinkNest "CaptainClaims" (275 : Nat) "CaptainClaims$Census" "total" "I" "CaptainClaims") ∈ lw_tbl := lw_at lw_m9 103 rfl
theorem q_w2136 : (Jvm.Cond.fieldLink "CaptainClaims$Census" (22 : Nat) "CaptainClaims$Census" "liars" "I") ∈ lw_all := lw_g (lw_at lw_m9 104 rfl) rfl
theorem q_w2137 : (Jvm.Cond.fieldLinkNest "CaptainClaims" (325 : Nat) "CaptainClaims$Census" "liars" "I" "CaptainClaims") ∈ lw_tbl := lw_at lw_m9 105 rfl
theorem q_w2147 : (Jvm.Cond.methodLink "CaptainClaims$Puzzle" (154 : Nat) ({ cls := "CaptainClaims$Register", name := "size", desc := "()I" } : Jvm.MethodName)) ∈ lw_all := lw_g (lw_at lw_m9 115 rfl) rfl
theorem q_w2148 : (Jvm.Cond.methodLink "CaptainClaims$Puzzle" (191 : Nat) ({ cls := "CaptainClaims$Puzzle", name := "fitsDeclarations", desc := "(I)Z" } : Jvm.MethodName)) ∈ lw_all := lw_g (lw_at lw_m9 116 rfl) rfl
theorem q_w2150 : (Jvm.Cond.instanceMethod ({ cls := "CaptainClaims$Puzzle", name := "fitsDeclarations", desc := "(I)Z" } : Jvm.MethodName)) ∈ lw_all := lw_g (lw_at lw_m9 118 rfl) rfl
theorem q_w2151 : (Jvm.Cond.code ({ cls := "CaptainClaims$Puzzle", name := "fitsDeclarations", desc := "(I)Z" } : Jvm.MethodName) prog_19_method_13_code (3 : Nat) (Option.some Jvm.ClassFile.FieldType.boolean)) ∈ lw_all := lw_g (lw_at lw_m9 119 rfl) rfl
theorem q_w2152 : (Jvm.Cond.fieldLink "CaptainClaims$Puzzle" (155 : Nat) "CaptainClaims$Declaration" "TRUTHFUL" "LCaptainClaims$Declaration;") ∈ lw_all := lw_g (lw_at lw_m9 120 rfl) rfl
theorem q_w2153 : (Jvm.Cond.methodLinkNest "CaptainClaims$Puzzle" (158 : Nat) ({ cls := "CaptainClaims", name := "contains", desc := "(II)Z" } : Jvm.MethodName) "CaptainClaims") ∈ lw_tbl := lw_at lw_m9 121 rfl
theorem q_w2154 : (Jvm.Cond.fieldLink "CaptainClaims$Puzzle" (162 : Nat) "CaptainClaims$Declaration" "LIAR" "LCaptainClaims$Declaration;") ∈ lw_all := lw_g (lw_at lw_m9 122 rfl) rfl
theorem q_w2155 : (Jvm.Cond.methodLink "CaptainClaims$Puzzle" (165 : Nat) ({ cls := "java/lang/Integer", name := "bitCount", desc := "(I)I" } : Jvm.MethodName)) ∈ lw_all := lw_g (lw_at lw_m9 123 rfl) rfl
theorem q_w2156 : (Jvm.Cond.static ({ cls := "java/lang/Integer", name := "bitCount", desc := "(I)I" } : Jvm.MethodName)) ∈ lw_all := lw_g (lw_at lw_m9 124 rfl) rfl
theorem q_w2157 : (Jvm.Cond.code ({ cls := "java/lang/Integer", name := "bitCount", desc := "(I)I" } : Jvm.MethodName) prog_41_method_49_code (1 : Nat) (Option.some Jvm.ClassFile.FieldType.int)) ∈ lw_all := lw_g (lw_at lw_m9 125 rfl) rfl
theorem q_w2158 : (Jvm.Cond.constant "java/lang/Integer" (265 : Nat) (1431655765 : Int32)) ∈ lw_all := lw_g (lw_at lw_m9 126 rfl) rfl
theorem q_w2159 : (Jvm.Cond.constant "java/lang/Integer" (266 : Nat) (858993459 : Int32)) ∈ lw_all := lw_g (lw_at lw_m9 127 rfl) rfl
theorem q_w2160 : (Jvm.Cond.constant "java/lang/Integer" (267 : Nat) (252645135 : Int32)) ∈ lw_all := lw_g (lw_at lw_m9 128 rfl) rfl
theorem q_w2161 : (Jvm.Cond.methodLinkNest "CaptainClaims$Puzzle" (171 : Nat) ({ cls := "CaptainClaims", name := "inRange", desc := "(III)Z" } : Jvm.MethodName) "CaptainClaims") ∈ lw_tbl := lw_at lw_m9 129 rfl
theorem q_w2162 : (Jvm.Cond.methodLink "CaptainClaims$Puzzle" (194 : Nat) ({ cls := "CaptainClaims$Puzzle", name := "fitsStatements", desc := "(III)Z" } : Jvm.MethodName)) ∈ lw_all := lw_g (lw_at lw_m9 130 rfl) rfl
theorem q_w2164 : (Jvm.Cond.instanceMethod ({ cls := "CaptainClaims$Puzzle", name := "fitsStatements", desc := "(III)Z" } : Jvm.MethodName)) ∈ lw_all := lw_g (lw_at lw_m9 132 rfl) rfl
theorem q_w2165 : (Jvm.Cond.code ({ cls := "CaptainClaims$Puzzle", name := "fitsStatements", desc := "(III)Z" } : Jvm.MethodName) prog_19_method_14_code (6 : Nat) (Option.some Jvm.ClassFile.FieldType.boolean)) ∈ lw_all := lw_g (lw_at lw_m9 133 rfl) rfl
theorem q_w2167 : (Jvm.Cond.methodLink "CaptainClaims$Puzzle" (96 : Nat) ({ cls := "java/util/List", name := "size", desc := "()I" } : Jvm.MethodName)) ∈ lw_all := lw_g (lw_at lw_m9 135 rfl) rfl
theorem q_w2169 : (Jvm.Cond.methodLink "CaptainClaims$Puzzle" (102 : Nat) ({ cls := "java/util/List", name := "get", desc := "(I)Ljava/lang/Object;" } : Jvm.MethodName)) ∈ lw_all := lw_g (lw_at lw_m9 137 rfl) rfl
theorem q_w2170 : (Jvm.Cond.classLink "CaptainClaims$Puzzle" (106 : Nat) "CaptainClaims$Statement") ∈ lw_all := lw_g (lw_at lw_m9 138 rfl) rfl
theorem q_w2172 : (Jvm.Cond.methodLink "CaptainClaims$Puzzle" (179 : Nat) ({ cls := "CaptainClaims$Claim", name := "isTrue", desc := "(LCaptainClaims$Puzzle;II)Z" } : Jvm.MethodName)) ∈ lw_all := lw_g (lw_at lw_m9 140 rfl) rfl
theorem q_w2173 : (Jvm.Cond.methodLink "CaptainClaims$Puzzle" (197 : Nat) ({ cls := "CaptainClaims$Census", name := "add", desc := "(II)V" } : Jvm.MethodName)) ∈ lw_all := lw_g (lw_at lw_m9 141 rfl) rfl
theorem q_w2174 : (Jvm.Cond.instanceMethod ({ cls := "CaptainClaims$Census", name := "add", desc := "(II)V" } : Jvm.MethodName)) ∈ lw_all := lw_g (lw_at lw_m9 142 rfl) rfl
theorem q_w2175 : (Jvm.Cond.selects "CaptainClaims$Census" ({ cls := "CaptainClaims$Census", name := "add", desc := "(II)V" } : Jvm.MethodName) ({ cls := "CaptainClaims$Census", name := "add", desc := "(II)V" } : Jvm.MethodName)) ∈ lw_all := lw_g (lw_at lw_m9 143 rfl) rfl
theorem q_w2176 : (Jvm.Cond.code ({ cls := "CaptainClaims$Census", name := "add", desc := "(II)V" } : Jvm.MethodName) prog_4_method_2_code (4 : Nat) (Option.none : Option Jvm.ClassFile.FieldType)) ∈ lw_all := lw_g (lw_at lw_m9 144 rfl) rfl
theorem q_w2177 : (Jvm.Cond.methodLink "CaptainClaims$Census" (25 : Nat) ({ cls := "java/lang/Integer", name := "bitCount", desc := "(I)I" } : Jvm.MethodName)) ∈ lw_all := lw_g (lw_at lw_m9 145 rfl) rfl
theorem q_w2178 : (Jvm.Cond.methodLinkNest "CaptainClaims$Census" (31 : Nat) ({ cls := "CaptainClaims", name := "contains", desc := "(II)Z" } : Jvm.MethodName) "CaptainClaims") ∈ lw_tbl := lw_at lw_m9 146 rfl
theorem q_w2179 : (Jvm.Cond.methodLinkNest "CaptainClaims$Census" (35 : Nat) ({ cls := "CaptainClaims", name := "one", desc := "(Z)I" } : Jvm.MethodName) "CaptainClaims") ∈ lw_tbl := lw_at lw_m9 147 rfl
theorem q_w2180 : (Jvm.Cond.methodLink "CaptainClaimsLaw" (297 : Nat) ({ cls := "CaptainClaimsLaw", name := "scenariosAt", desc := "(LCaptainClaims;II[J)I" } : Jvm.MethodName)) ∈ lw_all := lw_g (lw_at lw_m9 148 rfl) rfl
theorem q_w2181 : (Jvm.Cond.static ({ cls := "CaptainClaimsLaw", name := "scenariosAt", desc := "(LCaptainClaims;II[J)I" } : Jvm.MethodName)) ∈ lw_all := lw_g (lw_at lw_m9 149 rfl) rfl
theorem q_w2182 : (Jvm.Cond.codeWith ({ cls := "CaptainClaimsLaw", name := "scenariosAt", desc := "(LCaptainClaims;II[J)I" } : Jvm.MethodName) method_26_code (5 : Nat) (Option.some Jvm.ClassFile.FieldType.int) [((0 : Nat), (10 : Nat), (13 : Nat), (21 : Nat)), ((0 : Nat), (10 : Nat), (17 : Nat), (13 : Nat))]) ∈ lw_all := lw_g (lw_at lw_m9 150 rfl) rfl
theorem q_w2183 : (Jvm.Cond.methodLink "CaptainClaimsLaw" (90 : Nat) ({ cls := "CaptainClaims", name := "scenariosAt", desc := "(II)I" } : Jvm.MethodName)) ∈ lw_all := lw_g (lw_at lw_m9 151 rfl) rfl
theorem q_w2184 : (Jvm.Cond.instanceMethod ({ cls := "CaptainClaims", name := "scenariosAt", desc := "(II)I" } : Jvm.MethodName)) ∈ lw_all := lw_g (lw_at lw_m9 152 rfl) rfl
theorem q_w2185 : (Jvm.Cond.selects "CaptainClaims" ({ cls := "CaptainClaims", name := "scenariosAt", desc := "(II)I" } : Jvm.MethodName) ({ cls := "CaptainClaims", name := "scenariosAt", desc := "(II)I" } : Jvm.MethodName)) ∈ lw_all := lw_g (lw_at lw_m9 153 rfl) rfl
theorem q_w2186 : (Jvm.Cond.code ({ cls := "CaptainClaims", name := "scenariosAt", desc := "(II)I" } : Jvm.MethodName) prog_1_method_40_code (4 : Nat) (Option.some Jvm.ClassFile.FieldType.int)) ∈ lw_all := lw_g (lw_at lw_m9 154 rfl) rfl
theorem q_w2187 : (Jvm.Cond.methodLink "CaptainClaimsLaw" (300 : Nat) ({ cls := "CaptainClaimsLaw", name := "candidateCount", desc := "(LCaptainClaims;[J)I" } : Jvm.MethodName)) ∈ lw_all := lw_g (lw_at lw_m9 155 rfl) rfl
theorem q_w2188 : (Jvm.Cond.static ({ cls := "CaptainClaimsLaw", name := "candidateCount", desc := "(LCaptainClaims;[J)I" } : Jvm.MethodName)) ∈ lw_all := lw_g (lw_at lw_m9 156 rfl) rfl
theorem q_w2189 : (Jvm.Cond.codeWith ({ cls := "CaptainClaimsLaw", name := "candidateCount", desc := "(LCaptainClaims;[J)I" } : Jvm.MethodName) method_27_code (3 : Nat) (Option.some Jvm.ClassFile.FieldType.int) [((0 : Nat), (8 : Nat), (11 : Nat), (21 : Nat))]) ∈ lw_all := lw_g (lw_at lw_m9 157 rfl) rfl
theorem q_w2190 : (Jvm.Cond.methodLink "CaptainClaimsLaw" (93 : Nat) ({ cls := "CaptainClaims", name := "candidateCount", desc := "()I" } : Jvm.MethodName)) ∈ lw_all := lw_g (lw_at lw_m9 158 rfl) rfl
theorem q_w2191 : (Jvm.Cond.instanceMethod ({ cls := "CaptainClaims", name := "candidateCount", desc := "()I" } : Jvm.MethodName)) ∈ lw_all := lw_g (lw_at lw_m9 159 rfl) rfl
theorem q_w2192 : (Jvm.Cond.selects "CaptainClaims" ({ cls := "CaptainClaims", name := "candidateCount", desc := "()I" } : Jvm.MethodName) ({ cls := "CaptainClaims", name := "candidateCount", desc := "()I" } : Jvm.MethodName)) ∈ lw_all := lw_g (lw_at lw_m9 160 rfl) rfl
theorem q_w2193 : (Jvm.Cond.code ({ cls := "CaptainClaims", name := "candidateCount", desc := "()I" } : Jvm.MethodName) prog_1_method_41_code (1 : Nat) (Option.some Jvm.ClassFile.FieldType.int)) ∈ lw_all := lw_g (lw_at lw_m9 161 rfl) rfl
theorem q_w2194 : (Jvm.Cond.methodLink "CaptainClaims" (283 : Nat) ({ cls := "CaptainClaims$Census", name := "candidates", desc := "()I" } : Jvm.MethodName)) ∈ lw_all := lw_g (lw_at lw_m9 162 rfl) rfl
theorem q_w2195 : (Jvm.Cond.instanceMethod ({ cls := "CaptainClaims$Census", name := "candidates", desc := "()I" } : Jvm.MethodName)) ∈ lw_all := lw_g (lw_at lw_m9 163 rfl) rfl
theorem q_w2196 : (Jvm.Cond.selects "CaptainClaims$Census" ({ cls := "CaptainClaims$Census", name := "candidates", desc := "()I" } : Jvm.MethodName) ({ cls := "CaptainClaims$Census", name := "candidates", desc := "()I" } : Jvm.MethodName)) ∈ lw_all := lw_g (lw_at lw_m9 164 rfl) rfl
theorem q_w2197 : (Jvm.Cond.code ({ cls := "CaptainClaims$Census", name := "candidates", desc := "()I" } : Jvm.MethodName) prog_4_method_3_code (1 : Nat) (Option.some Jvm.ClassFile.FieldType.int)) ∈ lw_all := lw_g (lw_at lw_m9 165 rfl) rfl
theorem q_w2198 : (Jvm.Cond.methodLink "CaptainClaims$Census" (39 : Nat) ({ cls := "CaptainClaims$Census", name := "candidatesUpTo", desc := "(I)I" } : Jvm.MethodName)) ∈ lw_all := lw_g (lw_at lw_m9 166 rfl) rfl
theorem q_w2199 : (Jvm.Cond.instanceMethod ({ cls := "CaptainClaims$Census", name := "candidatesUpTo", desc := "(I)I" } : Jvm.MethodName)) ∈ lw_all := lw_g (lw_at lw_m9 167 rfl) rfl
theorem q_w2200 : (Jvm.Cond.selects "CaptainClaims$Census" ({ cls := "CaptainClaims$Census", name := "candidatesUpTo", desc := "(I)I" } : Jvm.MethodName) ({ cls := "CaptainClaims$Census", name := "candidatesUpTo", desc := "(I)I" } : Jvm.MethodName)) ∈ lw_all := lw_g (lw_at lw_m9 168 rfl) rfl
theorem q_w2201 : (Jvm.Cond.code ({ cls := "CaptainClaims$Census", name := "candidatesUpTo", desc := "(I)I" } : Jvm.MethodName) prog_4_method_4_code (4 : Nat) (Option.some Jvm.ClassFile.FieldType.int)) ∈ lw_all := lw_g (lw_at lw_m9 169 rfl) rfl
theorem q_w2202 : (Jvm.Cond.methodLink "CaptainClaimsLaw" (303 : Nat) ({ cls := "CaptainClaimsLaw", name := "candidate", desc := "(LCaptainClaims;I[J)I" } : Jvm.MethodName)) ∈ lw_all := lw_g (lw_at lw_m9 170 rfl) rfl
theorem q_w2203 : (Jvm.Cond.static ({ cls := "CaptainClaimsLaw", name := "candidate", desc := "(LCaptainClaims;I[J)I" } : Jvm.MethodName)) ∈ lw_all := lw_g (lw_at lw_m9 171 rfl) rfl
theorem q_w2204 : (Jvm.Cond.codeWith ({ cls := "CaptainClaimsLaw", name := "candidate", desc := "(LCaptainClaims;I[J)I" } : Jvm.MethodName) method_28_code (4 : Nat) (Option.some Jvm.ClassFile.FieldType.int) [((0 : Nat), (9 : Nat), (12 : Nat), (21 : Nat)), ((0 : Nat), (9 : Nat), (15 : Nat), (13 : Nat))]) ∈ lw_all := lw_g (lw_at lw_m9 172 rfl) rfl
theorem q_w2205 : (Jvm.Cond.methodLink "CaptainClaimsLaw" (96 : Nat) ({ cls := "CaptainClaims", name := "candidate", desc := "(I)I" } : Jvm.MethodName)) ∈ lw_all := lw_g (lw_at lw_m9 173 rfl) rfl
theorem q_w2206 : (Jvm.Cond.instanceMethod ({ cls := "CaptainClaims", name := "candidate", desc := "(I)I" } : Jvm.MethodName)) ∈ lw_all := lw_g (lw_at lw_m9 174 rfl) rfl
theorem q_w2207 : (Jvm.Cond.selects "CaptainClaims" ({ cls := "CaptainClaims", name := "candidate", desc := "(I)I" } : Jvm.MethodName) ({ cls := "CaptainClaims", name := "candidate", desc := "(I)I" } : Jvm.MethodName)) ∈ lw_all := lw_g (lw_at lw_m9 175 rfl) rfl
theorem q_w2208 : (Jvm.Cond.code ({ cls := "CaptainClaims", name := "candidate", desc := "(I)I" } : Jvm.MethodName) prog_1_method_42_code (4 : Nat) (Option.some Jvm.ClassFile.FieldType.int)) ∈ lw_all := lw_g (lw_at lw_m9 176 rfl) rfl
theorem q_w2209 : (Jvm.Cond.methodLink "CaptainClaims" (286 : Nat) ({ cls := "CaptainClaims$Census", name := "candidatesUpTo", desc := "(I)I" } : Jvm.MethodName)) ∈ lw_all := lw_g (lw_at lw_m9 177 rfl) rfl
theorem q_w2210 : (Jvm.Cond.methodLink "CaptainClaimsLaw" (306 : Nat) ({ cls := "CaptainClaimsLaw", name := "exclusionReason", desc := "(LCaptainClaims;II[J)I" } : Jvm.MethodName)) ∈ lw_all := lw_g (lw_at lw_m9 178 rfl) rfl
theorem q_w2211 : (Jvm.Cond.static ({ cls := "CaptainClaimsLaw", name := "exclusionReason", desc := "(LCaptainClaims;II[J)I" } : Jvm.MethodName)) ∈ lw_all := lw_g (lw_at lw_m9 179 rfl) rfl
theorem q_w2212 : (Jvm.Cond.codeWith ({ cls := "CaptainClaimsLaw", name := "exclusionReason", desc := "(LCaptainClaims;II[J)I" } : Jvm.MethodName) method_29_code (5 : Nat) (Option.some Jvm.ClassFile.FieldType.int) [((0 : Nat), (10 : Nat), (13 : Nat), (21 : Nat)), ((0 : Nat), (10 : Nat), (17 : Nat), (13 : Nat))]) ∈ lw_all := lw_g (lw_at lw_m9 180 rfl) rfl
theorem q_w2213 : (Jvm.Cond.methodLink "CaptainClaimsLaw" (99 : Nat) ({ cls := "CaptainClaims", name := "exclusionReason", desc := "(II)I" } : Jvm.MethodName)) ∈ lw_all := lw_g (lw_at lw_m9 181 rfl) rfl
theorem q_w2214 : (Jvm.Cond.instanceMethod ({ cls := "CaptainClaims", name := "exclusionReason", desc := "(II)I" } : Jvm.MethodName)) ∈ lw_all := lw_g (lw_at lw_m9 182 rfl) rfl
theorem q_w2215 : (Jvm.Cond.selects "CaptainClaims" ({ cls := "CaptainClaims", name := "exclusionReason", desc := "(II)I" } : Jvm.MethodName) ({ cls := "CaptainClaims", name := "exclusionReason", desc := "(II)I" } : Jvm.MethodName)) ∈ lw_all := lw_g (lw_at lw_m9 183 rfl) rfl
theorem q_w2216 : (Jvm.Cond.code ({ cls := "CaptainClaims", name := "exclusionReason", desc := "(II)I" } : Jvm.MethodName) prog_1_method_43_code (5 : Nat) (Option.some Jvm.ClassFile.FieldType.int)) ∈ lw_all := lw_g (lw_at lw_m9 184 rfl) rfl
theorem q_w2217 : (Jvm.Cond.methodLink "CaptainClaimsLaw" (309 : Nat) ({ cls := "CaptainClaimsLaw", name := "lyingScenarios", desc := "(LCaptainClaims;I[J)I" } : Jvm.MethodName)) ∈ lw_all := lw_g (lw_at lw_m9 185 rfl) rfl
theorem q_w2218 : (Jvm.Cond.static ({ cls := "CaptainClaimsLaw", name := "lyingScenarios", desc := "(LCaptainClaims;I[J)I" } : Jvm.MethodName)) ∈ lw_all := lw_g (lw_at lw_m9 186 rfl) rfl
theorem q_w2219 : (Jvm.Cond.codeWith ({ cls := "CaptainClaimsLaw", name := "lyingScenarios", desc := "(LCaptainClaims;I[J)I" } : Jvm.MethodName) method_30_code (4 : Nat) (Option.some Jvm.ClassFile.FieldType.int) [((0 : Nat), (9 : Nat), (12 : Nat), (21 : Nat)), ((0 : Nat), (9 : Nat), (15 : Nat), (13 : Nat))]) ∈ lw_all := lw_g (lw_at lw_m9 187 rfl) rfl
theorem q_w2220 : (Jvm.Cond.methodLink "CaptainClaimsLaw" (102 : Nat) ({ cls := "CaptainClaims", name := "lyingScenarios", desc := "(I)I" } : Jvm.MethodName)) ∈ lw_all := lw_g (lw_at lw_m9 188 rfl) rfl
theorem q_w2221 : (Jvm.Cond.instanceMethod ({ cls := "CaptainClaims", name := "lyingScenarios", desc := "(I)I" } : Jvm.MethodName)) ∈ lw_all := lw_g (lw_at lw_m9 189 rfl) rfl
theorem q_w2222 : (Jvm.Cond.selects "CaptainClaims" ({ cls := "CaptainClaims", name := "lyingScenarios", desc := "(I)I" } : Jvm.MethodName) ({ cls := "CaptainClaims", name := "lyingScenarios", desc := "(I)I" } : Jvm.MethodName)) ∈ lw_all := lw_g (lw_at lw_m9 190 rfl) rfl
theorem q_w2223 : (Jvm.Cond.code ({ cls := "CaptainClaims", name := "lyingScenarios", desc := "(I)I" } : Jvm.MethodName) prog_1_method_44_code (2 : Nat) (Option.some Jvm.ClassFile.FieldType.int)) ∈ lw_all := lw_g (lw_at lw_m9 191 rfl) rfl
theorem q_w2224 : (Jvm.Cond.methodLink "CaptainClaimsLaw" (312 : Nat) ({ cls := "CaptainClaimsLaw", name := "isProvedTruthful", desc := "(LCaptainClaims;I[J)I" } : Jvm.MethodName)) ∈ lw_all := lw_g (lw_at lw_m9 192 rfl) rfl
theorem q_w2225 : (Jvm.Cond.static ({ cls := "CaptainClaimsLaw", name := "isProvedTruthful", desc := "(LCaptainClaims;I[J)I" } : Jvm.MethodName)) ∈ lw_all := lw_g (lw_at lw_m9 193 rfl) rfl
theorem q_w2226 : (Jvm.Cond.codeWith ({ cls := "CaptainClaimsLaw", name := "isProvedTruthful", desc := "(LCaptainClaims;I[J)I" } : Jvm.MethodName) method_31_code (4 : Nat) (Option.some Jvm.ClassFile.FieldType.int) [((0 : Nat), (16 : Nat), (19 : Nat), (21 : Nat)), ((0 : Nat), (16 : Nat), (22 : Nat), (13 : Nat))]) ∈ lw_all := lw_g (lw_at lw_m9 194 rfl) rfl
theorem q_w2227 : (Jvm.Cond.methodLink "CaptainClaimsLaw" (105 : Nat) ({ cls := "CaptainClaims", name := "isProvedTruthful", desc := "(I)Z" } : Jvm.MethodName)) ∈ lw_all := lw_g (lw_at lw_m9 195 rfl) rfl
theorem q_w2228 : (Jvm.Cond.instanceMethod ({ cls := "CaptainClaims", name := "isProvedTruthful", desc := "(I)Z" } : Jvm.MethodName)) ∈ lw_all := lw_g (lw_at lw_m9 196 rfl) rfl
theorem q_w2229 : (Jvm.Cond.selects "CaptainClaims" ({ cls := "CaptainClaims", name := "isProvedTruthful", desc := "(I)Z" } : Jvm.MethodName) ({ cls := "CaptainClaims", name := "isProvedTruthful", desc := "(I)Z" } : Jvm.MethodName)) ∈ lw_all := lw_g (lw_at lw_m9 197 rfl) rfl
theorem q_w2230 : (Jvm.Cond.code ({ cls := "CaptainClaims", name := "isProvedTruthful", desc := "(I)Z" } : Jvm.MethodName) prog_1_method_45_code (3 : Nat) (Option.some Jvm.ClassFile.FieldType.boolean)) ∈ lw_all := lw_g (lw_at lw_m9 198 rfl) rfl
theorem q_w2231 : (Jvm.Cond.methodLink "CaptainClaimsLaw" (315 : Nat) ({ cls := "CaptainClaimsLaw", name := "isProvedLiar", desc := "(LCaptainClaims;I[J)I" } : Jvm.MethodName)) ∈ lw_all := lw_g (lw_at lw_m9 199 rfl) rfl
theorem q_w2232 : (Jvm.Cond.static ({ cls := "CaptainClaimsLaw", name := "isProvedLiar", desc := "(LCaptainClaims;I[J)I" } : Jvm.MethodName)) ∈ lw_all := lw_g (lw_at lw_m9 200 rfl) rfl
theorem q_w2233 : (Jvm.Cond.codeWith ({ cls := "CaptainClaimsLaw", name := "isProvedLiar", desc := "(LCaptainClaims;I[J)I" } : Jvm.MethodName) method_32_code (4 : Nat) (Option.some Jvm.ClassFile.FieldType.int) [((0 : Nat), (16 : Nat), (19 : Nat), (21 : Nat)), ((0 : Nat), (16 : Nat), (22 : Nat), (13 : Nat))]) ∈ lw_all := lw_g (lw_at lw_m9 201 rfl) rfl
theorem q_w2234 : (Jvm.Cond.methodLink "CaptainClaimsLaw" (108 : Nat) ({ cls := "CaptainClaims", name := "isProvedLiar", desc := "(I)Z" } : Jvm.MethodName)) ∈ lw_all := lw_g (lw_at lw_m9 202 rfl) rfl
theorem q_w2235 : (Jvm.Cond.instanceMethod ({ cls := "CaptainClaims", name := "isProvedLiar", desc := "(I)Z" } : Jvm.MethodName)) ∈ lw_all := lw_g (lw_at lw_m9 203 rfl) rfl
theorem q_w2236 : (Jvm.Cond.selects "CaptainClaims" ({ cls := "CaptainClaims", name := "isProvedLiar", desc := "(I)Z" } : Jvm.MethodName) ({ cls := "CaptainClaims", name := "isProvedLiar", desc := "(I)Z" } : Jvm.MethodName)) ∈ lw_all := lw_g (lw_at lw_m9 204 rfl) rfl
theorem q_w2237 : (Jvm.Cond.code ({ cls := "CaptainClaims", name := "isProvedLiar", desc := "(I)Z" } : Jvm.MethodName) prog_1_method_46_code (3 : Nat) (Option.some Jvm.ClassFile.FieldType.boolean)) ∈ lw_all := lw_g (lw_at lw_m9 205 rfl) rfl
theorem q_w2238 : (Jvm.Cond.methodLink "CaptainClaimsLaw" (318 : Nat) ({ cls := "CaptainClaimsLaw", name := "inconsistencies", desc := "(LCaptainClaims;[J)I" } : Jvm.MethodName)) ∈ lw_all := lw_g (lw_at lw_m9 206 rfl) rfl
theorem q_w2239 : (Jvm.Cond.static ({ cls := "CaptainClaimsLaw", name := "inconsistencies", desc := "(LCaptainClaims;[J)I" } : Jvm.MethodName)) ∈ lw_all := lw_g (lw_at lw_m9 207 rfl) rfl
theorem q_w2240 : (Jvm.Cond.codeWith ({ cls := "CaptainClaimsLaw", name := "inconsistencies", desc := "(LCaptainClaims;[J)I" } : Jvm.MethodName) method_33_code (3 : Nat) (Option.some Jvm.ClassFile.FieldType.int) [((0 : Nat), (8 : Nat), (11 : Nat), (21 : Nat))]) ∈ lw_all := lw_g (lw_at lw_m9 208 rfl) rfl
theorem q_w2241 : (Jvm.Cond.methodLink "CaptainClaimsLaw" (111 : Nat) ({ cls := "CaptainClaims", name := "inconsistencies", desc := "()I" } : Jvm.MethodName)) ∈ lw_all := lw_g (lw_at lw_m9 209 rfl) rfl
theorem q_w2242 : (Jvm.Cond.instanceMethod ({ cls := "CaptainClaims", name := "inconsistencies", desc := "()I" } : Jvm.MethodName)) ∈ lw_all := lw_g (lw_at lw_m9 210 rfl) rfl
theorem q_w2243 : (Jvm.Cond.selects "CaptainClaims" ({ cls := "CaptainClaims", name := "inconsistencies", desc := "()I" } : Jvm.MethodName) ({ cls := "CaptainClaims", name := "inconsistencies", desc := "()I" } : Jvm.MethodName)) ∈ lw_all := lw_g (lw_at lw_m9 211 rfl) rfl
theorem q_w2244 : (Jvm.Cond.code ({ cls := "CaptainClaims", name := "inconsistencies", desc := "()I" } : Jvm.MethodName) prog_1_method_47_code (7 : Nat) (Option.some Jvm.ClassFile.FieldType.int)) ∈ lw_all := lw_g (lw_at lw_m9 212 rfl) rfl
theorem q_w2245 : (Jvm.Cond.methodLink "CaptainClaims" (297 : Nat) ({ cls := "CaptainClaims$Puzzle", name := "cells", desc := "()I" } : Jvm.MethodName)) ∈ lw_all := lw_g (lw_at lw_m9 213 rfl) rfl
theorem q_w2246 : (Jvm.Cond.methodLink "CaptainClaims" (300 : Nat) ({ cls := "java/lang/Math", name := "abs", desc := "(I)I" } : Jvm.MethodName)) ∈ lw_all := lw_g (lw_at lw_m9 214 rfl) rfl
theorem q_w2247 : (Jvm.Cond.methodLink "CaptainClaims" (305 : Nat) ({ cls := "CaptainClaims$Puzzle", name := "landCells", desc := "()I" } : Jvm.MethodName)) ∈ lw_all := lw_g (lw_at lw_m9 215 rfl) rfl
theorem q_w2248 : (Jvm.Cond.instanceMethod ({ cls := "CaptainClaims$Puzzle", name := "landCells", desc := "()I" } : Jvm.MethodName)) ∈ lw_all := lw_g (lw_at lw_m9 216 rfl) rfl
theorem q_w2249 : (Jvm.Cond.selects "CaptainClaims$Puzzle" ({ cls := "CaptainClaims$Puzzle", name := "landCells", desc := "()I" } : Jvm.MethodName) ({ cls := "CaptainClaims$Puzzle", name := "landCells", desc := "()I" } : Jvm.MethodName)) ∈ lw_all := lw_g (lw_at lw_m9 217 rfl) rfl
theorem q_w2250 : (Jvm.Cond.code ({ cls := "CaptainClaims$Puzzle", name := "landCells", desc := "()I" } : Jvm.MethodName) prog_19_method_12_code (3 : Nat) (Option.some Jvm.ClassFile.FieldType.int)) ∈ lw_all := lw_g (lw_at lw_m9 218 rfl) rfl
theorem q_w2251 : (Jvm.Cond.methodLinkNest "CaptainClaims$Puzzle" (150 : Nat) ({ cls := "CaptainClaims", name := "one", desc := "(Z)I" } : Jvm.MethodName) "CaptainClaims") ∈ lw_tbl := lw_at lw_m9 219 rfl
theorem q_w2252 : (Jvm.Cond.methodLink "CaptainClaimsLaw" (321 : Nat) ({ cls := "CaptainClaimsLaw", name := "isReportedEmpty", desc := "(LCaptainClaims;II[J)I" } : Jvm.MethodName)) ∈ lw_all := lw_g (lw_at lw_m9 220 rfl) rfl
theorem q_w2253 : (Jvm.Cond.static ({ cls := "CaptainClaimsLaw", name := "isReportedEmpty", desc := "(LCaptainClaims;II[J)I" } : Jvm.MethodName)) ∈ lw_all := lw_g (lw_at lw_m9 221 rfl) rfl
theorem q_w2254 : (Jvm.Cond.codeWith ({ cls := "CaptainClaimsLaw", name := "isReportedEmpty", desc := "(LCaptainClaims;II[J)I" } : Jvm.MethodName) method_34_code (5 : Nat) (Option.some Jvm.ClassFile.FieldType.int) [((0 : Nat), (17 : Nat), (20 : Nat), (21 : Nat)), ((0 : Nat), (17 : Nat), (24 : Nat), (13 : Nat))]) ∈ lw_all := lw_g (lw_at lw_m9 222 rfl) rfl
theorem q_w2255 : (Jvm.Cond.methodLink "CaptainClaimsLaw" (114 : Nat) ({ cls := "CaptainClaims", name := "isReportedEmpty", desc := "(II)Z" } : Jvm.MethodName)) ∈ lw_all := lw_g (lw_at lw_m9 223 rfl) rfl
theorem q_w2256 : (Jvm.Cond.instanceMethod ({ cls := "CaptainClaims", name := "isReportedEmpty", desc := "(II)Z" } : Jvm.MethodName)) ∈ lw_all := lw_g (lw_at lw_m9 224 rfl) rfl
theorem q_w2257 : (Jvm.Cond.selects "CaptainClaims" ({ cls := "CaptainClaims", name := "isReportedEmpty", desc := "(II)Z" } : Jvm.MethodName) ({ cls := "CaptainClaims", name := "isReportedEmpty", desc := "(II)Z" } : Jvm.MethodName)) ∈ lw_all := lw_g (lw_at lw_m9 225 rfl) rfl
theorem q_w2258 : (Jvm.Cond.code ({ cls := "CaptainClaims", name := "isReportedEmpty", desc := "(II)Z" } : Jvm.MethodName) prog_1_method_48_code (4 : Nat) (Option.some Jvm.ClassFile.FieldType.boolean)) ∈ lw_all := lw_g (lw_at lw_m9 226 rfl) rfl
theorem q_w2259 : (Jvm.Cond.methodLink "CaptainClaimsLaw" (324 : Nat) ({ cls := "CaptainClaimsLaw", name := "emptyCount", desc := "(LCaptainClaims;[J)I" } : Jvm.MethodName)) ∈ lw_all := lw_g (lw_at lw_m9 227 rfl) rfl
theorem q_w2260 : (Jvm.Cond.static ({ cls := "CaptainClaimsLaw", name := "emptyCount", desc := "(LCaptainClaims;[J)I" } : Jvm.MethodName)) ∈ lw_all := lw_g (lw_at lw_m9 228 rfl) rfl
theorem q_w2261 : (Jvm.Cond.codeWith ({ cls := "CaptainClaimsLaw", name := "emptyCount", desc := "(LCaptainClaims;[J)I" } : Jvm.MethodName) method_35_code (3 : Nat) (Option.some Jvm.ClassFile.FieldType.int) [((0 : Nat), (8 : Nat), (11 : Nat), (21 : Nat))]) ∈ lw_all := lw_g (lw_at lw_m9 229 rfl) rfl
theorem q_w2262 : (Jvm.Cond.methodLink "CaptainClaimsLaw" (117 : Nat) ({ cls := "CaptainClaims", name := "emptyCount", desc := "()I" } : Jvm.MethodName)) ∈ lw_all := lw_g (lw_at lw_m9 230 rfl) rfl
theorem q_w2263 : (Jvm.Cond.instanceMethod ({ cls := "CaptainClaims", name := "emptyCount", desc := "()I" } : Jvm.MethodName)) ∈ lw_all := lw_g (lw_at lw_m9 231 rfl) rfl
theorem q_w2264 : (Jvm.Cond.selects "CaptainClaims" ({ cls := "CaptainClaims", name := "emptyCount", desc := "()I" } : Jvm.MethodName) ({ cls := "CaptainClaims", name := "emptyCount", desc := "()I" } : Jvm.MethodName)) ∈ lw_all := lw_g (lw_at lw_m9 232 rfl) rfl
theorem q_w2265 : (Jvm.Cond.code ({ cls := "CaptainClaims", name := "emptyCount", desc := "()I" } : Jvm.MethodName) prog_1_method_49_code (6 : Nat) (Option.some Jvm.ClassFile.FieldType.int)) ∈ lw_all := lw_g (lw_at lw_m9 233 rfl) rfl
theorem q_w2266 : (Jvm.Cond.methodLink "CaptainClaimsLaw" (327 : Nat) ({ cls := "CaptainClaimsLaw", name := "bestDig", desc := "(LCaptainClaims;[J)I" } : Jvm.MethodName)) ∈ lw_all := lw_g (lw_at lw_m9 234 rfl) rfl
theorem q_w2267 : (Jvm.Cond.static ({ cls := "CaptainClaimsLaw", name := "bestDig", desc := "(LCaptainClaims;[J)I" } : Jvm.MethodName)) ∈ lw_all := lw_g (lw_at lw_m9 235 rfl) rfl
theorem q_w2268 : (Jvm.Cond.codeWith ({ cls := "CaptainClaimsLaw", name := "bestDig", desc := "(LCaptainClaims;[J)I" } : Jvm.MethodName) method_36_code (3 : Nat) (Option.some Jvm.ClassFile.FieldType.int) [((0 : Nat), (8 : Nat), (11 : Nat), (21 : Nat))]) ∈ lw_all := lw_g (lw_at lw_m9 236 rfl) rfl
theorem q_w2269 : (Jvm.Cond.methodLink "CaptainClaimsLaw" (120 : Nat) ({ cls := "CaptainClaims", name := "bestDig", desc := "()I" } : Jvm.MethodName)) ∈ lw_all := lw_g (lw_at lw_m9 237 rfl) rfl
theorem q_w2270 : (Jvm.Cond.instanceMethod ({ cls := "CaptainClaims", name := "bestDig", desc := "()I" } : Jvm.MethodName)) ∈ lw_all := lw_g (lw_at lw_m9 238 rfl) rfl
theorem q_w2271 : (Jvm.Cond.selects "CaptainClaims" ({ cls := "CaptainClaims", name := "bestDig", desc := "()I" } : Jvm.MethodName) ({ cls := "CaptainClaims", name := "bestDig", desc := "()I" } : Jvm.MethodName)) ∈ lw_all := lw_g (lw_at lw_m9 239 rfl) rfl
theorem q_w2272 : (Jvm.Cond.code ({ cls := "CaptainClaims", name := "bestDig", desc := "()I" } : Jvm.MethodName) prog_1_method_50_code (2 : Nat) (Option.some Jvm.ClassFile.FieldType.int)) ∈ lw_all := lw_g (lw_at lw_m10 0 rfl) rfl
theorem q_w2273 : (Jvm.Cond.methodLink "CaptainClaims" (308 : Nat) ({ cls := "CaptainClaims$Census", name := "best", desc := "([Z)I" } : Jvm.MethodName)) ∈ lw_all := lw_g (lw_at lw_m10 1 rfl) rfl
theorem q_w2274 : (Jvm.Cond.instanceMethod ({ cls := "CaptainClaims$Census", name := "best", desc := "([Z)I" } : Jvm.MethodName)) ∈ lw_all := lw_g (lw_at lw_m10 2 rfl) rfl
theorem q_w2275 : (Jvm.Cond.selects "CaptainClaims$Census" ({ cls := "CaptainClaims$Census", name := "best", desc := "([Z)I" } : Jvm.MethodName) ({ cls := "CaptainClaims$Census", name := "best", desc := "([Z)I" } : Jvm.MethodName)) ∈ lw_all := lw_g (lw_at lw_m10 3 rfl) rfl
theorem q_w2276 : (Jvm.Cond.code ({ cls := "CaptainClaims$Census", name := "best", desc := "([Z)I" } : Jvm.MethodName) prog_4_method_5_code (4 : Nat) (Option.some Jvm.ClassFile.FieldType.int)) ∈ lw_all := lw_g (lw_at lw_m10 4 rfl) rfl
theorem q_w2277 : (Jvm.Cond.methodLink "CaptainClaimsLaw" (330 : Nat) ({ cls := "CaptainClaimsLaw", name := "expectedDigs", desc := "(LCaptainClaims;[D)I" } : Jvm.MethodName)) ∈ lw_all := lw_g (lw_at lw_m10 5 rfl) rfl
theorem q_w2278 : (Jvm.Cond.static ({ cls := "CaptainClaimsLaw", name := "expectedDigs", desc := "(LCaptainClaims;[D)I" } : Jvm.MethodName)) ∈ lw_all := lw_g (lw_at lw_m10 6 rfl) rfl
theorem q_w2279 : (Jvm.Cond.codeWith ({ cls := "CaptainClaimsLaw", name := "expectedDigs", desc := "(LCaptainClaims;[D)I" } : Jvm.MethodName) method_37_code (3 : Nat) (Option.some Jvm.ClassFile.FieldType.int) [((0 : Nat), (7 : Nat), (10 : Nat), (21 : Nat))]) ∈ lw_all := lw_g (lw_at lw_m10 7 rfl) rfl
theorem q_w2280 : (Jvm.Cond.methodLink "CaptainClaimsLaw" (123 : Nat) ({ cls := "CaptainClaims", name := "expectedDigs", desc := "()D" } : Jvm.MethodName)) ∈ lw_all := lw_g (lw_at lw_m10 8 rfl) rfl
theorem q_w2281 : (Jvm.Cond.instanceMethod ({ cls := "CaptainClaims", name := "expectedDigs", desc := "()D" } : Jvm.MethodName)) ∈ lw_all := lw_g (lw_at lw_m10 9 rfl) rfl
theorem q_w2282 : (Jvm.Cond.selects "CaptainClaims" ({ cls := "CaptainClaims", name := "expectedDigs", desc := "()D" } : Jvm.MethodName) ({ cls := "CaptainClaims", name := "expectedDigs", desc := "()D" } : Jvm.MethodName)) ∈ lw_all := lw_g (lw_at lw_m10 10 rfl) rfl
theorem q_w2283 : (Jvm.Cond.code ({ cls := "CaptainClaims", name := "expectedDigs", desc := "()D" } : Jvm.MethodName) prog_1_method_51_code (7 : Nat) (Option.some Jvm.ClassFile.FieldType.double)) ∈ lw_all := lw_g (lw_at lw_m10 11 rfl) rfl
theorem q_w2284 : (Jvm.Cond.methodLink "CaptainClaimsLaw" (334 : Nat) ({ cls := "CaptainClaimsLaw", name := "candidatesIfTruthful", desc := "(LCaptainClaims;I[J)I" } : Jvm.MethodName)) ∈ lw_all := lw_g (lw_at lw_m10 12 rfl) rfl
theorem q_w2285 : (Jvm.Cond.static ({ cls := "CaptainClaimsLaw", name := "candidatesIfTruthful", desc := "(LCaptainClaims;I[J)I" } : Jvm.MethodName)) ∈ lw_all := lw_g (lw_at lw_m10 13 rfl) rfl
theorem q_w2286 : (Jvm.Cond.codeWith ({ cls := "CaptainClaimsLaw", name := "candidatesIfTruthful", desc := "(LCaptainClaims;I[J)I" } : Jvm.MethodName) method_38_code (4 : Nat) (Option.some Jvm.ClassFile.FieldType.int) [((0 : Nat), (9 : Nat), (12 : Nat), (21 : Nat)), ((0 : Nat), (9 : Nat), (15 : Nat), (13 : Nat))]) ∈ lw_all := lw_g (lw_at lw_m10 14 rfl) rfl
theorem q_w2287 : (Jvm.Cond.methodLink "CaptainClaimsLaw" (127 : Nat) ({ cls := "CaptainClaims", name := "candidatesIfTruthful", desc := "(I)I" } : Jvm.MethodName)) ∈ lw_all := lw_g (lw_at lw_m10 15 rfl) rfl
theorem q_w2288 : (Jvm.Cond.instanceMethod ({ cls := "CaptainClaims", name := "candidatesIfTruthful", desc := "(I)I" } : Jvm.MethodName)) ∈ lw_all := lw_g (lw_at lw_m10 16 rfl) rfl
theorem q_w2289 : (Jvm.Cond.selects "CaptainClaims" ({ cls := "CaptainClaims", name := "candidatesIfTruthful", desc := "(I)I" } : Jvm.MethodName) ({ cls := "CaptainClaims", name := "candidatesIfTruthful", desc := "(I)I" } : Jvm.MethodName)) ∈ lw_all := lw_g (lw_at lw_m10 17 rfl) rfl
theorem q_w2290 : (Jvm.Cond.code ({ cls := "CaptainClaims", name := "candidatesIfTruthful", desc := "(I)I" } : Jvm.MethodName) prog_1_method_53_code (2 : Nat) (Option.some Jvm.ClassFile.FieldType.int)) ∈ lw_all := lw_g (lw_at lw_m10 18 rfl) rfl
theorem q_w2291 : (Jvm.Cond.methodLink "CaptainClaims" (315 : Nat) ({ cls := "CaptainClaims", name := "candidatesIf", desc := "(ILCaptainClaims$Declaration;)I" } : Jvm.MethodName)) ∈ lw_all := lw_g (lw_at lw_m10 19 rfl) rfl
theorem q_w2293 : (Jvm.Cond.instanceMethod ({ cls := "CaptainClaims", name := "candidatesIf", desc := "(ILCaptainClaims$Declaration;)I" } : Jvm.MethodName)) ∈ lw_all := lw_g (lw_at lw_m10 21 rfl) rfl
theorem q_w2294 : (Jvm.Cond.code ({ cls := "CaptainClaims", name := "candidatesIf", desc := "(ILCaptainClaims$Declaration;)I" } : Jvm.MethodName) prog_1_method_52_code (4 : Nat) (Option.some Jvm.ClassFile.FieldType.int)) ∈ lw_all := lw_g (lw_at lw_m10 22 rfl) rfl
theorem q_w2295 : (Jvm.Cond.methodLink "CaptainClaims" (312 : Nat) ({ cls := "CaptainClaims$Puzzle", name := "<init>", desc := "(LCaptainClaims$Puzzle;)V" } : Jvm.MethodName)) ∈ lw_all := lw_g (lw_at lw_m10 23 rfl) rfl
theorem q_w2296 : (Jvm.Cond.instanceMethod ({ cls := "CaptainClaims$Puzzle", name := "<init>", desc := "(LCaptainClaims$Puzzle;)V" } : Jvm.MethodName)) ∈ lw_all := lw_g (lw_at lw_m10 24 rfl) rfl
theorem q_w2297 : (Jvm.Cond.code ({ cls := "CaptainClaims$Puzzle", name := "<init>", desc := "(LCaptainClaims$Puzzle;)V" } : Jvm.MethodName) prog_19_method_2_code (3 : Nat) (Option.none : Option Jvm.ClassFile.FieldType)) ∈ lw_all := lw_g (lw_at lw_m10 25 rfl) rfl
theorem q_w2298 : (Jvm.Cond.methodLink "CaptainClaims$Puzzle" (67 : Nat) ({ cls := "java/lang/System", name := "arraycopy", desc := "(Ljava/lang/Object;ILjava/lang/Object;II)V" } : Jvm.MethodName)) ∈ lw_all := lw_g (lw_at lw_m10 26 rfl) rfl
theorem q_w2299 : (Jvm.Cond.methodLink "CaptainClaims$Puzzle" (92 : Nat) ({ cls := "CaptainClaims$Register", name := "addAll", desc := "(LCaptainClaims$Register;)V" } : Jvm.MethodName)) ∈ lw_all := lw_g (lw_at lw_m10 27 rfl) rfl
theorem q_w2300 : (Jvm.Cond.instanceMethod ({ cls := "CaptainClaims$Register", name := "addAll", desc := "(LCaptainClaims$Register;)V" } : Jvm.MethodName)) ∈ lw_all := lw_g (lw_at lw_m10 28 rfl) rfl
theorem q_w2301 : (Jvm.Cond.selects "CaptainClaims$Register" ({ cls := "CaptainClaims$Register", name := "addAll", desc := "(LCaptainClaims$Register;)V" } : Jvm.MethodName) ({ cls := "CaptainClaims$Register", name := "addAll", desc := "(LCaptainClaims$Register;)V" } : Jvm.MethodName)) ∈ lw_all := lw_g (lw_at lw_m10 29 rfl) rfl
theorem q_w2302 : (Jvm.Cond.code ({ cls := "CaptainClaims$Register", name := "addAll", desc := "(LCaptainClaims$Register;)V" } : Jvm.MethodName) prog_21_method_3_code (3 : Nat) (Option.none : Option Jvm.ClassFile.FieldType)) ∈ lw_all := lw_g (lw_at lw_m10 30 rfl) rfl
theorem q_w2303 : (Jvm.Cond.methodLink "CaptainClaims$Register" (26 : Nat) ({ cls := "CaptainClaims$Register", name := "size", desc := "()I" } : Jvm.MethodName)) ∈ lw_all := lw_g (lw_at lw_m10 31 rfl) rfl
theorem q_w2304 : (Jvm.Cond.methodLink "CaptainClaims$Register" (30 : Nat) ({ cls := "CaptainClaims$Register", name := "get", desc := "(I)LCaptainClaims$Named;" } : Jvm.MethodName)) ∈ lw_all := lw_g (lw_at lw_m10 32 rfl) rfl
theorem q_w2305 : (Jvm.Cond.methodLink "CaptainClaims$Register" (34 : Nat) ({ cls := "CaptainClaims$Register", name := "add", desc := "(LCaptainClaims$Named;)V" } : Jvm.MethodName)) ∈ lw_all := lw_g (lw_at lw_m10 33 rfl) rfl
theorem q_w2307 : (Jvm.Cond.methodLink "CaptainClaims$Puzzle" (108 : Nat) ({ cls := "java/util/List", name := "add", desc := "(Ljava/lang/Object;)Z" } : Jvm.MethodName)) ∈ lw_all := lw_g (lw_at lw_m10 35 rfl) rfl
theorem q_w2308 : (Jvm.Cond.methodLink "CaptainClaimsLaw" (337 : Nat) ({ cls := "CaptainClaimsLaw", name := "candidatesIfLiar", desc := "(LCaptainClaims;I[J)I" } : Jvm.MethodName)) ∈ lw_all := lw_g (lw_at lw_m10 36 rfl) rfl
theorem q_w2309 : (Jvm.Cond.static ({ cls := "CaptainClaimsLaw", name := "candidatesIfLiar", desc := "(LCaptainClaims;I[J)I" } : Jvm.MethodName)) ∈ lw_all := lw_g (lw_at lw_m10 37 rfl) rfl
theorem q_w2310 : (Jvm.Cond.codeWith ({ cls := "CaptainClaimsLaw", name := "candidatesIfLiar", desc := "(LCaptainClaims;I[J)I" } : Jvm.MethodName) method_39_code (4 : Nat) (Option.some Jvm.ClassFile.FieldType.int) [((0 : Nat), (9 : Nat), (12 : Nat), (21 : Nat)), ((0 : Nat), (9 : Nat), (15 : Nat), (13 : Nat))]) ∈ lw_all := lw_g (lw_at lw_m10 38 rfl) rfl
theorem q_w2311 : (Jvm.Cond.methodLink "CaptainClaimsLaw" (130 : Nat) ({ cls := "CaptainClaims", name := "candidatesIfLiar", desc := "(I)I" } : Jvm.MethodName)) ∈ lw_all := lw_g (lw_at lw_m10 39 rfl) rfl
theorem q_w2312 : (Jvm.Cond.instanceMethod ({ cls := "CaptainClaims", name := "candidatesIfLiar", desc := "(I)I" } : Jvm.MethodName)) ∈ lw_all := lw_g (lw_at lw_m10 40 rfl) rfl
theorem q_w2313 : (Jvm.Cond.selects "CaptainClaims" ({ cls := "CaptainClaims", name := "candidatesIfLiar", desc := "(I)I" } : Jvm.MethodName) ({ cls := "CaptainClaims", name := "candidatesIfLiar", desc := "(I)I" } : Jvm.MethodName)) ∈ lw_all := lw_g (lw_at lw_m10 41 rfl) rfl
theorem q_w2314 : (Jvm.Cond.code ({ cls := "CaptainClaims", name := "candidatesIfLiar", desc := "(I)I" } : Jvm.MethodName) prog_1_method_54_code (2 : Nat) (Option.some Jvm.ClassFile.FieldType.int)) ∈ lw_all := lw_g (lw_at lw_m10 42 rfl) rfl
theorem q_w2315 : (Jvm.Cond.methodLink "CaptainClaimsLaw" (340 : Nat) ({ cls := "CaptainClaimsLaw", name := "candidatesWithout", desc := "(LCaptainClaims;I[J)I" } : Jvm.MethodName)) ∈ lw_all := lw_g (lw_at lw_m10 43 rfl) rfl
theorem q_w2316 : (Jvm.Cond.static ({ cls := "CaptainClaimsLaw", name := "candidatesWithout", desc := "(LCaptainClaims;I[J)I" } : Jvm.MethodName)) ∈ lw_all := lw_g (lw_at lw_m10 44 rfl) rfl
theorem q_w2317 : (Jvm.Cond.codeWith ({ cls := "CaptainClaimsLaw", name := "candidatesWithout", desc := "(LCaptainClaims;I[J)I" } : Jvm.MethodName) method_40_code (4 : Nat) (Option.some Jvm.ClassFile.FieldType.int) [((0 : Nat), (9 : Nat), (12 : Nat), (21 : Nat)), ((0 : Nat), (9 : Nat), (15 : Nat), (13 : Nat))]) ∈ lw_all := lw_g (lw_at lw_m10 45 rfl) rfl
theorem q_w2318 : (Jvm.Cond.methodLink "CaptainClaimsLaw" (133 : Nat) ({ cls := "CaptainClaims", name := "candidatesWithout", desc := "(I)I" } : Jvm.MethodName)) ∈ lw_all := lw_g (lw_at lw_m10 46 rfl) rfl
theorem q_w2319 : (Jvm.Cond.instanceMethod ({ cls := "CaptainClaims", name := "candidatesWithout", desc := "(I)I" } : Jvm.MethodName)) ∈ lw_all := lw_g (lw_at lw_m10 47 rfl) rfl
theorem q_w2320 : (Jvm.Cond.selects "CaptainClaims" ({ cls := "CaptainClaims", name := "candidatesWithout", desc := "(I)I" } : Jvm.MethodName) ({ cls := "CaptainClaims", name := "candidatesWithout", desc := "(I)I" } : Jvm.MethodName)) ∈ lw_all := lw_g (lw_at lw_m10 48 rfl) rfl
theorem q_w2321 : (Jvm.Cond.code ({ cls := "CaptainClaims", name := "candidatesWithout", desc := "(I)I" } : Jvm.MethodName) prog_1_method_55_code (2 : Nat) (Option.some Jvm.ClassFile.FieldType.int)) ∈ lw_all := lw_g (lw_at lw_m10 49 rfl) rfl
theorem q_w2322 : (Jvm.Cond.methodLink "CaptainClaims" (319 : Nat) ({ cls := "CaptainClaims$Puzzle", name := "census", desc := "(I)LCaptainClaims$Census;" } : Jvm.MethodName)) ∈ lw_all := lw_g (lw_at lw_m10 50 rfl) rfl
theorem q_w2323 : (Jvm.Cond.methodLink "CaptainClaimsLaw" (343 : Nat) ({ cls := "CaptainClaimsLaw", name := "mostUsefulStatement", desc := "(LCaptainClaims;[J)I" } : Jvm.MethodName)) ∈ lw_all := lw_g (lw_at lw_m10 51 rfl) rfl
theorem q_w2324 : (Jvm.Cond.static ({ cls := "CaptainClaimsLaw", name := "mostUsefulStatement", desc := "(LCaptainClaims;[J)I" } : Jvm.MethodName)) ∈ lw_all := lw_g (lw_at lw_m10 52 rfl) rfl
theorem q_w2325 : (Jvm.Cond.codeWith ({ cls := "CaptainClaimsLaw", name := "mostUsefulStatement", desc := "(LCaptainClaims;[J)I" } : Jvm.MethodName) method_41_code (3 : Nat) (Option.some Jvm.ClassFile.FieldType.int) [((0 : Nat), (8 : Nat), (11 : Nat), (21 : Nat))]) ∈ lw_all := lw_g (lw_at lw_m10 53 rfl) rfl
theorem q_w2326 : (Jvm.Cond.methodLink "CaptainClaimsLaw" (136 : Nat) ({ cls := "CaptainClaims", name := "mostUsefulStatement", desc := "()I" } : Jvm.MethodName)) ∈ lw_all := lw_g (lw_at lw_m10 54 rfl) rfl
theorem q_w2327 : (Jvm.Cond.instanceMethod ({ cls := "CaptainClaims", name := "mostUsefulStatement", desc := "()I" } : Jvm.MethodName)) ∈ lw_all := lw_g (lw_at lw_m10 55 rfl) rfl
theorem q_w2328 : (Jvm.Cond.selects "CaptainClaims" ({ cls := "CaptainClaims", name := "mostUsefulStatement", desc := "()I" } : Jvm.MethodName) ({ cls := "CaptainClaims", name := "mostUsefulStatement", desc := "()I" } : Jvm.MethodName)) ∈ lw_all := lw_g (lw_at lw_m10 56 rfl) rfl
theorem q_w2329 : (Jvm.Cond.code ({ cls := "CaptainClaims", name := "mostUsefulStatement", desc := "()I" } : Jvm.MethodName) prog_1_method_56_code (4 : Nat) (Option.some Jvm.ClassFile.FieldType.int)) ∈ lw_all := lw_g (lw_at lw_m10 57 rfl) rfl
theorem q_w2330 : (Jvm.Cond.methodLink "CaptainClaimsLaw" (346 : Nat) ({ cls := "CaptainClaimsLaw", name := "redundantStatements", desc := "(LCaptainClaims;[J)I" } : Jvm.MethodName)) ∈ lw_all := lw_g (lw_at lw_m10 58 rfl) rfl
theorem q_w2331 : (Jvm.Cond.static ({ cls := "CaptainClaimsLaw", name := "redundantStatements", desc := "(LCaptainClaims;[J)I" } : Jvm.MethodName)) ∈ lw_all := lw_g (lw_at lw_m10 59 rfl) rfl
theorem q_w2332 : (Jvm.Cond.codeWith ({ cls := "CaptainClaimsLaw", name := "redundantStatements", desc := "(LCaptainClaims;[J)I" } : Jvm.MethodName) method_42_code (3 : Nat) (Option.some Jvm.ClassFile.FieldType.int) [((0 : Nat), (8 : Nat), (11 : Nat), (21 : Nat))]) ∈ lw_all := lw_g (lw_at lw_m10 60 rfl) rfl
theorem q_w2333 : (Jvm.Cond.methodLink "CaptainClaimsLaw" (139 : Nat) ({ cls := "CaptainClaims", name := "redundantStatements", desc := "()I" } : Jvm.MethodName)) ∈ lw_all := lw_g (lw_at lw_m10 61 rfl) rfl
theorem q_w2334 : (Jvm.Cond.instanceMethod ({ cls := "CaptainClaims", name := "redundantStatements", desc := "()I" } : Jvm.MethodName)) ∈ lw_all := lw_g (lw_at lw_m10 62 rfl) rfl
theorem q_w2335 : (Jvm.Cond.selects "CaptainClaims" ({ cls := "CaptainClaims", name := "redundantStatements", desc := "()I" } : Jvm.MethodName) ({ cls := "CaptainClaims", name := "redundantStatements", desc := "()I" } : Jvm.MethodName)) ∈ lw_all := lw_g (lw_at lw_m10 63 rfl) rfl
theorem q_w2336 : (Jvm.Cond.code ({ cls := "CaptainClaims", name := "redundantStatements", desc := "()I" } : Jvm.MethodName) prog_1_method_57_code (5 : Nat) (Option.some Jvm.ClassFile.FieldType.int)) ∈ lw_all := lw_g (lw_at lw_m10 64 rfl) rfl
theorem q_w2337 : (Jvm.Cond.methodLink "CaptainClaimsLaw" (349 : Nat) ({ cls := "CaptainClaimsLaw", name := "bestRowSplit", desc := "(LCaptainClaims;[J)I" } : Jvm.MethodName)) ∈ lw_all := lw_g (lw_at lw_m10 65 rfl) rfl
theorem q_w2338 : (Jvm.Cond.static ({ cls := "CaptainClaimsLaw", name := "bestRowSplit", desc := "(LCaptainClaims;[J)I" } : Jvm.MethodName)) ∈ lw_all := lw_g (lw_at lw_m10 66 rfl) rfl
theorem q_w2339 : (Jvm.Cond.codeWith ({ cls := "CaptainClaimsLaw", name := "bestRowSplit", desc := "(LCaptainClaims;[J)I" } : Jvm.MethodName) method_43_code (3 : Nat) (Option.some Jvm.ClassFile.FieldType.int) [((0 : Nat), (8 : Nat), (11 : Nat), (21 : Nat))]) ∈ lw_all := lw_g (lw_at lw_m10 67 rfl) rfl
theorem q_w2340 : (Jvm.Cond.methodLink "CaptainClaimsLaw" (142 : Nat) ({ cls := "CaptainClaims", name := "bestRowSplit", desc := "()I" } : Jvm.MethodName)) ∈ lw_all := lw_g (lw_at lw_m10 68 rfl) rfl
theorem q_w2341 : (Jvm.Cond.instanceMethod ({ cls := "CaptainClaims", name := "bestRowSplit", desc := "()I" } : Jvm.MethodName)) ∈ lw_all := lw_g (lw_at lw_m10 69 rfl) rfl
theorem q_w2342 : (Jvm.Cond.selects "CaptainClaims" ({ cls := "CaptainClaims", name := "bestRowSplit", desc := "()I" } : Jvm.MethodName) ({ cls := "CaptainClaims", name := "bestRowSplit", desc := "()I" } : Jvm.MethodName)) ∈ lw_all := lw_g (lw_at lw_m10 70 rfl) rfl
theorem q_w2343 : (Jvm.Cond.code ({ cls := "CaptainClaims", name := "bestRowSplit", desc := "()I" } : Jvm.MethodName) prog_1_method_58_code (9 : Nat) (Option.some Jvm.ClassFile.FieldType.int)) ∈ lw_all := lw_g (lw_at lw_m10 71 rfl) rfl
theorem q_w2344 : (Jvm.Cond.methodLink "CaptainClaims" (322 : Nat) ({ cls := "java/lang/Math", name := "max", desc := "(II)I" } : Jvm.MethodName)) ∈ lw_all := lw_g (lw_at lw_m10 72 rfl) rfl
theorem q_w2345 : (Jvm.Cond.methodLink "CaptainClaimsLaw" (352 : Nat) ({ cls := "CaptainClaimsLaw", name := "candidateShare", desc := "(LCaptainClaims;[D)I" } : Jvm.MethodName)) ∈ lw_all := lw_g (lw_at lw_m10 73 rfl) rfl
theorem q_w2346 : (Jvm.Cond.static ({ cls := "CaptainClaimsLaw", name := "candidateShare", desc := "(LCaptainClaims;[D)I" } : Jvm.MethodName)) ∈ lw_all := lw_g (lw_at lw_m10 74 rfl) rfl
theorem q_w2347 : (Jvm.Cond.codeWith ({ cls := "CaptainClaimsLaw", name := "candidateShare", desc := "(LCaptainClaims;[D)I" } : Jvm.MethodName) method_44_code (3 : Nat) (Option.some Jvm.ClassFile.FieldType.int) [((0 : Nat), (8 : Nat), (11 : Nat), (21 : Nat))]) ∈ lw_all := lw_g (lw_at lw_m10 75 rfl) rfl
theorem q_w2348 : (Jvm.Cond.methodLink "CaptainClaimsLaw" (145 : Nat) ({ cls := "CaptainClaims", name := "candidateShare", desc := "()F" } : Jvm.MethodName)) ∈ lw_all := lw_g (lw_at lw_m10 76 rfl) rfl
theorem q_w2349 : (Jvm.Cond.instanceMethod ({ cls := "CaptainClaims", name := "candidateShare", desc := "()F" } : Jvm.MethodName)) ∈ lw_all := lw_g (lw_at lw_m10 77 rfl) rfl
theorem q_w2350 : (Jvm.Cond.selects "CaptainClaims" ({ cls := "CaptainClaims", name := "candidateShare", desc := "()F" } : Jvm.MethodName) ({ cls := "CaptainClaims", name := "candidateShare", desc := "()F" } : Jvm.MethodName)) ∈ lw_all := lw_g (lw_at lw_m10 78 rfl) rfl
theorem q_w2351 : (Jvm.Cond.code ({ cls := "CaptainClaims", name := "candidateShare", desc := "()F" } : Jvm.MethodName) prog_1_method_59_code (3 : Nat) (Option.some Jvm.ClassFile.FieldType.float)) ∈ lw_all := lw_g (lw_at lw_m10 79 rfl) rfl
theorem q_w2352 : (Jvm.Cond.methodLink "CaptainClaimsLaw" (355 : Nat) ({ cls := "CaptainClaimsLaw", name := "meanLiars", desc := "(LCaptainClaims;[D)I" } : Jvm.MethodName)) ∈ lw_all := lw_g (lw_at lw_m10 80 rfl) rfl
theorem q_w2353 : (Jvm.Cond.static ({ cls := "CaptainClaimsLaw", name := "meanLiars", desc := "(LCaptainClaims;[D)I" } : Jvm.MethodName)) ∈ lw_all := lw_g (lw_at lw_m10 81 rfl) rfl
theorem q_w2354 : (Jvm.Cond.codeWith ({ cls := "CaptainClaimsLaw", name := "meanLiars", desc := "(LCaptainClaims;[D)I" } : Jvm.MethodName) method_45_code (3 : Nat) (Option.some Jvm.ClassFile.FieldType.int) [((0 : Nat), (7 : Nat), (10 : Nat), (21 : Nat))]) ∈ lw_all := lw_g (lw_at lw_m10 82 rfl) rfl
theorem q_w2355 : (Jvm.Cond.methodLink "CaptainClaimsLaw" (149 : Nat) ({ cls := "CaptainClaims", name := "meanLiars", desc := "()D" } : Jvm.MethodName)) ∈ lw_all := lw_g (lw_at lw_m10 83 rfl) rfl
theorem q_w2356 : (Jvm.Cond.instanceMethod ({ cls := "CaptainClaims", name := "meanLiars", desc := "()D" } : Jvm.MethodName)) ∈ lw_all := lw_g (lw_at lw_m10 84 rfl) rfl
theorem q_w2357 : (Jvm.Cond.selects "CaptainClaims" ({ cls := "CaptainClaims", name := "meanLiars", desc := "()D" } : Jvm.MethodName) ({ cls := "CaptainClaims", name := "meanLiars", desc := "()D" } : Jvm.MethodName)) ∈ lw_all := lw_g (lw_at lw_m10 85 rfl) rfl
theorem q_w2358 : (Jvm.Cond.code ({ cls := "CaptainClaims", name := "meanLiars", desc := "()D" } : Jvm.MethodName) prog_1_method_60_code (2 : Nat) (Option.some Jvm.ClassFile.FieldType.double)) ∈ lw_all := lw_g (lw_at lw_m10 86 rfl) rfl
theorem q_w2359 : (Jvm.Cond.methodLink "CaptainClaimsLaw" (358 : Nat) ({ cls := "CaptainClaimsLaw", name := "writeRow", desc := "(LCaptainClaims;I[J)I" } : Jvm.MethodName)) ∈ lw_all := lw_g (lw_at lw_m10 87 rfl) rfl
theorem q_w2360 : (Jvm.Cond.static ({ cls := "CaptainClaimsLaw", name := "writeRow", desc := "(LCaptainClaims;I[J)I" } : Jvm.MethodName)) ∈ lw_all := lw_g (lw_at lw_m10 88 rfl) rfl
theorem q_w2361 : (Jvm.Cond.codeWith ({ cls := "CaptainClaimsLaw", name := "writeRow", desc := "(LCaptainClaims;I[J)I" } : Jvm.MethodName) method_46_code (4 : Nat) (Option.some Jvm.ClassFile.FieldType.int) [((0 : Nat), (9 : Nat), (12 : Nat), (21 : Nat)), ((0 : Nat), (9 : Nat), (15 : Nat), (13 : Nat))]) ∈ lw_all := lw_g (lw_at lw_m10 89 rfl) rfl
theorem q_w2362 : (Jvm.Cond.methodLink "CaptainClaimsLaw" (152 : Nat) ({ cls := "CaptainClaims", name := "writeRow", desc := "(I)I" } : Jvm.MethodName)) ∈ lw_all := lw_g (lw_at lw_m10 90 rfl) rfl
theorem q_w2363 : (Jvm.Cond.instanceMethod ({ cls := "CaptainClaims", name := "writeRow", desc := "(I)I" } : Jvm.MethodName)) ∈ lw_all := lw_g (lw_at lw_m10 91 rfl) rfl
theorem q_w2364 : (Jvm.Cond.selects "CaptainClaims" ({ cls := "CaptainClaims", name := "writeRow", desc := "(I)I" } : Jvm.MethodName) ({ cls := "CaptainClaims", name := "writeRow", desc := "(I)I" } : Jvm.MethodName)) ∈ lw_all := lw_g (lw_at lw_m10 92 rfl) rfl
theorem q_w2365 : (Jvm.Cond.code ({ cls := "CaptainClaims", name := "writeRow", desc := "(I)I" } : Jvm.MethodName) prog_1_method_63_code (6 : Nat) (Option.some Jvm.ClassFile.FieldType.int)) ∈ lw_all := lw_g (lw_at lw_m10 93 rfl) rfl
theorem q_w2366 : (Jvm.Cond.classLink "CaptainClaims" (329 : Nat) "java/lang/StringBuilder") ∈ lw_all := lw_g (lw_at lw_m10 94 rfl) rfl
theorem q_w2367 : (Jvm.Cond.methodLink "CaptainClaims" (337 : Nat) ({ cls := "java/lang/StringBuilder", name := "<init>", desc := "(I)V" } : Jvm.MethodName)) ∈ lw_all := lw_g (lw_at lw_m10 95 rfl) rfl
theorem q_w2368 : (Jvm.Cond.methodLink "CaptainClaims" (338 : Nat) ({ cls := "CaptainClaims", name := "sign", desc := "(LCaptainClaims$Puzzle;LCaptainClaims$Census;I)C" } : Jvm.MethodName)) ∈ lw_all := lw_g (lw_at lw_m10 96 rfl) rfl
theorem q_w2369 : (Jvm.Cond.static ({ cls := "CaptainClaims", name := "sign", desc := "(LCaptainClaims$Puzzle;LCaptainClaims$Census;I)C" } : Jvm.MethodName)) ∈ lw_all := lw_g (lw_at lw_m10 97 rfl) rfl
theorem q_w2370 : (Jvm.Cond.code ({ cls := "CaptainClaims", name := "sign", desc := "(LCaptainClaims$Puzzle;LCaptainClaims$Census;I)C" } : Jvm.MethodName) prog_1_method_62_code (3 : Nat) (Option.some Jvm.ClassFile.FieldType.char)) ∈ lw_all := lw_g (lw_at lw_m10 98 rfl) rfl
theorem q_w2371 : (Jvm.Cond.methodLink "CaptainClaims" (341 : Nat) ({ cls := "java/lang/StringBuilder", name := "append", desc := "(C)Ljava/lang/StringBuilder;" } : Jvm.MethodName)) ∈ lw_all := lw_g (lw_at lw_m10 99 rfl) rfl
theorem q_w2372 : (Jvm.Cond.methodLink "CaptainClaims" (345 : Nat) ({ cls := "CaptainClaims", name := "write", desc := "(Ljava/lang/StringBuilder;)I" } : Jvm.MethodName)) ∈ lw_all := lw_g (lw_at lw_m10 100 rfl) rfl
theorem q_w2374 : (Jvm.Cond.instanceMethod ({ cls := "CaptainClaims", name := "write", desc := "(Ljava/lang/StringBuilder;)I" } : Jvm.MethodName)) ∈ lw_all := lw_g (lw_at lw_m10 102 rfl) rfl
theorem q_w2375 : (Jvm.Cond.code ({ cls := "CaptainClaims", name := "write", desc := "(Ljava/lang/StringBuilder;)I" } : Jvm.MethodName) prog_1_method_61_code (2 : Nat) (Option.some Jvm.ClassFile.FieldType.int)) ∈ lw_all := lw_g (lw_at lw_m10 103 rfl) rfl
theorem q_w2376 : (Jvm.Cond.methodLink "CaptainClaims" (328 : Nat) ({ cls := "java/lang/StringBuilder", name := "toString", desc := "()Ljava/lang/String;" } : Jvm.MethodName)) ∈ lw_all := lw_g (lw_at lw_m10 104 rfl) rfl
theorem q_w2377 : (Jvm.Cond.methodLink "CaptainClaimsLaw" (361 : Nat) ({ cls := "CaptainClaimsLaw", name := "writeStatement", desc := "(LCaptainClaims;I[J)I" } : Jvm.MethodName)) ∈ lw_all := lw_g (lw_at lw_m10 105 rfl) rfl
theorem q_w2378 : (Jvm.Cond.static ({ cls := "CaptainClaimsLaw", name := "writeStatement", desc := "(LCaptainClaims;I[J)I" } : Jvm.MethodName)) ∈ lw_all := lw_g (lw_at lw_m10 106 rfl) rfl
theorem q_w2379 : (Jvm.Cond.codeWith ({ cls := "CaptainClaimsLaw", name := "writeStatement", desc := "(LCaptainClaims;I[J)I" } : Jvm.MethodName) method_47_code (4 : Nat) (Option.some Jvm.ClassFile.FieldType.int) [((0 : Nat), (9 : Nat), (12 : Nat), (21 : Nat)), ((0 : Nat), (9 : Nat), (15 : Nat), (13 : Nat))]) ∈ lw_all := lw_g (lw_at lw_m10 107 rfl) rfl
theorem q_w2380 : (Jvm.Cond.methodLink "CaptainClaimsLaw" (155 : Nat) ({ cls := "CaptainClaims", name := "writeStatement", desc := "(I)I" } : Jvm.MethodName)) ∈ lw_all := lw_g (lw_at lw_m10 108 rfl) rfl
theorem q_w2381 : (Jvm.Cond.instanceMethod ({ cls := "CaptainClaims", name := "writeStatement", desc := "(I)I" } : Jvm.MethodName)) ∈ lw_all := lw_g (lw_at lw_m10 109 rfl) rfl
theorem q_w2382 : (Jvm.Cond.selects "CaptainClaims" ({ cls := "CaptainClaims", name := "writeStatement", desc := "(I)I" } : Jvm.MethodName) ({ cls := "CaptainClaims", name := "writeStatement", desc := "(I)I" } : Jvm.MethodName)) ∈ lw_all := lw_g (lw_at lw_m10 110 rfl) rfl
theorem q_w2383 : (Jvm.Cond.code ({ cls := "CaptainClaims", name := "writeStatement", desc := "(I)I" } : Jvm.MethodName) prog_1_method_64_code (5 : Nat) (Option.some Jvm.ClassFile.FieldType.int)) ∈ lw_all := lw_g (lw_at lw_m10 111 rfl) rfl
theorem q_w2384 : (Jvm.Cond.methodLink "CaptainClaims" (349 : Nat) ({ cls := "java/lang/StringBuilder", name := "append", desc := "(Ljava/lang/String;)Ljava/lang/StringBuilder;" } : Jvm.MethodName)) ∈ lw_all := lw_g (lw_at lw_m10 112 rfl) rfl
theorem q_w2387 : (Jvm.Cond.methodLink "CaptainClaims" (354 : Nat) ({ cls := "CaptainClaims$Claim", name := "write", desc := "(Ljava/lang/StringBuilder;)V" } : Jvm.MethodName)) ∈ lw_all := lw_g (lw_at lw_m10 115 rfl) rfl
theorem q_w2388 : (Jvm.Cond.interfaceMethod "CaptainClaims$Claim" "CaptainClaims$Claim" "write" "(Ljava/lang/StringBuilder;)V") ∈ lw_tbl := lw_at lw_m10 116 rfl
theorem q_w2389 : (Jvm.Cond.declares ({ cls := "CaptainClaims$Claim", name := "write", desc := "(Ljava/lang/StringBuilder;)V" } : Jvm.MethodName)) ∈ lw_tbl := lw_at lw_m10 117 rfl
theorem q_w2390 : (Jvm.Cond.selects "CaptainClaims$BothClaim" ({ cls := "CaptainClaims$Claim", name := "write", desc := "(Ljava/lang/StringBuilder;)V" } : Jvm.MethodName) ({ cls := "CaptainClaims$JoinedClaim", name := "write", desc := "(Ljava/lang/StringBuilder;)V" } : Jvm.MethodName)) ∈ lw_all := lw_g (lw_at lw_m10 118 rfl) rfl
theorem q_w2391 : (Jvm.Cond.unhidden "CaptainClaims$BothClaim" "write" "(Ljava/lang/StringBuilder;)V") ∈ lw_tbl := lw_at lw_m10 119 rfl
theorem q_w2392 : (Jvm.Cond.instanceMethod ({ cls := "CaptainClaims$JoinedClaim", name := "write", desc := "(Ljava/lang/StringBuilder;)V" } : Jvm.MethodName)) ∈ lw_all := lw_g (lw_at lw_m10 120 rfl) rfl
theorem q_w2393 : (Jvm.Cond.publicMethod ({ cls := "CaptainClaims$JoinedClaim", name := "write", desc := "(Ljava/lang/StringBuilder;)V" } : Jvm.MethodName)) ∈ lw_tbl := lw_at lw_m10 121 rfl
theorem q_w2394 : (Jvm.Cond.code ({ cls := "CaptainClaims$JoinedClaim", name := "write", desc := "(Ljava/lang/StringBuilder;)V" } : Jvm.MethodName) prog_12_method_3_code (3 : Nat) (Option.none : Option Jvm.ClassFile.FieldType)) ∈ lw_all := lw_g (lw_at lw_m10 122 rfl) rfl
theorem q_w2395 : (Jvm.Cond.methodLink "CaptainClaims$JoinedClaim" (28 : Nat) ({ cls := "java/lang/StringBuilder", name := "append", desc := "(Ljava/lang/String;)Ljava/lang/StringBuilder;" } : Jvm.MethodName)) ∈ lw_all := lw_g (lw_at lw_m10 123 rfl) rfl
theorem q_w2397 : (Jvm.Cond.methodLink "CaptainClaims$JoinedClaim" (34 : Nat) ({ cls := "java/util/List", name := "size", desc := "()I" } : Jvm.MethodName)) ∈ lw_all := lw_g (lw_at lw_m10 125 rfl) rfl
theorem q_w2398 : (Jvm.Cond.methodLink "CaptainClaims$JoinedClaim" (40 : Nat) ({ cls := "java/lang/StringBuilder", name := "append", desc := "(C)Ljava/lang/StringBuilder;" } : Jvm.MethodName)) ∈ lw_all := lw_g (lw_at lw_m10 126 rfl) rfl
theorem q_w2400 : (Jvm.Cond.methodLink "CaptainClaims$JoinedClaim" (43 : Nat) ({ cls := "java/util/List", name := "get", desc := "(I)Ljava/lang/Object;" } : Jvm.MethodName)) ∈ lw_all := lw_g (lw_at lw_m10 128 rfl) rfl
theorem q_w2401 : (Jvm.Cond.classLink "CaptainClaims$JoinedClaim" (23 : Nat) "CaptainClaims$Claim") ∈ lw_all := lw_g (lw_at lw_m10 129 rfl) rfl
theorem q_w2403 : (Jvm.Cond.methodLink "CaptainClaims$JoinedClaim" (47 : Nat) ({ cls := "CaptainClaims$Claim", name := "write", desc := "(Ljava/lang/StringBuilder;)V" } : Jvm.MethodName)) ∈ lw_all := lw_g (lw_at lw_m10 131 rfl) rfl
theorem q_w2404 : (Jvm.Cond.selects "CaptainClaims$CoastClaim" ({ cls := "CaptainClaims$Claim", name := "write", desc := "(Ljava/lang/StringBuilder;)V" } : Jvm.MethodName) ({ cls := "CaptainClaims$CoastClaim", name := "write", desc := "(Ljava/lang/StringBuilder;)V" } : Jvm.MethodName)) ∈ lw_all := lw_g (lw_at lw_m10 132 rfl) rfl
theorem q_w2405 : (Jvm.Cond.unhidden "CaptainClaims$CoastClaim" "write" "(Ljava/lang/StringBuilder;)V") ∈ lw_tbl := lw_at lw_m10 133 rfl
theorem q_w2406 : (Jvm.Cond.instanceMethod ({ cls := "CaptainClaims$CoastClaim", name := "write", desc := "(Ljava/lang/StringBuilder;)V" } : Jvm.MethodName)) ∈ lw_all := lw_g (lw_at lw_m10 134 rfl) rfl
theorem q_w2407 : (Jvm.Cond.publicMethod ({ cls := "CaptainClaims$CoastClaim", name := "write", desc := "(Ljava/lang/StringBuilder;)V" } : Jvm.MethodName)) ∈ lw_tbl := lw_at lw_m10 135 rfl
theorem q_w2408 : (Jvm.Cond.code ({ cls := "CaptainClaims$CoastClaim", name := "write", desc := "(Ljava/lang/StringBuilder;)V" } : Jvm.MethodName) prog_6_method_3_code (2 : Nat) (Option.none : Option Jvm.ClassFile.FieldType)) ∈ lw_all := lw_g (lw_at lw_m10 136 rfl) rfl
theorem q_w2410 : (Jvm.Cond.methodLink "CaptainClaims$CoastClaim" (15 : Nat) ({ cls := "CaptainClaims$Claim", name := "write", desc := "(Ljava/lang/StringBuilder;Ljava/lang/String;[I)V" } : Jvm.MethodName)) ∈ lw_all := lw_g (lw_at lw_m10 138 rfl) rfl
theorem q_w2411 : (Jvm.Cond.static ({ cls := "CaptainClaims$Claim", name := "write", desc := "(Ljava/lang/StringBuilder;Ljava/lang/String;[I)V" } : Jvm.MethodName)) ∈ lw_all := lw_g (lw_at lw_m10 139 rfl) rfl
theorem q_w2412 : (Jvm.Cond.code ({ cls := "CaptainClaims$Claim", name := "write", desc := "(Ljava/lang/StringBuilder;Ljava/lang/String;[I)V" } : Jvm.MethodName) prog_5_method_4_code (7 : Nat) (Option.none : Option Jvm.ClassFile.FieldType)) ∈ lw_all := lw_g (lw_at lw_m10 140 rfl) rfl
theorem q_w2413 : (Jvm.Cond.methodLink "CaptainClaims$Claim" (1 : Nat) ({ cls := "java/lang/StringBuilder", name := "append", desc := "(Ljava/lang/String;)Ljava/lang/StringBuilder;" } : Jvm.MethodName)) ∈ lw_all := lw_g (lw_at lw_m10 141 rfl) rfl
theorem q_w2414 : (Jvm.Cond.methodLink "CaptainClaims$Claim" (7 : Nat) ({ cls := "java/lang/StringBuilder", name := "append", desc := "(C)Ljava/lang/StringBuilder;" } : Jvm.MethodName)) ∈ lw_all := lw_g (lw_at lw_m10 142 rfl) rfl
theorem q_w2415 : (Jvm.Cond.methodLink "CaptainClaims$Claim" (10 : Nat) ({ cls := "java/lang/StringBuilder", name := "append", desc := "(I)Ljava/lang/StringBuilder;" } : Jvm.MethodName)) ∈ lw_all := lw_g (lw_at lw_m10 143 rfl) rfl
theorem q_w2416 : (Jvm.Cond.selects "CaptainClaims$ColumnClaim" ({ cls := "CaptainClaims$Claim", name := "write", desc := "(Ljava/lang/StringBuilder;)V" } : Jvm.MethodName) ({ cls := "CaptainClaims$RangeClaim", name := "write", desc := "(Ljava/lang/StringBuilder;)V" } : Jvm.MethodName)) ∈ lw_all := lw_g (lw_at lw_m10 144 rfl) rfl
theorem q_w2417 : (Jvm.Cond.unhidden "CaptainClaims$ColumnClaim" "write" "(Ljava/lang/StringBuilder;)V") ∈ lw_tbl := lw_at lw_m10 145 rfl
theorem q_w2418 : (Jvm.Cond.instanceMethod ({ cls := "CaptainClaims$RangeClaim", name := "write", desc := "(Ljava/lang/StringBuilder;)V" } : Jvm.MethodName)) ∈ lw_all := lw_g (lw_at lw_m10 146 rfl) rfl
theorem q_w2419 : (Jvm.Cond.publicMethod ({ cls := "CaptainClaims$RangeClaim", name := "write", desc := "(Ljava/lang/StringBuilder;)V" } : Jvm.MethodName)) ∈ lw_tbl := lw_at lw_m10 147 rfl
theorem q_w2420 : (Jvm.Cond.code ({ cls := "CaptainClaims$RangeClaim", name := "write", desc := "(Ljava/lang/StringBuilder;)V" } : Jvm.MethodName) prog_20_method_4_code (2 : Nat) (Option.none : Option Jvm.ClassFile.FieldType)) ∈ lw_all := lw_g (lw_at lw_m10 148 rfl) rfl
theorem q_w2421 : (Jvm.Cond.methodLink "CaptainClaims$RangeClaim" (30 : Nat) ({ cls := "CaptainClaims$Claim", name := "write", desc := "(Ljava/lang/StringBuilder;Ljava/lang/String;[I)V" } : Jvm.MethodName)) ∈ lw_all := lw_g (lw_at lw_m10 149 rfl) rfl
theorem q_w2422 : (Jvm.Cond.selects "CaptainClaims$EitherClaim" ({ cls := "CaptainClaims$Claim", name := "write", desc := "(Ljava/lang/StringBuilder;)V" } : Jvm.MethodName) ({ cls := "CaptainClaims$JoinedClaim", name := "write", desc := "(Ljava/lang/StringBuilder;)V" } : Jvm.MethodName)) ∈ lw_all := lw_g (lw_at lw_m10 150 rfl) rfl
theorem q_w2423 : (Jvm.Cond.unhidden "CaptainClaims$EitherClaim" "write" "(Ljava/lang/StringBuilder;)V") ∈ lw_tbl := lw_at lw_m10 151 rfl
theorem q_w2424 : (Jvm.Cond.selects "CaptainClaims$HonestClaim" ({ cls := "CaptainClaims$Claim", name := "write", desc := "(Ljava/lang/StringBuilder;)V" } : Jvm.MethodName) ({ cls := "CaptainClaims$HonestClaim", name := "write", desc := "(Ljava/lang/StringBuilder;)V" } : Jvm.MethodName)) ∈ lw_all := lw_g (lw_at lw_m10 152 rfl) rfl
theorem q_w2425 : (Jvm.Cond.unhidden "CaptainClaims$HonestClaim" "write" "(Ljava/lang/StringBuilder;)V") ∈ lw_tbl := lw_at lw_m10 153 rfl
theorem q_w2426 : (Jvm.Cond.instanceMethod ({ cls := "CaptainClaims$HonestClaim", name := "write", desc := "(Ljava/lang/StringBuilder;)V" } : Jvm.MethodName)) ∈ lw_all := lw_g (lw_at lw_m10 154 rfl) rfl
theorem q_w2427 : (Jvm.Cond.publicMethod ({ cls := "CaptainClaims$HonestClaim", name := "write", desc := "(Ljava/lang/StringBuilder;)V" } : Jvm.MethodName)) ∈ lw_tbl := lw_at lw_m10 155 rfl
theorem q_w2428 : (Jvm.Cond.code ({ cls := "CaptainClaims$HonestClaim", name := "write", desc := "(Ljava/lang/StringBuilder;)V" } : Jvm.MethodName) prog_11_method_3_code (2 : Nat) (Option.none : Option Jvm.ClassFile.FieldType)) ∈ lw_all := lw_g (lw_at lw_m10 156 rfl) rfl
theorem q_w2430 : (Jvm.Cond.methodLink "CaptainClaims$HonestClaim" (21 : Nat) ({ cls := "CaptainClaims$Claim", name := "write", desc := "(Ljava/lang/StringBuilder;Ljava/lang/String;[I)V" } : Jvm.MethodName)) ∈ lw_all := lw_g (lw_at lw_m10 158 rfl) rfl
theorem q_w2431 : (Jvm.Cond.selects "CaptainClaims$NearClaim" ({ cls := "CaptainClaims$Claim", name := "write", desc := "(Ljava/lang/StringBuilder;)V" } : Jvm.MethodName) ({ cls := "CaptainClaims$NearClaim", name := "write", desc := "(Ljava/lang/StringBuilder;)V" } : Jvm.MethodName)) ∈ lw_all := lw_g (lw_at lw_m10 159 rfl) rfl
theorem q_w2432 : (Jvm.Cond.unhidden "CaptainClaims$NearClaim" "write" "(Ljava/lang/StringBuilder;)V") ∈ lw_tbl := lw_at lw_m10 160 rfl
theorem q_w2433 : (Jvm.Cond.instanceMethod ({ cls := "CaptainClaims$NearClaim", name := "write", desc := "(Ljava/lang/StringBuilder;)V" } : Jvm.MethodName)) ∈ lw_all := lw_g (lw_at lw_m10 161 rfl) rfl
theorem q_w2434 : (Jvm.Cond.publicMethod ({ cls := "CaptainClaims$NearClaim", name := "write", desc := "(Ljava/lang/StringBuilder;)V" } : Jvm.MethodName)) ∈ lw_tbl := lw_at lw_m10 162 rfl
theorem q_w2435 : (Jvm.Cond.code ({ cls := "CaptainClaims$NearClaim", name := "write", desc := "(Ljava/lang/StringBuilder;)V" } : Jvm.MethodName) prog_16_method_3_code (2 : Nat) (Option.none : Option Jvm.ClassFile.FieldType)) ∈ lw_all := lw_g (lw_at lw_m10 163 rfl) rfl
theorem q_w2437 : (Jvm.Cond.methodLink "CaptainClaims$NearClaim" (32 : Nat) ({ cls := "CaptainClaims$Claim", name := "write", desc := "(Ljava/lang/StringBuilder;Ljava/lang/String;[I)V" } : Jvm.MethodName)) ∈ lw_all := lw_g (lw_at lw_m10 165 rfl) rfl
theorem q_w2438 : (Jvm.Cond.selects "CaptainClaims$NotClaim" ({ cls := "CaptainClaims$Claim", name := "write", desc := "(Ljava/lang/StringBuilder;)V" } : Jvm.MethodName) ({ cls := "CaptainClaims$JoinedClaim", name := "write", desc := "(Ljava/lang/StringBuilder;)V" } : Jvm.MethodName)) ∈ lw_all := lw_g (lw_at lw_m10 166 rfl) rfl
theorem q_w2439 : (Jvm.Cond.unhidden "CaptainClaims$NotClaim" "write" "(Ljava/lang/StringBuilder;)V") ∈ lw_tbl := lw_at lw_m10 167 rfl
theorem q_w2440 : (Jvm.Cond.selects "CaptainClaims$RowClaim" ({ cls := "CaptainClaims$Claim", name := "write", desc := "(Ljava/lang/StringBuilder;)V" } : Jvm.MethodName) ({ cls := "CaptainClaims$RangeClaim", name := "write", desc := "(Ljava/lang/StringBuilder;)V" } : Jvm.MethodName)) ∈ lw_all := lw_g (lw_at lw_m10 168 rfl) rfl
theorem q_w2441 : (Jvm.Cond.unhidden "CaptainClaims$RowClaim" "write" "(Ljava/lang/StringBuilder;)V") ∈ lw_tbl := lw_at lw_m10 169 rfl
theorem q_w2442 : (Jvm.Cond.selects "CaptainClaims$SameClaim" ({ cls := "CaptainClaims$Claim", name := "write", desc := "(Ljava/lang/StringBuilder;)V" } : Jvm.MethodName) ({ cls := "CaptainClaims$SameClaim", name := "write", desc := "(Ljava/lang/StringBuilder;)V" } : Jvm.MethodName)) ∈ lw_all := lw_g (lw_at lw_m10 170 rfl) rfl
theorem q_w2443 : (Jvm.Cond.unhidden "CaptainClaims$SameClaim" "write" "(Ljava/lang/StringBuilder;)V") ∈ lw_tbl := lw_at lw_m10 171 rfl
theorem q_w2444 : (Jvm.Cond.instanceMethod ({ cls := "CaptainClaims$SameClaim", name := "write", desc := "(Ljava/lang/StringBuilder;)V" } : Jvm.MethodName)) ∈ lw_all := lw_g (lw_at lw_m10 172 rfl) rfl
theorem q_w2445 : (Jvm.Cond.publicMethod ({ cls := "CaptainClaims$SameClaim", name := "write", desc := "(Ljava/lang/StringBuilder;)V" } : Jvm.MethodName)) ∈ lw_tbl := lw_at lw_m10 173 rfl
theorem q_w2446 : (Jvm.Cond.code ({ cls := "CaptainClaims$SameClaim", name := "write", desc := "(Ljava/lang/StringBuilder;)V" } : Jvm.MethodName) prog_23_method_3_code (2 : Nat) (Option.none : Option Jvm.ClassFile.FieldType)) ∈ lw_all := lw_g (lw_at lw_m10 174 rfl) rfl
theorem q_w2448 : (Jvm.Cond.methodLink "CaptainClaims$SameClaim" (32 : Nat) ({ cls := "CaptainClaims$Claim", name := "write", desc := "(Ljava/lang/StringBuilder;Ljava/lang/String;[I)V" } : Jvm.MethodName)) ∈ lw_all := lw_g (lw_at lw_m10 176 rfl) rfl
theorem q_w2449 : (Jvm.Cond.selects "CaptainClaims$SizeClaim" ({ cls := "CaptainClaims$Claim", name := "write", desc := "(Ljava/lang/StringBuilder;)V" } : Jvm.MethodName) ({ cls := "CaptainClaims$RangeClaim", name := "write", desc := "(Ljava/lang/StringBuilder;)V" } : Jvm.MethodName)) ∈ lw_all := lw_g (lw_at lw_m10 177 rfl) rfl
theorem q_w2450 : (Jvm.Cond.unhidden "CaptainClaims$SizeClaim" "write" "(Ljava/lang/StringBuilder;)V") ∈ lw_tbl := lw_at lw_m10 178 rfl
theorem q_w2451 : (Jvm.Cond.methodLink "CaptainClaimsLaw" (364 : Nat) ({ cls := "CaptainClaimsLaw", name := "writeCaptains", desc := "(LCaptainClaims;[J)I" } : Jvm.MethodName)) ∈ lw_all := lw_g (lw_at lw_m10 179 rfl) rfl
theorem q_w2452 : (Jvm.Cond.static ({ cls := "CaptainClaimsLaw", name := "writeCaptains", desc := "(LCaptainClaims;[J)I" } : Jvm.MethodName)) ∈ lw_all := lw_g (lw_at lw_m10 180 rfl) rfl
theorem q_w2453 : (Jvm.Cond.codeWith ({ cls := "CaptainClaimsLaw", name := "writeCaptains", desc := "(LCaptainClaims;[J)I" } : Jvm.MethodName) method_48_code (3 : Nat) (Option.some Jvm.ClassFile.FieldType.int) [((0 : Nat), (8 : Nat), (11 : Nat), (21 : Nat))]) ∈ lw_all := lw_g (lw_at lw_m10 181 rfl) rfl
theorem q_w2454 : (Jvm.Cond.methodLink "CaptainClaimsLaw" (158 : Nat) ({ cls := "CaptainClaims", name := "writeCaptains", desc := "()I" } : Jvm.MethodName)) ∈ lw_all := lw_g (lw_at lw_m10 182 rfl) rfl
theorem q_w2455 : (Jvm.Cond.instanceMethod ({ cls := "CaptainClaims", name := "writeCaptains", desc := "()I" } : Jvm.MethodName)) ∈ lw_all := lw_g (lw_at lw_m10 183 rfl) rfl
theorem q_w2456 : (Jvm.Cond.selects "CaptainClaims" ({ cls := "CaptainClaims", name := "writeCaptains", desc := "()I" } : Jvm.MethodName) ({ cls := "CaptainClaims", name := "writeCaptains", desc := "()I" } : Jvm.MethodName)) ∈ lw_all := lw_g (lw_at lw_m10 184 rfl) rfl
theorem q_w2457 : (Jvm.Cond.code ({ cls := "CaptainClaims", name := "writeCaptains", desc := "()I" } : Jvm.MethodName) prog_1_method_65_code (6 : Nat) (Option.some Jvm.ClassFile.FieldType.int)) ∈ lw_all := lw_g (lw_at lw_m10 185 rfl) rfl
theorem q_w2458 : (Jvm.Cond.methodLink "CaptainClaimsLaw" (367 : Nat) ({ cls := "CaptainClaimsLaw", name := "textByte", desc := "(LCaptainClaims;I[J)I" } : Jvm.MethodName)) ∈ lw_all := lw_g (lw_at lw_m10 186 rfl) rfl
theorem q_w2459 : (Jvm.Cond.static ({ cls := "CaptainClaimsLaw", name := "textByte", desc := "(LCaptainClaims;I[J)I" } : Jvm.MethodName)) ∈ lw_all := lw_g (lw_at lw_m10 187 rfl) rfl
theorem q_w2460 : (Jvm.Cond.codeWith ({ cls := "CaptainClaimsLaw", name := "textByte", desc := "(LCaptainClaims;I[J)I" } : Jvm.MethodName) method_49_code (4 : Nat) (Option.some Jvm.ClassFile.FieldType.int) [((0 : Nat), (9 : Nat), (12 : Nat), (13 : Nat))]) ∈ lw_all := lw_g (lw_at lw_m10 188 rfl) rfl
theorem q_w2461 : (Jvm.Cond.methodLink "CaptainClaimsLaw" (161 : Nat) ({ cls := "CaptainClaims", name := "textByte", desc := "(I)I" } : Jvm.MethodName)) ∈ lw_all := lw_g (lw_at lw_m10 189 rfl) rfl
theorem q_w2462 : (Jvm.Cond.instanceMethod ({ cls := "CaptainClaims", name := "textByte", desc := "(I)I" } : Jvm.MethodName)) ∈ lw_all := lw_g (lw_at lw_m10 190 rfl) rfl
theorem q_w2463 : (Jvm.Cond.selects "CaptainClaims" ({ cls := "CaptainClaims", name := "textByte", desc := "(I)I" } : Jvm.MethodName) ({ cls := "CaptainClaims", name := "textByte", desc := "(I)I" } : Jvm.MethodName)) ∈ lw_all := lw_g (lw_at lw_m10 191 rfl) rfl
theorem q_w2464 : (Jvm.Cond.code ({ cls := "CaptainClaims", name := "textByte", desc := "(I)I" } : Jvm.MethodName) prog_1_method_66_code (2 : Nat) (Option.some Jvm.ClassFile.FieldType.int)) ∈ lw_all := lw_g (lw_at lw_m10 192 rfl) rfl
theorem q_w2465 : (Jvm.Cond.methodLink "CaptainClaimsLaw" (370 : Nat) ({ cls := "CaptainClaimsLaw", name := "placePiece", desc := "(LCaptainClaims;III[J)I" } : Jvm.MethodName)) ∈ lw_all := lw_g (lw_at lw_m10 193 rfl) rfl
theorem q_w2466 : (Jvm.Cond.static ({ cls := "CaptainClaimsLaw", name := "placePiece", desc := "(LCaptainClaims;III[J)I" } : Jvm.MethodName)) ∈ lw_all := lw_g (lw_at lw_m10 194 rfl) rfl
theorem q_w2467 : (Jvm.Cond.codeWith ({ cls := "CaptainClaimsLaw", name := "placePiece", desc := "(LCaptainClaims;III[J)I" } : Jvm.MethodName) method_50_code (6 : Nat) (Option.some Jvm.ClassFile.FieldType.int) [((0 : Nat), (12 : Nat), (15 : Nat), (21 : Nat)), ((0 : Nat), (12 : Nat), (19 : Nat), (13 : Nat)), ((0 : Nat), (12 : Nat), (23 : Nat), (15 : Nat))]) ∈ lw_all := lw_g (lw_at lw_m10 195 rfl) rfl
theorem q_w2468 : (Jvm.Cond.methodLink "CaptainClaimsLaw" (164 : Nat) ({ cls := "CaptainClaims", name := "placePiece", desc := "(III)I" } : Jvm.MethodName)) ∈ lw_all := lw_g (lw_at lw_m10 196 rfl) rfl
theorem q_w2469 : (Jvm.Cond.instanceMethod ({ cls := "CaptainClaims", name := "placePiece", desc := "(III)I" } : Jvm.MethodName)) ∈ lw_all := lw_g (lw_at lw_m10 197 rfl) rfl
theorem q_w2470 : (Jvm.Cond.selects "CaptainClaims" ({ cls := "CaptainClaims", name := "placePiece", desc := "(III)I" } : Jvm.MethodName) ({ cls := "CaptainClaims", name := "placePiece", desc := "(III)I" } : Jvm.MethodName)) ∈ lw_all := lw_g (lw_at lw_m10 198 rfl) rfl
theorem q_w2471 : (Jvm.Cond.codeWith ({ cls := "CaptainClaims", name := "placePiece", desc := "(III)I" } : Jvm.MethodName) prog_1_method_69_code (8 : Nat) (Option.some Jvm.ClassFile.FieldType.int) [((31 : Nat), (49 : Nat), (52 : Nat), (85 : Nat)), ((31 : Nat), (49 : Nat), (52 : Nat), (374 : Nat))]) ∈ lw_all := lw_g (lw_at lw_m10 199 rfl) rfl
theorem q_w2472 : (Jvm.Cond.classLink "CaptainClaims" (374 : Nat) "CaptainClaims$MisfitException") ∈ lw_all := lw_g (lw_at lw_m10 200 rfl) rfl
theorem q_w2473 : (Jvm.Cond.methodLink "CaptainClaims" (368 : Nat) ({ cls := "CaptainClaims$Parser", name := "<init>", desc := "(LCaptainClaims;ILCaptainClaims$Puzzle;)V" } : Jvm.MethodName)) ∈ lw_all := lw_g (lw_at lw_m10 201 rfl) rfl
theorem q_w2474 : (Jvm.Cond.instanceMethod ({ cls := "CaptainClaims$Parser", name := "<init>", desc := "(LCaptainClaims;ILCaptainClaims$Puzzle;)V" } : Jvm.MethodName)) ∈ lw_all := lw_g (lw_at lw_m10 202 rfl) rfl
theorem q_w2475 : (Jvm.Cond.code ({ cls := "CaptainClaims$Parser", name := "<init>", desc := "(LCaptainClaims;ILCaptainClaims$Puzzle;)V" } : Jvm.MethodName) prog_18_method_2_code (4 : Nat) (Option.none : Option Jvm.ClassFile.FieldType)) ∈ lw_all := lw_g (lw_at lw_m10 203 rfl) rfl
theorem q_w2476 : (Jvm.Cond.methodLink "CaptainClaims$Parser" (34 : Nat) ({ cls := "CaptainClaims$Parser", name := "<init>", desc := "(LCaptainClaims;I)V" } : Jvm.MethodName)) ∈ lw_all := lw_g (lw_at lw_m10 204 rfl) rfl
theorem q_w2477 : (Jvm.Cond.methodLink "CaptainClaims" (371 : Nat) ({ cls := "CaptainClaims$Parser", name := "parseMarks", desc := "(II)I" } : Jvm.MethodName)) ∈ lw_all := lw_g (lw_at lw_m10 205 rfl) rfl
theorem q_w2478 : (Jvm.Cond.instanceMethod ({ cls := "CaptainClaims$Parser", name := "parseMarks", desc := "(II)I" } : Jvm.MethodName)) ∈ lw_all := lw_g (lw_at lw_m10 206 rfl) rfl
theorem q_w2479 : (Jvm.Cond.selects "CaptainClaims$Parser" ({ cls := "CaptainClaims$Parser", name := "parseMarks", desc := "(II)I" } : Jvm.MethodName) ({ cls := "CaptainClaims$Parser", name := "parseMarks", desc := "(II)I" } : Jvm.MethodName)) ∈ lw_all := lw_g (lw_at lw_m10 207 rfl) rfl
theorem q_w2480 : (Jvm.Cond.code ({ cls := "CaptainClaims$Parser", name := "parseMarks", desc := "(II)I" } : Jvm.MethodName) prog_18_method_32_code (4 : Nat) (Option.some Jvm.ClassFile.FieldType.int)) ∈ lw_all := lw_g (lw_at lw_m10 208 rfl) rfl
theorem q_w2481 : (Jvm.Cond.methodLink "CaptainClaims" (365 : Nat) ({ cls := "CaptainClaims", name := "keep", desc := "(LCaptainClaims$Puzzle;)V" } : Jvm.MethodName)) ∈ lw_all := lw_g (lw_at lw_m10 209 rfl) rfl
theorem q_w2483 : (Jvm.Cond.instanceMethod ({ cls := "CaptainClaims", name := "keep", desc := "(LCaptainClaims$Puzzle;)V" } : Jvm.MethodName)) ∈ lw_all := lw_g (lw_at lw_m10 211 rfl) rfl
theorem q_w2484 : (Jvm.Cond.code ({ cls := "CaptainClaims", name := "keep", desc := "(LCaptainClaims$Puzzle;)V" } : Jvm.MethodName) prog_1_method_67_code (3 : Nat) (Option.none : Option Jvm.ClassFile.FieldType)) ∈ lw_all := lw_g (lw_at lw_m10 212 rfl) rfl
theorem q_w2486 : (Jvm.Cond.methodLink "CaptainClaims" (358 : Nat) ({ cls := "java/util/Deque", name := "removeFirst", desc := "()Ljava/lang/Object;" } : Jvm.MethodName)) ∈ lw_all := lw_g (lw_at lw_m10 214 rfl) rfl
theorem q_w2487 : (Jvm.Cond.interfaceMethod "java/util/Deque" "java/util/Deque" "removeFirst" "()Ljava/lang/Object;") ∈ lw_tbl := lw_at lw_m10 215 rfl
theorem q_w2488 : (Jvm.Cond.declares ({ cls := "java/util/Deque", name := "removeFirst", desc := "()Ljava/lang/Object;" } : Jvm.MethodName)) ∈ lw_tbl := lw_at lw_m10 216 rfl
theorem q_w2489 : (Jvm.Cond.selects "java/util/ArrayDeque" ({ cls := "java/util/Deque", name := "removeFirst", desc := "()Ljava/lang/Object;" } : Jvm.MethodName) ({ cls := "java/util/ArrayDeque", name := "removeFirst", desc := "()Ljava/lang/Object;" } : Jvm.MethodName)) ∈ lw_all := lw_g (lw_at lw_m10 217 rfl) rfl
theorem q_w2490 : (Jvm.Cond.unhidden "java/util/ArrayDeque" "removeFirst" "()Ljava/lang/Object;") ∈ lw_tbl := lw_at lw_m10 218 rfl
theorem q_w2491 : (Jvm.Cond.instanceMethod ({ cls := "java/util/ArrayDeque", name := "removeFirst", desc := "()Ljava/lang/Object;" } : Jvm.MethodName)) ∈ lw_all := lw_g (lw_at lw_m10 219 rfl) rfl
theorem q_w2492 : (Jvm.Cond.publicMethod ({ cls := "java/util/ArrayDeque", name := "removeFirst", desc := "()Ljava/lang/Object;" } : Jvm.MethodName)) ∈ lw_tbl := lw_at lw_m10 220 rfl
theorem q_w2493 : (Jvm.Cond.code ({ cls := "java/util/ArrayDeque", name := "removeFirst", desc := "()Ljava/lang/Object;" } : Jvm.MethodName) prog_59_method_18_code (2 : Nat) (Option.some (Jvm.ClassFile.FieldType.object "java/lang/Object"))) ∈ lw_all := lw_g (lw_at lw_m10 221 rfl) rfl
theorem q_w2494 : (Jvm.Cond.methodLink "java/util/ArrayDeque" (93 : Nat) ({ cls := "java/util/ArrayDeque", name := "pollFirst", desc := "()Ljava/lang/Object;" } : Jvm.MethodName)) ∈ lw_all := lw_g (lw_at lw_m10 222 rfl) rfl
theorem q_w2495 : (Jvm.Cond.instanceMethod ({ cls := "java/util/ArrayDeque", name := "pollFirst", desc := "()Ljava/lang/Object;" } : Jvm.MethodName)) ∈ lw_all := lw_g (lw_at lw_m10 223 rfl) rfl
theorem q_w2496 : (Jvm.Cond.selects "java/util/ArrayDeque" ({ cls := "java/util/ArrayDeque", name := "pollFirst", desc := "()Ljava/lang/Object;" } : Jvm.MethodName) ({ cls := "java/util/ArrayDeque", name := "pollFirst", desc := "()Ljava/lang/Object;" } : Jvm.MethodName)) ∈ lw_all := lw_g (lw_at lw_m10 224 rfl) rfl
theorem q_w2497 : (Jvm.Cond.code ({ cls := "java/util/ArrayDeque", name := "pollFirst", desc := "()Ljava/lang/Object;" } : Jvm.MethodName) prog_59_method_20_code (4 : Nat) (Option.some (Jvm.ClassFile.FieldType.object "java/lang/Object"))) ∈ lw_all := lw_g (lw_at lw_m10 225 rfl) rfl
theorem q_w2498 : (Jvm.Cond.methodLink "java/util/ArrayDeque" (103 : Nat) ({ cls := "java/util/ArrayDeque", name := "elementAt", desc := "([Ljava/lang/Object;I)Ljava/lang/Object;" } : Jvm.MethodName)) ∈ lw_all := lw_g (lw_at lw_m10 226 rfl) rfl
theorem q_w2499 : (Jvm.Cond.static ({ cls := "java/util/ArrayDeque", name := "elementAt", desc := "([Ljava/lang/Object;I)Ljava/lang/Object;" } : Jvm.MethodName)) ∈ lw_all := lw_g (lw_at lw_m10 227 rfl) rfl
theorem q_w2500 : (Jvm.Cond.code ({ cls := "java/util/ArrayDeque", name := "elementAt", desc := "([Ljava/lang/Object;I)Ljava/lang/Object;" } : Jvm.MethodName) prog_59_method_10_code (2 : Nat) (Option.some (Jvm.ClassFile.FieldType.object "java/lang/Object"))) ∈ lw_all := lw_g (lw_at lw_m10 228 rfl) rfl
theorem q_w2501 : (Jvm.Cond.methodLink "java/util/ArrayDeque" (74 : Nat) ({ cls := "java/util/ArrayDeque", name := "inc", desc := "(II)I" } : Jvm.MethodName)) ∈ lw_all := lw_g (lw_at lw_m10 229 rfl) rfl
theorem q_w2502 : (Jvm.Cond.static ({ cls := "java/util/ArrayDeque", name := "inc", desc := "(II)I" } : Jvm.MethodName)) ∈ lw_all := lw_g (lw_at lw_m10 230 rfl) rfl
theorem q_w2503 : (Jvm.Cond.code ({ cls := "java/util/ArrayDeque", name := "inc", desc := "(II)I" } : Jvm.MethodName) prog_59_method_6_code (2 : Nat) (Option.some Jvm.ClassFile.FieldType.int)) ∈ lw_all := lw_g (lw_at lw_m10 231 rfl) rfl
theorem q_w2505 : (Jvm.Cond.methodLink "CaptainClaims" (361 : Nat) ({ cls := "java/util/Deque", name := "addLast", desc := "(Ljava/lang/Object;)V" } : Jvm.MethodName)) ∈ lw_all := lw_g (lw_at lw_m10 233 rfl) rfl
theorem q_w2506 : (Jvm.Cond.interfaceMethod "java/util/Deque" "java/util/Deque" "addLast" "(Ljava/lang/Object;)V") ∈ lw_tbl := lw_at lw_m10 234 rfl
theorem q_w2507 : (Jvm.Cond.declares ({ cls := "java/util/Deque", name := "addLast", desc := "(Ljava/lang/Object;)V" } : Jvm.MethodName)) ∈ lw_tbl := lw_at lw_m10 235 rfl
theorem q_w2508 : (Jvm.Cond.selects "java/util/ArrayDeque" ({ cls := "java/util/Deque", name := "addLast", desc := "(Ljava/lang/Object;)V" } : Jvm.MethodName) ({ cls := "java/util/ArrayDeque", name := "addLast", desc := "(Ljava/lang/Object;)V" } : Jvm.MethodName)) ∈ lw_all := lw_g (lw_at lw_m10 236 rfl) rfl
theorem q_w2509 : (Jvm.Cond.unhidden "java/util/ArrayDeque" "addLast" "(Ljava/lang/Object;)V") ∈ lw_tbl := lw_at lw_m10 237 rfl
theorem q_w2510 : (Jvm.Cond.instanceMethod ({ cls := "java/util/ArrayDeque", name := "addLast", desc := "(Ljava/lang/Object;)V" } : Jvm.MethodName)) ∈ lw_all := lw_g (lw_at lw_m10 238 rfl) rfl
theorem q_w2511 : (Jvm.Cond.publicMethod ({ cls := "java/util/ArrayDeque", name := "addLast", desc := "(Ljava/lang/Object;)V" } : Jvm.MethodName)) ∈ lw_tbl := lw_at lw_m10 239 rfl
theorem q_w2512 : (Jvm.Cond.code ({ cls := "java/util/ArrayDeque", name := "addLast", desc := "(Ljava/lang/Object;)V" } : Jvm.MethodName) prog_59_method_13_code (3 : Nat) (Option.none : Option Jvm.ClassFile.FieldType)) ∈ lw_all := lw_g (lw_at lw_m11 0 rfl) rfl
theorem q_w2530 : (Jvm.Cond.methodLink "CaptainClaimsLaw" (374 : Nat) ({ cls := "CaptainClaimsLaw", name := "addStatement", desc := "(LCaptainClaims;II[J)I" } : Jvm.MethodName)) ∈ lw_all := lw_g (lw_at lw_m11 18 rfl) rfl
theorem q_w2531 : (Jvm.Cond.static ({ cls := "CaptainClaimsLaw", name := "addStatement", desc := "(LCaptainClaims;II[J)I" } : Jvm.MethodName)) ∈ lw_all := lw_g (lw_at lw_m11 19 rfl) rfl
theorem q_w2532 : (Jvm.Cond.codeWith ({ cls := "CaptainClaimsLaw", name := "addStatement", desc := "(LCaptainClaims;II[J)I" } : Jvm.MethodName) method_51_code (5 : Nat) (Option.some Jvm.ClassFile.FieldType.int) [((0 : Nat), (10 : Nat), (13 : Nat), (21 : Nat)), ((0 : Nat), (10 : Nat), (17 : Nat), (13 : Nat)), ((0 : Nat), (10 : Nat), (21 : Nat), (15 : Nat))]) ∈ lw_all := lw_g (lw_at lw_m11 20 rfl) rfl
theorem q_w2533 : (Jvm.Cond.methodLink "CaptainClaimsLaw" (168 : Nat) ({ cls := "CaptainClaims", name := "addStatement", desc := "(II)I" } : Jvm.MethodName)) ∈ lw_all := lw_g (lw_at lw_m11 21 rfl) rfl
theorem q_w2534 : (Jvm.Cond.instanceMethod ({ cls := "CaptainClaims", name := "addStatement", desc := "(II)I" } : Jvm.MethodName)) ∈ lw_all := lw_g (lw_at lw_m11 22 rfl) rfl
theorem q_w2535 : (Jvm.Cond.selects "CaptainClaims" ({ cls := "CaptainClaims", name := "addStatement", desc := "(II)I" } : Jvm.MethodName) ({ cls := "CaptainClaims", name := "addStatement", desc := "(II)I" } : Jvm.MethodName)) ∈ lw_all := lw_g (lw_at lw_m11 23 rfl) rfl
theorem q_w2536 : (Jvm.Cond.codeWith ({ cls := "CaptainClaims", name := "addStatement", desc := "(II)I" } : Jvm.MethodName) prog_1_method_70_code (6 : Nat) (Option.some Jvm.ClassFile.FieldType.int) [((40 : Nat), (55 : Nat), (58 : Nat), (85 : Nat))]) ∈ lw_all := lw_g (lw_at lw_m11 24 rfl) rfl
theorem q_w2537 : (Jvm.Cond.methodLink "CaptainClaims" (376 : Nat) ({ cls := "CaptainClaims$Parser", name := "parseClaim", desc := "()LCaptainClaims$Claim;" } : Jvm.MethodName)) ∈ lw_all := lw_g (lw_at lw_m11 25 rfl) rfl
theorem q_w2538 : (Jvm.Cond.instanceMethod ({ cls := "CaptainClaims$Parser", name := "parseClaim", desc := "()LCaptainClaims$Claim;" } : Jvm.MethodName)) ∈ lw_all := lw_g (lw_at lw_m11 26 rfl) rfl
theorem q_w2539 : (Jvm.Cond.selects "CaptainClaims$Parser" ({ cls := "CaptainClaims$Parser", name := "parseClaim", desc := "()LCaptainClaims$Claim;" } : Jvm.MethodName) ({ cls := "CaptainClaims$Parser", name := "parseClaim", desc := "()LCaptainClaims$Claim;" } : Jvm.MethodName)) ∈ lw_all := lw_g (lw_at lw_m11 27 rfl) rfl
theorem q_w2540 : (Jvm.Cond.code ({ cls := "CaptainClaims$Parser", name := "parseClaim", desc := "()LCaptainClaims$Claim;" } : Jvm.MethodName) prog_18_method_33_code (2 : Nat) (Option.some (Jvm.ClassFile.FieldType.object "CaptainClaims$Claim"))) ∈ lw_all := lw_g (lw_at lw_m11 28 rfl) rfl
theorem q_w2541 : (Jvm.Cond.methodLink "CaptainClaims" (380 : Nat) ({ cls := "CaptainClaims", name := "change", desc := "()LCaptainClaims$Puzzle;" } : Jvm.MethodName)) ∈ lw_all := lw_g (lw_at lw_m11 29 rfl) rfl
theorem q_w2543 : (Jvm.Cond.instanceMethod ({ cls := "CaptainClaims", name := "change", desc := "()LCaptainClaims$Puzzle;" } : Jvm.MethodName)) ∈ lw_all := lw_g (lw_at lw_m11 31 rfl) rfl
theorem q_w2544 : (Jvm.Cond.code ({ cls := "CaptainClaims", name := "change", desc := "()LCaptainClaims$Puzzle;" } : Jvm.MethodName) prog_1_method_68_code (1 : Nat) (Option.some (Jvm.ClassFile.FieldType.object "CaptainClaims$Puzzle"))) ∈ lw_all := lw_g (lw_at lw_m11 32 rfl) rfl
theorem q_w2545 : (Jvm.Cond.methodLink "CaptainClaims" (383 : Nat) ({ cls := "CaptainClaims$Statement", name := "<init>", desc := "(ILCaptainClaims$Claim;)V" } : Jvm.MethodName)) ∈ lw_all := lw_g (lw_at lw_m11 33 rfl) rfl
theorem q_w2546 : (Jvm.Cond.methodLink "CaptainClaimsLaw" (377 : Nat) ({ cls := "CaptainClaimsLaw", name := "removeStatement", desc := "(LCaptainClaims;I[J)I" } : Jvm.MethodName)) ∈ lw_all := lw_g (lw_at lw_m11 34 rfl) rfl
theorem q_w2547 : (Jvm.Cond.static ({ cls := "CaptainClaimsLaw", name := "removeStatement", desc := "(LCaptainClaims;I[J)I" } : Jvm.MethodName)) ∈ lw_all := lw_g (lw_at lw_m11 35 rfl) rfl
theorem q_w2548 : (Jvm.Cond.codeWith ({ cls := "CaptainClaimsLaw", name := "removeStatement", desc := "(LCaptainClaims;I[J)I" } : Jvm.MethodName) method_52_code (4 : Nat) (Option.some Jvm.ClassFile.FieldType.int) [((0 : Nat), (9 : Nat), (12 : Nat), (21 : Nat)), ((0 : Nat), (9 : Nat), (15 : Nat), (13 : Nat))]) ∈ lw_all := lw_g (lw_at lw_m11 36 rfl) rfl
theorem q_w2549 : (Jvm.Cond.methodLink "CaptainClaimsLaw" (171 : Nat) ({ cls := "CaptainClaims", name := "removeStatement", desc := "(I)I" } : Jvm.MethodName)) ∈ lw_all := lw_g (lw_at lw_m11 37 rfl) rfl
theorem q_w2550 : (Jvm.Cond.instanceMethod ({ cls := "CaptainClaims", name := "removeStatement", desc := "(I)I" } : Jvm.MethodName)) ∈ lw_all := lw_g (lw_at lw_m11 38 rfl) rfl
theorem q_w2551 : (Jvm.Cond.selects "CaptainClaims" ({ cls := "CaptainClaims", name := "removeStatement", desc := "(I)I" } : Jvm.MethodName) ({ cls := "CaptainClaims", name := "removeStatement", desc := "(I)I" } : Jvm.MethodName)) ∈ lw_all := lw_g (lw_at lw_m11 39 rfl) rfl
theorem q_w2552 : (Jvm.Cond.code ({ cls := "CaptainClaims", name := "removeStatement", desc := "(I)I" } : Jvm.MethodName) prog_1_method_71_code (4 : Nat) (Option.some Jvm.ClassFile.FieldType.int)) ∈ lw_all := lw_g (lw_at lw_m11 40 rfl) rfl
theorem q_w2554 : (Jvm.Cond.methodLink "CaptainClaims" (386 : Nat) ({ cls := "java/util/List", name := "remove", desc := "(I)Ljava/lang/Object;" } : Jvm.MethodName)) ∈ lw_all := lw_g (lw_at lw_m11 42 rfl) rfl
theorem q_w2555 : (Jvm.Cond.interfaceMethod "java/util/List" "java/util/List" "remove" "(I)Ljava/lang/Object;") ∈ lw_tbl := lw_at lw_m11 43 rfl
theorem q_w2556 : (Jvm.Cond.declares ({ cls := "java/util/List", name := "remove", desc := "(I)Ljava/lang/Object;" } : Jvm.MethodName)) ∈ lw_tbl := lw_at lw_m11 44 rfl
theorem q_w2557 : (Jvm.Cond.selects "java/util/ArrayList" ({ cls := "java/util/List", name := "remove", desc := "(I)Ljava/lang/Object;" } : Jvm.MethodName) ({ cls := "java/util/ArrayList", name := "remove", desc := "(I)Ljava/lang/Object;" } : Jvm.MethodName)) ∈ lw_all := lw_g (lw_at lw_m11 45 rfl) rfl
theorem q_w2558 : (Jvm.Cond.unhidden "java/util/ArrayList" "remove" "(I)Ljava/lang/Object;") ∈ lw_tbl := lw_at lw_m11 46 rfl
theorem q_w2559 : (Jvm.Cond.instanceMethod ({ cls := "java/util/ArrayList", name := "remove", desc := "(I)Ljava/lang/Object;" } : Jvm.MethodName)) ∈ lw_all := lw_g (lw_at lw_m11 47 rfl) rfl
theorem q_w2560 : (Jvm.Cond.publicMethod ({ cls := "java/util/ArrayList", name := "remove", desc := "(I)Ljava/lang/Object;" } : Jvm.MethodName)) ∈ lw_tbl := lw_at lw_m11 48 rfl
theorem q_w2561 : (Jvm.Cond.code ({ cls := "java/util/ArrayList", name := "remove", desc := "(I)Ljava/lang/Object;" } : Jvm.MethodName) prog_60_method_29_code (4 : Nat) (Option.some (Jvm.ClassFile.FieldType.object "java/lang/Object"))) ∈ lw_all := lw_g (lw_at lw_m11 49 rfl) rfl
theorem q_w2562 : (Jvm.Cond.methodLink "java/util/ArrayList" (144 : Nat) ({ cls := "java/util/ArrayList", name := "fastRemove", desc := "([Ljava/lang/Object;I)V" } : Jvm.MethodName)) ∈ lw_all := lw_g (lw_at lw_m11 50 rfl) rfl
theorem q_w2564 : (Jvm.Cond.instanceMethod ({ cls := "java/util/ArrayList", name := "fastRemove", desc := "([Ljava/lang/Object;I)V" } : Jvm.MethodName)) ∈ lw_all := lw_g (lw_at lw_m11 52 rfl) rfl
theorem q_w2565 : (Jvm.Cond.code ({ cls := "java/util/ArrayList", name := "fastRemove", desc := "([Ljava/lang/Object;I)V" } : Jvm.MethodName) prog_60_method_39_code (4 : Nat) (Option.none : Option Jvm.ClassFile.FieldType)) ∈ lw_all := lw_g (lw_at lw_m11 53 rfl) rfl
theorem q_w2566 : (Jvm.Cond.methodLink "java/util/ArrayList" (112 : Nat) ({ cls := "java/lang/System", name := "arraycopy", desc := "(Ljava/lang/Object;ILjava/lang/Object;II)V" } : Jvm.MethodName)) ∈ lw_all := lw_g (lw_at lw_m11 54 rfl) rfl
theorem q_w2567 : (Jvm.Cond.methodLink "CaptainClaimsLaw" (380 : Nat) ({ cls := "CaptainClaimsLaw", name := "declareTruthful", desc := "(LCaptainClaims;I[J)I" } : Jvm.MethodName)) ∈ lw_all := lw_g (lw_at lw_m11 55 rfl) rfl
theorem q_w2568 : (Jvm.Cond.static ({ cls := "CaptainClaimsLaw", name := "declareTruthful", desc := "(LCaptainClaims;I[J)I" } : Jvm.MethodName)) ∈ lw_all := lw_g (lw_at lw_m11 56 rfl) rfl
theorem q_w2569 : (Jvm.Cond.codeWith ({ cls := "CaptainClaimsLaw", name := "declareTruthful", desc := "(LCaptainClaims;I[J)I" } : Jvm.MethodName) method_53_code (4 : Nat) (Option.some Jvm.ClassFile.FieldType.int) [((0 : Nat), (9 : Nat), (12 : Nat), (21 : Nat)), ((0 : Nat), (9 : Nat), (15 : Nat), (13 : Nat))]) ∈ lw_all := lw_g (lw_at lw_m11 57 rfl) rfl
theorem q_w2570 : (Jvm.Cond.methodLink "CaptainClaimsLaw" (174 : Nat) ({ cls := "CaptainClaims", name := "declareTruthful", desc := "(I)I" } : Jvm.MethodName)) ∈ lw_all := lw_g (lw_at lw_m11 58 rfl) rfl
theorem q_w2571 : (Jvm.Cond.instanceMethod ({ cls := "CaptainClaims", name := "declareTruthful", desc := "(I)I" } : Jvm.MethodName)) ∈ lw_all := lw_g (lw_at lw_m11 59 rfl) rfl
theorem q_w2572 : (Jvm.Cond.selects "CaptainClaims" ({ cls := "CaptainClaims", name := "declareTruthful", desc := "(I)I" } : Jvm.MethodName) ({ cls := "CaptainClaims", name := "declareTruthful", desc := "(I)I" } : Jvm.MethodName)) ∈ lw_all := lw_g (lw_at lw_m11 60 rfl) rfl
theorem q_w2573 : (Jvm.Cond.code ({ cls := "CaptainClaims", name := "declareTruthful", desc := "(I)I" } : Jvm.MethodName) prog_1_method_73_code (2 : Nat) (Option.some Jvm.ClassFile.FieldType.int)) ∈ lw_all := lw_g (lw_at lw_m11 61 rfl) rfl
theorem q_w2574 : (Jvm.Cond.methodLink "CaptainClaims" (389 : Nat) ({ cls := "CaptainClaims", name := "declare", desc := "(ILCaptainClaims$Declaration;)I" } : Jvm.MethodName)) ∈ lw_all := lw_g (lw_at lw_m11 62 rfl) rfl
theorem q_w2576 : (Jvm.Cond.instanceMethod ({ cls := "CaptainClaims", name := "declare", desc := "(ILCaptainClaims$Declaration;)I" } : Jvm.MethodName)) ∈ lw_all := lw_g (lw_at lw_m11 64 rfl) rfl
theorem q_w2577 : (Jvm.Cond.code ({ cls := "CaptainClaims", name := "declare", desc := "(ILCaptainClaims$Declaration;)I" } : Jvm.MethodName) prog_1_method_72_code (5 : Nat) (Option.some Jvm.ClassFile.FieldType.int)) ∈ lw_all := lw_g (lw_at lw_m11 65 rfl) rfl
theorem q_w2578 : (Jvm.Cond.methodLink "CaptainClaimsLaw" (383 : Nat) ({ cls := "CaptainClaimsLaw", name := "declareLiar", desc := "(LCaptainClaims;I[J)I" } : Jvm.MethodName)) ∈ lw_all := lw_g (lw_at lw_m11 66 rfl) rfl
theorem q_w2579 : (Jvm.Cond.static ({ cls := "CaptainClaimsLaw", name := "declareLiar", desc := "(LCaptainClaims;I[J)I" } : Jvm.MethodName)) ∈ lw_all := lw_g (lw_at lw_m11 67 rfl) rfl
theorem q_w2580 : (Jvm.Cond.codeWith ({ cls := "CaptainClaimsLaw", name := "declareLiar", desc := "(LCaptainClaims;I[J)I" } : Jvm.MethodName) method_54_code (4 : Nat) (Option.some Jvm.ClassFile.FieldType.int) [((0 : Nat), (9 : Nat), (12 : Nat), (21 : Nat)), ((0 : Nat), (9 : Nat), (15 : Nat), (13 : Nat))]) ∈ lw_all := lw_g (lw_at lw_m11 68 rfl) rfl
theorem q_w2581 : (Jvm.Cond.methodLink "CaptainClaimsLaw" (177 : Nat) ({ cls := "CaptainClaims", name := "declareLiar", desc := "(I)I" } : Jvm.MethodName)) ∈ lw_all := lw_g (lw_at lw_m11 69 rfl) rfl
theorem q_w2582 : (Jvm.Cond.instanceMethod ({ cls := "CaptainClaims", name := "declareLiar", desc := "(I)I" } : Jvm.MethodName)) ∈ lw_all := lw_g (lw_at lw_m11 70 rfl) rfl
theorem q_w2583 : (Jvm.Cond.selects "CaptainClaims" ({ cls := "CaptainClaims", name := "declareLiar", desc := "(I)I" } : Jvm.MethodName) ({ cls := "CaptainClaims", name := "declareLiar", desc := "(I)I" } : Jvm.MethodName)) ∈ lw_all := lw_g (lw_at lw_m11 71 rfl) rfl
theorem q_w2584 : (Jvm.Cond.code ({ cls := "CaptainClaims", name := "declareLiar", desc := "(I)I" } : Jvm.MethodName) prog_1_method_74_code (2 : Nat) (Option.some Jvm.ClassFile.FieldType.int)) ∈ lw_all := lw_g (lw_at lw_m11 72 rfl) rfl
theorem q_w2585 : (Jvm.Cond.methodLink "CaptainClaimsLaw" (386 : Nat) ({ cls := "CaptainClaimsLaw", name := "retract", desc := "(LCaptainClaims;I[J)I" } : Jvm.MethodName)) ∈ lw_all := lw_g (lw_at lw_m11 73 rfl) rfl
theorem q_w2586 : (Jvm.Cond.static ({ cls := "CaptainClaimsLaw", name := "retract", desc := "(LCaptainClaims;I[J)I" } : Jvm.MethodName)) ∈ lw_all := lw_g (lw_at lw_m11 74 rfl) rfl
theorem q_w2587 : (Jvm.Cond.codeWith ({ cls := "CaptainClaimsLaw", name := "retract", desc := "(LCaptainClaims;I[J)I" } : Jvm.MethodName) method_55_code (4 : Nat) (Option.some Jvm.ClassFile.FieldType.int) [((0 : Nat), (16 : Nat), (19 : Nat), (21 : Nat)), ((0 : Nat), (16 : Nat), (22 : Nat), (13 : Nat))]) ∈ lw_all := lw_g (lw_at lw_m11 75 rfl) rfl
theorem q_w2588 : (Jvm.Cond.methodLink "CaptainClaimsLaw" (180 : Nat) ({ cls := "CaptainClaims", name := "retract", desc := "(I)Z" } : Jvm.MethodName)) ∈ lw_all := lw_g (lw_at lw_m11 76 rfl) rfl
theorem q_w2589 : (Jvm.Cond.instanceMethod ({ cls := "CaptainClaims", name := "retract", desc := "(I)Z" } : Jvm.MethodName)) ∈ lw_all := lw_g (lw_at lw_m11 77 rfl) rfl
theorem q_w2590 : (Jvm.Cond.selects "CaptainClaims" ({ cls := "CaptainClaims", name := "retract", desc := "(I)Z" } : Jvm.MethodName) ({ cls := "CaptainClaims", name := "retract", desc := "(I)Z" } : Jvm.MethodName)) ∈ lw_all := lw_g (lw_at lw_m11 78 rfl) rfl
theorem q_w2591 : (Jvm.Cond.code ({ cls := "CaptainClaims", name := "retract", desc := "(I)Z" } : Jvm.MethodName) prog_1_method_75_code (4 : Nat) (Option.some Jvm.ClassFile.FieldType.boolean)) ∈ lw_all := lw_g (lw_at lw_m11 79 rfl) rfl
theorem q_w2592 : (Jvm.Cond.fieldLink "CaptainClaims" (392 : Nat) "CaptainClaims$Declaration" "NO" "LCaptainClaims$Declaration;") ∈ lw_all := lw_g (lw_at lw_m11 80 rfl) rfl
theorem q_w2593 : (Jvm.Cond.methodLink "CaptainClaimsLaw" (389 : Nat) ({ cls := "CaptainClaimsLaw", name := "setBounds", desc := "(LCaptainClaims;II[J)I" } : Jvm.MethodName)) ∈ lw_all := lw_g (lw_at lw_m11 81 rfl) rfl
theorem q_w2594 : (Jvm.Cond.static ({ cls := "CaptainClaimsLaw", name := "setBounds", desc := "(LCaptainClaims;II[J)I" } : Jvm.MethodName)) ∈ lw_all := lw_g (lw_at lw_m11 82 rfl) rfl
theorem q_w2595 : (Jvm.Cond.codeWith ({ cls := "CaptainClaimsLaw", name := "setBounds", desc := "(LCaptainClaims;II[J)I" } : Jvm.MethodName) method_56_code (5 : Nat) (Option.some Jvm.ClassFile.FieldType.int) [((0 : Nat), (10 : Nat), (13 : Nat), (21 : Nat)), ((0 : Nat), (10 : Nat), (17 : Nat), (15 : Nat))]) ∈ lw_all := lw_g (lw_at lw_m11 83 rfl) rfl
theorem q_w2596 : (Jvm.Cond.methodLink "CaptainClaimsLaw" (183 : Nat) ({ cls := "CaptainClaims", name := "setBounds", desc := "(II)I" } : Jvm.MethodName)) ∈ lw_all := lw_g (lw_at lw_m11 84 rfl) rfl
theorem q_w2597 : (Jvm.Cond.instanceMethod ({ cls := "CaptainClaims", name := "setBounds", desc := "(II)I" } : Jvm.MethodName)) ∈ lw_all := lw_g (lw_at lw_m11 85 rfl) rfl
theorem q_w2598 : (Jvm.Cond.selects "CaptainClaims" ({ cls := "CaptainClaims", name := "setBounds", desc := "(II)I" } : Jvm.MethodName) ({ cls := "CaptainClaims", name := "setBounds", desc := "(II)I" } : Jvm.MethodName)) ∈ lw_all := lw_g (lw_at lw_m11 86 rfl) rfl
theorem q_w2599 : (Jvm.Cond.code ({ cls := "CaptainClaims", name := "setBounds", desc := "(II)I" } : Jvm.MethodName) prog_1_method_76_code (5 : Nat) (Option.some Jvm.ClassFile.FieldType.int)) ∈ lw_all := lw_g (lw_at lw_m11 87 rfl) rfl
theorem q_w2600 : (Jvm.Cond.methodLink "CaptainClaimsLaw" (392 : Nat) ({ cls := "CaptainClaimsLaw", name := "reportEmpty", desc := "(LCaptainClaims;II[J)I" } : Jvm.MethodName)) ∈ lw_all := lw_g (lw_at lw_m11 88 rfl) rfl
theorem q_w2601 : (Jvm.Cond.static ({ cls := "CaptainClaimsLaw", name := "reportEmpty", desc := "(LCaptainClaims;II[J)I" } : Jvm.MethodName)) ∈ lw_all := lw_g (lw_at lw_m11 89 rfl) rfl
theorem q_w2602 : (Jvm.Cond.codeWith ({ cls := "CaptainClaimsLaw", name := "reportEmpty", desc := "(LCaptainClaims;II[J)I" } : Jvm.MethodName) method_57_code (5 : Nat) (Option.some Jvm.ClassFile.FieldType.int) [((0 : Nat), (10 : Nat), (13 : Nat), (21 : Nat)), ((0 : Nat), (10 : Nat), (17 : Nat), (13 : Nat)), ((0 : Nat), (10 : Nat), (21 : Nat), (15 : Nat))]) ∈ lw_all := lw_g (lw_at lw_m11 90 rfl) rfl
theorem q_w2603 : (Jvm.Cond.methodLink "CaptainClaimsLaw" (186 : Nat) ({ cls := "CaptainClaims", name := "reportEmpty", desc := "(II)I" } : Jvm.MethodName)) ∈ lw_all := lw_g (lw_at lw_m11 91 rfl) rfl
theorem q_w2604 : (Jvm.Cond.instanceMethod ({ cls := "CaptainClaims", name := "reportEmpty", desc := "(II)I" } : Jvm.MethodName)) ∈ lw_all := lw_g (lw_at lw_m11 92 rfl) rfl
theorem q_w2605 : (Jvm.Cond.selects "CaptainClaims" ({ cls := "CaptainClaims", name := "reportEmpty", desc := "(II)I" } : Jvm.MethodName) ({ cls := "CaptainClaims", name := "reportEmpty", desc := "(II)I" } : Jvm.MethodName)) ∈ lw_all := lw_g (lw_at lw_m11 93 rfl) rfl
theorem q_w2606 : (Jvm.Cond.code ({ cls := "CaptainClaims", name := "reportEmpty", desc := "(II)I" } : Jvm.MethodName) prog_1_method_77_code (6 : Nat) (Option.some Jvm.ClassFile.FieldType.int)) ∈ lw_all := lw_g (lw_at lw_m11 94 rfl) rfl
theorem q_w2607 : (Jvm.Cond.methodLink "CaptainClaimsLaw" (395 : Nat) ({ cls := "CaptainClaimsLaw", name := "undo", desc := "(LCaptainClaims;[J)I" } : Jvm.MethodName)) ∈ lw_all := lw_g (lw_at lw_m11 95 rfl) rfl
theorem q_w2608 : (Jvm.Cond.static ({ cls := "CaptainClaimsLaw", name := "undo", desc := "(LCaptainClaims;[J)I" } : Jvm.MethodName)) ∈ lw_all := lw_g (lw_at lw_m11 96 rfl) rfl
theorem q_w2609 : (Jvm.Cond.codeWith ({ cls := "CaptainClaimsLaw", name := "undo", desc := "(LCaptainClaims;[J)I" } : Jvm.MethodName) method_58_code (3 : Nat) (Option.some Jvm.ClassFile.FieldType.int) [((0 : Nat), (8 : Nat), (11 : Nat), (21 : Nat))]) ∈ lw_all := lw_g (lw_at lw_m11 97 rfl) rfl
theorem q_w2610 : (Jvm.Cond.methodLink "CaptainClaimsLaw" (189 : Nat) ({ cls := "CaptainClaims", name := "undo", desc := "()I" } : Jvm.MethodName)) ∈ lw_all := lw_g (lw_at lw_m11 98 rfl) rfl
theorem q_w2611 : (Jvm.Cond.instanceMethod ({ cls := "CaptainClaims", name := "undo", desc := "()I" } : Jvm.MethodName)) ∈ lw_all := lw_g (lw_at lw_m11 99 rfl) rfl
theorem q_w2612 : (Jvm.Cond.selects "CaptainClaims" ({ cls := "CaptainClaims", name := "undo", desc := "()I" } : Jvm.MethodName) ({ cls := "CaptainClaims", name := "undo", desc := "()I" } : Jvm.MethodName)) ∈ lw_all := lw_g (lw_at lw_m11 100 rfl) rfl
theorem q_w2613 : (Jvm.Cond.code ({ cls := "CaptainClaims", name := "undo", desc := "()I" } : Jvm.MethodName) prog_1_method_78_code (1 : Nat) (Option.some Jvm.ClassFile.FieldType.int)) ∈ lw_all := lw_g (lw_at lw_m11 101 rfl) rfl
theorem q_w2615 : (Jvm.Cond.publicMethod ({ cls := "java/util/Collection", name := "isEmpty", desc := "()Z" } : Jvm.MethodName)) ∈ lw_tbl := lw_at lw_m11 103 rfl
theorem q_w2616 : (Jvm.Cond.declares ({ cls := "java/util/Collection", name := "isEmpty", desc := "()Z" } : Jvm.MethodName)) ∈ lw_tbl := lw_at lw_m11 104 rfl
theorem q_w2617 : (Jvm.Cond.selects "java/util/ArrayDeque" ({ cls := "java/util/Collection", name := "isEmpty", desc := "()Z" } : Jvm.MethodName) ({ cls := "java/util/ArrayDeque", name := "isEmpty", desc := "()Z" } : Jvm.MethodName)) ∈ lw_all := lw_g (lw_at lw_m11 105 rfl) rfl
theorem q_w2618 : (Jvm.Cond.unhidden "java/util/ArrayDeque" "isEmpty" "()Z") ∈ lw_tbl := lw_at lw_m11 106 rfl
theorem q_w2619 : (Jvm.Cond.instanceMethod ({ cls := "java/util/ArrayDeque", name := "isEmpty", desc := "()Z" } : Jvm.MethodName)) ∈ lw_all := lw_g (lw_at lw_m11 107 rfl) rfl
theorem q_w2620 : (Jvm.Cond.publicMethod ({ cls := "java/util/ArrayDeque", name := "isEmpty", desc := "()Z" } : Jvm.MethodName)) ∈ lw_tbl := lw_at lw_m11 108 rfl
theorem q_w2621 : (Jvm.Cond.code ({ cls := "java/util/ArrayDeque", name := "isEmpty", desc := "()Z" } : Jvm.MethodName) prog_59_method_38_code (1 : Nat) (Option.some Jvm.ClassFile.FieldType.boolean)) ∈ lw_all := lw_g (lw_at lw_m11 109 rfl) rfl
theorem q_w2623 : (Jvm.Cond.methodLink "CaptainClaims" (397 : Nat) ({ cls := "java/util/Deque", name := "removeLast", desc := "()Ljava/lang/Object;" } : Jvm.MethodName)) ∈ lw_all := lw_g (lw_at lw_m11 111 rfl) rfl
theorem q_w2624 : (Jvm.Cond.interfaceMethod "java/util/Deque" "java/util/Deque" "removeLast" "()Ljava/lang/Object;") ∈ lw_tbl := lw_at lw_m11 112 rfl
theorem q_w2625 : (Jvm.Cond.declares ({ cls := "java/util/Deque", name := "removeLast", desc := "()Ljava/lang/Object;" } : Jvm.MethodName)) ∈ lw_tbl := lw_at lw_m11 113 rfl
theorem q_w2626 : (Jvm.Cond.selects "java/util/ArrayDeque" ({ cls := "java/util/Deque", name := "removeLast", desc := "()Ljava/lang/Object;" } : Jvm.MethodName) ({ cls := "java/util/ArrayDeque", name := "removeLast", desc := "()Ljava/lang/Object;" } : Jvm.MethodName)) ∈ lw_all := lw_g (lw_at lw_m11 114 rfl) rfl
theorem q_w2627 : (Jvm.Cond.unhidden "java/util/ArrayDeque" "removeLast" "()Ljava/lang/Object;") ∈ lw_tbl := lw_at lw_m11 115 rfl
theorem q_w2628 : (Jvm.Cond.instanceMethod ({ cls := "java/util/ArrayDeque", name := "removeLast", desc := "()Ljava/lang/Object;" } : Jvm.MethodName)) ∈ lw_all := lw_g (lw_at lw_m11 116 rfl) rfl
theorem q_w2629 : (Jvm.Cond.publicMethod ({ cls := "java/util/ArrayDeque", name := "removeLast", desc := "()Ljava/lang/Object;" } : Jvm.MethodName)) ∈ lw_tbl := lw_at lw_m11 117 rfl
theorem q_w2630 : (Jvm.Cond.code ({ cls := "java/util/ArrayDeque", name := "removeLast", desc := "()Ljava/lang/Object;" } : Jvm.MethodName) prog_59_method_19_code (2 : Nat) (Option.some (Jvm.ClassFile.FieldType.object "java/lang/Object"))) ∈ lw_all := lw_g (lw_at lw_m11 118 rfl) rfl
theorem q_w2631 : (Jvm.Cond.methodLink "java/util/ArrayDeque" (100 : Nat) ({ cls := "java/util/ArrayDeque", name := "pollLast", desc := "()Ljava/lang/Object;" } : Jvm.MethodName)) ∈ lw_all := lw_g (lw_at lw_m11 119 rfl) rfl
theorem q_w2632 : (Jvm.Cond.instanceMethod ({ cls := "java/util/ArrayDeque", name := "pollLast", desc := "()Ljava/lang/Object;" } : Jvm.MethodName)) ∈ lw_all := lw_g (lw_at lw_m11 120 rfl) rfl
theorem q_w2633 : (Jvm.Cond.selects "java/util/ArrayDeque" ({ cls := "java/util/ArrayDeque", name := "pollLast", desc := "()Ljava/lang/Object;" } : Jvm.MethodName) ({ cls := "java/util/ArrayDeque", name := "pollLast", desc := "()Ljava/lang/Object;" } : Jvm.MethodName)) ∈ lw_all := lw_g (lw_at lw_m11 121 rfl) rfl
theorem q_w2634 : (Jvm.Cond.code ({ cls := "java/util/ArrayDeque", name := "pollLast", desc := "()Ljava/lang/Object;" } : Jvm.MethodName) prog_59_method_21_code (4 : Nat) (Option.some (Jvm.ClassFile.FieldType.object "java/lang/Object"))) ∈ lw_all := lw_g (lw_at lw_m11 122 rfl) rfl
theorem q_w2635 : (Jvm.Cond.methodLink "java/util/ArrayDeque" (68 : Nat) ({ cls := "java/util/ArrayDeque", name := "dec", desc := "(II)I" } : Jvm.MethodName)) ∈ lw_all := lw_g (lw_at lw_m11 123 rfl) rfl
theorem q_w2636 : (Jvm.Cond.static ({ cls := "java/util/ArrayDeque", name := "dec", desc := "(II)I" } : Jvm.MethodName)) ∈ lw_all := lw_g (lw_at lw_m11 124 rfl) rfl
theorem q_w2637 : (Jvm.Cond.code ({ cls := "java/util/ArrayDeque", name := "dec", desc := "(II)I" } : Jvm.MethodName) prog_59_method_7_code (2 : Nat) (Option.some Jvm.ClassFile.FieldType.int)) ∈ lw_all := lw_g (lw_at lw_m11 125 rfl) rfl
theorem q_w2638 : (Jvm.Cond.methodLink "CaptainClaimsLaw" (402 : Nat) ({ cls := "CaptainClaimsLaw", name := "save", desc := "(LCaptainClaims;I[J)I" } : Jvm.MethodName)) ∈ lw_all := lw_g (lw_at lw_m11 126 rfl) rfl
theorem q_w2639 : (Jvm.Cond.static ({ cls := "CaptainClaimsLaw", name := "save", desc := "(LCaptainClaims;I[J)I" } : Jvm.MethodName)) ∈ lw_all := lw_g (lw_at lw_m11 127 rfl) rfl
theorem q_w2640 : (Jvm.Cond.codeWith ({ cls := "CaptainClaimsLaw", name := "save", desc := "(LCaptainClaims;I[J)I" } : Jvm.MethodName) method_59_code (4 : Nat) (Option.some Jvm.ClassFile.FieldType.int) [((0 : Nat), (9 : Nat), (12 : Nat), (21 : Nat)), ((0 : Nat), (9 : Nat), (15 : Nat), (13 : Nat))]) ∈ lw_all := lw_g (lw_at lw_m11 128 rfl) rfl
theorem q_w2641 : (Jvm.Cond.methodLink "CaptainClaimsLaw" (192 : Nat) ({ cls := "CaptainClaims", name := "save", desc := "(I)I" } : Jvm.MethodName)) ∈ lw_all := lw_g (lw_at lw_m11 129 rfl) rfl
theorem q_w2642 : (Jvm.Cond.instanceMethod ({ cls := "CaptainClaims", name := "save", desc := "(I)I" } : Jvm.MethodName)) ∈ lw_all := lw_g (lw_at lw_m11 130 rfl) rfl
theorem q_w2643 : (Jvm.Cond.selects "CaptainClaims" ({ cls := "CaptainClaims", name := "save", desc := "(I)I" } : Jvm.MethodName) ({ cls := "CaptainClaims", name := "save", desc := "(I)I" } : Jvm.MethodName)) ∈ lw_all := lw_g (lw_at lw_m11 131 rfl) rfl
theorem q_w2644 : (Jvm.Cond.code ({ cls := "CaptainClaims", name := "save", desc := "(I)I" } : Jvm.MethodName) prog_1_method_81_code (3 : Nat) (Option.some Jvm.ClassFile.FieldType.int)) ∈ lw_all := lw_g (lw_at lw_m11 132 rfl) rfl
theorem q_w2645 : (Jvm.Cond.methodLink "CaptainClaims" (400 : Nat) ({ cls := "CaptainClaims", name := "checkSlot", desc := "(I)V" } : Jvm.MethodName)) ∈ lw_all := lw_g (lw_at lw_m11 133 rfl) rfl
theorem q_w2646 : (Jvm.Cond.static ({ cls := "CaptainClaims", name := "checkSlot", desc := "(I)V" } : Jvm.MethodName)) ∈ lw_all := lw_g (lw_at lw_m11 134 rfl) rfl
theorem q_w2647 : (Jvm.Cond.code ({ cls := "CaptainClaims", name := "checkSlot", desc := "(I)V" } : Jvm.MethodName) prog_1_method_80_code (1 : Nat) (Option.none : Option Jvm.ClassFile.FieldType)) ∈ lw_all := lw_g (lw_at lw_m11 135 rfl) rfl
theorem q_w2648 : (Jvm.Cond.methodLink "CaptainClaimsLaw" (405 : Nat) ({ cls := "CaptainClaimsLaw", name := "restore", desc := "(LCaptainClaims;I[J)I" } : Jvm.MethodName)) ∈ lw_all := lw_g (lw_at lw_m11 136 rfl) rfl
theorem q_w2649 : (Jvm.Cond.static ({ cls := "CaptainClaimsLaw", name := "restore", desc := "(LCaptainClaims;I[J)I" } : Jvm.MethodName)) ∈ lw_all := lw_g (lw_at lw_m11 137 rfl) rfl
theorem q_w2650 : (Jvm.Cond.codeWith ({ cls := "CaptainClaimsLaw", name := "restore", desc := "(LCaptainClaims;I[J)I" } : Jvm.MethodName) method_60_code (4 : Nat) (Option.some Jvm.ClassFile.FieldType.int) [((0 : Nat), (9 : Nat), (12 : Nat), (13 : Nat)), ((0 : Nat), (9 : Nat), (15 : Nat), (21 : Nat))]) ∈ lw_all := lw_g (lw_at lw_m11 138 rfl) rfl
theorem q_w2651 : (Jvm.Cond.methodLink "CaptainClaimsLaw" (195 : Nat) ({ cls := "CaptainClaims", name := "restore", desc := "(I)I" } : Jvm.MethodName)) ∈ lw_all := lw_g (lw_at lw_m11 139 rfl) rfl
theorem q_w2652 : (Jvm.Cond.instanceMethod ({ cls := "CaptainClaims", name := "restore", desc := "(I)I" } : Jvm.MethodName)) ∈ lw_all := lw_g (lw_at lw_m11 140 rfl) rfl
theorem q_w2653 : (Jvm.Cond.selects "CaptainClaims" ({ cls := "CaptainClaims", name := "restore", desc := "(I)I" } : Jvm.MethodName) ({ cls := "CaptainClaims", name := "restore", desc := "(I)I" } : Jvm.MethodName)) ∈ lw_all := lw_g (lw_at lw_m11 141 rfl) rfl
theorem q_w2654 : (Jvm.Cond.code ({ cls := "CaptainClaims", name := "restore", desc := "(I)I" } : Jvm.MethodName) prog_1_method_82_code (2 : Nat) (Option.some Jvm.ClassFile.FieldType.int)) ∈ lw_all := lw_g (lw_at lw_m11 142 rfl) rfl
theorem q_w2655 : (Jvm.Cond.classLink "CaptainClaimsLaw" (199 : Nat) "CaptainClaimsModel") ∈ lw_all := lw_g (lw_at lw_m11 143 rfl) rfl
theorem q_w2656 : (Jvm.Cond.instantiable "CaptainClaimsModel" (28 : Nat)) ∈ lw_all := lw_g (lw_at lw_m11 144 rfl) rfl
theorem q_w2657 : (Jvm.Cond.methodLink "CaptainClaimsLaw" (201 : Nat) ({ cls := "CaptainClaimsModel", name := "<init>", desc := "()V" } : Jvm.MethodName)) ∈ lw_all := lw_g (lw_at lw_m11 145 rfl) rfl
theorem q_w2658 : (Jvm.Cond.instanceMethod ({ cls := "CaptainClaimsModel", name := "<init>", desc := "()V" } : Jvm.MethodName)) ∈ lw_all := lw_g (lw_at lw_m11 146 rfl) rfl
theorem q_w2659 : (Jvm.Cond.code ({ cls := "CaptainClaimsModel", name := "<init>", desc := "()V" } : Jvm.MethodName) prog_28_method_1_code (1 : Nat) (Option.none : Option Jvm.ClassFile.FieldType)) ∈ lw_all := lw_g (lw_at lw_m11 147 rfl) rfl
theorem q_w2660 : (Jvm.Cond.methodLink "CaptainClaimsModel" (1 : Nat) ({ cls := "java/lang/Object", name := "<init>", desc := "()V" } : Jvm.MethodName)) ∈ lw_all := lw_g (lw_at lw_m11 148 rfl) rfl
theorem q_w2661 : (Jvm.Cond.fieldLink "CaptainClaimsModel" (48 : Nat) "CaptainClaimsModel" "thrown" "I") ∈ lw_all := lw_g (lw_at lw_m11 149 rfl) rfl
theorem q_w2662 : (Jvm.Cond.fieldLink "CaptainClaimsModel" (51 : Nat) "CaptainClaimsModel" "isLoaded" "Z") ∈ lw_all := lw_g (lw_at lw_m11 150 rfl) rfl
theorem q_w2663 : (Jvm.Cond.fieldLink "CaptainClaimsModel" (7 : Nat) "CaptainClaimsModel" "h" "[I") ∈ lw_all := lw_g (lw_at lw_m11 151 rfl) rfl
theorem q_w2664 : (Jvm.Cond.fieldLink "CaptainClaimsModel" (13 : Nat) "CaptainClaimsModel" "s" "[I") ∈ lw_all := lw_g (lw_at lw_m11 152 rfl) rfl
theorem q_w2665 : (Jvm.Cond.fieldLink "CaptainClaimsModel" (16 : Nat) "CaptainClaimsModel" "stores" "[I") ∈ lw_all := lw_g (lw_at lw_m11 153 rfl) rfl
theorem q_w2666 : (Jvm.Cond.fieldLink "CaptainClaimsModel" (309 : Nat) "CaptainClaimsModel" "changes" "I") ∈ lw_all := lw_g (lw_at lw_m11 154 rfl) rfl
theorem q_w2667 : (Jvm.Cond.fieldLink "CaptainClaimsModel" (19 : Nat) "CaptainClaimsModel" "isKept" "[Z") ∈ lw_all := lw_g (lw_at lw_m11 155 rfl) rfl
theorem q_w2668 : (Jvm.Cond.fieldLink "CaptainClaimsModel" (23 : Nat) "CaptainClaimsModel" "island" "[I") ∈ lw_all := lw_g (lw_at lw_m11 156 rfl) rfl
theorem q_w2669 : (Jvm.Cond.fieldLink "CaptainClaimsModel" (26 : Nat) "CaptainClaimsModel" "sizes" "[I") ∈ lw_all := lw_g (lw_at lw_m11 157 rfl) rfl
theorem q_w2670 : (Jvm.Cond.fieldLink "CaptainClaimsModel" (29 : Nat) "CaptainClaimsModel" "open" "[I") ∈ lw_all := lw_g (lw_at lw_m11 158 rfl) rfl
theorem q_w2671 : (Jvm.Cond.fieldLink "CaptainClaimsModel" (81 : Nat) "CaptainClaimsModel" "islands" "I") ∈ lw_all := lw_g (lw_at lw_m11 159 rfl) rfl
theorem q_w2672 : (Jvm.Cond.fieldLink "CaptainClaimsModel" (32 : Nat) "CaptainClaimsModel" "scenarios" "[I") ∈ lw_all := lw_g (lw_at lw_m11 160 rfl) rfl
theorem q_w2673 : (Jvm.Cond.fieldLink "CaptainClaimsModel" (35 : Nat) "CaptainClaimsModel" "lying" "[I") ∈ lw_all := lw_g (lw_at lw_m11 161 rfl) rfl
theorem q_w2674 : (Jvm.Cond.fieldLink "CaptainClaimsModel" (116 : Nat) "CaptainClaimsModel" "all" "I") ∈ lw_all := lw_g (lw_at lw_m11 162 rfl) rfl
theorem q_w2675 : (Jvm.Cond.fieldLink "CaptainClaimsModel" (119 : Nat) "CaptainClaimsModel" "allLiars" "I") ∈ lw_all := lw_g (lw_at lw_m11 163 rfl) rfl
theorem q_w2676 : (Jvm.Cond.fieldLink "CaptainClaimsModel" (38 : Nat) "CaptainClaimsModel" "buffer" "[I") ∈ lw_all := lw_g (lw_at lw_m11 164 rfl) rfl
theorem q_w2677 : (Jvm.Cond.fieldLink "CaptainClaimsModel" (143 : Nat) "CaptainClaimsModel" "buffered" "I") ∈ lw_all := lw_g (lw_at lw_m11 165 rfl) rfl
theorem q_w2678 : (Jvm.Cond.fieldLink "CaptainClaimsModel" (146 : Nat) "CaptainClaimsModel" "parseError" "I") ∈ lw_all := lw_g (lw_at lw_m11 166 rfl) rfl
theorem q_w2679 : (Jvm.Cond.fieldLink "CaptainClaimsModel" (41 : Nat) "CaptainClaimsModel" "errorPosition" "I") ∈ lw_all := lw_g (lw_at lw_m11 167 rfl) rfl
theorem q_w2680 : (Jvm.Cond.fieldLink "CaptainClaimsModel" (149 : Nat) "CaptainClaimsModel" "length" "I") ∈ lw_all := lw_g (lw_at lw_m11 168 rfl) rfl
theorem q_w2681 : (Jvm.Cond.fieldLink "CaptainClaimsModel" (152 : Nat) "CaptainClaimsModel" "next" "I") ∈ lw_all := lw_g (lw_at lw_m11 169 rfl) rfl
theorem q_w2682 : (Jvm.Cond.fieldLink "CaptainClaimsModel" (158 : Nat) "CaptainClaimsModel" "from" "I") ∈ lw_all := lw_g (lw_at lw_m11 170 rfl) rfl
theorem q_w2683 : (Jvm.Cond.fieldLink "CaptainClaimsModel" (161 : Nat) "CaptainClaimsModel" "sort" "I") ∈ lw_all := lw_g (lw_at lw_m11 171 rfl) rfl
theorem q_w2684 : (Jvm.Cond.fieldLink "CaptainClaimsModel" (170 : Nat) "CaptainClaimsModel" "number" "I") ∈ lw_all := lw_g (lw_at lw_m11 172 rfl) rfl
theorem q_w2685 : (Jvm.Cond.fieldLink "CaptainClaimsModel" (176 : Nat) "CaptainClaimsModel" "bad" "I") ∈ lw_all := lw_g (lw_at lw_m11 173 rfl) rfl
theorem q_w2686 : (Jvm.Cond.fieldLink "CaptainClaimsModel" (179 : Nat) "CaptainClaimsModel" "badAt" "I") ∈ lw_all := lw_g (lw_at lw_m11 174 rfl) rfl
theorem q_w2687 : (Jvm.Cond.fieldLink "CaptainClaimsModel" (45 : Nat) "CaptainClaimsModel" "text" "[I") ∈ lw_all := lw_g (lw_at lw_m11 175 rfl) rfl
theorem q_w2688 : (Jvm.Cond.fieldLink "CaptainClaimsModel" (351 : Nat) "CaptainClaimsModel" "textLong" "I") ∈ lw_all := lw_g (lw_at lw_m11 176 rfl) rfl
theorem q_w2746 : (Jvm.Cond.methodLink "CaptainClaimsLaw" (213 : Nat) ({ cls := "CaptainClaimsModel", name := "thrown", desc := "()I" } : Jvm.MethodName)) ∈ lw_all := lw_g (lw_at lw_m11 234 rfl) rfl
theorem q_w2747 : (Jvm.Cond.instanceMethod ({ cls := "CaptainClaimsModel", name := "thrown", desc := "()I" } : Jvm.MethodName)) ∈ lw_all := lw_g (lw_at lw_m11 235 rfl) rfl
theorem q_w2748 : (Jvm.Cond.selects "CaptainClaimsModel" ({ cls := "CaptainClaimsModel", name := "thrown", desc := "()I" } : Jvm.MethodName) ({ cls := "CaptainClaimsModel", name := "thrown", desc := "()I" } : Jvm.MethodName)) ∈ lw_all := lw_g (lw_at lw_m11 236 rfl) rfl
theorem q_w2749 : (Jvm.Cond.code ({ cls := "CaptainClaimsModel", name := "thrown", desc := "()I" } : Jvm.MethodName) prog_28_method_2_code (1 : Nat) (Option.some Jvm.ClassFile.FieldType.int)) ∈ lw_all := lw_g (lw_at lw_m11 237 rfl) rfl
theorem q_w2750 : (Jvm.Cond.methodLink "CaptainClaimsLaw" (206 : Nat) ({ cls := "CaptainClaimsModel", name := "append", desc := "(IIIII)I" } : Jvm.MethodName)) ∈ lw_all := lw_g (lw_at lw_m11 238 rfl) rfl
theorem q_w2751 : (Jvm.Cond.instanceMethod ({ cls := "CaptainClaimsModel", name := "append", desc := "(IIIII)I" } : Jvm.MethodName)) ∈ lw_all := lw_g (lw_at lw_m11 239 rfl) rfl
theorem q_w2752 : (Jvm.Cond.selects "CaptainClaimsModel" ({ cls := "CaptainClaimsModel", name := "append", desc := "(IIIII)I" } : Jvm.MethodName) ({ cls := "CaptainClaimsModel", name := "append", desc := "(IIIII)I" } : Jvm.MethodName)) ∈ lw_all := lw_g (lw_at lw_m12 0 rfl) rfl
theorem q_w2753 : (Jvm.Cond.code ({ cls := "CaptainClaimsModel", name := "append", desc := "(IIIII)I" } : Jvm.MethodName) prog_28_method_28_code (8 : Nat) (Option.some Jvm.ClassFile.FieldType.int)) ∈ lw_all := lw_g (lw_at lw_m12 1 rfl) rfl
theorem q_w2754 : (Jvm.Cond.methodLink "CaptainClaimsLaw" (227 : Nat) ({ cls := "CaptainClaimsModel", name := "bufferLength", desc := "()I" } : Jvm.MethodName)) ∈ lw_all := lw_g (lw_at lw_m12 2 rfl) rfl
theorem q_w2755 : (Jvm.Cond.instanceMethod ({ cls := "CaptainClaimsModel", name := "bufferLength", desc := "()I" } : Jvm.MethodName)) ∈ lw_all := lw_g (lw_at lw_m12 3 rfl) rfl
theorem q_w2756 : (Jvm.Cond.selects "CaptainClaimsModel" ({ cls := "CaptainClaimsModel", name := "bufferLength", desc := "()I" } : Jvm.MethodName) ({ cls := "CaptainClaimsModel", name := "bufferLength", desc := "()I" } : Jvm.MethodName)) ∈ lw_all := lw_g (lw_at lw_m12 4 rfl) rfl
theorem q_w2757 : (Jvm.Cond.code ({ cls := "CaptainClaimsModel", name := "bufferLength", desc := "()I" } : Jvm.MethodName) prog_28_method_29_code (1 : Nat) (Option.some Jvm.ClassFile.FieldType.int)) ∈ lw_all := lw_g (lw_at lw_m12 5 rfl) rfl
theorem q_w2758 : (Jvm.Cond.methodLink "CaptainClaimsLaw" (219 : Nat) ({ cls := "CaptainClaimsModel", name := "parseError", desc := "()I" } : Jvm.MethodName)) ∈ lw_all := lw_g (lw_at lw_m12 6 rfl) rfl
theorem q_w2759 : (Jvm.Cond.instanceMethod ({ cls := "CaptainClaimsModel", name := "parseError", desc := "()I" } : Jvm.MethodName)) ∈ lw_all := lw_g (lw_at lw_m12 7 rfl) rfl
theorem q_w2760 : (Jvm.Cond.selects "CaptainClaimsModel" ({ cls := "CaptainClaimsModel", name := "parseError", desc := "()I" } : Jvm.MethodName) ({ cls := "CaptainClaimsModel", name := "parseError", desc := "()I" } : Jvm.MethodName)) ∈ lw_all := lw_g (lw_at lw_m12 8 rfl) rfl
theorem q_w2761 : (Jvm.Cond.code ({ cls := "CaptainClaimsModel", name := "parseError", desc := "()I" } : Jvm.MethodName) prog_28_method_30_code (1 : Nat) (Option.some Jvm.ClassFile.FieldType.int)) ∈ lw_all := lw_g (lw_at lw_m12 9 rfl) rfl
theorem q_w2762 : (Jvm.Cond.methodLink "CaptainClaimsLaw" (223 : Nat) ({ cls := "CaptainClaimsModel", name := "errorPosition", desc := "()I" } : Jvm.MethodName)) ∈ lw_all := lw_g (lw_at lw_m12 10 rfl) rfl
theorem q_w2763 : (Jvm.Cond.instanceMethod ({ cls := "CaptainClaimsModel", name := "errorPosition", desc := "()I" } : Jvm.MethodName)) ∈ lw_all := lw_g (lw_at lw_m12 11 rfl) rfl
theorem q_w2764 : (Jvm.Cond.selects "CaptainClaimsModel" ({ cls := "CaptainClaimsModel", name := "errorPosition", desc := "()I" } : Jvm.MethodName) ({ cls := "CaptainClaimsModel", name := "errorPosition", desc := "()I" } : Jvm.MethodName)) ∈ lw_all := lw_g (lw_at lw_m12 12 rfl) rfl
theorem q_w2765 : (Jvm.Cond.code ({ cls := "CaptainClaimsModel", name := "errorPosition", desc := "()I" } : Jvm.MethodName) prog_28_method_31_code (1 : Nat) (Option.some Jvm.ClassFile.FieldType.int)) ∈ lw_all := lw_g (lw_at lw_m12 13 rfl) rfl
theorem q_w2766 : (Jvm.Cond.methodLink "CaptainClaimsLaw" (212 : Nat) ({ cls := "CaptainClaimsModel", name := "load", desc := "(I)I" } : Jvm.MethodName)) ∈ lw_all := lw_g (lw_at lw_m12 14 rfl) rfl
theorem q_w2767 : (Jvm.Cond.instanceMethod ({ cls := "CaptainClaimsModel", name := "load", desc := "(I)I" } : Jvm.MethodName)) ∈ lw_all := lw_g (lw_at lw_m12 15 rfl) rfl
theorem q_w2768 : (Jvm.Cond.selects "CaptainClaimsModel" ({ cls := "CaptainClaimsModel", name := "load", desc := "(I)I" } : Jvm.MethodName) ({ cls := "CaptainClaimsModel", name := "load", desc := "(I)I" } : Jvm.MethodName)) ∈ lw_all := lw_g (lw_at lw_m12 16 rfl) rfl
theorem q_w2769 : (Jvm.Cond.code ({ cls := "CaptainClaimsModel", name := "load", desc := "(I)I" } : Jvm.MethodName) prog_28_method_61_code (4 : Nat) (Option.some Jvm.ClassFile.FieldType.int)) ∈ lw_all := lw_g (lw_at lw_m12 17 rfl) rfl
theorem q_w2770 : (Jvm.Cond.methodLink "CaptainClaimsModel" (63 : Nat) ({ cls := "CaptainClaimsModel", name := "in", desc := "(JJJ)Z" } : Jvm.MethodName)) ∈ lw_all := lw_g (lw_at lw_m12 18 rfl) rfl
theorem q_w2771 : (Jvm.Cond.static ({ cls := "CaptainClaimsModel", name := "in", desc := "(JJJ)Z" } : Jvm.MethodName)) ∈ lw_all := lw_g (lw_at lw_m12 19 rfl) rfl
theorem q_w2772 : (Jvm.Cond.code ({ cls := "CaptainClaimsModel", name := "in", desc := "(JJJ)Z" } : Jvm.MethodName) prog_28_method_3_code (6 : Nat) (Option.some Jvm.ClassFile.FieldType.boolean)) ∈ lw_all := lw_g (lw_at lw_m12 20 rfl) rfl
theorem q_w2773 : (Jvm.Cond.methodLink "CaptainClaimsModel" (55 : Nat) ({ cls := "CaptainClaimsModel", name := "refuse", desc := "(ZI)Z" } : Jvm.MethodName)) ∈ lw_all := lw_g (lw_at lw_m12 21 rfl) rfl
theorem q_w2775 : (Jvm.Cond.instanceMethod ({ cls := "CaptainClaimsModel", name := "refuse", desc := "(ZI)Z" } : Jvm.MethodName)) ∈ lw_all := lw_g (lw_at lw_m12 23 rfl) rfl
theorem q_w2776 : (Jvm.Cond.code ({ cls := "CaptainClaimsModel", name := "refuse", desc := "(ZI)Z" } : Jvm.MethodName) prog_28_method_5_code (3 : Nat) (Option.some Jvm.ClassFile.FieldType.boolean)) ∈ lw_all := lw_g (lw_at lw_m12 24 rfl) rfl
theorem q_w2777 : (Jvm.Cond.methodLink "CaptainClaimsModel" (297 : Nat) ({ cls := "CaptainClaimsModel", name := "laysAside", desc := "()V" } : Jvm.MethodName)) ∈ lw_all := lw_g (lw_at lw_m12 25 rfl) rfl
theorem q_w2779 : (Jvm.Cond.instanceMethod ({ cls := "CaptainClaimsModel", name := "laysAside", desc := "()V" } : Jvm.MethodName)) ∈ lw_all := lw_g (lw_at lw_m12 27 rfl) rfl
theorem q_w2780 : (Jvm.Cond.code ({ cls := "CaptainClaimsModel", name := "laysAside", desc := "()V" } : Jvm.MethodName) prog_28_method_8_code (1 : Nat) (Option.none : Option Jvm.ClassFile.FieldType)) ∈ lw_all := lw_g (lw_at lw_m12 28 rfl) rfl
theorem q_w2781 : (Jvm.Cond.methodLink "CaptainClaimsModel" (59 : Nat) ({ cls := "CaptainClaimsModel", name := "copies", desc := "([II[II)V" } : Jvm.MethodName)) ∈ lw_all := lw_g (lw_at lw_m12 29 rfl) rfl
theorem q_w2782 : (Jvm.Cond.static ({ cls := "CaptainClaimsModel", name := "copies", desc := "([II[II)V" } : Jvm.MethodName)) ∈ lw_all := lw_g (lw_at lw_m12 30 rfl) rfl
theorem q_w2783 : (Jvm.Cond.code ({ cls := "CaptainClaimsModel", name := "copies", desc := "([II[II)V" } : Jvm.MethodName) prog_28_method_7_code (5 : Nat) (Option.none : Option Jvm.ClassFile.FieldType)) ∈ lw_all := lw_g (lw_at lw_m12 31 rfl) rfl
theorem q_w2784 : (Jvm.Cond.methodLink "CaptainClaimsModel" (300 : Nat) ({ cls := "CaptainClaimsModel", name := "starts", desc := "(I)V" } : Jvm.MethodName)) ∈ lw_all := lw_g (lw_at lw_m12 32 rfl) rfl
theorem q_w2786 : (Jvm.Cond.instanceMethod ({ cls := "CaptainClaimsModel", name := "starts", desc := "(I)V" } : Jvm.MethodName)) ∈ lw_all := lw_g (lw_at lw_m12 34 rfl) rfl
theorem q_w2787 : (Jvm.Cond.code ({ cls := "CaptainClaimsModel", name := "starts", desc := "(I)V" } : Jvm.MethodName) prog_28_method_60_code (2 : Nat) (Option.none : Option Jvm.ClassFile.FieldType)) ∈ lw_all := lw_g (lw_at lw_m12 35 rfl) rfl
theorem q_w2788 : (Jvm.Cond.methodLink "CaptainClaimsModel" (185 : Nat) ({ cls := "CaptainClaimsModel", name := "token", desc := "()V" } : Jvm.MethodName)) ∈ lw_all := lw_g (lw_at lw_m12 36 rfl) rfl
theorem q_w2790 : (Jvm.Cond.instanceMethod ({ cls := "CaptainClaimsModel", name := "token", desc := "()V" } : Jvm.MethodName)) ∈ lw_all := lw_g (lw_at lw_m12 38 rfl) rfl
theorem q_w2791 : (Jvm.Cond.code ({ cls := "CaptainClaimsModel", name := "token", desc := "()V" } : Jvm.MethodName) prog_28_method_35_code (2 : Nat) (Option.none : Option Jvm.ClassFile.FieldType)) ∈ lw_all := lw_g (lw_at lw_m12 39 rfl) rfl
theorem q_w2792 : (Jvm.Cond.methodLink "CaptainClaimsModel" (155 : Nat) ({ cls := "CaptainClaimsModel", name := "seen", desc := "(I)I" } : Jvm.MethodName)) ∈ lw_all := lw_g (lw_at lw_m12 40 rfl) rfl
theorem q_w2794 : (Jvm.Cond.instanceMethod ({ cls := "CaptainClaimsModel", name := "seen", desc := "(I)I" } : Jvm.MethodName)) ∈ lw_all := lw_g (lw_at lw_m12 42 rfl) rfl
theorem q_w2795 : (Jvm.Cond.code ({ cls := "CaptainClaimsModel", name := "seen", desc := "(I)I" } : Jvm.MethodName) prog_28_method_32_code (2 : Nat) (Option.some Jvm.ClassFile.FieldType.int)) ∈ lw_all := lw_g (lw_at lw_m12 43 rfl) rfl
theorem q_w2796 : (Jvm.Cond.methodLink "CaptainClaimsModel" (164 : Nat) ({ cls := "CaptainClaimsModel", name := "isSmall", desc := "(I)Z" } : Jvm.MethodName)) ∈ lw_all := lw_g (lw_at lw_m12 44 rfl) rfl
theorem q_w2797 : (Jvm.Cond.static ({ cls := "CaptainClaimsModel", name := "isSmall", desc := "(I)Z" } : Jvm.MethodName)) ∈ lw_all := lw_g (lw_at lw_m12 45 rfl) rfl
theorem q_w2798 : (Jvm.Cond.code ({ cls := "CaptainClaimsModel", name := "isSmall", desc := "(I)Z" } : Jvm.MethodName) prog_28_method_33_code (1 : Nat) (Option.some Jvm.ClassFile.FieldType.boolean)) ∈ lw_all := lw_g (lw_at lw_m12 46 rfl) rfl
theorem q_w2799 : (Jvm.Cond.methodLink "CaptainClaimsModel" (167 : Nat) ({ cls := "CaptainClaimsModel", name := "isDigit", desc := "(I)Z" } : Jvm.MethodName)) ∈ lw_all := lw_g (lw_at lw_m12 47 rfl) rfl
theorem q_w2800 : (Jvm.Cond.static ({ cls := "CaptainClaimsModel", name := "isDigit", desc := "(I)Z" } : Jvm.MethodName)) ∈ lw_all := lw_g (lw_at lw_m12 48 rfl) rfl
theorem q_w2801 : (Jvm.Cond.code ({ cls := "CaptainClaimsModel", name := "isDigit", desc := "(I)Z" } : Jvm.MethodName) prog_28_method_34_code (1 : Nat) (Option.some Jvm.ClassFile.FieldType.boolean)) ∈ lw_all := lw_g (lw_at lw_m12 49 rfl) rfl
theorem q_w2802 : (Jvm.Cond.methodLink "CaptainClaimsModel" (173 : Nat) ({ cls := "CaptainClaimsModel", name := "isMark", desc := "(I)Z" } : Jvm.MethodName)) ∈ lw_all := lw_g (lw_at lw_m12 50 rfl) rfl
theorem q_w2803 : (Jvm.Cond.static ({ cls := "CaptainClaimsModel", name := "isMark", desc := "(I)Z" } : Jvm.MethodName)) ∈ lw_all := lw_g (lw_at lw_m12 51 rfl) rfl
theorem q_w2804 : (Jvm.Cond.code ({ cls := "CaptainClaimsModel", name := "isMark", desc := "(I)Z" } : Jvm.MethodName) prog_28_method_43_code (1 : Nat) (Option.some Jvm.ClassFile.FieldType.boolean)) ∈ lw_all := lw_g (lw_at lw_m12 52 rfl) rfl
theorem q_w2805 : (Jvm.Cond.methodLink "CaptainClaimsModel" (303 : Nat) ({ cls := "CaptainClaimsModel", name := "reads", desc := "()V" } : Jvm.MethodName)) ∈ lw_all := lw_g (lw_at lw_m12 53 rfl) rfl
theorem q_w2807 : (Jvm.Cond.instanceMethod ({ cls := "CaptainClaimsModel", name := "reads", desc := "()V" } : Jvm.MethodName)) ∈ lw_all := lw_g (lw_at lw_m12 55 rfl) rfl
theorem q_w2808 : (Jvm.Cond.code ({ cls := "CaptainClaimsModel", name := "reads", desc := "()V" } : Jvm.MethodName) prog_28_method_59_code (2 : Nat) (Option.none : Option Jvm.ClassFile.FieldType)) ∈ lw_all := lw_g (lw_at lw_m12 56 rfl) rfl
theorem q_w2810 : (Jvm.Cond.methodLink "CaptainClaimsModel" (220 : Nat) ({ cls := "CaptainClaimsModel", name := "isWord", desc := "(Ljava/lang/String;)Z" } : Jvm.MethodName)) ∈ lw_all := lw_g (lw_at lw_m12 58 rfl) rfl
theorem q_w2812 : (Jvm.Cond.instanceMethod ({ cls := "CaptainClaimsModel", name := "isWord", desc := "(Ljava/lang/String;)Z" } : Jvm.MethodName)) ∈ lw_all := lw_g (lw_at lw_m12 60 rfl) rfl
theorem q_w2813 : (Jvm.Cond.code ({ cls := "CaptainClaimsModel", name := "isWord", desc := "(Ljava/lang/String;)Z" } : Jvm.MethodName) prog_28_method_39_code (3 : Nat) (Option.some Jvm.ClassFile.FieldType.boolean)) ∈ lw_all := lw_g (lw_at lw_m12 61 rfl) rfl
theorem q_w2814 : (Jvm.Cond.methodLink "CaptainClaimsModel" (188 : Nat) ({ cls := "java/lang/String", name := "length", desc := "()I" } : Jvm.MethodName)) ∈ lw_all := lw_g (lw_at lw_m12 62 rfl) rfl
theorem q_w2815 : (Jvm.Cond.methodLink "CaptainClaimsModel" (192 : Nat) ({ cls := "java/lang/String", name := "charAt", desc := "(I)C" } : Jvm.MethodName)) ∈ lw_all := lw_g (lw_at lw_m12 63 rfl) rfl
theorem q_w2816 : (Jvm.Cond.methodLink "CaptainClaimsModel" (202 : Nat) ({ cls := "CaptainClaimsModel", name := "failsIf", desc := "(ZI)V" } : Jvm.MethodName)) ∈ lw_all := lw_g (lw_at lw_m12 64 rfl) rfl
theorem q_w2818 : (Jvm.Cond.instanceMethod ({ cls := "CaptainClaimsModel", name := "failsIf", desc := "(ZI)V" } : Jvm.MethodName)) ∈ lw_all := lw_g (lw_at lw_m12 66 rfl) rfl
theorem q_w2819 : (Jvm.Cond.code ({ cls := "CaptainClaimsModel", name := "failsIf", desc := "(ZI)V" } : Jvm.MethodName) prog_28_method_37_code (3 : Nat) (Option.none : Option Jvm.ClassFile.FieldType)) ∈ lw_all := lw_g (lw_at lw_m12 67 rfl) rfl
theorem q_w2820 : (Jvm.Cond.methodLink "CaptainClaimsModel" (182 : Nat) ({ cls := "CaptainClaimsModel", name := "fails", desc := "(I)V" } : Jvm.MethodName)) ∈ lw_all := lw_g (lw_at lw_m12 68 rfl) rfl
theorem q_w2822 : (Jvm.Cond.instanceMethod ({ cls := "CaptainClaimsModel", name := "fails", desc := "(I)V" } : Jvm.MethodName)) ∈ lw_all := lw_g (lw_at lw_m12 70 rfl) rfl
theorem q_w2823 : (Jvm.Cond.code ({ cls := "CaptainClaimsModel", name := "fails", desc := "(I)V" } : Jvm.MethodName) prog_28_method_36_code (2 : Nat) (Option.none : Option Jvm.ClassFile.FieldType)) ∈ lw_all := lw_g (lw_at lw_m12 71 rfl) rfl
theorem q_w2824 : (Jvm.Cond.methodLink "CaptainClaimsModel" (199 : Nat) ({ cls := "CaptainClaimsModel", name := "goesOn", desc := "()V" } : Jvm.MethodName)) ∈ lw_all := lw_g (lw_at lw_m12 72 rfl) rfl
theorem q_w2826 : (Jvm.Cond.instanceMethod ({ cls := "CaptainClaimsModel", name := "goesOn", desc := "()V" } : Jvm.MethodName)) ∈ lw_all := lw_g (lw_at lw_m12 74 rfl) rfl
theorem q_w2827 : (Jvm.Cond.code ({ cls := "CaptainClaimsModel", name := "goesOn", desc := "()V" } : Jvm.MethodName) prog_28_method_38_code (1 : Nat) (Option.none : Option Jvm.ClassFile.FieldType)) ∈ lw_all := lw_g (lw_at lw_m12 75 rfl) rfl
theorem q_w2828 : (Jvm.Cond.methodLink "CaptainClaimsModel" (215 : Nat) ({ cls := "CaptainClaimsModel", name := "takes", desc := "(II)I" } : Jvm.MethodName)) ∈ lw_all := lw_g (lw_at lw_m12 76 rfl) rfl
theorem q_w2830 : (Jvm.Cond.instanceMethod ({ cls := "CaptainClaimsModel", name := "takes", desc := "(II)I" } : Jvm.MethodName)) ∈ lw_all := lw_g (lw_at lw_m12 78 rfl) rfl
theorem q_w2831 : (Jvm.Cond.code ({ cls := "CaptainClaimsModel", name := "takes", desc := "(II)I" } : Jvm.MethodName) prog_28_method_41_code (4 : Nat) (Option.some Jvm.ClassFile.FieldType.int)) ∈ lw_all := lw_g (lw_at lw_m12 79 rfl) rfl
theorem q_w2832 : (Jvm.Cond.methodLink "CaptainClaimsModel" (196 : Nat) ({ cls := "CaptainClaimsModel", name := "looks", desc := "(II)I" } : Jvm.MethodName)) ∈ lw_all := lw_g (lw_at lw_m12 80 rfl) rfl
theorem q_w2834 : (Jvm.Cond.instanceMethod ({ cls := "CaptainClaimsModel", name := "looks", desc := "(II)I" } : Jvm.MethodName)) ∈ lw_all := lw_g (lw_at lw_m12 82 rfl) rfl
theorem q_w2835 : (Jvm.Cond.code ({ cls := "CaptainClaimsModel", name := "looks", desc := "(II)I" } : Jvm.MethodName) prog_28_method_40_code (3 : Nat) (Option.some Jvm.ClassFile.FieldType.int)) ∈ lw_all := lw_g (lw_at lw_m12 83 rfl) rfl
theorem q_w2836 : (Jvm.Cond.methodLink "CaptainClaimsModel" (294 : Nat) ({ cls := "CaptainClaimsModel", name := "line", desc := "()V" } : Jvm.MethodName)) ∈ lw_all := lw_g (lw_at lw_m12 84 rfl) rfl
theorem q_w2838 : (Jvm.Cond.instanceMethod ({ cls := "CaptainClaimsModel", name := "line", desc := "()V" } : Jvm.MethodName)) ∈ lw_all := lw_g (lw_at lw_m12 86 rfl) rfl
theorem q_w2839 : (Jvm.Cond.code ({ cls := "CaptainClaimsModel", name := "line", desc := "()V" } : Jvm.MethodName) prog_28_method_58_code (4 : Nat) (Option.none : Option Jvm.ClassFile.FieldType)) ∈ lw_all := lw_g (lw_at lw_m12 87 rfl) rfl
theorem q_w2841 : (Jvm.Cond.methodLink "CaptainClaimsModel" (269 : Nat) ({ cls := "CaptainClaimsModel", name := "marks", desc := "(II)I" } : Jvm.MethodName)) ∈ lw_all := lw_g (lw_at lw_m12 89 rfl) rfl
theorem q_w2843 : (Jvm.Cond.instanceMethod ({ cls := "CaptainClaimsModel", name := "marks", desc := "(II)I" } : Jvm.MethodName)) ∈ lw_all := lw_g (lw_at lw_m12 91 rfl) rfl
theorem q_w2844 : (Jvm.Cond.code ({ cls := "CaptainClaimsModel", name := "marks", desc := "(II)I" } : Jvm.MethodName) prog_28_method_46_code (5 : Nat) (Option.some Jvm.ClassFile.FieldType.int)) ∈ lw_all := lw_g (lw_at lw_m12 92 rfl) rfl
theorem q_w2845 : (Jvm.Cond.methodLink "CaptainClaimsModel" (206 : Nat) ({ cls := "CaptainClaimsModel", name := "fits", desc := "(II)Z" } : Jvm.MethodName)) ∈ lw_all := lw_g (lw_at lw_m12 93 rfl) rfl
theorem q_w2847 : (Jvm.Cond.instanceMethod ({ cls := "CaptainClaimsModel", name := "fits", desc := "(II)Z" } : Jvm.MethodName)) ∈ lw_all := lw_g (lw_at lw_m12 95 rfl) rfl
theorem q_w2848 : (Jvm.Cond.code ({ cls := "CaptainClaimsModel", name := "fits", desc := "(II)Z" } : Jvm.MethodName) prog_28_method_44_code (6 : Nat) (Option.some Jvm.ClassFile.FieldType.boolean)) ∈ lw_all := lw_g (lw_at lw_m12 96 rfl) rfl
theorem q_w2849 : (Jvm.Cond.methodLink "CaptainClaimsModel" (67 : Nat) ({ cls := "CaptainClaimsModel", name := "isCell", desc := "(II)Z" } : Jvm.MethodName)) ∈ lw_all := lw_g (lw_at lw_m12 97 rfl) rfl
theorem q_w2851 : (Jvm.Cond.instanceMethod ({ cls := "CaptainClaimsModel", name := "isCell", desc := "(II)Z" } : Jvm.MethodName)) ∈ lw_all := lw_g (lw_at lw_m12 99 rfl) rfl
theorem q_w2852 : (Jvm.Cond.code ({ cls := "CaptainClaimsModel", name := "isCell", desc := "(II)Z" } : Jvm.MethodName) prog_28_method_11_code (3 : Nat) (Option.some Jvm.ClassFile.FieldType.boolean)) ∈ lw_all := lw_g (lw_at lw_m12 100 rfl) rfl
theorem q_w2853 : (Jvm.Cond.methodLink "CaptainClaimsModel" (71 : Nat) ({ cls := "CaptainClaimsModel", name := "cellOf", desc := "(II)I" } : Jvm.MethodName)) ∈ lw_all := lw_g (lw_at lw_m12 101 rfl) rfl
theorem q_w2855 : (Jvm.Cond.instanceMethod ({ cls := "CaptainClaimsModel", name := "cellOf", desc := "(II)I" } : Jvm.MethodName)) ∈ lw_all := lw_g (lw_at lw_m12 103 rfl) rfl
theorem q_w2856 : (Jvm.Cond.code ({ cls := "CaptainClaimsModel", name := "cellOf", desc := "(II)I" } : Jvm.MethodName) prog_28_method_12_code (3 : Nat) (Option.some Jvm.ClassFile.FieldType.int)) ∈ lw_all := lw_g (lw_at lw_m12 104 rfl) rfl
theorem q_w2857 : (Jvm.Cond.methodLink "CaptainClaimsModel" (75 : Nat) ({ cls := "CaptainClaimsModel", name := "is", desc := "(II)Z" } : Jvm.MethodName)) ∈ lw_all := lw_g (lw_at lw_m12 105 rfl) rfl
theorem q_w2859 : (Jvm.Cond.instanceMethod ({ cls := "CaptainClaimsModel", name := "is", desc := "(II)Z" } : Jvm.MethodName)) ∈ lw_all := lw_g (lw_at lw_m12 107 rfl) rfl
theorem q_w2860 : (Jvm.Cond.code ({ cls := "CaptainClaimsModel", name := "is", desc := "(II)Z" } : Jvm.MethodName) prog_28_method_13_code (3 : Nat) (Option.some Jvm.ClassFile.FieldType.boolean)) ∈ lw_all := lw_g (lw_at lw_m12 108 rfl) rfl
theorem q_w2861 : (Jvm.Cond.methodLink "CaptainClaimsModel" (209 : Nat) ({ cls := "CaptainClaimsModel", name := "laysMarks", desc := "(II)I" } : Jvm.MethodName)) ∈ lw_all := lw_g (lw_at lw_m12 109 rfl) rfl
theorem q_w2863 : (Jvm.Cond.instanceMethod ({ cls := "CaptainClaimsModel", name := "laysMarks", desc := "(II)I" } : Jvm.MethodName)) ∈ lw_all := lw_g (lw_at lw_m12 111 rfl) rfl
theorem q_w2864 : (Jvm.Cond.code ({ cls := "CaptainClaimsModel", name := "laysMarks", desc := "(II)I" } : Jvm.MethodName) prog_28_method_45_code (6 : Nat) (Option.some Jvm.ClassFile.FieldType.int)) ∈ lw_all := lw_g (lw_at lw_m12 112 rfl) rfl
theorem q_w2865 : (Jvm.Cond.methodLink "CaptainClaimsModel" (139 : Nat) ({ cls := "CaptainClaimsModel", name := "flag", desc := "(Z)I" } : Jvm.MethodName)) ∈ lw_all := lw_g (lw_at lw_m12 113 rfl) rfl
theorem q_w2866 : (Jvm.Cond.static ({ cls := "CaptainClaimsModel", name := "flag", desc := "(Z)I" } : Jvm.MethodName)) ∈ lw_all := lw_g (lw_at lw_m12 114 rfl) rfl
theorem q_w2867 : (Jvm.Cond.code ({ cls := "CaptainClaimsModel", name := "flag", desc := "(Z)I" } : Jvm.MethodName) prog_28_method_4_code (1 : Nat) (Option.some Jvm.ClassFile.FieldType.int)) ∈ lw_all := lw_g (lw_at lw_m12 115 rfl) rfl
theorem q_w2869 : (Jvm.Cond.methodLink "CaptainClaimsModel" (274 : Nat) ({ cls := "CaptainClaimsModel", name := "captainLine", desc := "()V" } : Jvm.MethodName)) ∈ lw_all := lw_g (lw_at lw_m12 117 rfl) rfl
theorem q_w2871 : (Jvm.Cond.instanceMethod ({ cls := "CaptainClaimsModel", name := "captainLine", desc := "()V" } : Jvm.MethodName)) ∈ lw_all := lw_g (lw_at lw_m12 119 rfl) rfl
theorem q_w2872 : (Jvm.Cond.code ({ cls := "CaptainClaimsModel", name := "captainLine", desc := "()V" } : Jvm.MethodName) prog_28_method_47_code (2 : Nat) (Option.none : Option Jvm.ClassFile.FieldType)) ∈ lw_all := lw_g (lw_at lw_m12 120 rfl) rfl
theorem q_w2873 : (Jvm.Cond.methodLink "CaptainClaimsModel" (212 : Nat) ({ cls := "CaptainClaimsModel", name := "found", desc := "()I" } : Jvm.MethodName)) ∈ lw_all := lw_g (lw_at lw_m12 121 rfl) rfl
theorem q_w2875 : (Jvm.Cond.instanceMethod ({ cls := "CaptainClaimsModel", name := "found", desc := "()I" } : Jvm.MethodName)) ∈ lw_all := lw_g (lw_at lw_m12 123 rfl) rfl
theorem q_w2876 : (Jvm.Cond.code ({ cls := "CaptainClaimsModel", name := "found", desc := "()I" } : Jvm.MethodName) prog_28_method_42_code (4 : Nat) (Option.some Jvm.ClassFile.FieldType.int)) ∈ lw_all := lw_g (lw_at lw_m12 124 rfl) rfl
theorem q_w2878 : (Jvm.Cond.methodLink "CaptainClaimsModel" (261 : Nat) ({ cls := "CaptainClaimsModel", name := "captainHere", desc := "()I" } : Jvm.MethodName)) ∈ lw_all := lw_g (lw_at lw_m12 126 rfl) rfl
theorem q_w2880 : (Jvm.Cond.instanceMethod ({ cls := "CaptainClaimsModel", name := "captainHere", desc := "()I" } : Jvm.MethodName)) ∈ lw_all := lw_g (lw_at lw_m12 128 rfl) rfl
theorem q_w2881 : (Jvm.Cond.code ({ cls := "CaptainClaimsModel", name := "captainHere", desc := "()I" } : Jvm.MethodName) prog_28_method_48_code (1 : Nat) (Option.some Jvm.ClassFile.FieldType.int)) ∈ lw_all := lw_g (lw_at lw_m12 129 rfl) rfl
theorem q_w2882 : (Jvm.Cond.methodLink "CaptainClaimsModel" (279 : Nat) ({ cls := "CaptainClaimsModel", name := "statement", desc := "(I)V" } : Jvm.MethodName)) ∈ lw_all := lw_g (lw_at lw_m12 130 rfl) rfl
theorem q_w2884 : (Jvm.Cond.instanceMethod ({ cls := "CaptainClaimsModel", name := "statement", desc := "(I)V" } : Jvm.MethodName)) ∈ lw_all := lw_g (lw_at lw_m12 132 rfl) rfl
theorem q_w2885 : (Jvm.Cond.code ({ cls := "CaptainClaimsModel", name := "statement", desc := "(I)V" } : Jvm.MethodName) prog_28_method_55_code (2 : Nat) (Option.none : Option Jvm.ClassFile.FieldType)) ∈ lw_all := lw_g (lw_at lw_m12 133 rfl) rfl
theorem q_w2886 : (Jvm.Cond.methodLink "CaptainClaimsModel" (242 : Nat) ({ cls := "CaptainClaimsModel", name := "lays", desc := "(III)V" } : Jvm.MethodName)) ∈ lw_all := lw_g (lw_at lw_m12 134 rfl) rfl
theorem q_w2888 : (Jvm.Cond.instanceMethod ({ cls := "CaptainClaimsModel", name := "lays", desc := "(III)V" } : Jvm.MethodName)) ∈ lw_all := lw_g (lw_at lw_m12 136 rfl) rfl
theorem q_w2889 : (Jvm.Cond.code ({ cls := "CaptainClaimsModel", name := "lays", desc := "(III)V" } : Jvm.MethodName) prog_28_method_19_code (4 : Nat) (Option.none : Option Jvm.ClassFile.FieldType)) ∈ lw_all := lw_g (lw_at lw_m12 137 rfl) rfl
theorem q_w2890 : (Jvm.Cond.methodLink "CaptainClaimsModel" (264 : Nat) ({ cls := "CaptainClaimsModel", name := "claim", desc := "(I)V" } : Jvm.MethodName)) ∈ lw_all := lw_g (lw_at lw_m12 138 rfl) rfl
theorem q_w2892 : (Jvm.Cond.instanceMethod ({ cls := "CaptainClaimsModel", name := "claim", desc := "(I)V" } : Jvm.MethodName)) ∈ lw_all := lw_g (lw_at lw_m12 140 rfl) rfl
theorem q_w2893 : (Jvm.Cond.code ({ cls := "CaptainClaimsModel", name := "claim", desc := "(I)V" } : Jvm.MethodName) prog_28_method_53_code (4 : Nat) (Option.none : Option Jvm.ClassFile.FieldType)) ∈ lw_all := lw_g (lw_at lw_m12 141 rfl) rfl
theorem q_w2894 : (Jvm.Cond.methodLink "CaptainClaimsModel" (249 : Nat) ({ cls := "CaptainClaimsModel", name := "kindHere", desc := "()I" } : Jvm.MethodName)) ∈ lw_all := lw_g (lw_at lw_m12 142 rfl) rfl
theorem q_w2896 : (Jvm.Cond.instanceMethod ({ cls := "CaptainClaimsModel", name := "kindHere", desc := "()I" } : Jvm.MethodName)) ∈ lw_all := lw_g (lw_at lw_m12 144 rfl) rfl
theorem q_w2897 : (Jvm.Cond.code ({ cls := "CaptainClaimsModel", name := "kindHere", desc := "()I" } : Jvm.MethodName) prog_28_method_49_code (1 : Nat) (Option.some Jvm.ClassFile.FieldType.int)) ∈ lw_all := lw_g (lw_at lw_m12 145 rfl) rfl
theorem q_w2908 : (Jvm.Cond.methodLink "CaptainClaimsModel" (92 : Nat) ({ cls := "CaptainClaimsModel", name := "of", desc := "(II)I" } : Jvm.MethodName)) ∈ lw_all := lw_g (lw_at lw_m12 156 rfl) rfl
theorem q_w2910 : (Jvm.Cond.instanceMethod ({ cls := "CaptainClaimsModel", name := "of", desc := "(II)I" } : Jvm.MethodName)) ∈ lw_all := lw_g (lw_at lw_m12 158 rfl) rfl
theorem q_w2911 : (Jvm.Cond.code ({ cls := "CaptainClaimsModel", name := "of", desc := "(II)I" } : Jvm.MethodName) prog_28_method_18_code (3 : Nat) (Option.some Jvm.ClassFile.FieldType.int)) ∈ lw_all := lw_g (lw_at lw_m12 159 rfl) rfl
theorem q_w2912 : (Jvm.Cond.methodLink "CaptainClaimsModel" (246 : Nat) ({ cls := "CaptainClaimsModel", name := "putsNumber", desc := "(III)V" } : Jvm.MethodName)) ∈ lw_all := lw_g (lw_at lw_m12 160 rfl) rfl
theorem q_w2914 : (Jvm.Cond.instanceMethod ({ cls := "CaptainClaimsModel", name := "putsNumber", desc := "(III)V" } : Jvm.MethodName)) ∈ lw_all := lw_g (lw_at lw_m12 162 rfl) rfl
theorem q_w2915 : (Jvm.Cond.code ({ cls := "CaptainClaimsModel", name := "putsNumber", desc := "(III)V" } : Jvm.MethodName) prog_28_method_50_code (4 : Nat) (Option.none : Option Jvm.ClassFile.FieldType)) ∈ lw_all := lw_g (lw_at lw_m12 163 rfl) rfl
theorem q_w2916 : (Jvm.Cond.methodLink "CaptainClaimsModel" (252 : Nat) ({ cls := "CaptainClaimsModel", name := "inner", desc := "(III)V" } : Jvm.MethodName)) ∈ lw_all := lw_g (lw_at lw_m12 164 rfl) rfl
theorem q_w2918 : (Jvm.Cond.instanceMethod ({ cls := "CaptainClaimsModel", name := "inner", desc := "(III)V" } : Jvm.MethodName)) ∈ lw_all := lw_g (lw_at lw_m12 166 rfl) rfl
theorem q_w2919 : (Jvm.Cond.code ({ cls := "CaptainClaimsModel", name := "inner", desc := "(III)V" } : Jvm.MethodName) prog_28_method_54_code (4 : Nat) (Option.none : Option Jvm.ClassFile.FieldType)) ∈ lw_all := lw_g (lw_at lw_m12 167 rfl) rfl
theorem q_w2920 : (Jvm.Cond.methodLink "CaptainClaimsModel" (255 : Nat) ({ cls := "CaptainClaimsModel", name := "pair", desc := "(II)V" } : Jvm.MethodName)) ∈ lw_all := lw_g (lw_at lw_m12 168 rfl) rfl
theorem q_w2922 : (Jvm.Cond.instanceMethod ({ cls := "CaptainClaimsModel", name := "pair", desc := "(II)V" } : Jvm.MethodName)) ∈ lw_all := lw_g (lw_at lw_m12 170 rfl) rfl
theorem q_w2923 : (Jvm.Cond.code ({ cls := "CaptainClaimsModel", name := "pair", desc := "(II)V" } : Jvm.MethodName) prog_28_method_51_code (5 : Nat) (Option.none : Option Jvm.ClassFile.FieldType)) ∈ lw_all := lw_g (lw_at lw_m12 171 rfl) rfl
theorem q_w2924 : (Jvm.Cond.methodLink "CaptainClaimsModel" (258 : Nat) ({ cls := "CaptainClaimsModel", name := "place", desc := "(I)V" } : Jvm.MethodName)) ∈ lw_all := lw_g (lw_at lw_m12 172 rfl) rfl
theorem q_w2926 : (Jvm.Cond.instanceMethod ({ cls := "CaptainClaimsModel", name := "place", desc := "(I)V" } : Jvm.MethodName)) ∈ lw_all := lw_g (lw_at lw_m12 174 rfl) rfl
theorem q_w2927 : (Jvm.Cond.code ({ cls := "CaptainClaimsModel", name := "place", desc := "(I)V" } : Jvm.MethodName) prog_28_method_52_code (2 : Nat) (Option.none : Option Jvm.ClassFile.FieldType)) ∈ lw_all := lw_g (lw_at lw_m12 175 rfl) rfl
theorem q_w2928 : (Jvm.Cond.methodLink "CaptainClaimsModel" (282 : Nat) ({ cls := "CaptainClaimsModel", name := "declareLine", desc := "(I)V" } : Jvm.MethodName)) ∈ lw_all := lw_g (lw_at lw_m12 176 rfl) rfl
theorem q_w2930 : (Jvm.Cond.instanceMethod ({ cls := "CaptainClaimsModel", name := "declareLine", desc := "(I)V" } : Jvm.MethodName)) ∈ lw_all := lw_g (lw_at lw_m12 178 rfl) rfl
theorem q_w2931 : (Jvm.Cond.code ({ cls := "CaptainClaimsModel", name := "declareLine", desc := "(I)V" } : Jvm.MethodName) prog_28_method_56_code (3 : Nat) (Option.none : Option Jvm.ClassFile.FieldType)) ∈ lw_all := lw_g (lw_at lw_m12 179 rfl) rfl
theorem q_w2934 : (Jvm.Cond.methodLink "CaptainClaimsModel" (289 : Nat) ({ cls := "CaptainClaimsModel", name := "emptyLine", desc := "()V" } : Jvm.MethodName)) ∈ lw_all := lw_g (lw_at lw_m12 182 rfl) rfl
theorem q_w2936 : (Jvm.Cond.instanceMethod ({ cls := "CaptainClaimsModel", name := "emptyLine", desc := "()V" } : Jvm.MethodName)) ∈ lw_all := lw_g (lw_at lw_m12 184 rfl) rfl
theorem q_w2937 : (Jvm.Cond.code ({ cls := "CaptainClaimsModel", name := "emptyLine", desc := "()V" } : Jvm.MethodName) prog_28_method_57_code (4 : Nat) (Option.none : Option Jvm.ClassFile.FieldType)) ∈ lw_all := lw_g (lw_at lw_m12 185 rfl) rfl
theorem q_w2938 : (Jvm.Cond.methodLink "CaptainClaimsModel" (306 : Nat) ({ cls := "CaptainClaimsModel", name := "back", desc := "(I)I" } : Jvm.MethodName)) ∈ lw_all := lw_g (lw_at lw_m12 186 rfl) rfl
theorem q_w2940 : (Jvm.Cond.instanceMethod ({ cls := "CaptainClaimsModel", name := "back", desc := "(I)I" } : Jvm.MethodName)) ∈ lw_all := lw_g (lw_at lw_m12 188 rfl) rfl
theorem q_w2941 : (Jvm.Cond.code ({ cls := "CaptainClaimsModel", name := "back", desc := "(I)I" } : Jvm.MethodName) prog_28_method_9_code (2 : Nat) (Option.some Jvm.ClassFile.FieldType.int)) ∈ lw_all := lw_g (lw_at lw_m12 189 rfl) rfl
theorem q_w2942 : (Jvm.Cond.methodLink "CaptainClaimsLaw" (231 : Nat) ({ cls := "CaptainClaimsModel", name := "rows", desc := "()I" } : Jvm.MethodName)) ∈ lw_all := lw_g (lw_at lw_m12 190 rfl) rfl
theorem q_w2943 : (Jvm.Cond.instanceMethod ({ cls := "CaptainClaimsModel", name := "rows", desc := "()I" } : Jvm.MethodName)) ∈ lw_all := lw_g (lw_at lw_m12 191 rfl) rfl
theorem q_w2944 : (Jvm.Cond.selects "CaptainClaimsModel" ({ cls := "CaptainClaimsModel", name := "rows", desc := "()I" } : Jvm.MethodName) ({ cls := "CaptainClaimsModel", name := "rows", desc := "()I" } : Jvm.MethodName)) ∈ lw_all := lw_g (lw_at lw_m12 192 rfl) rfl
theorem q_w2945 : (Jvm.Cond.code ({ cls := "CaptainClaimsModel", name := "rows", desc := "()I" } : Jvm.MethodName) prog_28_method_63_code (1 : Nat) (Option.some Jvm.ClassFile.FieldType.int)) ∈ lw_all := lw_g (lw_at lw_m12 193 rfl) rfl
theorem q_w2946 : (Jvm.Cond.methodLink "CaptainClaimsModel" (316 : Nat) ({ cls := "CaptainClaimsModel", name := "asked", desc := "(I)I" } : Jvm.MethodName)) ∈ lw_all := lw_g (lw_at lw_m12 194 rfl) rfl
theorem q_w2948 : (Jvm.Cond.instanceMethod ({ cls := "CaptainClaimsModel", name := "asked", desc := "(I)I" } : Jvm.MethodName)) ∈ lw_all := lw_g (lw_at lw_m12 196 rfl) rfl
theorem q_w2949 : (Jvm.Cond.code ({ cls := "CaptainClaimsModel", name := "asked", desc := "(I)I" } : Jvm.MethodName) prog_28_method_62_code (2 : Nat) (Option.some Jvm.ClassFile.FieldType.int)) ∈ lw_all := lw_g (lw_at lw_m12 197 rfl) rfl
theorem q_w2950 : (Jvm.Cond.methodLink "CaptainClaimsModel" (312 : Nat) ({ cls := "CaptainClaimsModel", name := "notLoaded", desc := "()Z" } : Jvm.MethodName)) ∈ lw_all := lw_g (lw_at lw_m12 198 rfl) rfl
theorem q_w2952 : (Jvm.Cond.instanceMethod ({ cls := "CaptainClaimsModel", name := "notLoaded", desc := "()Z" } : Jvm.MethodName)) ∈ lw_all := lw_g (lw_at lw_m12 200 rfl) rfl
theorem q_w2953 : (Jvm.Cond.code ({ cls := "CaptainClaimsModel", name := "notLoaded", desc := "()Z" } : Jvm.MethodName) prog_28_method_6_code (1 : Nat) (Option.some Jvm.ClassFile.FieldType.boolean)) ∈ lw_all := lw_g (lw_at lw_m12 201 rfl) rfl
theorem q_w2954 : (Jvm.Cond.methodLink "CaptainClaimsLaw" (234 : Nat) ({ cls := "CaptainClaimsModel", name := "columns", desc := "()I" } : Jvm.MethodName)) ∈ lw_all := lw_g (lw_at lw_m12 202 rfl) rfl
theorem q_w2955 : (Jvm.Cond.instanceMethod ({ cls := "CaptainClaimsModel", name := "columns", desc := "()I" } : Jvm.MethodName)) ∈ lw_all := lw_g (lw_at lw_m12 203 rfl) rfl
theorem q_w2956 : (Jvm.Cond.selects "CaptainClaimsModel" ({ cls := "CaptainClaimsModel", name := "columns", desc := "()I" } : Jvm.MethodName) ({ cls := "CaptainClaimsModel", name := "columns", desc := "()I" } : Jvm.MethodName)) ∈ lw_all := lw_g (lw_at lw_m12 204 rfl) rfl
theorem q_w2957 : (Jvm.Cond.code ({ cls := "CaptainClaimsModel", name := "columns", desc := "()I" } : Jvm.MethodName) prog_28_method_64_code (1 : Nat) (Option.some Jvm.ClassFile.FieldType.int)) ∈ lw_all := lw_g (lw_at lw_m12 205 rfl) rfl
theorem q_w2958 : (Jvm.Cond.methodLink "CaptainClaimsLaw" (237 : Nat) ({ cls := "CaptainClaimsModel", name := "pieceCount", desc := "()I" } : Jvm.MethodName)) ∈ lw_all := lw_g (lw_at lw_m12 206 rfl) rfl
theorem q_w2959 : (Jvm.Cond.instanceMethod ({ cls := "CaptainClaimsModel", name := "pieceCount", desc := "()I" } : Jvm.MethodName)) ∈ lw_all := lw_g (lw_at lw_m12 207 rfl) rfl
theorem q_w2960 : (Jvm.Cond.selects "CaptainClaimsModel" ({ cls := "CaptainClaimsModel", name := "pieceCount", desc := "()I" } : Jvm.MethodName) ({ cls := "CaptainClaimsModel", name := "pieceCount", desc := "()I" } : Jvm.MethodName)) ∈ lw_all := lw_g (lw_at lw_m12 208 rfl) rfl
theorem q_w2961 : (Jvm.Cond.code ({ cls := "CaptainClaimsModel", name := "pieceCount", desc := "()I" } : Jvm.MethodName) prog_28_method_65_code (1 : Nat) (Option.some Jvm.ClassFile.FieldType.int)) ∈ lw_all := lw_g (lw_at lw_m12 209 rfl) rfl
theorem q_w2962 : (Jvm.Cond.methodLink "CaptainClaimsLaw" (241 : Nat) ({ cls := "CaptainClaimsModel", name := "isLand", desc := "(II)Z" } : Jvm.MethodName)) ∈ lw_all := lw_g (lw_at lw_m12 210 rfl) rfl
theorem q_w2963 : (Jvm.Cond.instanceMethod ({ cls := "CaptainClaimsModel", name := "isLand", desc := "(II)Z" } : Jvm.MethodName)) ∈ lw_all := lw_g (lw_at lw_m12 211 rfl) rfl
theorem q_w2964 : (Jvm.Cond.selects "CaptainClaimsModel" ({ cls := "CaptainClaimsModel", name := "isLand", desc := "(II)Z" } : Jvm.MethodName) ({ cls := "CaptainClaimsModel", name := "isLand", desc := "(II)Z" } : Jvm.MethodName)) ∈ lw_all := lw_g (lw_at lw_m12 212 rfl) rfl
theorem q_w2965 : (Jvm.Cond.code ({ cls := "CaptainClaimsModel", name := "isLand", desc := "(II)Z" } : Jvm.MethodName) prog_28_method_67_code (3 : Nat) (Option.some Jvm.ClassFile.FieldType.boolean)) ∈ lw_all := lw_g (lw_at lw_m12 213 rfl) rfl
theorem q_w2966 : (Jvm.Cond.methodLink "CaptainClaimsModel" (319 : Nat) ({ cls := "CaptainClaimsModel", name := "noCell", desc := "(II)Z" } : Jvm.MethodName)) ∈ lw_all := lw_g (lw_at lw_m12 214 rfl) rfl
theorem q_w2968 : (Jvm.Cond.instanceMethod ({ cls := "CaptainClaimsModel", name := "noCell", desc := "(II)Z" } : Jvm.MethodName)) ∈ lw_all := lw_g (lw_at lw_m12 216 rfl) rfl
theorem q_w2969 : (Jvm.Cond.code ({ cls := "CaptainClaimsModel", name := "noCell", desc := "(II)Z" } : Jvm.MethodName) prog_28_method_66_code (3 : Nat) (Option.some Jvm.ClassFile.FieldType.boolean)) ∈ lw_all := lw_g (lw_at lw_m12 217 rfl) rfl
theorem q_w2970 : (Jvm.Cond.methodLink "CaptainClaimsLaw" (244 : Nat) ({ cls := "CaptainClaimsModel", name := "isSea", desc := "(II)Z" } : Jvm.MethodName)) ∈ lw_all := lw_g (lw_at lw_m12 218 rfl) rfl
theorem q_w2971 : (Jvm.Cond.instanceMethod ({ cls := "CaptainClaimsModel", name := "isSea", desc := "(II)Z" } : Jvm.MethodName)) ∈ lw_all := lw_g (lw_at lw_m12 219 rfl) rfl
theorem q_w2972 : (Jvm.Cond.selects "CaptainClaimsModel" ({ cls := "CaptainClaimsModel", name := "isSea", desc := "(II)Z" } : Jvm.MethodName) ({ cls := "CaptainClaimsModel", name := "isSea", desc := "(II)Z" } : Jvm.MethodName)) ∈ lw_all := lw_g (lw_at lw_m12 220 rfl) rfl
theorem q_w2973 : (Jvm.Cond.code ({ cls := "CaptainClaimsModel", name := "isSea", desc := "(II)Z" } : Jvm.MethodName) prog_28_method_68_code (3 : Nat) (Option.some Jvm.ClassFile.FieldType.boolean)) ∈ lw_all := lw_g (lw_at lw_m12 221 rfl) rfl
theorem q_w2974 : (Jvm.Cond.methodLink "CaptainClaimsLaw" (247 : Nat) ({ cls := "CaptainClaimsModel", name := "isCoast", desc := "(II)Z" } : Jvm.MethodName)) ∈ lw_all := lw_g (lw_at lw_m12 222 rfl) rfl
theorem q_w2975 : (Jvm.Cond.instanceMethod ({ cls := "CaptainClaimsModel", name := "isCoast", desc := "(II)Z" } : Jvm.MethodName)) ∈ lw_all := lw_g (lw_at lw_m12 223 rfl) rfl
theorem q_w2976 : (Jvm.Cond.selects "CaptainClaimsModel" ({ cls := "CaptainClaimsModel", name := "isCoast", desc := "(II)Z" } : Jvm.MethodName) ({ cls := "CaptainClaimsModel", name := "isCoast", desc := "(II)Z" } : Jvm.MethodName)) ∈ lw_all := lw_g (lw_at lw_m12 224 rfl) rfl
theorem q_w2977 : (Jvm.Cond.code ({ cls := "CaptainClaimsModel", name := "isCoast", desc := "(II)Z" } : Jvm.MethodName) prog_28_method_69_code (3 : Nat) (Option.some Jvm.ClassFile.FieldType.boolean)) ∈ lw_all := lw_g (lw_at lw_m12 225 rfl) rfl
theorem q_w2978 : (Jvm.Cond.methodLink "CaptainClaimsModel" (105 : Nat) ({ cls := "CaptainClaimsModel", name := "onCoast", desc := "(I)Z" } : Jvm.MethodName)) ∈ lw_all := lw_g (lw_at lw_m12 226 rfl) rfl
theorem q_w2980 : (Jvm.Cond.instanceMethod ({ cls := "CaptainClaimsModel", name := "onCoast", desc := "(I)Z" } : Jvm.MethodName)) ∈ lw_all := lw_g (lw_at lw_m12 228 rfl) rfl
theorem q_w2981 : (Jvm.Cond.code ({ cls := "CaptainClaimsModel", name := "onCoast", desc := "(I)Z" } : Jvm.MethodName) prog_28_method_15_code (4 : Nat) (Option.some Jvm.ClassFile.FieldType.boolean)) ∈ lw_all := lw_g (lw_at lw_m12 229 rfl) rfl
theorem q_w2982 : (Jvm.Cond.methodLink "CaptainClaimsModel" (78 : Nat) ({ cls := "CaptainClaimsModel", name := "beside", desc := "(II)I" } : Jvm.MethodName)) ∈ lw_all := lw_g (lw_at lw_m12 230 rfl) rfl
theorem q_w2984 : (Jvm.Cond.instanceMethod ({ cls := "CaptainClaimsModel", name := "beside", desc := "(II)I" } : Jvm.MethodName)) ∈ lw_all := lw_g (lw_at lw_m12 232 rfl) rfl
theorem q_w2985 : (Jvm.Cond.code ({ cls := "CaptainClaimsModel", name := "beside", desc := "(II)I" } : Jvm.MethodName) prog_28_method_14_code (5 : Nat) (Option.some Jvm.ClassFile.FieldType.int)) ∈ lw_all := lw_g (lw_at lw_m12 233 rfl) rfl
theorem q_w2986 : (Jvm.Cond.methodLink "CaptainClaimsLaw" (250 : Nat) ({ cls := "CaptainClaimsModel", name := "islandCount", desc := "()I" } : Jvm.MethodName)) ∈ lw_all := lw_g (lw_at lw_m12 234 rfl) rfl
theorem q_w2987 : (Jvm.Cond.instanceMethod ({ cls := "CaptainClaimsModel", name := "islandCount", desc := "()I" } : Jvm.MethodName)) ∈ lw_all := lw_g (lw_at lw_m12 235 rfl) rfl
theorem q_w2988 : (Jvm.Cond.selects "CaptainClaimsModel" ({ cls := "CaptainClaimsModel", name := "islandCount", desc := "()I" } : Jvm.MethodName) ({ cls := "CaptainClaimsModel", name := "islandCount", desc := "()I" } : Jvm.MethodName)) ∈ lw_all := lw_g (lw_at lw_m12 236 rfl) rfl
theorem q_w2989 : (Jvm.Cond.code ({ cls := "CaptainClaimsModel", name := "islandCount", desc := "()I" } : Jvm.MethodName) prog_28_method_70_code (1 : Nat) (Option.some Jvm.ClassFile.FieldType.int)) ∈ lw_all := lw_g (lw_at lw_m12 237 rfl) rfl
theorem q_w2990 : (Jvm.Cond.methodLink "CaptainClaimsModel" (122 : Nat) ({ cls := "CaptainClaimsModel", name := "laysIslands", desc := "()V" } : Jvm.MethodName)) ∈ lw_all := lw_g (lw_at lw_m12 238 rfl) rfl
theorem q_w2992 : (Jvm.Cond.instanceMethod ({ cls := "CaptainClaimsModel", name := "laysIslands", desc := "()V" } : Jvm.MethodName)) ∈ lw_all := lw_g (lw_at lw_m13 0 rfl) rfl
theorem q_w2993 : (Jvm.Cond.code ({ cls := "CaptainClaimsModel", name := "laysIslands", desc := "()V" } : Jvm.MethodName) prog_28_method_17_code (2 : Nat) (Option.none : Option Jvm.ClassFile.FieldType)) ∈ lw_all := lw_g (lw_at lw_m13 1 rfl) rfl
theorem q_w2994 : (Jvm.Cond.methodLink "CaptainClaimsModel" (84 : Nat) ({ cls := "CaptainClaimsModel", name := "cells", desc := "()I" } : Jvm.MethodName)) ∈ lw_all := lw_g (lw_at lw_m13 2 rfl) rfl
theorem q_w2996 : (Jvm.Cond.instanceMethod ({ cls := "CaptainClaimsModel", name := "cells", desc := "()I" } : Jvm.MethodName)) ∈ lw_all := lw_g (lw_at lw_m13 4 rfl) rfl
theorem q_w2997 : (Jvm.Cond.code ({ cls := "CaptainClaimsModel", name := "cells", desc := "()I" } : Jvm.MethodName) prog_28_method_10_code (1 : Nat) (Option.some Jvm.ClassFile.FieldType.int)) ∈ lw_all := lw_g (lw_at lw_m13 5 rfl) rfl
theorem q_w2998 : (Jvm.Cond.methodLink "CaptainClaimsModel" (88 : Nat) ({ cls := "CaptainClaimsModel", name := "fills", desc := "(I)V" } : Jvm.MethodName)) ∈ lw_all := lw_g (lw_at lw_m13 6 rfl) rfl
theorem q_w3000 : (Jvm.Cond.instanceMethod ({ cls := "CaptainClaimsModel", name := "fills", desc := "(I)V" } : Jvm.MethodName)) ∈ lw_all := lw_g (lw_at lw_m13 8 rfl) rfl
theorem q_w3001 : (Jvm.Cond.code ({ cls := "CaptainClaimsModel", name := "fills", desc := "(I)V" } : Jvm.MethodName) prog_28_method_16_code (6 : Nat) (Option.none : Option Jvm.ClassFile.FieldType)) ∈ lw_all := lw_g (lw_at lw_m13 9 rfl) rfl
theorem q_w3002 : (Jvm.Cond.methodLink "CaptainClaimsLaw" (253 : Nat) ({ cls := "CaptainClaimsModel", name := "islandOf", desc := "(II)I" } : Jvm.MethodName)) ∈ lw_all := lw_g (lw_at lw_m13 10 rfl) rfl
theorem q_w3003 : (Jvm.Cond.instanceMethod ({ cls := "CaptainClaimsModel", name := "islandOf", desc := "(II)I" } : Jvm.MethodName)) ∈ lw_all := lw_g (lw_at lw_m13 11 rfl) rfl
theorem q_w3004 : (Jvm.Cond.selects "CaptainClaimsModel" ({ cls := "CaptainClaimsModel", name := "islandOf", desc := "(II)I" } : Jvm.MethodName) ({ cls := "CaptainClaimsModel", name := "islandOf", desc := "(II)I" } : Jvm.MethodName)) ∈ lw_all := lw_g (lw_at lw_m13 12 rfl) rfl
theorem q_w3005 : (Jvm.Cond.code ({ cls := "CaptainClaimsModel", name := "islandOf", desc := "(II)I" } : Jvm.MethodName) prog_28_method_71_code (3 : Nat) (Option.some Jvm.ClassFile.FieldType.int)) ∈ lw_all := lw_g (lw_at lw_m13 13 rfl) rfl
theorem q_w3006 : (Jvm.Cond.methodLink "CaptainClaimsLaw" (256 : Nat) ({ cls := "CaptainClaimsModel", name := "islandSize", desc := "(I)I" } : Jvm.MethodName)) ∈ lw_all := lw_g (lw_at lw_m13 14 rfl) rfl
theorem q_w3007 : (Jvm.Cond.instanceMethod ({ cls := "CaptainClaimsModel", name := "islandSize", desc := "(I)I" } : Jvm.MethodName)) ∈ lw_all := lw_g (lw_at lw_m13 15 rfl) rfl
theorem q_w3008 : (Jvm.Cond.selects "CaptainClaimsModel" ({ cls := "CaptainClaimsModel", name := "islandSize", desc := "(I)I" } : Jvm.MethodName) ({ cls := "CaptainClaimsModel", name := "islandSize", desc := "(I)I" } : Jvm.MethodName)) ∈ lw_all := lw_g (lw_at lw_m13 16 rfl) rfl
theorem q_w3009 : (Jvm.Cond.code ({ cls := "CaptainClaimsModel", name := "islandSize", desc := "(I)I" } : Jvm.MethodName) prog_28_method_72_code (2 : Nat) (Option.some Jvm.ClassFile.FieldType.int)) ∈ lw_all := lw_g (lw_at lw_m13 17 rfl) rfl
theorem q_w3010 : (Jvm.Cond.methodLink "CaptainClaimsLaw" (259 : Nat) ({ cls := "CaptainClaimsModel", name := "largestIsland", desc := "()I" } : Jvm.MethodName)) ∈ lw_all := lw_g (lw_at lw_m13 18 rfl) rfl
theorem q_w3011 : (Jvm.Cond.instanceMethod ({ cls := "CaptainClaimsModel", name := "largestIsland", desc := "()I" } : Jvm.MethodName)) ∈ lw_all := lw_g (lw_at lw_m13 19 rfl) rfl
theorem q_w3012 : (Jvm.Cond.selects "CaptainClaimsModel" ({ cls := "CaptainClaimsModel", name := "largestIsland", desc := "()I" } : Jvm.MethodName) ({ cls := "CaptainClaimsModel", name := "largestIsland", desc := "()I" } : Jvm.MethodName)) ∈ lw_all := lw_g (lw_at lw_m13 20 rfl) rfl
theorem q_w3013 : (Jvm.Cond.code ({ cls := "CaptainClaimsModel", name := "largestIsland", desc := "()I" } : Jvm.MethodName) prog_28_method_73_code (3 : Nat) (Option.some Jvm.ClassFile.FieldType.int)) ∈ lw_all := lw_g (lw_at lw_m13 21 rfl) rfl
theorem q_w3014 : (Jvm.Cond.methodLink "CaptainClaimsLaw" (262 : Nat) ({ cls := "CaptainClaimsModel", name := "captainCount", desc := "()I" } : Jvm.MethodName)) ∈ lw_all := lw_g (lw_at lw_m13 22 rfl) rfl
theorem q_w3015 : (Jvm.Cond.instanceMethod ({ cls := "CaptainClaimsModel", name := "captainCount", desc := "()I" } : Jvm.MethodName)) ∈ lw_all := lw_g (lw_at lw_m13 23 rfl) rfl
theorem q_w3016 : (Jvm.Cond.selects "CaptainClaimsModel" ({ cls := "CaptainClaimsModel", name := "captainCount", desc := "()I" } : Jvm.MethodName) ({ cls := "CaptainClaimsModel", name := "captainCount", desc := "()I" } : Jvm.MethodName)) ∈ lw_all := lw_g (lw_at lw_m13 24 rfl) rfl
theorem q_w3017 : (Jvm.Cond.code ({ cls := "CaptainClaimsModel", name := "captainCount", desc := "()I" } : Jvm.MethodName) prog_28_method_74_code (1 : Nat) (Option.some Jvm.ClassFile.FieldType.int)) ∈ lw_all := lw_g (lw_at lw_m13 25 rfl) rfl
theorem q_w3018 : (Jvm.Cond.methodLink "CaptainClaimsLaw" (265 : Nat) ({ cls := "CaptainClaimsModel", name := "nameLetter", desc := "(II)I" } : Jvm.MethodName)) ∈ lw_all := lw_g (lw_at lw_m13 26 rfl) rfl
theorem q_w3019 : (Jvm.Cond.instanceMethod ({ cls := "CaptainClaimsModel", name := "nameLetter", desc := "(II)I" } : Jvm.MethodName)) ∈ lw_all := lw_g (lw_at lw_m13 27 rfl) rfl
theorem q_w3020 : (Jvm.Cond.selects "CaptainClaimsModel" ({ cls := "CaptainClaimsModel", name := "nameLetter", desc := "(II)I" } : Jvm.MethodName) ({ cls := "CaptainClaimsModel", name := "nameLetter", desc := "(II)I" } : Jvm.MethodName)) ∈ lw_all := lw_g (lw_at lw_m13 28 rfl) rfl
theorem q_w3021 : (Jvm.Cond.code ({ cls := "CaptainClaimsModel", name := "nameLetter", desc := "(II)I" } : Jvm.MethodName) prog_28_method_76_code (4 : Nat) (Option.some Jvm.ClassFile.FieldType.int)) ∈ lw_all := lw_g (lw_at lw_m13 29 rfl) rfl
theorem q_w3022 : (Jvm.Cond.methodLink "CaptainClaimsModel" (322 : Nat) ({ cls := "CaptainClaimsModel", name := "noCaptain", desc := "(I)Z" } : Jvm.MethodName)) ∈ lw_all := lw_g (lw_at lw_m13 30 rfl) rfl
theorem q_w3024 : (Jvm.Cond.instanceMethod ({ cls := "CaptainClaimsModel", name := "noCaptain", desc := "(I)Z" } : Jvm.MethodName)) ∈ lw_all := lw_g (lw_at lw_m13 32 rfl) rfl
theorem q_w3025 : (Jvm.Cond.code ({ cls := "CaptainClaimsModel", name := "noCaptain", desc := "(I)Z" } : Jvm.MethodName) prog_28_method_75_code (2 : Nat) (Option.some Jvm.ClassFile.FieldType.boolean)) ∈ lw_all := lw_g (lw_at lw_m13 33 rfl) rfl
theorem q_w3026 : (Jvm.Cond.constantLong "CaptainClaimsModel" (325 : Nat) (5 : Int64)) ∈ lw_all := lw_g (lw_at lw_m13 34 rfl) rfl
theorem q_w3027 : (Jvm.Cond.methodLink "CaptainClaimsLaw" (268 : Nat) ({ cls := "CaptainClaimsModel", name := "lowerBound", desc := "()I" } : Jvm.MethodName)) ∈ lw_all := lw_g (lw_at lw_m13 35 rfl) rfl
theorem q_w3028 : (Jvm.Cond.instanceMethod ({ cls := "CaptainClaimsModel", name := "lowerBound", desc := "()I" } : Jvm.MethodName)) ∈ lw_all := lw_g (lw_at lw_m13 36 rfl) rfl
theorem q_w3029 : (Jvm.Cond.selects "CaptainClaimsModel" ({ cls := "CaptainClaimsModel", name := "lowerBound", desc := "()I" } : Jvm.MethodName) ({ cls := "CaptainClaimsModel", name := "lowerBound", desc := "()I" } : Jvm.MethodName)) ∈ lw_all := lw_g (lw_at lw_m13 37 rfl) rfl
theorem q_w3030 : (Jvm.Cond.code ({ cls := "CaptainClaimsModel", name := "lowerBound", desc := "()I" } : Jvm.MethodName) prog_28_method_77_code (1 : Nat) (Option.some Jvm.ClassFile.FieldType.int)) ∈ lw_all := lw_g (lw_at lw_m13 38 rfl) rfl
theorem q_w3031 : (Jvm.Cond.methodLink "CaptainClaimsLaw" (271 : Nat) ({ cls := "CaptainClaimsModel", name := "upperBound", desc := "()I" } : Jvm.MethodName)) ∈ lw_all := lw_g (lw_at lw_m13 39 rfl) rfl
theorem q_w3032 : (Jvm.Cond.instanceMethod ({ cls := "CaptainClaimsModel", name := "upperBound", desc := "()I" } : Jvm.MethodName)) ∈ lw_all := lw_g (lw_at lw_m13 40 rfl) rfl
theorem q_w3033 : (Jvm.Cond.selects "CaptainClaimsModel" ({ cls := "CaptainClaimsModel", name := "upperBound", desc := "()I" } : Jvm.MethodName) ({ cls := "CaptainClaimsModel", name := "upperBound", desc := "()I" } : Jvm.MethodName)) ∈ lw_all := lw_g (lw_at lw_m13 41 rfl) rfl
theorem q_w3034 : (Jvm.Cond.code ({ cls := "CaptainClaimsModel", name := "upperBound", desc := "()I" } : Jvm.MethodName) prog_28_method_78_code (1 : Nat) (Option.some Jvm.ClassFile.FieldType.int)) ∈ lw_all := lw_g (lw_at lw_m13 42 rfl) rfl
theorem q_w3035 : (Jvm.Cond.methodLink "CaptainClaimsLaw" (274 : Nat) ({ cls := "CaptainClaimsModel", name := "isDeclaredTruthful", desc := "(I)Z" } : Jvm.MethodName)) ∈ lw_all := lw_g (lw_at lw_m13 43 rfl) rfl
theorem q_w3036 : (Jvm.Cond.instanceMethod ({ cls := "CaptainClaimsModel", name := "isDeclaredTruthful", desc := "(I)Z" } : Jvm.MethodName)) ∈ lw_all := lw_g (lw_at lw_m13 44 rfl) rfl
theorem q_w3037 : (Jvm.Cond.selects "CaptainClaimsModel" ({ cls := "CaptainClaimsModel", name := "isDeclaredTruthful", desc := "(I)Z" } : Jvm.MethodName) ({ cls := "CaptainClaimsModel", name := "isDeclaredTruthful", desc := "(I)Z" } : Jvm.MethodName)) ∈ lw_all := lw_g (lw_at lw_m13 45 rfl) rfl
theorem q_w3038 : (Jvm.Cond.code ({ cls := "CaptainClaimsModel", name := "isDeclaredTruthful", desc := "(I)Z" } : Jvm.MethodName) prog_28_method_79_code (2 : Nat) (Option.some Jvm.ClassFile.FieldType.boolean)) ∈ lw_all := lw_g (lw_at lw_m13 46 rfl) rfl
theorem q_w3039 : (Jvm.Cond.methodLink "CaptainClaimsLaw" (277 : Nat) ({ cls := "CaptainClaimsModel", name := "isDeclaredLiar", desc := "(I)Z" } : Jvm.MethodName)) ∈ lw_all := lw_g (lw_at lw_m13 47 rfl) rfl
theorem q_w3040 : (Jvm.Cond.instanceMethod ({ cls := "CaptainClaimsModel", name := "isDeclaredLiar", desc := "(I)Z" } : Jvm.MethodName)) ∈ lw_all := lw_g (lw_at lw_m13 48 rfl) rfl
theorem q_w3041 : (Jvm.Cond.selects "CaptainClaimsModel" ({ cls := "CaptainClaimsModel", name := "isDeclaredLiar", desc := "(I)Z" } : Jvm.MethodName) ({ cls := "CaptainClaimsModel", name := "isDeclaredLiar", desc := "(I)Z" } : Jvm.MethodName)) ∈ lw_all := lw_g (lw_at lw_m13 49 rfl) rfl
theorem q_w3042 : (Jvm.Cond.code ({ cls := "CaptainClaimsModel", name := "isDeclaredLiar", desc := "(I)Z" } : Jvm.MethodName) prog_28_method_80_code (2 : Nat) (Option.some Jvm.ClassFile.FieldType.boolean)) ∈ lw_all := lw_g (lw_at lw_m13 50 rfl) rfl
theorem q_w3043 : (Jvm.Cond.methodLink "CaptainClaimsLaw" (280 : Nat) ({ cls := "CaptainClaimsModel", name := "statementCount", desc := "()I" } : Jvm.MethodName)) ∈ lw_all := lw_g (lw_at lw_m13 51 rfl) rfl
theorem q_w3044 : (Jvm.Cond.instanceMethod ({ cls := "CaptainClaimsModel", name := "statementCount", desc := "()I" } : Jvm.MethodName)) ∈ lw_all := lw_g (lw_at lw_m13 52 rfl) rfl
theorem q_w3045 : (Jvm.Cond.selects "CaptainClaimsModel" ({ cls := "CaptainClaimsModel", name := "statementCount", desc := "()I" } : Jvm.MethodName) ({ cls := "CaptainClaimsModel", name := "statementCount", desc := "()I" } : Jvm.MethodName)) ∈ lw_all := lw_g (lw_at lw_m13 53 rfl) rfl
theorem q_w3046 : (Jvm.Cond.code ({ cls := "CaptainClaimsModel", name := "statementCount", desc := "()I" } : Jvm.MethodName) prog_28_method_81_code (1 : Nat) (Option.some Jvm.ClassFile.FieldType.int)) ∈ lw_all := lw_g (lw_at lw_m13 54 rfl) rfl
theorem q_w3047 : (Jvm.Cond.methodLink "CaptainClaimsLaw" (283 : Nat) ({ cls := "CaptainClaimsModel", name := "statementsOf", desc := "(I)I" } : Jvm.MethodName)) ∈ lw_all := lw_g (lw_at lw_m13 55 rfl) rfl
theorem q_w3048 : (Jvm.Cond.instanceMethod ({ cls := "CaptainClaimsModel", name := "statementsOf", desc := "(I)I" } : Jvm.MethodName)) ∈ lw_all := lw_g (lw_at lw_m13 56 rfl) rfl
theorem q_w3049 : (Jvm.Cond.selects "CaptainClaimsModel" ({ cls := "CaptainClaimsModel", name := "statementsOf", desc := "(I)I" } : Jvm.MethodName) ({ cls := "CaptainClaimsModel", name := "statementsOf", desc := "(I)I" } : Jvm.MethodName)) ∈ lw_all := lw_g (lw_at lw_m13 57 rfl) rfl
theorem q_w3050 : (Jvm.Cond.code ({ cls := "CaptainClaimsModel", name := "statementsOf", desc := "(I)I" } : Jvm.MethodName) prog_28_method_82_code (4 : Nat) (Option.some Jvm.ClassFile.FieldType.int)) ∈ lw_all := lw_g (lw_at lw_m13 58 rfl) rfl
theorem q_w3051 : (Jvm.Cond.methodLink "CaptainClaimsLaw" (286 : Nat) ({ cls := "CaptainClaimsModel", name := "speaker", desc := "(I)I" } : Jvm.MethodName)) ∈ lw_all := lw_g (lw_at lw_m13 59 rfl) rfl
theorem q_w3052 : (Jvm.Cond.instanceMethod ({ cls := "CaptainClaimsModel", name := "speaker", desc := "(I)I" } : Jvm.MethodName)) ∈ lw_all := lw_g (lw_at lw_m13 60 rfl) rfl
theorem q_w3053 : (Jvm.Cond.selects "CaptainClaimsModel" ({ cls := "CaptainClaimsModel", name := "speaker", desc := "(I)I" } : Jvm.MethodName) ({ cls := "CaptainClaimsModel", name := "speaker", desc := "(I)I" } : Jvm.MethodName)) ∈ lw_all := lw_g (lw_at lw_m13 61 rfl) rfl
theorem q_w3054 : (Jvm.Cond.code ({ cls := "CaptainClaimsModel", name := "speaker", desc := "(I)I" } : Jvm.MethodName) prog_28_method_84_code (2 : Nat) (Option.some Jvm.ClassFile.FieldType.int)) ∈ lw_all := lw_g (lw_at lw_m13 62 rfl) rfl
theorem q_w3055 : (Jvm.Cond.methodLink "CaptainClaimsModel" (327 : Nat) ({ cls := "CaptainClaimsModel", name := "noStatement", desc := "(I)Z" } : Jvm.MethodName)) ∈ lw_all := lw_g (lw_at lw_m13 63 rfl) rfl
theorem q_w3057 : (Jvm.Cond.instanceMethod ({ cls := "CaptainClaimsModel", name := "noStatement", desc := "(I)Z" } : Jvm.MethodName)) ∈ lw_all := lw_g (lw_at lw_m13 65 rfl) rfl
theorem q_w3058 : (Jvm.Cond.code ({ cls := "CaptainClaimsModel", name := "noStatement", desc := "(I)Z" } : Jvm.MethodName) prog_28_method_83_code (2 : Nat) (Option.some Jvm.ClassFile.FieldType.boolean)) ∈ lw_all := lw_g (lw_at lw_m13 66 rfl) rfl
theorem q_w3059 : (Jvm.Cond.methodLink "CaptainClaimsLaw" (289 : Nat) ({ cls := "CaptainClaimsModel", name := "nodeCount", desc := "(I)I" } : Jvm.MethodName)) ∈ lw_all := lw_g (lw_at lw_m13 67 rfl) rfl
theorem q_w3060 : (Jvm.Cond.instanceMethod ({ cls := "CaptainClaimsModel", name := "nodeCount", desc := "(I)I" } : Jvm.MethodName)) ∈ lw_all := lw_g (lw_at lw_m13 68 rfl) rfl
theorem q_w3061 : (Jvm.Cond.selects "CaptainClaimsModel" ({ cls := "CaptainClaimsModel", name := "nodeCount", desc := "(I)I" } : Jvm.MethodName) ({ cls := "CaptainClaimsModel", name := "nodeCount", desc := "(I)I" } : Jvm.MethodName)) ∈ lw_all := lw_g (lw_at lw_m13 69 rfl) rfl
theorem q_w3062 : (Jvm.Cond.code ({ cls := "CaptainClaimsModel", name := "nodeCount", desc := "(I)I" } : Jvm.MethodName) prog_28_method_85_code (2 : Nat) (Option.some Jvm.ClassFile.FieldType.int)) ∈ lw_all := lw_g (lw_at lw_m13 70 rfl) rfl
theorem q_w3063 : (Jvm.Cond.methodLink "CaptainClaimsLaw" (293 : Nat) ({ cls := "CaptainClaimsModel", name := "isTrue", desc := "(IIII)Z" } : Jvm.MethodName)) ∈ lw_all := lw_g (lw_at lw_m13 71 rfl) rfl
theorem q_w3064 : (Jvm.Cond.instanceMethod ({ cls := "CaptainClaimsModel", name := "isTrue", desc := "(IIII)Z" } : Jvm.MethodName)) ∈ lw_all := lw_g (lw_at lw_m13 72 rfl) rfl
theorem q_w3065 : (Jvm.Cond.selects "CaptainClaimsModel" ({ cls := "CaptainClaimsModel", name := "isTrue", desc := "(IIII)Z" } : Jvm.MethodName) ({ cls := "CaptainClaimsModel", name := "isTrue", desc := "(IIII)Z" } : Jvm.MethodName)) ∈ lw_all := lw_g (lw_at lw_m13 73 rfl) rfl
theorem q_w3066 : (Jvm.Cond.code ({ cls := "CaptainClaimsModel", name := "isTrue", desc := "(IIII)Z" } : Jvm.MethodName) prog_28_method_86_code (5 : Nat) (Option.some Jvm.ClassFile.FieldType.boolean)) ∈ lw_all := lw_g (lw_at lw_m13 74 rfl) rfl
theorem q_w3067 : (Jvm.Cond.methodLink "CaptainClaimsModel" (109 : Nat) ({ cls := "CaptainClaimsModel", name := "holds", desc := "(IIII)Z" } : Jvm.MethodName)) ∈ lw_all := lw_g (lw_at lw_m13 75 rfl) rfl
theorem q_w3069 : (Jvm.Cond.instanceMethod ({ cls := "CaptainClaimsModel", name := "holds", desc := "(IIII)Z" } : Jvm.MethodName)) ∈ lw_all := lw_g (lw_at lw_m13 77 rfl) rfl
theorem q_w3070 : (Jvm.Cond.code ({ cls := "CaptainClaimsModel", name := "holds", desc := "(IIII)Z" } : Jvm.MethodName) prog_28_method_21_code (7 : Nat) (Option.some Jvm.ClassFile.FieldType.boolean)) ∈ lw_all := lw_g (lw_at lw_m13 78 rfl) rfl
theorem q_w3071 : (Jvm.Cond.methodLink "CaptainClaimsModel" (95 : Nat) ({ cls := "CaptainClaimsModel", name := "node", desc := "(III)I" } : Jvm.MethodName)) ∈ lw_all := lw_g (lw_at lw_m13 79 rfl) rfl
theorem q_w3073 : (Jvm.Cond.instanceMethod ({ cls := "CaptainClaimsModel", name := "node", desc := "(III)I" } : Jvm.MethodName)) ∈ lw_all := lw_g (lw_at lw_m13 81 rfl) rfl
theorem q_w3074 : (Jvm.Cond.code ({ cls := "CaptainClaimsModel", name := "node", desc := "(III)I" } : Jvm.MethodName) prog_28_method_20_code (4 : Nat) (Option.some Jvm.ClassFile.FieldType.int)) ∈ lw_all := lw_g (lw_at lw_m13 82 rfl) rfl
theorem q_w3075 : (Jvm.Cond.methodLink "CaptainClaimsModel" (99 : Nat) ({ cls := "java/lang/Math", name := "abs", desc := "(I)I" } : Jvm.MethodName)) ∈ lw_all := lw_g (lw_at lw_m13 83 rfl) rfl
theorem q_w3076 : (Jvm.Cond.methodLink "CaptainClaimsLaw" (296 : Nat) ({ cls := "CaptainClaimsModel", name := "scenarioCount", desc := "()I" } : Jvm.MethodName)) ∈ lw_all := lw_g (lw_at lw_m13 84 rfl) rfl
theorem q_w3077 : (Jvm.Cond.instanceMethod ({ cls := "CaptainClaimsModel", name := "scenarioCount", desc := "()I" } : Jvm.MethodName)) ∈ lw_all := lw_g (lw_at lw_m13 85 rfl) rfl
theorem q_w3078 : (Jvm.Cond.selects "CaptainClaimsModel" ({ cls := "CaptainClaimsModel", name := "scenarioCount", desc := "()I" } : Jvm.MethodName) ({ cls := "CaptainClaimsModel", name := "scenarioCount", desc := "()I" } : Jvm.MethodName)) ∈ lw_all := lw_g (lw_at lw_m13 86 rfl) rfl
theorem q_w3079 : (Jvm.Cond.code ({ cls := "CaptainClaimsModel", name := "scenarioCount", desc := "()I" } : Jvm.MethodName) prog_28_method_87_code (1 : Nat) (Option.some Jvm.ClassFile.FieldType.int)) ∈ lw_all := lw_g (lw_at lw_m13 87 rfl) rfl
theorem q_w3080 : (Jvm.Cond.methodLink "CaptainClaimsModel" (136 : Nat) ({ cls := "CaptainClaimsModel", name := "searches", desc := "(I)V" } : Jvm.MethodName)) ∈ lw_all := lw_g (lw_at lw_m13 88 rfl) rfl
theorem q_w3082 : (Jvm.Cond.instanceMethod ({ cls := "CaptainClaimsModel", name := "searches", desc := "(I)V" } : Jvm.MethodName)) ∈ lw_all := lw_g (lw_at lw_m13 90 rfl) rfl
theorem q_w3083 : (Jvm.Cond.code ({ cls := "CaptainClaimsModel", name := "searches", desc := "(I)V" } : Jvm.MethodName) prog_28_method_26_code (4 : Nat) (Option.none : Option Jvm.ClassFile.FieldType)) ∈ lw_all := lw_g (lw_at lw_m13 91 rfl) rfl
theorem q_w3084 : (Jvm.Cond.methodLink "CaptainClaimsModel" (125 : Nat) ({ cls := "CaptainClaimsModel", name := "isSet", desc := "(I)Z" } : Jvm.MethodName)) ∈ lw_all := lw_g (lw_at lw_m13 92 rfl) rfl
theorem q_w3086 : (Jvm.Cond.instanceMethod ({ cls := "CaptainClaimsModel", name := "isSet", desc := "(I)Z" } : Jvm.MethodName)) ∈ lw_all := lw_g (lw_at lw_m13 94 rfl) rfl
theorem q_w3087 : (Jvm.Cond.code ({ cls := "CaptainClaimsModel", name := "isSet", desc := "(I)Z" } : Jvm.MethodName) prog_28_method_23_code (4 : Nat) (Option.some Jvm.ClassFile.FieldType.boolean)) ∈ lw_all := lw_g (lw_at lw_m13 95 rfl) rfl
theorem q_w3088 : (Jvm.Cond.methodLink "CaptainClaimsModel" (113 : Nat) ({ cls := "CaptainClaimsModel", name := "bits", desc := "(I)I" } : Jvm.MethodName)) ∈ lw_all := lw_g (lw_at lw_m13 96 rfl) rfl
theorem q_w3089 : (Jvm.Cond.static ({ cls := "CaptainClaimsModel", name := "bits", desc := "(I)I" } : Jvm.MethodName)) ∈ lw_all := lw_g (lw_at lw_m13 97 rfl) rfl
theorem q_w3090 : (Jvm.Cond.code ({ cls := "CaptainClaimsModel", name := "bits", desc := "(I)I" } : Jvm.MethodName) prog_28_method_22_code (3 : Nat) (Option.some Jvm.ClassFile.FieldType.int)) ∈ lw_all := lw_g (lw_at lw_m13 98 rfl) rfl
theorem q_w3091 : (Jvm.Cond.methodLink "CaptainClaimsModel" (128 : Nat) ({ cls := "CaptainClaimsModel", name := "isScenario", desc := "(III)Z" } : Jvm.MethodName)) ∈ lw_all := lw_g (lw_at lw_m13 99 rfl) rfl
theorem q_w3093 : (Jvm.Cond.instanceMethod ({ cls := "CaptainClaimsModel", name := "isScenario", desc := "(III)Z" } : Jvm.MethodName)) ∈ lw_all := lw_g (lw_at lw_m13 101 rfl) rfl
theorem q_w3094 : (Jvm.Cond.code ({ cls := "CaptainClaimsModel", name := "isScenario", desc := "(III)Z" } : Jvm.MethodName) prog_28_method_24_code (6 : Nat) (Option.some Jvm.ClassFile.FieldType.boolean)) ∈ lw_all := lw_g (lw_at lw_m13 102 rfl) rfl
theorem q_w3095 : (Jvm.Cond.methodLink "CaptainClaimsModel" (132 : Nat) ({ cls := "CaptainClaimsModel", name := "counts", desc := "(II)V" } : Jvm.MethodName)) ∈ lw_all := lw_g (lw_at lw_m13 103 rfl) rfl
theorem q_w3097 : (Jvm.Cond.instanceMethod ({ cls := "CaptainClaimsModel", name := "counts", desc := "(II)V" } : Jvm.MethodName)) ∈ lw_all := lw_g (lw_at lw_m13 105 rfl) rfl
theorem q_w3098 : (Jvm.Cond.code ({ cls := "CaptainClaimsModel", name := "counts", desc := "(II)V" } : Jvm.MethodName) prog_28_method_25_code (4 : Nat) (Option.none : Option Jvm.ClassFile.FieldType)) ∈ lw_all := lw_g (lw_at lw_m13 106 rfl) rfl
theorem q_w3099 : (Jvm.Cond.methodLink "CaptainClaimsLaw" (299 : Nat) ({ cls := "CaptainClaimsModel", name := "scenariosAt", desc := "(II)I" } : Jvm.MethodName)) ∈ lw_all := lw_g (lw_at lw_m13 107 rfl) rfl
theorem q_w3100 : (Jvm.Cond.instanceMethod ({ cls := "CaptainClaimsModel", name := "scenariosAt", desc := "(II)I" } : Jvm.MethodName)) ∈ lw_all := lw_g (lw_at lw_m13 108 rfl) rfl
theorem q_w3101 : (Jvm.Cond.selects "CaptainClaimsModel" ({ cls := "CaptainClaimsModel", name := "scenariosAt", desc := "(II)I" } : Jvm.MethodName) ({ cls := "CaptainClaimsModel", name := "scenariosAt", desc := "(II)I" } : Jvm.MethodName)) ∈ lw_all := lw_g (lw_at lw_m13 109 rfl) rfl
theorem q_w3102 : (Jvm.Cond.code ({ cls := "CaptainClaimsModel", name := "scenariosAt", desc := "(II)I" } : Jvm.MethodName) prog_28_method_88_code (3 : Nat) (Option.some Jvm.ClassFile.FieldType.int)) ∈ lw_all := lw_g (lw_at lw_m13 110 rfl) rfl
theorem q_w3103 : (Jvm.Cond.methodLink "CaptainClaimsLaw" (302 : Nat) ({ cls := "CaptainClaimsModel", name := "candidateCount", desc := "()I" } : Jvm.MethodName)) ∈ lw_all := lw_g (lw_at lw_m13 111 rfl) rfl
theorem q_w3104 : (Jvm.Cond.instanceMethod ({ cls := "CaptainClaimsModel", name := "candidateCount", desc := "()I" } : Jvm.MethodName)) ∈ lw_all := lw_g (lw_at lw_m13 112 rfl) rfl
theorem q_w3105 : (Jvm.Cond.selects "CaptainClaimsModel" ({ cls := "CaptainClaimsModel", name := "candidateCount", desc := "()I" } : Jvm.MethodName) ({ cls := "CaptainClaimsModel", name := "candidateCount", desc := "()I" } : Jvm.MethodName)) ∈ lw_all := lw_g (lw_at lw_m13 113 rfl) rfl
theorem q_w3106 : (Jvm.Cond.code ({ cls := "CaptainClaimsModel", name := "candidateCount", desc := "()I" } : Jvm.MethodName) prog_28_method_89_code (1 : Nat) (Option.some Jvm.ClassFile.FieldType.int)) ∈ lw_all := lw_g (lw_at lw_m13 114 rfl) rfl
theorem q_w3107 : (Jvm.Cond.methodLink "CaptainClaimsModel" (330 : Nat) ({ cls := "CaptainClaimsModel", name := "candidates", desc := "(I)I" } : Jvm.MethodName)) ∈ lw_all := lw_g (lw_at lw_m13 115 rfl) rfl
theorem q_w3109 : (Jvm.Cond.instanceMethod ({ cls := "CaptainClaimsModel", name := "candidates", desc := "(I)I" } : Jvm.MethodName)) ∈ lw_all := lw_g (lw_at lw_m13 117 rfl) rfl
theorem q_w3110 : (Jvm.Cond.code ({ cls := "CaptainClaimsModel", name := "candidates", desc := "(I)I" } : Jvm.MethodName) prog_28_method_27_code (4 : Nat) (Option.some Jvm.ClassFile.FieldType.int)) ∈ lw_all := lw_g (lw_at lw_m13 118 rfl) rfl
theorem q_w3111 : (Jvm.Cond.methodLink "CaptainClaimsLaw" (305 : Nat) ({ cls := "CaptainClaimsModel", name := "candidate", desc := "(I)I" } : Jvm.MethodName)) ∈ lw_all := lw_g (lw_at lw_m13 119 rfl) rfl
theorem q_w3112 : (Jvm.Cond.instanceMethod ({ cls := "CaptainClaimsModel", name := "candidate", desc := "(I)I" } : Jvm.MethodName)) ∈ lw_all := lw_g (lw_at lw_m13 120 rfl) rfl
theorem q_w3113 : (Jvm.Cond.selects "CaptainClaimsModel" ({ cls := "CaptainClaimsModel", name := "candidate", desc := "(I)I" } : Jvm.MethodName) ({ cls := "CaptainClaimsModel", name := "candidate", desc := "(I)I" } : Jvm.MethodName)) ∈ lw_all := lw_g (lw_at lw_m13 121 rfl) rfl
theorem q_w3114 : (Jvm.Cond.code ({ cls := "CaptainClaimsModel", name := "candidate", desc := "(I)I" } : Jvm.MethodName) prog_28_method_90_code (4 : Nat) (Option.some Jvm.ClassFile.FieldType.int)) ∈ lw_all := lw_g (lw_at lw_m13 122 rfl) rfl
theorem q_w3115 : (Jvm.Cond.methodLink "CaptainClaimsLaw" (308 : Nat) ({ cls := "CaptainClaimsModel", name := "exclusionReason", desc := "(II)I" } : Jvm.MethodName)) ∈ lw_all := lw_g (lw_at lw_m13 123 rfl) rfl
theorem q_w3116 : (Jvm.Cond.instanceMethod ({ cls := "CaptainClaimsModel", name := "exclusionReason", desc := "(II)I" } : Jvm.MethodName)) ∈ lw_all := lw_g (lw_at lw_m13 124 rfl) rfl
theorem q_w3117 : (Jvm.Cond.selects "CaptainClaimsModel" ({ cls := "CaptainClaimsModel", name := "exclusionReason", desc := "(II)I" } : Jvm.MethodName) ({ cls := "CaptainClaimsModel", name := "exclusionReason", desc := "(II)I" } : Jvm.MethodName)) ∈ lw_all := lw_g (lw_at lw_m13 125 rfl) rfl
theorem q_w3118 : (Jvm.Cond.code ({ cls := "CaptainClaimsModel", name := "exclusionReason", desc := "(II)I" } : Jvm.MethodName) prog_28_method_91_code (4 : Nat) (Option.some Jvm.ClassFile.FieldType.int)) ∈ lw_all := lw_g (lw_at lw_m13 126 rfl) rfl
theorem q_w3119 : (Jvm.Cond.methodLink "CaptainClaimsLaw" (311 : Nat) ({ cls := "CaptainClaimsModel", name := "lyingScenarios", desc := "(I)I" } : Jvm.MethodName)) ∈ lw_all := lw_g (lw_at lw_m13 127 rfl) rfl
theorem q_w3120 : (Jvm.Cond.instanceMethod ({ cls := "CaptainClaimsModel", name := "lyingScenarios", desc := "(I)I" } : Jvm.MethodName)) ∈ lw_all := lw_g (lw_at lw_m13 128 rfl) rfl
theorem q_w3121 : (Jvm.Cond.selects "CaptainClaimsModel" ({ cls := "CaptainClaimsModel", name := "lyingScenarios", desc := "(I)I" } : Jvm.MethodName) ({ cls := "CaptainClaimsModel", name := "lyingScenarios", desc := "(I)I" } : Jvm.MethodName)) ∈ lw_all := lw_g (lw_at lw_m13 129 rfl) rfl
theorem q_w3122 : (Jvm.Cond.code ({ cls := "CaptainClaimsModel", name := "lyingScenarios", desc := "(I)I" } : Jvm.MethodName) prog_28_method_92_code (2 : Nat) (Option.some Jvm.ClassFile.FieldType.int)) ∈ lw_all := lw_g (lw_at lw_m13 130 rfl) rfl
theorem q_w3123 : (Jvm.Cond.methodLink "CaptainClaimsLaw" (314 : Nat) ({ cls := "CaptainClaimsModel", name := "isProvedTruthful", desc := "(I)Z" } : Jvm.MethodName)) ∈ lw_all := lw_g (lw_at lw_m13 131 rfl) rfl
theorem q_w3124 : (Jvm.Cond.instanceMethod ({ cls := "CaptainClaimsModel", name := "isProvedTruthful", desc := "(I)Z" } : Jvm.MethodName)) ∈ lw_all := lw_g (lw_at lw_m13 132 rfl) rfl
theorem q_w3125 : (Jvm.Cond.selects "CaptainClaimsModel" ({ cls := "CaptainClaimsModel", name := "isProvedTruthful", desc := "(I)Z" } : Jvm.MethodName) ({ cls := "CaptainClaimsModel", name := "isProvedTruthful", desc := "(I)Z" } : Jvm.MethodName)) ∈ lw_all := lw_g (lw_at lw_m13 133 rfl) rfl
theorem q_w3126 : (Jvm.Cond.code ({ cls := "CaptainClaimsModel", name := "isProvedTruthful", desc := "(I)Z" } : Jvm.MethodName) prog_28_method_93_code (2 : Nat) (Option.some Jvm.ClassFile.FieldType.boolean)) ∈ lw_all := lw_g (lw_at lw_m13 134 rfl) rfl
theorem q_w3127 : (Jvm.Cond.methodLink "CaptainClaimsLaw" (317 : Nat) ({ cls := "CaptainClaimsModel", name := "isProvedLiar", desc := "(I)Z" } : Jvm.MethodName)) ∈ lw_all := lw_g (lw_at lw_m13 135 rfl) rfl
theorem q_w3128 : (Jvm.Cond.instanceMethod ({ cls := "CaptainClaimsModel", name := "isProvedLiar", desc := "(I)Z" } : Jvm.MethodName)) ∈ lw_all := lw_g (lw_at lw_m13 136 rfl) rfl
theorem q_w3129 : (Jvm.Cond.selects "CaptainClaimsModel" ({ cls := "CaptainClaimsModel", name := "isProvedLiar", desc := "(I)Z" } : Jvm.MethodName) ({ cls := "CaptainClaimsModel", name := "isProvedLiar", desc := "(I)Z" } : Jvm.MethodName)) ∈ lw_all := lw_g (lw_at lw_m13 137 rfl) rfl
theorem q_w3130 : (Jvm.Cond.code ({ cls := "CaptainClaimsModel", name := "isProvedLiar", desc := "(I)Z" } : Jvm.MethodName) prog_28_method_94_code (2 : Nat) (Option.some Jvm.ClassFile.FieldType.boolean)) ∈ lw_all := lw_g (lw_at lw_m13 138 rfl) rfl
theorem q_w3131 : (Jvm.Cond.methodLink "CaptainClaimsLaw" (320 : Nat) ({ cls := "CaptainClaimsModel", name := "inconsistencies", desc := "()I" } : Jvm.MethodName)) ∈ lw_all := lw_g (lw_at lw_m13 139 rfl) rfl
theorem q_w3132 : (Jvm.Cond.instanceMethod ({ cls := "CaptainClaimsModel", name := "inconsistencies", desc := "()I" } : Jvm.MethodName)) ∈ lw_all := lw_g (lw_at lw_m13 140 rfl) rfl
theorem q_w3133 : (Jvm.Cond.selects "CaptainClaimsModel" ({ cls := "CaptainClaimsModel", name := "inconsistencies", desc := "()I" } : Jvm.MethodName) ({ cls := "CaptainClaimsModel", name := "inconsistencies", desc := "()I" } : Jvm.MethodName)) ∈ lw_all := lw_g (lw_at lw_m13 141 rfl) rfl
theorem q_w3134 : (Jvm.Cond.code ({ cls := "CaptainClaimsModel", name := "inconsistencies", desc := "()I" } : Jvm.MethodName) prog_28_method_96_code (5 : Nat) (Option.some Jvm.ClassFile.FieldType.int)) ∈ lw_all := lw_g (lw_at lw_m13 142 rfl) rfl
theorem q_w3135 : (Jvm.Cond.methodLink "CaptainClaimsModel" (333 : Nat) ({ cls := "CaptainClaimsModel", name := "land", desc := "()I" } : Jvm.MethodName)) ∈ lw_all := lw_g (lw_at lw_m13 143 rfl) rfl
theorem q_w3137 : (Jvm.Cond.instanceMethod ({ cls := "CaptainClaimsModel", name := "land", desc := "()I" } : Jvm.MethodName)) ∈ lw_all := lw_g (lw_at lw_m13 145 rfl) rfl
theorem q_w3138 : (Jvm.Cond.code ({ cls := "CaptainClaimsModel", name := "land", desc := "()I" } : Jvm.MethodName) prog_28_method_95_code (3 : Nat) (Option.some Jvm.ClassFile.FieldType.int)) ∈ lw_all := lw_g (lw_at lw_m13 146 rfl) rfl
theorem q_w3139 : (Jvm.Cond.methodLink "CaptainClaimsLaw" (323 : Nat) ({ cls := "CaptainClaimsModel", name := "isReportedEmpty", desc := "(II)Z" } : Jvm.MethodName)) ∈ lw_all := lw_g (lw_at lw_m13 147 rfl) rfl
theorem q_w3140 : (Jvm.Cond.instanceMethod ({ cls := "CaptainClaimsModel", name := "isReportedEmpty", desc := "(II)Z" } : Jvm.MethodName)) ∈ lw_all := lw_g (lw_at lw_m13 148 rfl) rfl
theorem q_w3141 : (Jvm.Cond.selects "CaptainClaimsModel" ({ cls := "CaptainClaimsModel", name := "isReportedEmpty", desc := "(II)Z" } : Jvm.MethodName) ({ cls := "CaptainClaimsModel", name := "isReportedEmpty", desc := "(II)Z" } : Jvm.MethodName)) ∈ lw_all := lw_g (lw_at lw_m13 149 rfl) rfl
theorem q_w3142 : (Jvm.Cond.code ({ cls := "CaptainClaimsModel", name := "isReportedEmpty", desc := "(II)Z" } : Jvm.MethodName) prog_28_method_97_code (3 : Nat) (Option.some Jvm.ClassFile.FieldType.boolean)) ∈ lw_all := lw_g (lw_at lw_m13 150 rfl) rfl
theorem q_w3143 : (Jvm.Cond.methodLink "CaptainClaimsLaw" (326 : Nat) ({ cls := "CaptainClaimsModel", name := "emptyCount", desc := "()I" } : Jvm.MethodName)) ∈ lw_all := lw_g (lw_at lw_m13 151 rfl) rfl
theorem q_w3144 : (Jvm.Cond.instanceMethod ({ cls := "CaptainClaimsModel", name := "emptyCount", desc := "()I" } : Jvm.MethodName)) ∈ lw_all := lw_g (lw_at lw_m13 152 rfl) rfl
theorem q_w3145 : (Jvm.Cond.selects "CaptainClaimsModel" ({ cls := "CaptainClaimsModel", name := "emptyCount", desc := "()I" } : Jvm.MethodName) ({ cls := "CaptainClaimsModel", name := "emptyCount", desc := "()I" } : Jvm.MethodName)) ∈ lw_all := lw_g (lw_at lw_m13 153 rfl) rfl
theorem q_w3146 : (Jvm.Cond.code ({ cls := "CaptainClaimsModel", name := "emptyCount", desc := "()I" } : Jvm.MethodName) prog_28_method_98_code (3 : Nat) (Option.some Jvm.ClassFile.FieldType.int)) ∈ lw_all := lw_g (lw_at lw_m13 154 rfl) rfl
theorem q_w3147 : (Jvm.Cond.methodLink "CaptainClaimsLaw" (329 : Nat) ({ cls := "CaptainClaimsModel", name := "bestDig", desc := "()I" } : Jvm.MethodName)) ∈ lw_all := lw_g (lw_at lw_m13 155 rfl) rfl
theorem q_w3148 : (Jvm.Cond.instanceMethod ({ cls := "CaptainClaimsModel", name := "bestDig", desc := "()I" } : Jvm.MethodName)) ∈ lw_all := lw_g (lw_at lw_m13 156 rfl) rfl
theorem q_w3149 : (Jvm.Cond.selects "CaptainClaimsModel" ({ cls := "CaptainClaimsModel", name := "bestDig", desc := "()I" } : Jvm.MethodName) ({ cls := "CaptainClaimsModel", name := "bestDig", desc := "()I" } : Jvm.MethodName)) ∈ lw_all := lw_g (lw_at lw_m13 157 rfl) rfl
theorem q_w3150 : (Jvm.Cond.code ({ cls := "CaptainClaimsModel", name := "bestDig", desc := "()I" } : Jvm.MethodName) prog_28_method_100_code (1 : Nat) (Option.some Jvm.ClassFile.FieldType.int)) ∈ lw_all := lw_g (lw_at lw_m13 158 rfl) rfl
theorem q_w3151 : (Jvm.Cond.methodLink "CaptainClaimsModel" (336 : Nat) ({ cls := "CaptainClaimsModel", name := "richest", desc := "()I" } : Jvm.MethodName)) ∈ lw_all := lw_g (lw_at lw_m13 159 rfl) rfl
theorem q_w3153 : (Jvm.Cond.instanceMethod ({ cls := "CaptainClaimsModel", name := "richest", desc := "()I" } : Jvm.MethodName)) ∈ lw_all := lw_g (lw_at lw_m13 161 rfl) rfl
theorem q_w3154 : (Jvm.Cond.code ({ cls := "CaptainClaimsModel", name := "richest", desc := "()I" } : Jvm.MethodName) prog_28_method_99_code (4 : Nat) (Option.some Jvm.ClassFile.FieldType.int)) ∈ lw_all := lw_g (lw_at lw_m13 162 rfl) rfl
theorem q_w3155 : (Jvm.Cond.methodLink "CaptainClaimsLaw" (333 : Nat) ({ cls := "CaptainClaimsModel", name := "expectedDigs", desc := "()D" } : Jvm.MethodName)) ∈ lw_all := lw_g (lw_at lw_m13 163 rfl) rfl
theorem q_w3156 : (Jvm.Cond.instanceMethod ({ cls := "CaptainClaimsModel", name := "expectedDigs", desc := "()D" } : Jvm.MethodName)) ∈ lw_all := lw_g (lw_at lw_m13 164 rfl) rfl
theorem q_w3157 : (Jvm.Cond.selects "CaptainClaimsModel" ({ cls := "CaptainClaimsModel", name := "expectedDigs", desc := "()D" } : Jvm.MethodName) ({ cls := "CaptainClaimsModel", name := "expectedDigs", desc := "()D" } : Jvm.MethodName)) ∈ lw_all := lw_g (lw_at lw_m13 165 rfl) rfl
theorem q_w3158 : (Jvm.Cond.code ({ cls := "CaptainClaimsModel", name := "expectedDigs", desc := "()D" } : Jvm.MethodName) prog_28_method_101_code (4 : Nat) (Option.some Jvm.ClassFile.FieldType.double)) ∈ lw_all := lw_g (lw_at lw_m13 166 rfl) rfl
theorem q_w3159 : (Jvm.Cond.methodLink "CaptainClaimsLaw" (336 : Nat) ({ cls := "CaptainClaimsModel", name := "candidatesIfTruthful", desc := "(I)I" } : Jvm.MethodName)) ∈ lw_all := lw_g (lw_at lw_m13 167 rfl) rfl
theorem q_w3160 : (Jvm.Cond.instanceMethod ({ cls := "CaptainClaimsModel", name := "candidatesIfTruthful", desc := "(I)I" } : Jvm.MethodName)) ∈ lw_all := lw_g (lw_at lw_m13 168 rfl) rfl
theorem q_w3161 : (Jvm.Cond.selects "CaptainClaimsModel" ({ cls := "CaptainClaimsModel", name := "candidatesIfTruthful", desc := "(I)I" } : Jvm.MethodName) ({ cls := "CaptainClaimsModel", name := "candidatesIfTruthful", desc := "(I)I" } : Jvm.MethodName)) ∈ lw_all := lw_g (lw_at lw_m13 169 rfl) rfl
theorem q_w3162 : (Jvm.Cond.code ({ cls := "CaptainClaimsModel", name := "candidatesIfTruthful", desc := "(I)I" } : Jvm.MethodName) prog_28_method_103_code (2 : Nat) (Option.some Jvm.ClassFile.FieldType.int)) ∈ lw_all := lw_g (lw_at lw_m13 170 rfl) rfl
theorem q_w3163 : (Jvm.Cond.methodLink "CaptainClaimsModel" (339 : Nat) ({ cls := "CaptainClaimsModel", name := "candidatesIf", desc := "(II)I" } : Jvm.MethodName)) ∈ lw_all := lw_g (lw_at lw_m13 171 rfl) rfl
theorem q_w3165 : (Jvm.Cond.instanceMethod ({ cls := "CaptainClaimsModel", name := "candidatesIf", desc := "(II)I" } : Jvm.MethodName)) ∈ lw_all := lw_g (lw_at lw_m13 173 rfl) rfl
theorem q_w3166 : (Jvm.Cond.code ({ cls := "CaptainClaimsModel", name := "candidatesIf", desc := "(II)I" } : Jvm.MethodName) prog_28_method_102_code (5 : Nat) (Option.some Jvm.ClassFile.FieldType.int)) ∈ lw_all := lw_g (lw_at lw_m13 174 rfl) rfl
theorem q_w3167 : (Jvm.Cond.methodLink "CaptainClaimsLaw" (339 : Nat) ({ cls := "CaptainClaimsModel", name := "candidatesIfLiar", desc := "(I)I" } : Jvm.MethodName)) ∈ lw_all := lw_g (lw_at lw_m13 175 rfl) rfl
theorem q_w3168 : (Jvm.Cond.instanceMethod ({ cls := "CaptainClaimsModel", name := "candidatesIfLiar", desc := "(I)I" } : Jvm.MethodName)) ∈ lw_all := lw_g (lw_at lw_m13 176 rfl) rfl
theorem q_w3169 : (Jvm.Cond.selects "CaptainClaimsModel" ({ cls := "CaptainClaimsModel", name := "candidatesIfLiar", desc := "(I)I" } : Jvm.MethodName) ({ cls := "CaptainClaimsModel", name := "candidatesIfLiar", desc := "(I)I" } : Jvm.MethodName)) ∈ lw_all := lw_g (lw_at lw_m13 177 rfl) rfl
theorem q_w3170 : (Jvm.Cond.code ({ cls := "CaptainClaimsModel", name := "candidatesIfLiar", desc := "(I)I" } : Jvm.MethodName) prog_28_method_104_code (2 : Nat) (Option.some Jvm.ClassFile.FieldType.int)) ∈ lw_all := lw_g (lw_at lw_m13 178 rfl) rfl
theorem q_w3171 : (Jvm.Cond.methodLink "CaptainClaimsLaw" (342 : Nat) ({ cls := "CaptainClaimsModel", name := "candidatesWithout", desc := "(I)I" } : Jvm.MethodName)) ∈ lw_all := lw_g (lw_at lw_m13 179 rfl) rfl
theorem q_w3172 : (Jvm.Cond.instanceMethod ({ cls := "CaptainClaimsModel", name := "candidatesWithout", desc := "(I)I" } : Jvm.MethodName)) ∈ lw_all := lw_g (lw_at lw_m13 180 rfl) rfl
theorem q_w3173 : (Jvm.Cond.selects "CaptainClaimsModel" ({ cls := "CaptainClaimsModel", name := "candidatesWithout", desc := "(I)I" } : Jvm.MethodName) ({ cls := "CaptainClaimsModel", name := "candidatesWithout", desc := "(I)I" } : Jvm.MethodName)) ∈ lw_all := lw_g (lw_at lw_m13 181 rfl) rfl
theorem q_w3174 : (Jvm.Cond.code ({ cls := "CaptainClaimsModel", name := "candidatesWithout", desc := "(I)I" } : Jvm.MethodName) prog_28_method_105_code (2 : Nat) (Option.some Jvm.ClassFile.FieldType.int)) ∈ lw_all := lw_g (lw_at lw_m13 182 rfl) rfl
theorem q_w3175 : (Jvm.Cond.methodLink "CaptainClaimsLaw" (345 : Nat) ({ cls := "CaptainClaimsModel", name := "mostUsefulStatement", desc := "()I" } : Jvm.MethodName)) ∈ lw_all := lw_g (lw_at lw_m13 183 rfl) rfl
theorem q_w3176 : (Jvm.Cond.instanceMethod ({ cls := "CaptainClaimsModel", name := "mostUsefulStatement", desc := "()I" } : Jvm.MethodName)) ∈ lw_all := lw_g (lw_at lw_m13 184 rfl) rfl
theorem q_w3177 : (Jvm.Cond.selects "CaptainClaimsModel" ({ cls := "CaptainClaimsModel", name := "mostUsefulStatement", desc := "()I" } : Jvm.MethodName) ({ cls := "CaptainClaimsModel", name := "mostUsefulStatement", desc := "()I" } : Jvm.MethodName)) ∈ lw_all := lw_g (lw_at lw_m13 185 rfl) rfl
theorem q_w3178 : (Jvm.Cond.code ({ cls := "CaptainClaimsModel", name := "mostUsefulStatement", desc := "()I" } : Jvm.MethodName) prog_28_method_106_code (5 : Nat) (Option.some Jvm.ClassFile.FieldType.int)) ∈ lw_all := lw_g (lw_at lw_m13 186 rfl) rfl
theorem q_w3179 : (Jvm.Cond.methodLink "CaptainClaimsModel" (342 : Nat) ({ cls := "java/lang/Math", name := "max", desc := "(II)I" } : Jvm.MethodName)) ∈ lw_all := lw_g (lw_at lw_m13 187 rfl) rfl
theorem q_w3180 : (Jvm.Cond.methodLink "CaptainClaimsLaw" (348 : Nat) ({ cls := "CaptainClaimsModel", name := "redundantStatements", desc := "()I" } : Jvm.MethodName)) ∈ lw_all := lw_g (lw_at lw_m13 188 rfl) rfl
theorem q_w3181 : (Jvm.Cond.instanceMethod ({ cls := "CaptainClaimsModel", name := "redundantStatements", desc := "()I" } : Jvm.MethodName)) ∈ lw_all := lw_g (lw_at lw_m13 189 rfl) rfl
theorem q_w3182 : (Jvm.Cond.selects "CaptainClaimsModel" ({ cls := "CaptainClaimsModel", name := "redundantStatements", desc := "()I" } : Jvm.MethodName) ({ cls := "CaptainClaimsModel", name := "redundantStatements", desc := "()I" } : Jvm.MethodName)) ∈ lw_all := lw_g (lw_at lw_m13 190 rfl) rfl
theorem q_w3183 : (Jvm.Cond.code ({ cls := "CaptainClaimsModel", name := "redundantStatements", desc := "()I" } : Jvm.MethodName) prog_28_method_107_code (4 : Nat) (Option.some Jvm.ClassFile.FieldType.int)) ∈ lw_all := lw_g (lw_at lw_m13 191 rfl) rfl
theorem q_w3184 : (Jvm.Cond.methodLink "CaptainClaimsLaw" (351 : Nat) ({ cls := "CaptainClaimsModel", name := "bestRowSplit", desc := "()I" } : Jvm.MethodName)) ∈ lw_all := lw_g (lw_at lw_m13 192 rfl) rfl
theorem q_w3185 : (Jvm.Cond.instanceMethod ({ cls := "CaptainClaimsModel", name := "bestRowSplit", desc := "()I" } : Jvm.MethodName)) ∈ lw_all := lw_g (lw_at lw_m13 193 rfl) rfl
theorem q_w3186 : (Jvm.Cond.selects "CaptainClaimsModel" ({ cls := "CaptainClaimsModel", name := "bestRowSplit", desc := "()I" } : Jvm.MethodName) ({ cls := "CaptainClaimsModel", name := "bestRowSplit", desc := "()I" } : Jvm.MethodName)) ∈ lw_all := lw_g (lw_at lw_m13 194 rfl) rfl
theorem q_w3187 : (Jvm.Cond.code ({ cls := "CaptainClaimsModel", name := "bestRowSplit", desc := "()I" } : Jvm.MethodName) prog_28_method_109_code (6 : Nat) (Option.some Jvm.ClassFile.FieldType.int)) ∈ lw_all := lw_g (lw_at lw_m13 195 rfl) rfl
theorem q_w3188 : (Jvm.Cond.methodLink "CaptainClaimsModel" (345 : Nat) ({ cls := "CaptainClaimsModel", name := "candidatesTo", desc := "(I)I" } : Jvm.MethodName)) ∈ lw_all := lw_g (lw_at lw_m13 196 rfl) rfl
theorem q_w3190 : (Jvm.Cond.instanceMethod ({ cls := "CaptainClaimsModel", name := "candidatesTo", desc := "(I)I" } : Jvm.MethodName)) ∈ lw_all := lw_g (lw_at lw_m13 198 rfl) rfl
theorem q_w3191 : (Jvm.Cond.code ({ cls := "CaptainClaimsModel", name := "candidatesTo", desc := "(I)I" } : Jvm.MethodName) prog_28_method_108_code (4 : Nat) (Option.some Jvm.ClassFile.FieldType.int)) ∈ lw_all := lw_g (lw_at lw_m13 199 rfl) rfl
theorem q_w3192 : (Jvm.Cond.methodLink "CaptainClaimsModel" (348 : Nat) ({ cls := "java/lang/Math", name := "min", desc := "(II)I" } : Jvm.MethodName)) ∈ lw_all := lw_g (lw_at lw_m13 200 rfl) rfl
theorem q_w3193 : (Jvm.Cond.methodLink "CaptainClaimsLaw" (354 : Nat) ({ cls := "CaptainClaimsModel", name := "candidateShare", desc := "()F" } : Jvm.MethodName)) ∈ lw_all := lw_g (lw_at lw_m13 201 rfl) rfl
theorem q_w3194 : (Jvm.Cond.instanceMethod ({ cls := "CaptainClaimsModel", name := "candidateShare", desc := "()F" } : Jvm.MethodName)) ∈ lw_all := lw_g (lw_at lw_m13 202 rfl) rfl
theorem q_w3195 : (Jvm.Cond.selects "CaptainClaimsModel" ({ cls := "CaptainClaimsModel", name := "candidateShare", desc := "()F" } : Jvm.MethodName) ({ cls := "CaptainClaimsModel", name := "candidateShare", desc := "()F" } : Jvm.MethodName)) ∈ lw_all := lw_g (lw_at lw_m13 203 rfl) rfl
theorem q_w3196 : (Jvm.Cond.code ({ cls := "CaptainClaimsModel", name := "candidateShare", desc := "()F" } : Jvm.MethodName) prog_28_method_110_code (1 : Nat) (Option.some Jvm.ClassFile.FieldType.float)) ∈ lw_all := lw_g (lw_at lw_m13 204 rfl) rfl
theorem q_w3197 : (Jvm.Cond.methodLink "CaptainClaimsLaw" (357 : Nat) ({ cls := "CaptainClaimsModel", name := "meanLiars", desc := "()D" } : Jvm.MethodName)) ∈ lw_all := lw_g (lw_at lw_m13 205 rfl) rfl
theorem q_w3198 : (Jvm.Cond.instanceMethod ({ cls := "CaptainClaimsModel", name := "meanLiars", desc := "()D" } : Jvm.MethodName)) ∈ lw_all := lw_g (lw_at lw_m13 206 rfl) rfl
theorem q_w3199 : (Jvm.Cond.selects "CaptainClaimsModel" ({ cls := "CaptainClaimsModel", name := "meanLiars", desc := "()D" } : Jvm.MethodName) ({ cls := "CaptainClaimsModel", name := "meanLiars", desc := "()D" } : Jvm.MethodName)) ∈ lw_all := lw_g (lw_at lw_m13 207 rfl) rfl
theorem q_w3200 : (Jvm.Cond.code ({ cls := "CaptainClaimsModel", name := "meanLiars", desc := "()D" } : Jvm.MethodName) prog_28_method_111_code (1 : Nat) (Option.some Jvm.ClassFile.FieldType.double)) ∈ lw_all := lw_g (lw_at lw_m13 208 rfl) rfl
theorem q_w3201 : (Jvm.Cond.methodLink "CaptainClaimsLaw" (360 : Nat) ({ cls := "CaptainClaimsModel", name := "writeRow", desc := "(I)I" } : Jvm.MethodName)) ∈ lw_all := lw_g (lw_at lw_m13 209 rfl) rfl
theorem q_w3202 : (Jvm.Cond.instanceMethod ({ cls := "CaptainClaimsModel", name := "writeRow", desc := "(I)I" } : Jvm.MethodName)) ∈ lw_all := lw_g (lw_at lw_m13 210 rfl) rfl
theorem q_w3203 : (Jvm.Cond.selects "CaptainClaimsModel" ({ cls := "CaptainClaimsModel", name := "writeRow", desc := "(I)I" } : Jvm.MethodName) ({ cls := "CaptainClaimsModel", name := "writeRow", desc := "(I)I" } : Jvm.MethodName)) ∈ lw_all := lw_g (lw_at lw_m13 211 rfl) rfl
theorem q_w3204 : (Jvm.Cond.code ({ cls := "CaptainClaimsModel", name := "writeRow", desc := "(I)I" } : Jvm.MethodName) prog_28_method_116_code (3 : Nat) (Option.some Jvm.ClassFile.FieldType.int)) ∈ lw_all := lw_g (lw_at lw_m13 212 rfl) rfl
theorem q_w3205 : (Jvm.Cond.methodLink "CaptainClaimsModel" (357 : Nat) ({ cls := "CaptainClaimsModel", name := "says", desc := "(I)V" } : Jvm.MethodName)) ∈ lw_all := lw_g (lw_at lw_m13 213 rfl) rfl
theorem q_w3207 : (Jvm.Cond.instanceMethod ({ cls := "CaptainClaimsModel", name := "says", desc := "(I)V" } : Jvm.MethodName)) ∈ lw_all := lw_g (lw_at lw_m13 215 rfl) rfl
theorem q_w3208 : (Jvm.Cond.code ({ cls := "CaptainClaimsModel", name := "says", desc := "(I)V" } : Jvm.MethodName) prog_28_method_112_code (2 : Nat) (Option.none : Option Jvm.ClassFile.FieldType)) ∈ lw_all := lw_g (lw_at lw_m13 216 rfl) rfl
theorem q_w3209 : (Jvm.Cond.methodLink "CaptainClaimsLaw" (363 : Nat) ({ cls := "CaptainClaimsModel", name := "writeStatement", desc := "(I)I" } : Jvm.MethodName)) ∈ lw_all := lw_g (lw_at lw_m13 217 rfl) rfl
theorem q_w3210 : (Jvm.Cond.instanceMethod ({ cls := "CaptainClaimsModel", name := "writeStatement", desc := "(I)I" } : Jvm.MethodName)) ∈ lw_all := lw_g (lw_at lw_m13 218 rfl) rfl
theorem q_w3211 : (Jvm.Cond.selects "CaptainClaimsModel" ({ cls := "CaptainClaimsModel", name := "writeStatement", desc := "(I)I" } : Jvm.MethodName) ({ cls := "CaptainClaimsModel", name := "writeStatement", desc := "(I)I" } : Jvm.MethodName)) ∈ lw_all := lw_g (lw_at lw_m13 219 rfl) rfl
theorem q_w3212 : (Jvm.Cond.code ({ cls := "CaptainClaimsModel", name := "writeStatement", desc := "(I)I" } : Jvm.MethodName) prog_28_method_119_code (5 : Nat) (Option.some Jvm.ClassFile.FieldType.int)) ∈ lw_all := lw_g (lw_at lw_m13 220 rfl) rfl
theorem q_w3213 : (Jvm.Cond.methodLink "CaptainClaimsModel" (359 : Nat) ({ cls := "CaptainClaimsModel", name := "saysName", desc := "(I)V" } : Jvm.MethodName)) ∈ lw_all := lw_g (lw_at lw_m13 221 rfl) rfl
theorem q_w3215 : (Jvm.Cond.instanceMethod ({ cls := "CaptainClaimsModel", name := "saysName", desc := "(I)V" } : Jvm.MethodName)) ∈ lw_all := lw_g (lw_at lw_m13 223 rfl) rfl
theorem q_w3216 : (Jvm.Cond.code ({ cls := "CaptainClaimsModel", name := "saysName", desc := "(I)V" } : Jvm.MethodName) prog_28_method_115_code (3 : Nat) (Option.none : Option Jvm.ClassFile.FieldType)) ∈ lw_all := lw_g (lw_at lw_m13 224 rfl) rfl
theorem q_w3217 : (Jvm.Cond.methodLink "CaptainClaimsModel" (362 : Nat) ({ cls := "CaptainClaimsModel", name := "wordOf", desc := "(I)Ljava/lang/String;" } : Jvm.MethodName)) ∈ lw_all := lw_g (lw_at lw_m13 225 rfl) rfl
theorem q_w3218 : (Jvm.Cond.static ({ cls := "CaptainClaimsModel", name := "wordOf", desc := "(I)Ljava/lang/String;" } : Jvm.MethodName)) ∈ lw_all := lw_g (lw_at lw_m13 226 rfl) rfl
theorem q_w3219 : (Jvm.Cond.code ({ cls := "CaptainClaimsModel", name := "wordOf", desc := "(I)Ljava/lang/String;" } : Jvm.MethodName) prog_28_method_117_code (1 : Nat) (Option.some (Jvm.ClassFile.FieldType.object "java/lang/String"))) ∈ lw_all := lw_g (lw_at lw_m13 227 rfl) rfl
theorem q_w3220 : (Jvm.Cond.methodLink "CaptainClaimsModel" (366 : Nat) ({ cls := "CaptainClaimsModel", name := "saysWord", desc := "(Ljava/lang/String;)V" } : Jvm.MethodName)) ∈ lw_all := lw_g (lw_at lw_m13 228 rfl) rfl
theorem q_w3222 : (Jvm.Cond.instanceMethod ({ cls := "CaptainClaimsModel", name := "saysWord", desc := "(Ljava/lang/String;)V" } : Jvm.MethodName)) ∈ lw_all := lw_g (lw_at lw_m13 230 rfl) rfl
theorem q_w3223 : (Jvm.Cond.code ({ cls := "CaptainClaimsModel", name := "saysWord", desc := "(Ljava/lang/String;)V" } : Jvm.MethodName) prog_28_method_114_code (3 : Nat) (Option.none : Option Jvm.ClassFile.FieldType)) ∈ lw_all := lw_g (lw_at lw_m13 231 rfl) rfl
theorem q_w3224 : (Jvm.Cond.methodLink "CaptainClaimsModel" (370 : Nat) ({ cls := "CaptainClaimsModel", name := "numbersOf", desc := "(I)I" } : Jvm.MethodName)) ∈ lw_all := lw_g (lw_at lw_m13 232 rfl) rfl
theorem q_w3225 : (Jvm.Cond.static ({ cls := "CaptainClaimsModel", name := "numbersOf", desc := "(I)I" } : Jvm.MethodName)) ∈ lw_all := lw_g (lw_at lw_m13 233 rfl) rfl
theorem q_w3226 : (Jvm.Cond.code ({ cls := "CaptainClaimsModel", name := "numbersOf", desc := "(I)I" } : Jvm.MethodName) prog_28_method_118_code (1 : Nat) (Option.some Jvm.ClassFile.FieldType.int)) ∈ lw_all := lw_g (lw_at lw_m13 234 rfl) rfl
theorem q_w3227 : (Jvm.Cond.methodLink "CaptainClaimsModel" (354 : Nat) ({ cls := "CaptainClaimsModel", name := "saysNumber", desc := "(I)V" } : Jvm.MethodName)) ∈ lw_all := lw_g (lw_at lw_m13 235 rfl) rfl
theorem q_w3229 : (Jvm.Cond.instanceMethod ({ cls := "CaptainClaimsModel", name := "saysNumber", desc := "(I)V" } : Jvm.MethodName)) ∈ lw_all := lw_g (lw_at lw_m13 237 rfl) rfl
theorem q_w3230 : (Jvm.Cond.code ({ cls := "CaptainClaimsModel", name := "saysNumber", desc := "(I)V" } : Jvm.MethodName) prog_28_method_113_code (2 : Nat) (Option.none : Option Jvm.ClassFile.FieldType)) ∈ lw_all := lw_g (lw_at lw_m13 238 rfl) rfl
theorem q_w3231 : (Jvm.Cond.methodLink "CaptainClaimsLaw" (366 : Nat) ({ cls := "CaptainClaimsModel", name := "writeCaptains", desc := "()I" } : Jvm.MethodName)) ∈ lw_all := lw_g (lw_at lw_m13 239 rfl) rfl
theorem q_w3232 : (Jvm.Cond.instanceMethod ({ cls := "CaptainClaimsModel", name := "writeCaptains", desc := "()I" } : Jvm.MethodName)) ∈ lw_all := lw_g (lw_at lw_m14 0 rfl) rfl
theorem q_w3233 : (Jvm.Cond.selects "CaptainClaimsModel" ({ cls := "CaptainClaimsModel", name := "writeCaptains", desc := "()I" } : Jvm.MethodName) ({ cls := "CaptainClaimsModel", name := "writeCaptains", desc := "()I" } : Jvm.MethodName)) ∈ lw_all := lw_g (lw_at lw_m14 1 rfl) rfl
theorem q_w3234 : (Jvm.Cond.code ({ cls := "CaptainClaimsModel", name := "writeCaptains", desc := "()I" } : Jvm.MethodName) prog_28_method_120_code (2 : Nat) (Option.some Jvm.ClassFile.FieldType.int)) ∈ lw_all := lw_g (lw_at lw_m14 2 rfl) rfl
theorem q_w3235 : (Jvm.Cond.methodLink "CaptainClaimsLaw" (369 : Nat) ({ cls := "CaptainClaimsModel", name := "textByte", desc := "(I)I" } : Jvm.MethodName)) ∈ lw_all := lw_g (lw_at lw_m14 3 rfl) rfl
theorem q_w3236 : (Jvm.Cond.instanceMethod ({ cls := "CaptainClaimsModel", name := "textByte", desc := "(I)I" } : Jvm.MethodName)) ∈ lw_all := lw_g (lw_at lw_m14 4 rfl) rfl
theorem q_w3237 : (Jvm.Cond.selects "CaptainClaimsModel" ({ cls := "CaptainClaimsModel", name := "textByte", desc := "(I)I" } : Jvm.MethodName) ({ cls := "CaptainClaimsModel", name := "textByte", desc := "(I)I" } : Jvm.MethodName)) ∈ lw_all := lw_g (lw_at lw_m14 5 rfl) rfl
theorem q_w3238 : (Jvm.Cond.code ({ cls := "CaptainClaimsModel", name := "textByte", desc := "(I)I" } : Jvm.MethodName) prog_28_method_121_code (2 : Nat) (Option.some Jvm.ClassFile.FieldType.int)) ∈ lw_all := lw_g (lw_at lw_m14 6 rfl) rfl
theorem q_w3239 : (Jvm.Cond.methodLink "CaptainClaimsLaw" (373 : Nat) ({ cls := "CaptainClaimsModel", name := "placePiece", desc := "(III)I" } : Jvm.MethodName)) ∈ lw_all := lw_g (lw_at lw_m14 7 rfl) rfl
theorem q_w3240 : (Jvm.Cond.instanceMethod ({ cls := "CaptainClaimsModel", name := "placePiece", desc := "(III)I" } : Jvm.MethodName)) ∈ lw_all := lw_g (lw_at lw_m14 8 rfl) rfl
theorem q_w3241 : (Jvm.Cond.selects "CaptainClaimsModel" ({ cls := "CaptainClaimsModel", name := "placePiece", desc := "(III)I" } : Jvm.MethodName) ({ cls := "CaptainClaimsModel", name := "placePiece", desc := "(III)I" } : Jvm.MethodName)) ∈ lw_all := lw_g (lw_at lw_m14 9 rfl) rfl
theorem q_w3242 : (Jvm.Cond.code ({ cls := "CaptainClaimsModel", name := "placePiece", desc := "(III)I" } : Jvm.MethodName) prog_28_method_125_code (4 : Nat) (Option.some Jvm.ClassFile.FieldType.int)) ∈ lw_all := lw_g (lw_at lw_m14 10 rfl) rfl
theorem q_w3243 : (Jvm.Cond.methodLink "CaptainClaimsModel" (376 : Nat) ({ cls := "CaptainClaimsModel", name := "settles", desc := "(I)I" } : Jvm.MethodName)) ∈ lw_all := lw_g (lw_at lw_m14 11 rfl) rfl
theorem q_w3245 : (Jvm.Cond.instanceMethod ({ cls := "CaptainClaimsModel", name := "settles", desc := "(I)I" } : Jvm.MethodName)) ∈ lw_all := lw_g (lw_at lw_m14 13 rfl) rfl
theorem q_w3246 : (Jvm.Cond.code ({ cls := "CaptainClaimsModel", name := "settles", desc := "(I)I" } : Jvm.MethodName) prog_28_method_124_code (2 : Nat) (Option.some Jvm.ClassFile.FieldType.int)) ∈ lw_all := lw_g (lw_at lw_m14 14 rfl) rfl
theorem q_w3247 : (Jvm.Cond.methodLink "CaptainClaimsModel" (373 : Nat) ({ cls := "CaptainClaimsModel", name := "makesRoom", desc := "()V" } : Jvm.MethodName)) ∈ lw_all := lw_g (lw_at lw_m14 15 rfl) rfl
theorem q_w3249 : (Jvm.Cond.instanceMethod ({ cls := "CaptainClaimsModel", name := "makesRoom", desc := "()V" } : Jvm.MethodName)) ∈ lw_all := lw_g (lw_at lw_m14 17 rfl) rfl
theorem q_w3250 : (Jvm.Cond.code ({ cls := "CaptainClaimsModel", name := "makesRoom", desc := "()V" } : Jvm.MethodName) prog_28_method_122_code (2 : Nat) (Option.none : Option Jvm.ClassFile.FieldType)) ∈ lw_all := lw_g (lw_at lw_m14 18 rfl) rfl
theorem q_w3251 : (Jvm.Cond.methodLink "CaptainClaimsLaw" (376 : Nat) ({ cls := "CaptainClaimsModel", name := "addStatement", desc := "(II)I" } : Jvm.MethodName)) ∈ lw_all := lw_g (lw_at lw_m14 19 rfl) rfl
theorem q_w3252 : (Jvm.Cond.instanceMethod ({ cls := "CaptainClaimsModel", name := "addStatement", desc := "(II)I" } : Jvm.MethodName)) ∈ lw_all := lw_g (lw_at lw_m14 20 rfl) rfl
theorem q_w3253 : (Jvm.Cond.selects "CaptainClaimsModel" ({ cls := "CaptainClaimsModel", name := "addStatement", desc := "(II)I" } : Jvm.MethodName) ({ cls := "CaptainClaimsModel", name := "addStatement", desc := "(II)I" } : Jvm.MethodName)) ∈ lw_all := lw_g (lw_at lw_m14 21 rfl) rfl
theorem q_w3254 : (Jvm.Cond.code ({ cls := "CaptainClaimsModel", name := "addStatement", desc := "(II)I" } : Jvm.MethodName) prog_28_method_126_code (3 : Nat) (Option.some Jvm.ClassFile.FieldType.int)) ∈ lw_all := lw_g (lw_at lw_m14 22 rfl) rfl
theorem q_w3255 : (Jvm.Cond.methodLink "CaptainClaimsLaw" (379 : Nat) ({ cls := "CaptainClaimsModel", name := "removeStatement", desc := "(I)I" } : Jvm.MethodName)) ∈ lw_all := lw_g (lw_at lw_m14 23 rfl) rfl
theorem q_w3256 : (Jvm.Cond.instanceMethod ({ cls := "CaptainClaimsModel", name := "removeStatement", desc := "(I)I" } : Jvm.MethodName)) ∈ lw_all := lw_g (lw_at lw_m14 24 rfl) rfl
theorem q_w3257 : (Jvm.Cond.selects "CaptainClaimsModel" ({ cls := "CaptainClaimsModel", name := "removeStatement", desc := "(I)I" } : Jvm.MethodName) ({ cls := "CaptainClaimsModel", name := "removeStatement", desc := "(I)I" } : Jvm.MethodName)) ∈ lw_all := lw_g (lw_at lw_m14 25 rfl) rfl
theorem q_w3258 : (Jvm.Cond.code ({ cls := "CaptainClaimsModel", name := "removeStatement", desc := "(I)I" } : Jvm.MethodName) prog_28_method_127_code (3 : Nat) (Option.some Jvm.ClassFile.FieldType.int)) ∈ lw_all := lw_g (lw_at lw_m14 26 rfl) rfl
theorem q_w3259 : (Jvm.Cond.methodLink "CaptainClaimsModel" (379 : Nat) ({ cls := "CaptainClaimsModel", name := "keepsAll", desc := "()V" } : Jvm.MethodName)) ∈ lw_all := lw_g (lw_at lw_m14 27 rfl) rfl
theorem q_w3261 : (Jvm.Cond.instanceMethod ({ cls := "CaptainClaimsModel", name := "keepsAll", desc := "()V" } : Jvm.MethodName)) ∈ lw_all := lw_g (lw_at lw_m14 29 rfl) rfl
theorem q_w3262 : (Jvm.Cond.code ({ cls := "CaptainClaimsModel", name := "keepsAll", desc := "()V" } : Jvm.MethodName) prog_28_method_123_code (1 : Nat) (Option.none : Option Jvm.ClassFile.FieldType)) ∈ lw_all := lw_g (lw_at lw_m14 30 rfl) rfl
theorem q_w3263 : (Jvm.Cond.methodLink "CaptainClaimsLaw" (382 : Nat) ({ cls := "CaptainClaimsModel", name := "declareTruthful", desc := "(I)I" } : Jvm.MethodName)) ∈ lw_all := lw_g (lw_at lw_m14 31 rfl) rfl
theorem q_w3264 : (Jvm.Cond.instanceMethod ({ cls := "CaptainClaimsModel", name := "declareTruthful", desc := "(I)I" } : Jvm.MethodName)) ∈ lw_all := lw_g (lw_at lw_m14 32 rfl) rfl
theorem q_w3265 : (Jvm.Cond.selects "CaptainClaimsModel" ({ cls := "CaptainClaimsModel", name := "declareTruthful", desc := "(I)I" } : Jvm.MethodName) ({ cls := "CaptainClaimsModel", name := "declareTruthful", desc := "(I)I" } : Jvm.MethodName)) ∈ lw_all := lw_g (lw_at lw_m14 33 rfl) rfl
theorem q_w3266 : (Jvm.Cond.code ({ cls := "CaptainClaimsModel", name := "declareTruthful", desc := "(I)I" } : Jvm.MethodName) prog_28_method_129_code (2 : Nat) (Option.some Jvm.ClassFile.FieldType.int)) ∈ lw_all := lw_g (lw_at lw_m14 34 rfl) rfl
theorem q_w3267 : (Jvm.Cond.methodLink "CaptainClaimsModel" (382 : Nat) ({ cls := "CaptainClaimsModel", name := "declares", desc := "(II)I" } : Jvm.MethodName)) ∈ lw_all := lw_g (lw_at lw_m14 35 rfl) rfl
theorem q_w3269 : (Jvm.Cond.instanceMethod ({ cls := "CaptainClaimsModel", name := "declares", desc := "(II)I" } : Jvm.MethodName)) ∈ lw_all := lw_g (lw_at lw_m14 37 rfl) rfl
theorem q_w3270 : (Jvm.Cond.code ({ cls := "CaptainClaimsModel", name := "declares", desc := "(II)I" } : Jvm.MethodName) prog_28_method_128_code (3 : Nat) (Option.some Jvm.ClassFile.FieldType.int)) ∈ lw_all := lw_g (lw_at lw_m14 38 rfl) rfl
theorem q_w3271 : (Jvm.Cond.methodLink "CaptainClaimsLaw" (385 : Nat) ({ cls := "CaptainClaimsModel", name := "declareLiar", desc := "(I)I" } : Jvm.MethodName)) ∈ lw_all := lw_g (lw_at lw_m14 39 rfl) rfl
theorem q_w3272 : (Jvm.Cond.instanceMethod ({ cls := "CaptainClaimsModel", name := "declareLiar", desc := "(I)I" } : Jvm.MethodName)) ∈ lw_all := lw_g (lw_at lw_m14 40 rfl) rfl
theorem q_w3273 : (Jvm.Cond.selects "CaptainClaimsModel" ({ cls := "CaptainClaimsModel", name := "declareLiar", desc := "(I)I" } : Jvm.MethodName) ({ cls := "CaptainClaimsModel", name := "declareLiar", desc := "(I)I" } : Jvm.MethodName)) ∈ lw_all := lw_g (lw_at lw_m14 41 rfl) rfl
theorem q_w3274 : (Jvm.Cond.code ({ cls := "CaptainClaimsModel", name := "declareLiar", desc := "(I)I" } : Jvm.MethodName) prog_28_method_130_code (2 : Nat) (Option.some Jvm.ClassFile.FieldType.int)) ∈ lw_all := lw_g (lw_at lw_m14 42 rfl) rfl
theorem q_w3275 : (Jvm.Cond.methodLink "CaptainClaimsLaw" (388 : Nat) ({ cls := "CaptainClaimsModel", name := "retract", desc := "(I)Z" } : Jvm.MethodName)) ∈ lw_all := lw_g (lw_at lw_m14 43 rfl) rfl
theorem q_w3276 : (Jvm.Cond.instanceMethod ({ cls := "CaptainClaimsModel", name := "retract", desc := "(I)Z" } : Jvm.MethodName)) ∈ lw_all := lw_g (lw_at lw_m14 44 rfl) rfl
theorem q_w3277 : (Jvm.Cond.selects "CaptainClaimsModel" ({ cls := "CaptainClaimsModel", name := "retract", desc := "(I)Z" } : Jvm.MethodName) ({ cls := "CaptainClaimsModel", name := "retract", desc := "(I)Z" } : Jvm.MethodName)) ∈ lw_all := lw_g (lw_at lw_m14 45 rfl) rfl
theorem q_w3278 : (Jvm.Cond.code ({ cls := "CaptainClaimsModel", name := "retract", desc := "(I)Z" } : Jvm.MethodName) prog_28_method_131_code (4 : Nat) (Option.some Jvm.ClassFile.FieldType.boolean)) ∈ lw_all := lw_g (lw_at lw_m14 46 rfl) rfl
theorem q_w3279 : (Jvm.Cond.methodLink "CaptainClaimsLaw" (391 : Nat) ({ cls := "CaptainClaimsModel", name := "setBounds", desc := "(II)I" } : Jvm.MethodName)) ∈ lw_all := lw_g (lw_at lw_m14 47 rfl) rfl
theorem q_w3280 : (Jvm.Cond.instanceMethod ({ cls := "CaptainClaimsModel", name := "setBounds", desc := "(II)I" } : Jvm.MethodName)) ∈ lw_all := lw_g (lw_at lw_m14 48 rfl) rfl
theorem q_w3281 : (Jvm.Cond.selects "CaptainClaimsModel" ({ cls := "CaptainClaimsModel", name := "setBounds", desc := "(II)I" } : Jvm.MethodName) ({ cls := "CaptainClaimsModel", name := "setBounds", desc := "(II)I" } : Jvm.MethodName)) ∈ lw_all := lw_g (lw_at lw_m14 49 rfl) rfl
theorem q_w3282 : (Jvm.Cond.code ({ cls := "CaptainClaimsModel", name := "setBounds", desc := "(II)I" } : Jvm.MethodName) prog_28_method_132_code (3 : Nat) (Option.some Jvm.ClassFile.FieldType.int)) ∈ lw_all := lw_g (lw_at lw_m14 50 rfl) rfl
theorem q_w3283 : (Jvm.Cond.constantLong "CaptainClaimsModel" (385 : Nat) (4 : Int64)) ∈ lw_all := lw_g (lw_at lw_m14 51 rfl) rfl
theorem q_w3284 : (Jvm.Cond.methodLink "CaptainClaimsLaw" (394 : Nat) ({ cls := "CaptainClaimsModel", name := "reportEmpty", desc := "(II)I" } : Jvm.MethodName)) ∈ lw_all := lw_g (lw_at lw_m14 52 rfl) rfl
theorem q_w3285 : (Jvm.Cond.instanceMethod ({ cls := "CaptainClaimsModel", name := "reportEmpty", desc := "(II)I" } : Jvm.MethodName)) ∈ lw_all := lw_g (lw_at lw_m14 53 rfl) rfl
theorem q_w3286 : (Jvm.Cond.selects "CaptainClaimsModel" ({ cls := "CaptainClaimsModel", name := "reportEmpty", desc := "(II)I" } : Jvm.MethodName) ({ cls := "CaptainClaimsModel", name := "reportEmpty", desc := "(II)I" } : Jvm.MethodName)) ∈ lw_all := lw_g (lw_at lw_m14 54 rfl) rfl
theorem q_w3287 : (Jvm.Cond.code ({ cls := "CaptainClaimsModel", name := "reportEmpty", desc := "(II)I" } : Jvm.MethodName) prog_28_method_133_code (3 : Nat) (Option.some Jvm.ClassFile.FieldType.int)) ∈ lw_all := lw_g (lw_at lw_m14 55 rfl) rfl
theorem q_w3288 : (Jvm.Cond.methodLink "CaptainClaimsLaw" (397 : Nat) ({ cls := "CaptainClaimsModel", name := "undo", desc := "()I" } : Jvm.MethodName)) ∈ lw_all := lw_g (lw_at lw_m14 56 rfl) rfl
theorem q_w3289 : (Jvm.Cond.instanceMethod ({ cls := "CaptainClaimsModel", name := "undo", desc := "()I" } : Jvm.MethodName)) ∈ lw_all := lw_g (lw_at lw_m14 57 rfl) rfl
theorem q_w3290 : (Jvm.Cond.selects "CaptainClaimsModel" ({ cls := "CaptainClaimsModel", name := "undo", desc := "()I" } : Jvm.MethodName) ({ cls := "CaptainClaimsModel", name := "undo", desc := "()I" } : Jvm.MethodName)) ∈ lw_all := lw_g (lw_at lw_m14 58 rfl) rfl
theorem q_w3291 : (Jvm.Cond.code ({ cls := "CaptainClaimsModel", name := "undo", desc := "()I" } : Jvm.MethodName) prog_28_method_134_code (1 : Nat) (Option.some Jvm.ClassFile.FieldType.int)) ∈ lw_all := lw_g (lw_at lw_m14 59 rfl) rfl
theorem q_w3292 : (Jvm.Cond.methodLink "CaptainClaimsLaw" (401 : Nat) ({ cls := "CaptainClaimsModel", name := "undoable", desc := "()I" } : Jvm.MethodName)) ∈ lw_all := lw_g (lw_at lw_m14 60 rfl) rfl
theorem q_w3293 : (Jvm.Cond.instanceMethod ({ cls := "CaptainClaimsModel", name := "undoable", desc := "()I" } : Jvm.MethodName)) ∈ lw_all := lw_g (lw_at lw_m14 61 rfl) rfl
theorem q_w3294 : (Jvm.Cond.selects "CaptainClaimsModel" ({ cls := "CaptainClaimsModel", name := "undoable", desc := "()I" } : Jvm.MethodName) ({ cls := "CaptainClaimsModel", name := "undoable", desc := "()I" } : Jvm.MethodName)) ∈ lw_all := lw_g (lw_at lw_m14 62 rfl) rfl
theorem q_w3295 : (Jvm.Cond.code ({ cls := "CaptainClaimsModel", name := "undoable", desc := "()I" } : Jvm.MethodName) prog_28_method_135_code (1 : Nat) (Option.some Jvm.ClassFile.FieldType.int)) ∈ lw_all := lw_g (lw_at lw_m14 63 rfl) rfl
theorem q_w3296 : (Jvm.Cond.methodLink "CaptainClaimsLaw" (404 : Nat) ({ cls := "CaptainClaimsModel", name := "save", desc := "(I)I" } : Jvm.MethodName)) ∈ lw_all := lw_g (lw_at lw_m14 64 rfl) rfl
theorem q_w3297 : (Jvm.Cond.instanceMethod ({ cls := "CaptainClaimsModel", name := "save", desc := "(I)I" } : Jvm.MethodName)) ∈ lw_all := lw_g (lw_at lw_m14 65 rfl) rfl
theorem q_w3298 : (Jvm.Cond.selects "CaptainClaimsModel" ({ cls := "CaptainClaimsModel", name := "save", desc := "(I)I" } : Jvm.MethodName) ({ cls := "CaptainClaimsModel", name := "save", desc := "(I)I" } : Jvm.MethodName)) ∈ lw_all := lw_g (lw_at lw_m14 66 rfl) rfl
theorem q_w3299 : (Jvm.Cond.code ({ cls := "CaptainClaimsModel", name := "save", desc := "(I)I" } : Jvm.MethodName) prog_28_method_136_code (2 : Nat) (Option.some Jvm.ClassFile.FieldType.int)) ∈ lw_all := lw_g (lw_at lw_m14 67 rfl) rfl
theorem q_w3300 : (Jvm.Cond.methodLink "CaptainClaimsLaw" (407 : Nat) ({ cls := "CaptainClaimsModel", name := "restore", desc := "(I)I" } : Jvm.MethodName)) ∈ lw_all := lw_g (lw_at lw_m14 68 rfl) rfl
theorem q_w3301 : (Jvm.Cond.instanceMethod ({ cls := "CaptainClaimsModel", name := "restore", desc := "(I)I" } : Jvm.MethodName)) ∈ lw_all := lw_g (lw_at lw_m14 69 rfl) rfl
theorem q_w3302 : (Jvm.Cond.selects "CaptainClaimsModel" ({ cls := "CaptainClaimsModel", name := "restore", desc := "(I)I" } : Jvm.MethodName) ({ cls := "CaptainClaimsModel", name := "restore", desc := "(I)I" } : Jvm.MethodName)) ∈ lw_all := lw_g (lw_at lw_m14 70 rfl) rfl
theorem q_w3303 : (Jvm.Cond.code ({ cls := "CaptainClaimsModel", name := "restore", desc := "(I)I" } : Jvm.MethodName) prog_28_method_137_code (2 : Nat) (Option.some Jvm.ClassFile.FieldType.int)) ∈ lw_all := lw_g (lw_at lw_m14 71 rfl) rfl
theorem q_w3307 : (Jvm.Cond.sameMethod "java/lang/AbstractStringBuilder" "java/lang/AbstractStringBuilder" "append" "(C)Ljava/lang/AbstractStringBuilder;") ∈ lw_all := lw_g (lw_at lw_m14 75 rfl) rfl
theorem q_w3311 : (Jvm.Cond.sameMethod "java/lang/AbstractStringBuilder" "java/lang/AbstractStringBuilder" "append" "(I)Ljava/lang/AbstractStringBuilder;") ∈ lw_all := lw_g (lw_at lw_m14 79 rfl) rfl
theorem q_w3312 : (Jvm.Cond.sameMethod "java/lang/AbstractStringBuilder" "java/lang/AbstractStringBuilder" "append" "(Ljava/lang/String;)Ljava/lang/AbstractStringBuilder;") ∈ lw_all := lw_g (lw_at lw_m14 80 rfl) rfl
theorem q_w3317 : (Jvm.Cond.selects "CaptainClaims$Captain" ({ cls := "CaptainClaims$Captain", name := "name", desc := "()Ljava/lang/String;" } : Jvm.MethodName) ({ cls := "CaptainClaims$Captain", name := "name", desc := "()Ljava/lang/String;" } : Jvm.MethodName)) ∈ lw_all := lw_g (lw_at lw_m14 85 rfl) rfl
theorem q_w3374 : (Jvm.Cond.fieldLinkNest "CaptainClaims" (333 : Nat) "CaptainClaims$Mark" "sign" "C" "CaptainClaims") ∈ lw_tbl := lw_at lw_m14 142 rfl
def q_nar : List Cond := [Cond.methodLink "CaptainClaims" (96 : Nat) ({ cls := "java/util/Deque", name := "clear", desc := "()V" } : Jvm.MethodName), Cond.methodLink "CaptainClaims" (395 : Nat) ({ cls := "java/util/Deque", name := "isEmpty", desc := "()Z" } : Jvm.MethodName), Cond.interfaceMethod "java/util/Deque" "java/util/Collection" "clear" "()V", Cond.interfaceMethod "java/util/Deque" "java/util/Collection" "isEmpty" "()Z", Cond.landsInDefault "CaptainClaims$CoastClaim" ({ cls := "CaptainClaims$Claim", name := "nodes", desc := "()I" } : Jvm.MethodName) ({ cls := "CaptainClaims$Claim", name := "nodes", desc := "()I" } : Jvm.MethodName), Cond.landsInDefault "CaptainClaims$ColumnClaim" ({ cls := "CaptainClaims$Claim", name := "nodes", desc := "()I" } : Jvm.MethodName) ({ cls := "CaptainClaims$Claim", name := "nodes", desc := "()I" } : Jvm.MethodName), Cond.landsInDefault "CaptainClaims$HonestClaim" ({ cls := "CaptainClaims$Claim", name := "nodes", desc := "()I" } : Jvm.MethodName) ({ cls := "CaptainClaims$Claim", name := "nodes", desc := "()I" } : Jvm.MethodName), Cond.landsInDefault "CaptainClaims$NearClaim" ({ cls := "CaptainClaims$Claim", name := "nodes", desc := "()I" } : Jvm.MethodName) ({ cls := "CaptainClaims$Claim", name := "nodes", desc := "()I" } : Jvm.MethodName), Cond.landsInDefault "CaptainClaims$RowClaim" ({ cls := "CaptainClaims$Claim", name := "nodes", desc := "()I" } : Jvm.MethodName) ({ cls := "CaptainClaims$Claim", name := "nodes", desc := "()I" } : Jvm.MethodName), Cond.landsInDefault "CaptainClaims$SameClaim" ({ cls := "CaptainClaims$Claim", name := "nodes", desc := "()I" } : Jvm.MethodName) ({ cls := "CaptainClaims$Claim", name := "nodes", desc := "()I" } : Jvm.MethodName), Cond.landsInDefault "CaptainClaims$SizeClaim" ({ cls := "CaptainClaims$Claim", name := "nodes", desc := "()I" } : Jvm.MethodName) ({ cls := "CaptainClaims$Claim", name := "nodes", desc := "()I" } : Jvm.MethodName)]
def q_al {α : Type} (P : α → Prop) : List α → Prop
  | [] => True
  | a :: t => P a ∧ q_al P t
theorem q_al.n {α : Type} {P : α → Prop} : q_al P [] := trivial
theorem q_al.c {α : Type} {P : α → Prop} {a : α} {t : List α} (h : P a) (ht : q_al P t) : q_al P (a :: t) := ⟨h, ht⟩
theorem q_al.at {α : Type} {P : α → Prop} : ∀ {l : List α}, q_al P l → ∀ {a : α}, a ∈ l → P a := by
  intro l
  induction l with
  | nil => intro _ a h; cases h
  | cons b t ih =>
    intro h a ha
    rcases List.mem_cons.mp ha with rfl | ha
    · exact h.1
    · exact ih h.2 ha
def q_al2 {α β : Type} (P : α → β → Prop) : List α → List (List β) → Prop
  | o :: os, r :: rs => q_al (P o) r ∧ q_al2 P os rs
  | _, _ => True
theorem q_al2.n {α β : Type} {P : α → β → Prop} {rs : List (List β)} : q_al2 P [] rs := by cases rs <;> trivial
theorem q_al2.c {α β : Type} {P : α → β → Prop} {o : α} {os : List α} {r : List β} {rs : List (List β)} (h : q_al (P o) r) (ht : q_al2 P os rs) : q_al2 P (o :: os) (r :: rs) := ⟨h, ht⟩
theorem q_al2.at {α β : Type} {P : α → β → Prop} : ∀ {os : List α} {rs : List (List β)}, q_al2 P os rs → ∀ {k : Nat} {o : α} {b : β}, os[k]? = some o → b ∈ rs.getD k [] → P o b := by
  intro os
  induction os with
  | nil => intro rs _ k o b h; simp at h
  | cons o' os ih =>
    intro rs h k o b ho hb
    cases rs with
    | nil => simp at hb
    | cons r rs =>
      cases k with
      | zero =>
        rw [List.getElem?_cons_zero] at ho
        cases ho
        exact h.1.at hb
      | succ k =>
        rw [List.getElem?_cons_succ] at ho
        rw [List.getD_cons_succ] at hb
        exact ih h.2 ho hb
theorem q_lkG {β : Type} {c : Nat} {m : β} : ∀ {l : List (Nat × β)}, l.lookup c = some m → (c, m) ∈ l := by
  intro l
  induction l with
  | nil => intro h; cases h
  | cons q t ih =>
    intro h
    obtain ⟨a, b⟩ := q
    rw [List.lookup_cons] at h
    split at h
    · rename_i he
      cases h
      rw [eq_of_beq he]
      exact List.mem_cons_self
    · exact List.mem_cons_of_mem _ (ih h)
/-- a tree of 'and': the place of an atom -/
def q_pth : Cond → List Bool → Option Cond
  | c, [] => some c
  | .and a _, false :: t => q_pth a t
  | .and _ b, true :: t => q_pth b t
  | _, _ => none
theorem q_pth_ok {A : Array Value} {s : State} : ∀ (p : List Bool) (c d : Cond), q_pth c p = some d → c.before A s = true → d.before A s = true := by
  intro p
  induction p with
  | nil => intro c d h hc; cases c <;> (cases h; exact hc)
  | cons b p ih =>
    intro c d h hc
    cases c with
    | and x y =>
      have h2 : x.before A s = true ∧ y.before A s = true := by rw [Cond.before_and, Bool.and_eq_true] at hc; exact hc
      cases b with
      | false => exact ih _ _ h h2.1
      | true => exact ih _ _ h h2.2
    | _ => cases b <;> (simp [q_pth] at h)
def q_pFL (own : String) (q : Nat × Nat) : Prop := ∃ (ref dc n dd : String) (fin : Bool) (ty : FieldType), q_fd[q.2]? = some (dc, n, dd, fin, ty) ∧ (Cond.fieldLink own q.1 ref n dd ∈ lw_all ∨ ∃ host : String, Cond.fieldLinkNest own q.1 ref n dd host ∈ lw_tbl ∧ dc ≠ own) ∧ (ref = dc ∨ Cond.sameField ref dc n dd ∈ lw_all)
def q_pSL (own : String) (q : Nat × Value) : Prop := ∃ C n dd : String, (C, n, dd, q.2) ∈ q_stl ∧ (Cond.fieldLink own q.1 C n dd ∈ lw_all ∨ ∃ host : String, Cond.fieldLinkNest own q.1 C n dd host ∈ lw_tbl)
def q_pCK (own : String) (q : Nat × Value) : Prop := (∃ k : Int32, q.2 = .int k ∧ Cond.constant own q.1 k ∈ lw_all) ∨ (∃ k : Int64, q.2 = .long k ∧ Cond.constantLong own q.1 k ∈ lw_all) ∨ ∃ (tx : String) (a : Nat), q.2 = .ref a ∧ a < 1000 ∧ (own, q.1, tx, a) ∈ q_ltl
def q_pTK (own : String) (q : Nat × Nat) : Prop := ∃ T : String, q_tn[q.2]? = some T ∧ Cond.classLink own q.1 T ∈ lw_all
def q_pAN (own : String) (q : Nat × Nat) : Prop := ∃ C : String, Cond.classLink own q.1 C ∈ lw_all ∧ Cond.arrayOver (.object C) ∈ lw_tbl ∧ q_tag[q.2]? = some (.object C) ∧ 5 ≤ q.2 ∧ q.2 < 9
def q_pNW (own : String) (q : Nat × Nat) : Prop := ∃ C : String, q_nm[q.2]? = some C ∧ Cond.classLink own q.1 C ∈ lw_all ∧ Cond.initialized C ∈ lw_all ∧ ∀ fs : List Value, q_df[q.2]? = some fs → ∃ r : vw_C, q_cl[q.2]? = some r ∧ Cond.instantiable C r.2.2 ∈ lw_all
def q_pM (e : q_Mt) : Prop := Cond.initialized e.2.1.cls ∈ lw_all ∧ q_cde e
def q_pCS (q : Nat × Nat) : Prop := ∃ C T : String, q_nm[q.1]? = some C ∧ q_tn[q.2]? = some T ∧ (Cond.castable C T ∈ lw_tbl ∨ C = T)
/-- a receiver of a virtual call -/
def q_pV2 (xi : Nat) (q : Nat × Nat) : Prop := ∃ (x : MethodName) (e : q_Mt) (C : String), q_dcl[xi]? = some x ∧ q_mt q.2 = some e ∧ q_nm[q.1]? = some C ∧ (Cond.declares x ∈ lw_tbl ∨ ∃ e' : q_Mt, e'.2.1 = x ∧ q_cde e' ∧ Cond.instanceMethod x ∈ lw_all) ∧ Cond.instanceMethod e.2.1 ∈ lw_all ∧
  ((Cond.selects C x e.2.1 ∈ lw_all ∧ (x = e.2.1 ∨ Cond.sameMethod x.cls x.cls x.name x.desc ∈ lw_all)) ∨ (x = e.2.1 ∧ Cond.privateMethod x ∈ lw_tbl ∧ ∃ n d : String, Cond.sameMethod x.cls x.cls n d ∈ lw_all))
def q_pV7 (xi : Nat) (q : Nat × Nat) : Prop := ∃ (x : MethodName) (J : String) (e : q_Mt) (C : String), q_dcl[xi]? = some x ∧ q_mt q.2 = some e ∧ q_nm[q.1]? = some C ∧ Cond.declares ⟨J, x.name, x.desc⟩ ∈ lw_tbl ∧ (Cond.interfaceMethod x.cls J x.name x.desc ∈ lw_tbl ∨ Cond.interfaceMethod x.cls J x.name x.desc ∈ q_nar) ∧
  (x.cls = J ∨ (x.cls ≠ J ∧ Cond.publicMethod ⟨J, x.name, x.desc⟩ ∈ lw_tbl ∧ q_nMH ⟨J, x.name, x.desc⟩)) ∧ Cond.instanceMethod e.2.1 ∈ lw_all ∧ Cond.publicMethod e.2.1 ∈ lw_tbl ∧ Cond.castable C x.cls ∈ lw_tbl ∧ Cond.unhidden C x.name x.desc ∈ lw_tbl ∧
  (Cond.selects C ⟨J, x.name, x.desc⟩ e.2.1 ∈ lw_all ∨ (x.cls = J ∧ Cond.landsInDefault C x e.2.1 ∈ q_nar))
def q_pIK (own : String) (q : Nat × Nat × Nat × Nat) : Prop := match q with
  | (i, 0, mu, _) => ∃ e : q_Mt, q_mt mu = some e ∧ (Cond.methodLink own i e.2.1 ∈ lw_all ∨ ∃ host : String, Cond.methodLinkNest own i e.2.1 host ∈ lw_tbl) ∧ Cond.static e.2.1 ∈ lw_all ∧ Cond.initialized e.2.1.cls ∈ lw_all ∧ q_cde e
  | (i, 1, mu, _) => ∃ e : q_Mt, q_mt mu = some e ∧ ((∃ (bytes : ByteArray) (mL : Nat), (Cond.methodLink own i e.2.1 ∈ lw_all ∨ ∃ host : String, Cond.methodLinkNest own i e.2.1 host ∈ lw_tbl) ∧ Cond.instanceMethod e.2.1 ∈ lw_all ∧ Cond.code e.2.1 bytes mL none ∈ lw_all ∧ e.2.1.name = "<init>") ∨
      (Cond.methodLink own i e.2.1 ∈ lw_all ∧ Cond.instanceMethod e.2.1 ∈ lw_all ∧ q_cde e ∧ Cond.sameMethod e.2.1.cls e.2.1.cls e.2.1.name e.2.1.desc ∈ lw_all ∧ Cond.superclass own e.2.1.cls ∈ lw_all ∧ e.2.1.name ≠ "<init>"))
  | (i, 2, xi, _) => q_vtT.getD xi [] = [] ∨ ∃ x : MethodName, q_dcl[xi]? = some x ∧ Cond.methodLink own i x ∈ lw_all ∧ q_al (q_pV2 xi) (q_vtT.getD xi [])
  | (i, 7, xi, _) => q_vtT.getD xi [] = [] ∨ ∃ x : MethodName, q_dcl[xi]? = some x ∧ (Cond.methodLink own i x ∈ lw_all ∨ Cond.methodLink own i x ∈ q_nar) ∧ q_al (q_pV7 xi) (q_vtT.getD xi [])
  | (i, 3, _, _) => Cond.methodLink own i Lib.objectInit ∈ lw_all
  | (i, 4, _, _) => Cond.methodLink own i arraycopyName ∈ lw_all
  | (i, 5, _, _) => Cond.methodLink own i ⟨"CaptainClaims$FormatException", "getCause", "()Ljava/lang/Throwable;"⟩ ∈ lw_all
  | (i, 6, _, _) => Cond.methodLink own i ⟨"[B", "clone", "()Ljava/lang/Object;"⟩ ∈ lw_all
  | _ => True
theorem q_i0 {own : String} {i mu n : Nat} {e : q_Mt} (h : q_mt mu = some e) (h1 : Cond.methodLink own i e.2.1 ∈ lw_all ∨ ∃ host : String, Cond.methodLinkNest own i e.2.1 host ∈ lw_tbl) (h2 : Cond.static e.2.1 ∈ lw_all) (h3 : Cond.initialized e.2.1.cls ∈ lw_all) (h4 : q_cde e) : q_pIK own (i, 0, mu, n) := ⟨e, h, h1, h2, h3, h4⟩
theorem q_i1 {own : String} {i mu n mL : Nat} {e : q_Mt} {bytes : ByteArray} (h : q_mt mu = some e) (h1 : Cond.methodLink own i e.2.1 ∈ lw_all ∨ ∃ host : String, Cond.methodLinkNest own i e.2.1 host ∈ lw_tbl) (h2 : Cond.instanceMethod e.2.1 ∈ lw_all) (h3 : Cond.code e.2.1 bytes mL none ∈ lw_all) (h4 : e.2.1.name = "<init>") : q_pIK own (i, 1, mu, n) := ⟨e, h, Or.inl ⟨bytes, mL, h1, h2, h3, h4⟩⟩
theorem q_i1s {own : String} {i mu n : Nat} {e : q_Mt} (h : q_mt mu = some e) (h1 : Cond.methodLink own i e.2.1 ∈ lw_all) (h2 : Cond.instanceMethod e.2.1 ∈ lw_all) (h3 : q_cde e) (h4 : Cond.sameMethod e.2.1.cls e.2.1.cls e.2.1.name e.2.1.desc ∈ lw_all) (h5 : Cond.superclass own e.2.1.cls ∈ lw_all) (h6 : e.2.1.name ≠ "<init>") : q_pIK own (i, 1, mu, n) := ⟨e, h, Or.inr ⟨h1, h2, h3, h4, h5, h6⟩⟩
theorem q_i2n {own : String} {i xi n : Nat} (h : q_vtT.getD xi [] = []) : q_pIK own (i, 2, xi, n) := Or.inl h
theorem q_i7n {own : String} {i xi n : Nat} (h : q_vtT.getD xi [] = []) : q_pIK own (i, 7, xi, n) := Or.inl h
theorem q_i2 {own : String} {i xi n : Nat} {x : MethodName} (h : q_dcl[xi]? = some x) (h1 : Cond.methodLink own i x ∈ lw_all) (h2 : q_al (q_pV2 xi) (q_vtT.getD xi [])) : q_pIK own (i, 2, xi, n) := Or.inr ⟨x, h, h1, h2⟩
theorem q_i7 {own : String} {i xi n : Nat} {x : MethodName} (h : q_dcl[xi]? = some x) (h1 : Cond.methodLink own i x ∈ lw_all ∨ Cond.methodLink own i x ∈ q_nar) (h2 : q_al (q_pV7 xi) (q_vtT.getD xi [])) : q_pIK own (i, 7, xi, n) := Or.inr ⟨x, h, h1, h2⟩
theorem q_i3 {own : String} {i a b : Nat} (h : Cond.methodLink own i Lib.objectInit ∈ lw_all) : q_pIK own (i, 3, a, b) := h
theorem q_i4 {own : String} {i a b : Nat} (h : Cond.methodLink own i arraycopyName ∈ lw_all) : q_pIK own (i, 4, a, b) := h
theorem q_i5 {own : String} {i a b : Nat} (h : Cond.methodLink own i ⟨"CaptainClaims$FormatException", "getCause", "()Ljava/lang/Throwable;"⟩ ∈ lw_all) : q_pIK own (i, 5, a, b) := h
theorem q_i6 {own : String} {i a b : Nat} (h : Cond.methodLink own i ⟨"[B", "clone", "()Ljava/lang/Object;"⟩ ∈ lw_all) : q_pIK own (i, 6, a, b) := h

theorem q_nar_ok : q_al (fun z => ∃ p : List Bool, q_pth (Cond.and given_1 narrow_1) p = some z) q_nar := q_al.c (⟨[true, true, true, true, true, false, true, false, false, false, false], rfl⟩) <| q_al.c (⟨[true, true, true, true, true, false, false, true, true, true, true, true], rfl⟩) <| q_al.c (⟨[true, true, true, true, true, false, false, true, true, false, true], rfl⟩) <| q_al.c (⟨[true, true, true, true, true, false, false, true, true, true, true, false], rfl⟩) <| q_al.c (⟨[true, true, true, true, true, false, false, false, true, true, false], rfl⟩) <| q_al.c (⟨[true, true, true, true, true, false, false, false, true, true, true], rfl⟩) <| q_al.c (⟨[true, true, true, true, true, false, false, true, false, false, false], rfl⟩) <| q_al.c (⟨[true, true, true, true, true, false, false, true, false, false, true], rfl⟩) <| q_al.c (⟨[true, true, true, true, true, false, false, true, false, true, false], rfl⟩) <| q_al.c (⟨[true, true, true, true, true, false, false, true, false, true, true], rfl⟩) <| q_al.c (⟨[true, true, true, true, true, false, false, true, true, false, false], rfl⟩) <| q_al.n
theorem q_evFL : q_al2 q_pFL q_own q_flT :=
  q_al2.c (q_al.n) <|
  q_al2.c (q_al.c (⟨"CaptainClaims", "CaptainClaims", "buffer", "[B", _, _, rfl, Or.inl q_w204, Or.inl rfl⟩) <| q_al.c (⟨"CaptainClaims", "CaptainClaims", "errorPosition", "I", _, _, rfl, Or.inl q_w207, Or.inl rfl⟩) <| q_al.c (⟨"CaptainClaims", "CaptainClaims", "undos", "Ljava/util/Deque;", _, _, rfl, Or.inl q_w209, Or.inl rfl⟩) <| q_al.c (⟨"CaptainClaims", "CaptainClaims", "saved", "[LCaptainClaims$Puzzle;", _, _, rfl, Or.inl q_w210, Or.inl rfl⟩) <| q_al.c (⟨"CaptainClaims", "CaptainClaims", "written", "Ljava/lang/String;", _, _, rfl, Or.inl q_w211, Or.inl rfl⟩) <| q_al.c (⟨"CaptainClaims", "CaptainClaims", "bufferLength", "I", _, _, rfl, Or.inl q_w205, Or.inl rfl⟩) <| q_al.c (⟨"CaptainClaims", "CaptainClaims", "parseError", "I", _, _, rfl, Or.inl q_w206, Or.inl rfl⟩) <| q_al.c (⟨"CaptainClaims", "CaptainClaims", "current", "LCaptainClaims$Puzzle;", _, _, rfl, Or.inl q_w208, Or.inl rfl⟩) <| q_al.c (⟨"CaptainClaims$FormatException", "CaptainClaims$FormatException", "position", "I", _, _, rfl, Or.inr ⟨_, q_w772, by decide⟩, Or.inl rfl⟩) <| q_al.c (⟨"CaptainClaims$Puzzle", "CaptainClaims$Puzzle", "captains", "LCaptainClaims$Register;", _, _, rfl, Or.inr ⟨_, q_w909, by decide⟩, Or.inl rfl⟩) <| q_al.c (⟨"CaptainClaims$Puzzle", "CaptainClaims$Puzzle", "rows", "I", _, _, rfl, Or.inr ⟨_, q_w878, by decide⟩, Or.inl rfl⟩) <| q_al.c (⟨"CaptainClaims$Puzzle", "CaptainClaims$Puzzle", "columns", "I", _, _, rfl, Or.inr ⟨_, q_w884, by decide⟩, Or.inl rfl⟩) <| q_al.c (⟨"CaptainClaims$Puzzle", "CaptainClaims$Puzzle", "statements", "Ljava/util/List;", _, _, rfl, Or.inr ⟨_, q_w912, by decide⟩, Or.inl rfl⟩) <| q_al.c (⟨"CaptainClaims$Puzzle", "CaptainClaims$Puzzle", "pieces", "I", _, _, rfl, Or.inr ⟨_, q_w900, by decide⟩, Or.inl rfl⟩) <| q_al.c (⟨"CaptainClaims$Puzzle", "CaptainClaims$Puzzle", "marks", "[LCaptainClaims$Mark;", _, _, rfl, Or.inr ⟨_, q_w886, by decide⟩, Or.inl rfl⟩) <| q_al.c (⟨"CaptainClaims$Puzzle", "CaptainClaims$Puzzle", "islandCount", "I", _, _, rfl, Or.inr ⟨_, q_w898, by decide⟩, Or.inl rfl⟩) <| q_al.c (⟨"CaptainClaims$Puzzle", "CaptainClaims$Puzzle", "islands", "[I", _, _, rfl, Or.inr ⟨_, q_w893, by decide⟩, Or.inl rfl⟩) <| q_al.c (⟨"CaptainClaims$Puzzle", "CaptainClaims$Puzzle", "sizes", "[I", _, _, rfl, Or.inr ⟨_, q_w896, by decide⟩, Or.inl rfl⟩) <| q_al.c (⟨"CaptainClaims$Puzzle", "CaptainClaims$Puzzle", "lower", "I", _, _, rfl, Or.inr ⟨_, q_w903, by decide⟩, Or.inl rfl⟩) <| q_al.c (⟨"CaptainClaims$Puzzle", "CaptainClaims$Puzzle", "upper", "I", _, _, rfl, Or.inr ⟨_, q_w906, by decide⟩, Or.inl rfl⟩) <| q_al.c (⟨"CaptainClaims$Puzzle", "CaptainClaims$Puzzle", "declarations", "[LCaptainClaims$Declaration;", _, _, rfl, Or.inr ⟨_, q_w916, by decide⟩, Or.inl rfl⟩) <| q_al.c (⟨"CaptainClaims$Statement", "CaptainClaims$Statement", "captain", "I", _, _, rfl, Or.inr ⟨_, q_w1412, by decide⟩, Or.inl rfl⟩) <| q_al.c (⟨"CaptainClaims$Statement", "CaptainClaims$Statement", "claim", "LCaptainClaims$Claim;", _, _, rfl, Or.inr ⟨_, q_w1415, by decide⟩, Or.inl rfl⟩) <| q_al.c (⟨"CaptainClaims$Census", "CaptainClaims$Census", "total", "I", _, _, rfl, Or.inr ⟨_, q_w2135, by decide⟩, Or.inl rfl⟩) <| q_al.c (⟨"CaptainClaims$Census", "CaptainClaims$Census", "at", "[I", _, _, rfl, Or.inr ⟨_, q_w2131, by decide⟩, Or.inl rfl⟩) <| q_al.c (⟨"CaptainClaims$Puzzle", "CaptainClaims$Puzzle", "isEmpty", "[Z", _, _, rfl, Or.inr ⟨_, q_w889, by decide⟩, Or.inl rfl⟩) <| q_al.c (⟨"CaptainClaims$Census", "CaptainClaims$Census", "lying", "[I", _, _, rfl, Or.inr ⟨_, q_w2133, by decide⟩, Or.inl rfl⟩) <| q_al.c (⟨"CaptainClaims$Census", "CaptainClaims$Census", "liars", "I", _, _, rfl, Or.inr ⟨_, q_w2137, by decide⟩, Or.inl rfl⟩) <| q_al.c (⟨"CaptainClaims$Mark", "CaptainClaims$Mark", "sign", "C", _, _, rfl, Or.inr ⟨_, q_w3374, by decide⟩, Or.inl rfl⟩) <| q_al.n) <|
  q_al2.c (q_al.c (⟨"CaptainClaimsModel", "CaptainClaimsModel", "h", "[I", _, _, rfl, Or.inl q_w2663, Or.inl rfl⟩) <| q_al.c (⟨"CaptainClaimsModel", "CaptainClaimsModel", "s", "[I", _, _, rfl, Or.inl q_w2664, Or.inl rfl⟩) <| q_al.c (⟨"CaptainClaimsModel", "CaptainClaimsModel", "stores", "[I", _, _, rfl, Or.inl q_w2665, Or.inl rfl⟩) <| q_al.c (⟨"CaptainClaimsModel", "CaptainClaimsModel", "isKept", "[Z", _, _, rfl, Or.inl q_w2667, Or.inl rfl⟩) <| q_al.c (⟨"CaptainClaimsModel", "CaptainClaimsModel", "island", "[I", _, _, rfl, Or.inl q_w2668, Or.inl rfl⟩) <| q_al.c (⟨"CaptainClaimsModel", "CaptainClaimsModel", "sizes", "[I", _, _, rfl, Or.inl q_w2669, Or.inl rfl⟩) <| q_al.c (⟨"CaptainClaimsModel", "CaptainClaimsModel", "open", "[I", _, _, rfl, Or.inl q_w2670, Or.inl rfl⟩) <| q_al.c (⟨"CaptainClaimsModel", "CaptainClaimsModel", "scenarios", "[I", _, _, rfl, Or.inl q_w2672, Or.inl rfl⟩) <| q_al.c (⟨"CaptainClaimsModel", "CaptainClaimsModel", "lying", "[I", _, _, rfl, Or.inl q_w2673, Or.inl rfl⟩) <| q_al.c (⟨"CaptainClaimsModel", "CaptainClaimsModel", "buffer", "[I", _, _, rfl, Or.inl q_w2676, Or.inl rfl⟩) <| q_al.c (⟨"CaptainClaimsModel", "CaptainClaimsModel", "errorPosition", "I", _, _, rfl, Or.inl q_w2679, Or.inl rfl⟩) <| q_al.c (⟨"CaptainClaimsModel", "CaptainClaimsModel", "text", "[I", _, _, rfl, Or.inl q_w2687, Or.inl rfl⟩) <| q_al.c (⟨"CaptainClaimsModel", "CaptainClaimsModel", "thrown", "I", _, _, rfl, Or.inl q_w2661, Or.inl rfl⟩) <| q_al.c (⟨"CaptainClaimsModel", "CaptainClaimsModel", "isLoaded", "Z", _, _, rfl, Or.inl q_w2662, Or.inl rfl⟩) <| q_al.c (⟨"CaptainClaimsModel", "CaptainClaimsModel", "islands", "I", _, _, rfl, Or.inl q_w2671, Or.inl rfl⟩) <| q_al.c (⟨"CaptainClaimsModel", "CaptainClaimsModel", "all", "I", _, _, rfl, Or.inl q_w2674, Or.inl rfl⟩) <| q_al.c (⟨"CaptainClaimsModel", "CaptainClaimsModel", "allLiars", "I", _, _, rfl, Or.inl q_w2675, Or.inl rfl⟩) <| q_al.c (⟨"CaptainClaimsModel", "CaptainClaimsModel", "buffered", "I", _, _, rfl, Or.inl q_w2677, Or.inl rfl⟩) <| q_al.c (⟨"CaptainClaimsModel", "CaptainClaimsModel", "parseError", "I", _, _, rfl, Or.inl q_w2678, Or.inl rfl⟩) <| q_al.c (⟨"CaptainClaimsModel", "CaptainClaimsModel", "length", "I", _, _, rfl, Or.inl q_w2680, Or.inl rfl⟩) <| q_al.c (⟨"CaptainClaimsModel", "CaptainClaimsModel", "next", "I", _, _, rfl, Or.inl q_w2681, Or.inl rfl⟩) <| q_al.c (⟨"CaptainClaimsModel", "CaptainClaimsModel", "from", "I", _, _, rfl, Or.inl q_w2682, Or.inl rfl⟩) <| q_al.c (⟨"CaptainClaimsModel", "CaptainClaimsModel", "sort", "I", _, _, rfl, Or.inl q_w2683, Or.inl rfl⟩) <| q_al.c (⟨"CaptainClaimsModel", "CaptainClaimsModel", "number", "I", _, _, rfl, Or.inl q_w2684, Or.inl rfl⟩) <| q_al.c (⟨"CaptainClaimsModel", "CaptainClaimsModel", "bad", "I", _, _, rfl, Or.inl q_w2685, Or.inl rfl⟩) <| q_al.c (⟨"CaptainClaimsModel", "CaptainClaimsModel", "badAt", "I", _, _, rfl, Or.inl q_w2686, Or.inl rfl⟩) <| q_al.c (⟨"CaptainClaimsModel", "CaptainClaimsModel", "changes", "I", _, _, rfl, Or.inl q_w2666, Or.inl rfl⟩) <| q_al.c (⟨"CaptainClaimsModel", "CaptainClaimsModel", "textLong", "I", _, _, rfl, Or.inl q_w2688, Or.inl rfl⟩) <| q_al.n) <|
  q_al2.c (q_al.c (⟨"java/util/ArrayDeque", "java/util/ArrayDeque", "elements", "[Ljava/lang/Object;", _, _, rfl, Or.inl q_w189, Or.inl rfl⟩) <| q_al.c (⟨"java/util/ArrayDeque", "java/util/ArrayDeque", "tail", "I", _, _, rfl, Or.inl q_w191, Or.inl rfl⟩) <| q_al.c (⟨"java/util/ArrayDeque", "java/util/ArrayDeque", "head", "I", _, _, rfl, Or.inl q_w190, Or.inl rfl⟩) <| q_al.n) <|
  q_al2.c (q_al.n) <|
  q_al2.c (q_al.n) <|
  q_al2.c (q_al.c (⟨"CaptainClaims$Parser", "CaptainClaims$Parser", "this$0", "LCaptainClaims;", _, _, rfl, Or.inl q_w399, Or.inl rfl⟩) <| q_al.c (⟨"CaptainClaims$Parser", "CaptainClaims$Parser", "token", "LCaptainClaims$Token;", _, _, rfl, Or.inl q_w396, Or.inl rfl⟩) <| q_al.c (⟨"CaptainClaims$Parser", "CaptainClaims$Parser", "word", "Ljava/lang/String;", _, _, rfl, Or.inl q_w397, Or.inl rfl⟩) <| q_al.c (⟨"CaptainClaims$Parser", "CaptainClaims$Parser", "length", "I", _, _, rfl, Or.inl q_w390, Or.inl rfl⟩) <| q_al.c (⟨"CaptainClaims$Parser", "CaptainClaims$Parser", "puzzle", "LCaptainClaims$Puzzle;", _, _, rfl, Or.inl q_w398, Or.inl rfl⟩) <| q_al.c (⟨"CaptainClaims", "CaptainClaims", "buffer", "[B", _, _, rfl, Or.inr ⟨_, q_w203, by decide⟩, Or.inl rfl⟩) <| q_al.c (⟨"CaptainClaims$Parser", "CaptainClaims$Parser", "to", "I", _, _, rfl, Or.inl q_w392, Or.inl rfl⟩) <| q_al.c (⟨"CaptainClaims$Parser", "CaptainClaims$Parser", "from", "I", _, _, rfl, Or.inl q_w391, Or.inl rfl⟩) <| q_al.c (⟨"CaptainClaims$Parser", "CaptainClaims$Parser", "value", "I", _, _, rfl, Or.inl q_w393, Or.inl rfl⟩) <| q_al.c (⟨"CaptainClaims$Puzzle", "CaptainClaims$Puzzle", "rows", "I", _, _, rfl, Or.inr ⟨_, q_w877, by decide⟩, Or.inl rfl⟩) <| q_al.c (⟨"CaptainClaims$Puzzle", "CaptainClaims$Puzzle", "columns", "I", _, _, rfl, Or.inr ⟨_, q_w883, by decide⟩, Or.inl rfl⟩) <| q_al.c (⟨"CaptainClaims$Puzzle", "CaptainClaims$Puzzle", "captains", "LCaptainClaims$Register;", _, _, rfl, Or.inr ⟨_, q_w910, by decide⟩, Or.inl rfl⟩) <| q_al.c (⟨"CaptainClaims$Parser", "CaptainClaims$Parser", "nodes", "I", _, _, rfl, Or.inl q_w394, Or.inl rfl⟩) <| q_al.c (⟨"CaptainClaims$Parser", "CaptainClaims$Parser", "depth", "I", _, _, rfl, Or.inl q_w395, Or.inl rfl⟩) <| q_al.c (⟨"CaptainClaims$JoinedClaim", "CaptainClaims$JoinedClaim", "parts", "Ljava/util/List;", _, _, rfl, Or.inl q_w1374, Or.inl rfl⟩) <| q_al.c (⟨"CaptainClaims$Puzzle", "CaptainClaims$Puzzle", "pieces", "I", _, _, rfl, Or.inr ⟨_, q_w901, by decide⟩, Or.inl rfl⟩) <| q_al.c (⟨"CaptainClaims$Puzzle", "CaptainClaims$Puzzle", "statements", "Ljava/util/List;", _, _, rfl, Or.inr ⟨_, q_w913, by decide⟩, Or.inl rfl⟩) <| q_al.c (⟨"CaptainClaims$Puzzle", "CaptainClaims$Puzzle", "isEmpty", "[Z", _, _, rfl, Or.inr ⟨_, q_w888, by decide⟩, Or.inl rfl⟩) <| q_al.c (⟨"CaptainClaims$Puzzle", "CaptainClaims$Puzzle", "declarations", "[LCaptainClaims$Declaration;", _, _, rfl, Or.inr ⟨_, q_w915, by decide⟩, Or.inl rfl⟩) <| q_al.c (⟨"CaptainClaims$Puzzle", "CaptainClaims$Puzzle", "lower", "I", _, _, rfl, Or.inr ⟨_, q_w904, by decide⟩, Or.inl rfl⟩) <| q_al.c (⟨"CaptainClaims$Puzzle", "CaptainClaims$Puzzle", "upper", "I", _, _, rfl, Or.inr ⟨_, q_w907, by decide⟩, Or.inl rfl⟩) <| q_al.n) <|
  q_al2.c (q_al.c (⟨"CaptainClaims$FormatException", "CaptainClaims$FormatException", "code", "I", _, _, rfl, Or.inl q_w770, Or.inl rfl⟩) <| q_al.c (⟨"CaptainClaims$FormatException", "CaptainClaims$FormatException", "position", "I", _, _, rfl, Or.inl q_w771, Or.inl rfl⟩) <| q_al.n) <|
  q_al2.c (q_al.n) <|
  q_al2.c (q_al.c (⟨"CaptainClaims$Register", "CaptainClaims$Register", "items", "Ljava/util/List;", _, _, rfl, Or.inl q_w834, Or.inl rfl⟩) <| q_al.n) <|
  q_al2.c (q_al.c (⟨"CaptainClaims$Puzzle", "CaptainClaims$Puzzle", "captains", "LCaptainClaims$Register;", _, _, rfl, Or.inl q_w908, Or.inl rfl⟩) <| q_al.c (⟨"CaptainClaims$Puzzle", "CaptainClaims$Puzzle", "statements", "Ljava/util/List;", _, _, rfl, Or.inl q_w911, Or.inl rfl⟩) <| q_al.c (⟨"CaptainClaims$Puzzle", "CaptainClaims$Puzzle", "declarations", "[LCaptainClaims$Declaration;", _, _, rfl, Or.inl q_w914, Or.inl rfl⟩) <| q_al.c (⟨"CaptainClaims$Puzzle", "CaptainClaims$Puzzle", "rows", "I", _, _, rfl, Or.inl q_w876, Or.inl rfl⟩) <| q_al.c (⟨"CaptainClaims$Puzzle", "CaptainClaims$Puzzle", "columns", "I", _, _, rfl, Or.inl q_w879, Or.inl rfl⟩) <| q_al.c (⟨"CaptainClaims$Puzzle", "CaptainClaims$Puzzle", "marks", "[LCaptainClaims$Mark;", _, _, rfl, Or.inl q_w885, Or.inl rfl⟩) <| q_al.c (⟨"CaptainClaims$Puzzle", "CaptainClaims$Puzzle", "isEmpty", "[Z", _, _, rfl, Or.inl q_w887, Or.inl rfl⟩) <| q_al.c (⟨"CaptainClaims$Puzzle", "CaptainClaims$Puzzle", "islands", "[I", _, _, rfl, Or.inl q_w892, Or.inl rfl⟩) <| q_al.c (⟨"CaptainClaims$Puzzle", "CaptainClaims$Puzzle", "sizes", "[I", _, _, rfl, Or.inl q_w895, Or.inl rfl⟩) <| q_al.c (⟨"CaptainClaims$Puzzle", "CaptainClaims$Puzzle", "islandCount", "I", _, _, rfl, Or.inl q_w897, Or.inl rfl⟩) <| q_al.c (⟨"CaptainClaims$Puzzle", "CaptainClaims$Puzzle", "pieces", "I", _, _, rfl, Or.inl q_w899, Or.inl rfl⟩) <| q_al.c (⟨"CaptainClaims$Puzzle", "CaptainClaims$Puzzle", "lower", "I", _, _, rfl, Or.inl q_w902, Or.inl rfl⟩) <| q_al.c (⟨"CaptainClaims$Puzzle", "CaptainClaims$Puzzle", "upper", "I", _, _, rfl, Or.inl q_w905, Or.inl rfl⟩) <| q_al.c (⟨"CaptainClaims$Statement", "CaptainClaims$Statement", "claim", "LCaptainClaims$Claim;", _, _, rfl, Or.inr ⟨_, q_w1414, by decide⟩, Or.inl rfl⟩) <| q_al.c (⟨"CaptainClaims$Statement", "CaptainClaims$Statement", "captain", "I", _, _, rfl, Or.inr ⟨_, q_w1411, by decide⟩, Or.inl rfl⟩) <| q_al.n) <|
  q_al2.c (q_al.c (⟨"java/util/ArrayList", "java/util/ArrayList", "elementData", "[Ljava/lang/Object;", _, _, rfl, Or.inl q_w819, Or.inl rfl⟩) <| q_al.c (⟨"java/util/ArrayList", "java/util/ArrayList", "size", "I", _, _, rfl, Or.inl q_w822, Or.inl rfl⟩) <| q_al.c (⟨"java/util/ArrayList", "java/util/AbstractList", "modCount", "I", _, _, rfl, Or.inl q_w826, Or.inr q_w825⟩) <| q_al.n) <|
  q_al2.c (q_al.c (⟨"java/lang/Integer", "java/lang/Integer", "value", "I", _, _, rfl, Or.inl q_w1580, Or.inl rfl⟩) <| q_al.n) <|
  q_al2.c (q_al.c (⟨"CaptainClaims$Captain", "CaptainClaims$Captain", "name", "Ljava/lang/String;", _, _, rfl, Or.inl q_w1135, Or.inl rfl⟩) <| q_al.n) <|
  q_al2.c (q_al.c (⟨"java/lang/String", "java/lang/String", "value", "[B", _, _, rfl, Or.inl q_w711, Or.inl rfl⟩) <| q_al.c (⟨"java/lang/String", "java/lang/String", "coder", "B", _, _, rfl, Or.inl q_w712, Or.inl rfl⟩) <| q_al.c (⟨"java/lang/String", "java/lang/String", "hash", "I", _, _, rfl, Or.inl q_w713, Or.inl rfl⟩) <| q_al.c (⟨"java/lang/String", "java/lang/String", "hashIsZero", "Z", _, _, rfl, Or.inl q_w714, Or.inl rfl⟩) <| q_al.c (⟨"java/lang/AbstractStringBuilder", "java/lang/AbstractStringBuilder", "maybeLatin1", "Z", _, _, rfl, Or.inl q_w464, Or.inl rfl⟩) <| q_al.n) <|
  q_al2.c (q_al.c (⟨"java/util/ArrayList$Itr", "java/util/ArrayList$Itr", "this$0", "Ljava/util/ArrayList;", _, _, rfl, Or.inl q_w1915, Or.inl rfl⟩) <| q_al.c (⟨"java/util/ArrayList$Itr", "java/util/ArrayList$Itr", "lastRet", "I", _, _, rfl, Or.inl q_w1913, Or.inl rfl⟩) <| q_al.c (⟨"java/util/ArrayList", "java/util/AbstractList", "modCount", "I", _, _, rfl, Or.inl q_w824, Or.inr q_w825⟩) <| q_al.c (⟨"java/util/ArrayList$Itr", "java/util/ArrayList$Itr", "expectedModCount", "I", _, _, rfl, Or.inl q_w1914, Or.inl rfl⟩) <| q_al.c (⟨"java/util/ArrayList$Itr", "java/util/ArrayList$Itr", "cursor", "I", _, _, rfl, Or.inl q_w1912, Or.inl rfl⟩) <| q_al.c (⟨"java/util/ArrayList", "java/util/ArrayList", "size", "I", _, _, rfl, Or.inr ⟨_, q_w821, by decide⟩, Or.inl rfl⟩) <| q_al.c (⟨"java/util/ArrayList", "java/util/ArrayList", "elementData", "[Ljava/lang/Object;", _, _, rfl, Or.inl q_w820, Or.inl rfl⟩) <| q_al.n) <|
  q_al2.c (q_al.c (⟨"CaptainClaims$JoinedClaim", "CaptainClaims$JoinedClaim", "parts", "Ljava/util/List;", _, _, rfl, Or.inl q_w1367, Or.inl rfl⟩) <| q_al.c (⟨"CaptainClaims$JoinedClaim", "CaptainClaims$JoinedClaim", "word", "Ljava/lang/String;", _, _, rfl, Or.inl q_w1366, Or.inl rfl⟩) <| q_al.n) <|
  q_al2.c (q_al.n) <|
  q_al2.c (q_al.c (⟨"CaptainClaims$BothClaim", "CaptainClaims$JoinedClaim", "parts", "Ljava/util/List;", _, _, rfl, Or.inl q_w1368, Or.inr q_w1369⟩) <| q_al.n) <|
  q_al2.c (q_al.n) <|
  q_al2.c (q_al.c (⟨"CaptainClaims$RangeClaim", "CaptainClaims$RangeClaim", "word", "Ljava/lang/String;", _, _, rfl, Or.inl q_w1260, Or.inl rfl⟩) <| q_al.c (⟨"CaptainClaims$RangeClaim", "CaptainClaims$RangeClaim", "low", "I", _, _, rfl, Or.inl q_w1261, Or.inl rfl⟩) <| q_al.c (⟨"CaptainClaims$RangeClaim", "CaptainClaims$RangeClaim", "high", "I", _, _, rfl, Or.inl q_w1262, Or.inl rfl⟩) <| q_al.n) <|
  q_al2.c (q_al.c (⟨"CaptainClaims$EitherClaim", "CaptainClaims$JoinedClaim", "parts", "Ljava/util/List;", _, _, rfl, Or.inl q_w1370, Or.inr q_w1371⟩) <| q_al.n) <|
  q_al2.c (q_al.c (⟨"CaptainClaims$HonestClaim", "CaptainClaims$HonestClaim", "captain", "I", _, _, rfl, Or.inl q_w1350, Or.inl rfl⟩) <| q_al.n) <|
  q_al2.c (q_al.c (⟨"CaptainClaims$NearClaim", "CaptainClaims$NearClaim", "row", "I", _, _, rfl, Or.inl q_w1295, Or.inl rfl⟩) <| q_al.c (⟨"CaptainClaims$NearClaim", "CaptainClaims$NearClaim", "column", "I", _, _, rfl, Or.inl q_w1296, Or.inl rfl⟩) <| q_al.c (⟨"CaptainClaims$NearClaim", "CaptainClaims$NearClaim", "distance", "I", _, _, rfl, Or.inl q_w1297, Or.inl rfl⟩) <| q_al.c (⟨"CaptainClaims$Puzzle", "CaptainClaims$Puzzle", "columns", "I", _, _, rfl, Or.inr ⟨_, q_w882, by decide⟩, Or.inl rfl⟩) <| q_al.n) <|
  q_al2.c (q_al.c (⟨"CaptainClaims$NotClaim", "CaptainClaims$JoinedClaim", "parts", "Ljava/util/List;", _, _, rfl, Or.inl q_w1372, Or.inr q_w1373⟩) <| q_al.n) <|
  q_al2.c (q_al.c (⟨"CaptainClaims$SameClaim", "CaptainClaims$SameClaim", "row", "I", _, _, rfl, Or.inl q_w1337, Or.inl rfl⟩) <| q_al.c (⟨"CaptainClaims$SameClaim", "CaptainClaims$SameClaim", "column", "I", _, _, rfl, Or.inl q_w1338, Or.inl rfl⟩) <| q_al.c (⟨"CaptainClaims$Puzzle", "CaptainClaims$Puzzle", "islands", "[I", _, _, rfl, Or.inr ⟨_, q_w890, by decide⟩, Or.inl rfl⟩) <| q_al.n) <|
  q_al2.c (q_al.c (⟨"CaptainClaims$Census", "CaptainClaims$Census", "lying", "[I", _, _, rfl, Or.inl q_w2132, Or.inl rfl⟩) <| q_al.c (⟨"CaptainClaims$Census", "CaptainClaims$Census", "at", "[I", _, _, rfl, Or.inl q_w2130, Or.inl rfl⟩) <| q_al.c (⟨"CaptainClaims$Census", "CaptainClaims$Census", "total", "I", _, _, rfl, Or.inl q_w2134, Or.inl rfl⟩) <| q_al.c (⟨"CaptainClaims$Census", "CaptainClaims$Census", "liars", "I", _, _, rfl, Or.inl q_w2136, Or.inl rfl⟩) <| q_al.n) <|
  q_al2.c (q_al.n) <|
  q_al2.c (q_al.c (⟨"CaptainClaims$Statement", "CaptainClaims$Statement", "captain", "I", _, _, rfl, Or.inl q_w1410, Or.inl rfl⟩) <| q_al.c (⟨"CaptainClaims$Statement", "CaptainClaims$Statement", "claim", "LCaptainClaims$Claim;", _, _, rfl, Or.inl q_w1413, Or.inl rfl⟩) <| q_al.n) <|
  q_al2.c (q_al.c (⟨"java/util/AbstractList", "java/util/AbstractList", "modCount", "I", _, _, rfl, Or.inl q_w823, Or.inl rfl⟩) <| q_al.n) <|
  q_al2.c (q_al.n) <|
  q_al2.c (q_al.n) <|
  q_al2.c (q_al.c (⟨"CaptainClaims$Puzzle", "CaptainClaims$Puzzle", "columns", "I", _, _, rfl, Or.inr ⟨_, q_w880, by decide⟩, Or.inl rfl⟩) <| q_al.n) <|
  q_al2.c (q_al.c (⟨"CaptainClaims$Puzzle", "CaptainClaims$Puzzle", "columns", "I", _, _, rfl, Or.inr ⟨_, q_w881, by decide⟩, Or.inl rfl⟩) <| q_al.n) <|
  q_al2.c (q_al.c (⟨"CaptainClaims$Puzzle", "CaptainClaims$Puzzle", "sizes", "[I", _, _, rfl, Or.inr ⟨_, q_w894, by decide⟩, Or.inl rfl⟩) <| q_al.c (⟨"CaptainClaims$Puzzle", "CaptainClaims$Puzzle", "islands", "[I", _, _, rfl, Or.inr ⟨_, q_w891, by decide⟩, Or.inl rfl⟩) <| q_al.n) <|
  q_al2.c (q_al.c (⟨"java/lang/AbstractStringBuilder", "java/lang/AbstractStringBuilder", "value", "[B", _, _, rfl, Or.inl q_w462, Or.inl rfl⟩) <| q_al.c (⟨"java/lang/AbstractStringBuilder", "java/lang/AbstractStringBuilder", "coder", "B", _, _, rfl, Or.inl q_w463, Or.inl rfl⟩) <| q_al.c (⟨"java/lang/AbstractStringBuilder", "java/lang/AbstractStringBuilder", "count", "I", _, _, rfl, Or.inl q_w465, Or.inl rfl⟩) <| q_al.n) <|
  q_al2.c (q_al.n) <|
  q_al2.c (q_al.n) <|
  q_al2.c (q_al.n) <|
  q_al2.c (q_al.n) <|
  q_al2.c (q_al.c (⟨"CaptainClaims$MisfitException", "CaptainClaims$MisfitException", "row", "I", _, _, rfl, Or.inl q_w1085, Or.inl rfl⟩) <| q_al.n) <|
  q_al2.c (q_al.c (⟨"java/lang/Throwable", "java/lang/Throwable", "cause", "Ljava/lang/Throwable;", _, _, rfl, Or.inl q_w308, Or.inl rfl⟩) <| q_al.c (⟨"java/lang/Throwable", "java/lang/Throwable", "stackTrace", "[Ljava/lang/StackTraceElement;", _, _, rfl, Or.inl q_w309, Or.inl rfl⟩) <| q_al.c (⟨"java/lang/Throwable", "java/lang/Throwable", "suppressedExceptions", "Ljava/util/List;", _, _, rfl, Or.inl q_w310, Or.inl rfl⟩) <| q_al.c (⟨"java/lang/Throwable", "java/lang/Throwable", "detailMessage", "Ljava/lang/String;", _, _, rfl, Or.inl q_w307, Or.inl rfl⟩) <| q_al.n) <|
  q_al2.c (q_al.n) <|
  q_al2.n
theorem q_evSL : q_al2 q_pSL q_own q_slT :=
  q_al2.c (q_al.n) <|
  q_al2.c (q_al.c (⟨"CaptainClaims$Mark", "SEA", "LCaptainClaims$Mark;", List.mem_of_getElem? (i := 10) rfl, Or.inl q_w1521⟩) <| q_al.c (⟨"CaptainClaims$Declaration", "TRUTHFUL", "LCaptainClaims$Declaration;", List.mem_of_getElem? (i := 13) rfl, Or.inl q_w1874⟩) <| q_al.c (⟨"CaptainClaims$Declaration", "LIAR", "LCaptainClaims$Declaration;", List.mem_of_getElem? (i := 14) rfl, Or.inl q_w1882⟩) <| q_al.c (⟨"CaptainClaims$Declaration", "NO", "LCaptainClaims$Declaration;", List.mem_of_getElem? (i := 12) rfl, Or.inl q_w2592⟩) <| q_al.n) <|
  q_al2.c (q_al.n) <|
  q_al2.c (q_al.n) <|
  q_al2.c (q_al.n) <|
  q_al2.c (q_al.n) <|
  q_al2.c (q_al.c (⟨"CaptainClaims$Token", "INVALID", "LCaptainClaims$Token;", List.mem_of_getElem? (i := 15) rfl, Or.inl q_w387⟩) <| q_al.c (⟨"CaptainClaims$Token", "WORD", "LCaptainClaims$Token;", List.mem_of_getElem? (i := 17) rfl, Or.inl q_w720⟩) <| q_al.c (⟨"CaptainClaims$Token", "NUMBER", "LCaptainClaims$Token;", List.mem_of_getElem? (i := 18) rfl, Or.inl q_w726⟩) <| q_al.c (⟨"CaptainClaims$Token", "MARKS", "LCaptainClaims$Token;", List.mem_of_getElem? (i := 19) rfl, Or.inl q_w735⟩) <| q_al.c (⟨"CaptainClaims$Token", "END", "LCaptainClaims$Token;", List.mem_of_getElem? (i := 16) rfl, Or.inl q_w437⟩) <| q_al.c (⟨"CaptainClaims$Token", "LINE_END", "LCaptainClaims$Token;", List.mem_of_getElem? (i := 20) rfl, Or.inl q_w737⟩) <| q_al.c (⟨"CaptainClaims$Declaration", "TRUTHFUL", "LCaptainClaims$Declaration;", List.mem_of_getElem? (i := 13) rfl, Or.inl q_w1421⟩) <| q_al.c (⟨"CaptainClaims$Declaration", "LIAR", "LCaptainClaims$Declaration;", List.mem_of_getElem? (i := 14) rfl, Or.inl q_w1423⟩) <| q_al.n) <|
  q_al2.c (q_al.n) <|
  q_al2.c (q_al.n) <|
  q_al2.c (q_al.n) <|
  q_al2.c (q_al.c (⟨"CaptainClaims$Mark", "UNKNOWN", "LCaptainClaims$Mark;", List.mem_of_getElem? (i := 9) rfl, Or.inl q_w844⟩) <| q_al.c (⟨"CaptainClaims$Declaration", "NO", "LCaptainClaims$Declaration;", List.mem_of_getElem? (i := 12) rfl, Or.inl q_w849⟩) <| q_al.c (⟨"CaptainClaims$Mark", "LAND", "LCaptainClaims$Mark;", List.mem_of_getElem? (i := 11) rfl, Or.inl q_w866⟩) <| q_al.c (⟨"CaptainClaims$Mark", "SEA", "LCaptainClaims$Mark;", List.mem_of_getElem? (i := 10) rfl, Or.inl q_w1533⟩) <| q_al.c (⟨"CaptainClaims$Declaration", "TRUTHFUL", "LCaptainClaims$Declaration;", List.mem_of_getElem? (i := 13) rfl, Or.inl q_w2152⟩) <| q_al.c (⟨"CaptainClaims$Declaration", "LIAR", "LCaptainClaims$Declaration;", List.mem_of_getElem? (i := 14) rfl, Or.inl q_w2154⟩) <| q_al.n) <|
  q_al2.c (q_al.c (⟨"java/util/ArrayList", "EMPTY_ELEMENTDATA", "[Ljava/lang/Object;", List.mem_of_getElem? (i := 5) rfl, Or.inl q_w809⟩) <| q_al.n) <|
  q_al2.c (q_al.c (⟨"java/lang/Integer", "DigitOnes", "[B", List.mem_of_getElem? (i := 3) rfl, Or.inl q_w631⟩) <| q_al.c (⟨"java/lang/Integer", "DigitTens", "[B", List.mem_of_getElem? (i := 4) rfl, Or.inl q_w633⟩) <| q_al.c (⟨"java/lang/Integer$IntegerCache", "high", "I", List.mem_of_getElem? (i := 1) rfl, Or.inl q_w1567⟩) <| q_al.c (⟨"java/lang/Integer$IntegerCache", "cache", "[Ljava/lang/Integer;", List.mem_of_getElem? (i := 2) rfl, Or.inl q_w1569⟩) <| q_al.n) <|
  q_al2.c (q_al.n) <|
  q_al2.c (q_al.c (⟨"java/lang/String", "COMPACT_STRINGS", "Z", List.mem_of_getElem? (i := 0) rfl, Or.inl q_w675⟩) <| q_al.c (⟨"jdk/internal/util/Preconditions", "SIOOBE_FORMATTER", "Ljava/util/function/BiFunction;", List.mem_of_getElem? (i := 6) rfl, Or.inl q_w544⟩) <| q_al.n) <|
  q_al2.c (q_al.n) <|
  q_al2.c (q_al.n) <|
  q_al2.c (q_al.n) <|
  q_al2.c (q_al.n) <|
  q_al2.c (q_al.n) <|
  q_al2.c (q_al.n) <|
  q_al2.c (q_al.n) <|
  q_al2.c (q_al.n) <|
  q_al2.c (q_al.n) <|
  q_al2.c (q_al.n) <|
  q_al2.c (q_al.n) <|
  q_al2.c (q_al.n) <|
  q_al2.c (q_al.n) <|
  q_al2.c (q_al.n) <|
  q_al2.c (q_al.n) <|
  q_al2.c (q_al.n) <|
  q_al2.c (q_al.n) <|
  q_al2.c (q_al.n) <|
  q_al2.c (q_al.n) <|
  q_al2.c (q_al.n) <|
  q_al2.c (q_al.c (⟨"java/lang/String", "COMPACT_STRINGS", "Z", List.mem_of_getElem? (i := 0) rfl, Or.inl q_w453⟩) <| q_al.n) <|
  q_al2.c (q_al.n) <|
  q_al2.c (q_al.n) <|
  q_al2.c (q_al.c (⟨"CaptainClaims$Mark", "UNKNOWN", "LCaptainClaims$Mark;", List.mem_of_getElem? (i := 9) rfl, Or.inl q_w1063⟩) <| q_al.c (⟨"CaptainClaims$Mark", "SEA", "LCaptainClaims$Mark;", List.mem_of_getElem? (i := 10) rfl, Or.inl q_w1061⟩) <| q_al.c (⟨"CaptainClaims$Mark", "LAND", "LCaptainClaims$Mark;", List.mem_of_getElem? (i := 11) rfl, Or.inl q_w1060⟩) <| q_al.n) <|
  q_al2.c (q_al.n) <|
  q_al2.c (q_al.n) <|
  q_al2.c (q_al.c (⟨"java/lang/Throwable", "UNASSIGNED_STACK", "[Ljava/lang/StackTraceElement;", List.mem_of_getElem? (i := 7) rfl, Or.inl q_w287⟩) <| q_al.c (⟨"java/lang/Throwable", "SUPPRESSED_SENTINEL", "Ljava/util/List;", List.mem_of_getElem? (i := 8) rfl, Or.inl q_w289⟩) <| q_al.n) <|
  q_al2.c (q_al.n) <|
  q_al2.n
theorem q_evCK : q_al2 q_pCK q_own q_ckT :=
  q_al2.c (q_al.n) <|
  q_al2.c (q_al.c (Or.inr (Or.inr ⟨_, _, rfl, by decide, List.mem_of_getElem? (i := 0) rfl⟩)) <| q_al.c (Or.inr (Or.inr ⟨_, _, rfl, by decide, List.mem_of_getElem? (i := 27) rfl⟩)) <| q_al.n) <|
  q_al2.c (q_al.c (Or.inr (Or.inr ⟨_, _, rfl, by decide, List.mem_of_getElem? (i := 37) rfl⟩)) <| q_al.c (Or.inr (Or.inr ⟨_, _, rfl, by decide, List.mem_of_getElem? (i := 38) rfl⟩)) <| q_al.c (Or.inr (Or.inr ⟨_, _, rfl, by decide, List.mem_of_getElem? (i := 39) rfl⟩)) <| q_al.c (Or.inr (Or.inr ⟨_, _, rfl, by decide, List.mem_of_getElem? (i := 40) rfl⟩)) <| q_al.c (Or.inr (Or.inr ⟨_, _, rfl, by decide, List.mem_of_getElem? (i := 41) rfl⟩)) <| q_al.c (Or.inr (Or.inr ⟨_, _, rfl, by decide, List.mem_of_getElem? (i := 42) rfl⟩)) <| q_al.c (Or.inr (Or.inr ⟨_, _, rfl, by decide, List.mem_of_getElem? (i := 43) rfl⟩)) <| q_al.c (Or.inr (Or.inr ⟨_, _, rfl, by decide, List.mem_of_getElem? (i := 44) rfl⟩)) <| q_al.c (Or.inr (Or.inr ⟨_, _, rfl, by decide, List.mem_of_getElem? (i := 45) rfl⟩)) <| q_al.c (Or.inr (Or.inr ⟨_, _, rfl, by decide, List.mem_of_getElem? (i := 46) rfl⟩)) <| q_al.c (Or.inr (Or.inr ⟨_, _, rfl, by decide, List.mem_of_getElem? (i := 34) rfl⟩)) <| q_al.c (Or.inr (Or.inr ⟨_, _, rfl, by decide, List.mem_of_getElem? (i := 35) rfl⟩)) <| q_al.c (Or.inr (Or.inr ⟨_, _, rfl, by decide, List.mem_of_getElem? (i := 36) rfl⟩)) <| q_al.c (Or.inr (Or.inr ⟨_, _, rfl, by decide, List.mem_of_getElem? (i := 47) rfl⟩)) <| q_al.c (Or.inr (Or.inr ⟨_, _, rfl, by decide, List.mem_of_getElem? (i := 48) rfl⟩)) <| q_al.c (Or.inr (Or.inr ⟨_, _, rfl, by decide, List.mem_of_getElem? (i := 33) rfl⟩)) <| q_al.c (Or.inr (Or.inl ⟨_, rfl, q_w3026⟩)) <| q_al.c (Or.inr (Or.inl ⟨_, rfl, q_w3283⟩)) <| q_al.n) <|
  q_al2.c (q_al.c (Or.inl ⟨_, rfl, q_w186⟩) <| q_al.n) <|
  q_al2.c (q_al.n) <|
  q_al2.c (q_al.n) <|
  q_al2.c (q_al.c (Or.inr (Or.inr ⟨_, _, rfl, by decide, List.mem_of_getElem? (i := 1) rfl⟩)) <| q_al.c (Or.inr (Or.inr ⟨_, _, rfl, by decide, List.mem_of_getElem? (i := 12) rfl⟩)) <| q_al.c (Or.inr (Or.inr ⟨_, _, rfl, by decide, List.mem_of_getElem? (i := 13) rfl⟩)) <| q_al.c (Or.inr (Or.inr ⟨_, _, rfl, by decide, List.mem_of_getElem? (i := 14) rfl⟩)) <| q_al.c (Or.inr (Or.inr ⟨_, _, rfl, by decide, List.mem_of_getElem? (i := 15) rfl⟩)) <| q_al.c (Or.inr (Or.inr ⟨_, _, rfl, by decide, List.mem_of_getElem? (i := 16) rfl⟩)) <| q_al.c (Or.inr (Or.inr ⟨_, _, rfl, by decide, List.mem_of_getElem? (i := 17) rfl⟩)) <| q_al.c (Or.inr (Or.inr ⟨_, _, rfl, by decide, List.mem_of_getElem? (i := 9) rfl⟩)) <| q_al.c (Or.inr (Or.inr ⟨_, _, rfl, by decide, List.mem_of_getElem? (i := 18) rfl⟩)) <| q_al.c (Or.inr (Or.inr ⟨_, _, rfl, by decide, List.mem_of_getElem? (i := 19) rfl⟩)) <| q_al.c (Or.inr (Or.inr ⟨_, _, rfl, by decide, List.mem_of_getElem? (i := 20) rfl⟩)) <| q_al.c (Or.inr (Or.inr ⟨_, _, rfl, by decide, List.mem_of_getElem? (i := 6) rfl⟩)) <| q_al.c (Or.inr (Or.inr ⟨_, _, rfl, by decide, List.mem_of_getElem? (i := 7) rfl⟩)) <| q_al.c (Or.inr (Or.inr ⟨_, _, rfl, by decide, List.mem_of_getElem? (i := 8) rfl⟩)) <| q_al.c (Or.inr (Or.inr ⟨_, _, rfl, by decide, List.mem_of_getElem? (i := 10) rfl⟩)) <| q_al.c (Or.inr (Or.inr ⟨_, _, rfl, by decide, List.mem_of_getElem? (i := 11) rfl⟩)) <| q_al.c (Or.inr (Or.inr ⟨_, _, rfl, by decide, List.mem_of_getElem? (i := 3) rfl⟩)) <| q_al.n) <|
  q_al2.c (q_al.n) <|
  q_al2.c (q_al.c (Or.inr (Or.inr ⟨_, _, rfl, by decide, List.mem_of_getElem? (i := 2) rfl⟩)) <| q_al.n) <|
  q_al2.c (q_al.n) <|
  q_al2.c (q_al.n) <|
  q_al2.c (q_al.c (Or.inr (Or.inr ⟨_, _, rfl, by decide, List.mem_of_getElem? (i := 4) rfl⟩)) <| q_al.n) <|
  q_al2.c (q_al.c (Or.inl ⟨_, rfl, q_w2158⟩) <| q_al.c (Or.inl ⟨_, rfl, q_w2159⟩) <| q_al.c (Or.inl ⟨_, rfl, q_w2160⟩) <| q_al.n) <|
  q_al2.c (q_al.n) <|
  q_al2.c (q_al.n) <|
  q_al2.c (q_al.n) <|
  q_al2.c (q_al.n) <|
  q_al2.c (q_al.n) <|
  q_al2.c (q_al.c (Or.inr (Or.inr ⟨_, _, rfl, by decide, List.mem_of_getElem? (i := 25) rfl⟩)) <| q_al.n) <|
  q_al2.c (q_al.c (Or.inr (Or.inr ⟨_, _, rfl, by decide, List.mem_of_getElem? (i := 28) rfl⟩)) <| q_al.n) <|
  q_al2.c (q_al.n) <|
  q_al2.c (q_al.c (Or.inr (Or.inr ⟨_, _, rfl, by decide, List.mem_of_getElem? (i := 26) rfl⟩)) <| q_al.n) <|
  q_al2.c (q_al.c (Or.inr (Or.inr ⟨_, _, rfl, by decide, List.mem_of_getElem? (i := 29) rfl⟩)) <| q_al.n) <|
  q_al2.c (q_al.c (Or.inr (Or.inr ⟨_, _, rfl, by decide, List.mem_of_getElem? (i := 30) rfl⟩)) <| q_al.n) <|
  q_al2.c (q_al.c (Or.inr (Or.inr ⟨_, _, rfl, by decide, List.mem_of_getElem? (i := 24) rfl⟩)) <| q_al.n) <|
  q_al2.c (q_al.c (Or.inr (Or.inr ⟨_, _, rfl, by decide, List.mem_of_getElem? (i := 31) rfl⟩)) <| q_al.n) <|
  q_al2.c (q_al.n) <|
  q_al2.c (q_al.n) <|
  q_al2.c (q_al.n) <|
  q_al2.c (q_al.n) <|
  q_al2.c (q_al.n) <|
  q_al2.c (q_al.n) <|
  q_al2.c (q_al.c (Or.inr (Or.inr ⟨_, _, rfl, by decide, List.mem_of_getElem? (i := 22) rfl⟩)) <| q_al.n) <|
  q_al2.c (q_al.c (Or.inr (Or.inr ⟨_, _, rfl, by decide, List.mem_of_getElem? (i := 21) rfl⟩)) <| q_al.n) <|
  q_al2.c (q_al.c (Or.inr (Or.inr ⟨_, _, rfl, by decide, List.mem_of_getElem? (i := 23) rfl⟩)) <| q_al.n) <|
  q_al2.c (q_al.n) <|
  q_al2.c (q_al.n) <|
  q_al2.c (q_al.n) <|
  q_al2.c (q_al.n) <|
  q_al2.c (q_al.n) <|
  q_al2.c (q_al.n) <|
  q_al2.c (q_al.n) <|
  q_al2.c (q_al.c (Or.inr (Or.inr ⟨_, _, rfl, by decide, List.mem_of_getElem? (i := 5) rfl⟩)) <| q_al.n) <|
  q_al2.n
theorem q_evTK : q_al2 q_pTK q_own q_tkT :=
  q_al2.c (q_al.c (⟨"java/lang/IndexOutOfBoundsException", rfl, q_w270⟩) <| q_al.c (⟨"java/lang/IllegalArgumentException", rfl, q_w348⟩) <| q_al.c (⟨"java/lang/IllegalStateException", rfl, q_w1463⟩) <| q_al.n) <|
  q_al2.c (q_al.c (⟨"java/lang/Comparable", rfl, q_w1593⟩) <| q_al.c (⟨"CaptainClaims$Puzzle", rfl, q_w200⟩) <| q_al.c (⟨"CaptainClaims$FormatException", rfl, q_w353⟩) <| q_al.c (⟨"CaptainClaims$Captain", rfl, q_w1839⟩) <| q_al.c (⟨"CaptainClaims$Statement", rfl, q_w1948⟩) <| q_al.c (⟨"CaptainClaims$MisfitException", rfl, q_w2472⟩) <| q_al.n) <|
  q_al2.c (q_al.n) <|
  q_al2.c (q_al.n) <|
  q_al2.c (q_al.n) <|
  q_al2.c (q_al.n) <|
  q_al2.c (q_al.c (⟨"CaptainClaims$NotClaim", rfl, q_w1354⟩) <| q_al.c (⟨"CaptainClaims$BothClaim", rfl, q_w1386⟩) <| q_al.c (⟨"CaptainClaims$EitherClaim", rfl, q_w1396⟩) <| q_al.c (⟨"CaptainClaims$MisfitException", rfl, q_w1040⟩) <| q_al.n) <|
  q_al2.c (q_al.c (⟨"CaptainClaims$MisfitException", rfl, q_w1441⟩) <| q_al.n) <|
  q_al2.c (q_al.c (⟨"[B", rfl, q_w510⟩) <| q_al.n) <|
  q_al2.c (q_al.c (⟨"CaptainClaims$Named", rfl, q_w1117⟩) <| q_al.n) <|
  q_al2.c (q_al.c (⟨"CaptainClaims$Statement", rfl, q_w2170⟩) <| q_al.n) <|
  q_al2.c (q_al.n) <|
  q_al2.c (q_al.c (⟨"java/lang/Integer", rfl, q_w1571⟩) <| q_al.n) <|
  q_al2.c (q_al.n) <|
  q_al2.c (q_al.c (⟨"java/lang/String", rfl, q_w744⟩) <| q_al.n) <|
  q_al2.c (q_al.n) <|
  q_al2.c (q_al.c (⟨"CaptainClaims$Claim", rfl, q_w2401⟩) <| q_al.n) <|
  q_al2.c (q_al.c (⟨"CaptainClaims$Claim", rfl, q_w1987⟩) <| q_al.n) <|
  q_al2.c (q_al.c (⟨"CaptainClaims$Claim", rfl, q_w2034⟩) <| q_al.n) <|
  q_al2.c (q_al.n) <|
  q_al2.c (q_al.n) <|
  q_al2.c (q_al.c (⟨"CaptainClaims$Claim", rfl, q_w2069⟩) <| q_al.n) <|
  q_al2.c (q_al.n) <|
  q_al2.c (q_al.n) <|
  q_al2.c (q_al.c (⟨"CaptainClaims$Claim", rfl, q_w2095⟩) <| q_al.n) <|
  q_al2.c (q_al.n) <|
  q_al2.c (q_al.n) <|
  q_al2.c (q_al.n) <|
  q_al2.c (q_al.n) <|
  q_al2.c (q_al.n) <|
  q_al2.c (q_al.n) <|
  q_al2.c (q_al.n) <|
  q_al2.c (q_al.n) <|
  q_al2.c (q_al.n) <|
  q_al2.c (q_al.n) <|
  q_al2.c (q_al.n) <|
  q_al2.c (q_al.n) <|
  q_al2.c (q_al.n) <|
  q_al2.c (q_al.n) <|
  q_al2.c (q_al.n) <|
  q_al2.c (q_al.n) <|
  q_al2.c (q_al.n) <|
  q_al2.c (q_al.c (⟨"[B", rfl, q_w967⟩) <| q_al.c (⟨"[C", rfl, q_w987⟩) <| q_al.c (⟨"[S", rfl, q_w994⟩) <| q_al.c (⟨"[I", rfl, q_w998⟩) <| q_al.n) <|
  q_al2.n
theorem q_evAN : q_al2 q_pAN q_own q_anT :=
  q_al2.c (q_al.n) <|
  q_al2.c (q_al.c (⟨"CaptainClaims$Puzzle", q_w200, q_w201, rfl, by decide, by decide⟩) <| q_al.n) <|
  q_al2.c (q_al.n) <|
  q_al2.c (q_al.c (⟨"java/lang/Object", q_w187, q_w188, rfl, by decide, by decide⟩) <| q_al.n) <|
  q_al2.c (q_al.n) <|
  q_al2.c (q_al.n) <|
  q_al2.c (q_al.n) <|
  q_al2.c (q_al.n) <|
  q_al2.c (q_al.n) <|
  q_al2.c (q_al.n) <|
  q_al2.c (q_al.c (⟨"CaptainClaims$Declaration", q_w840, q_w841, rfl, by decide, by decide⟩) <| q_al.c (⟨"CaptainClaims$Mark", q_w842, q_w843, rfl, by decide, by decide⟩) <| q_al.n) <|
  q_al2.c (q_al.c (⟨"java/lang/Object", q_w808, q_w188, rfl, by decide, by decide⟩) <| q_al.n) <|
  q_al2.c (q_al.n) <|
  q_al2.c (q_al.n) <|
  q_al2.c (q_al.n) <|
  q_al2.c (q_al.n) <|
  q_al2.c (q_al.n) <|
  q_al2.c (q_al.n) <|
  q_al2.c (q_al.n) <|
  q_al2.c (q_al.n) <|
  q_al2.c (q_al.n) <|
  q_al2.c (q_al.n) <|
  q_al2.c (q_al.n) <|
  q_al2.c (q_al.n) <|
  q_al2.c (q_al.n) <|
  q_al2.c (q_al.n) <|
  q_al2.c (q_al.n) <|
  q_al2.c (q_al.n) <|
  q_al2.c (q_al.n) <|
  q_al2.c (q_al.n) <|
  q_al2.c (q_al.n) <|
  q_al2.c (q_al.n) <|
  q_al2.c (q_al.n) <|
  q_al2.c (q_al.n) <|
  q_al2.c (q_al.n) <|
  q_al2.c (q_al.n) <|
  q_al2.c (q_al.n) <|
  q_al2.c (q_al.n) <|
  q_al2.c (q_al.n) <|
  q_al2.c (q_al.n) <|
  q_al2.c (q_al.n) <|
  q_al2.c (q_al.n) <|
  q_al2.c (q_al.n) <|
  q_al2.n
theorem q_evNW : q_al2 q_pNW q_own q_nwT :=
  q_al2.c (q_al.c (⟨"CaptainClaims", rfl, q_w169, q_w113, fun fs hfs => ⟨_, rfl, q_w170⟩⟩) <| q_al.c (⟨"CaptainClaimsModel", rfl, q_w2655, q_w116, fun fs hfs => ⟨_, rfl, q_w2656⟩⟩) <| q_al.n) <|
  q_al2.c (q_al.c (⟨"java/util/ArrayDeque", rfl, q_w177, q_w115, fun fs hfs => ⟨_, rfl, q_w178⟩⟩) <| q_al.c (⟨"CaptainClaims$Puzzle", rfl, q_w200, q_w140, fun fs hfs => ⟨_, rfl, q_w788⟩⟩) <| q_al.c (⟨"CaptainClaims$Parser", rfl, q_w381, q_w123, fun fs hfs => ⟨_, rfl, q_w382⟩⟩) <| q_al.c (⟨"java/lang/IllegalArgumentException", rfl, q_w1442, q_w135, fun fs hfs => nomatch hfs⟩) <| q_al.c (⟨"java/lang/IndexOutOfBoundsException", rfl, q_w360, q_w120, fun fs hfs => nomatch hfs⟩) <| q_al.c (⟨"java/lang/IllegalStateException", rfl, q_w1472, q_w161, fun fs hfs => nomatch hfs⟩) <| q_al.c (⟨"java/util/ArrayList", rfl, q_w1562, q_w143, fun fs hfs => ⟨_, rfl, q_w800⟩⟩) <| q_al.c (⟨"CaptainClaims$Statement", rfl, q_w1948, q_w148, fun fs hfs => ⟨_, rfl, q_w1224⟩⟩) <| q_al.c (⟨"java/lang/StringBuilder", rfl, q_w2366, q_w127, fun fs hfs => ⟨_, rfl, q_w445⟩⟩) <| q_al.n) <|
  q_al2.c (q_al.n) <|
  q_al2.c (q_al.n) <|
  q_al2.c (q_al.n) <|
  q_al2.c (q_al.n) <|
  q_al2.c (q_al.c (⟨"java/lang/StringBuilder", rfl, q_w444, q_w127, fun fs hfs => ⟨_, rfl, q_w445⟩⟩) <| q_al.c (⟨"CaptainClaims$FormatException", rfl, q_w752, q_w139, fun fs hfs => ⟨_, rfl, q_w753⟩⟩) <| q_al.c (⟨"CaptainClaims$Puzzle", rfl, q_w787, q_w140, fun fs hfs => ⟨_, rfl, q_w788⟩⟩) <| q_al.c (⟨"CaptainClaims$CoastClaim", rfl, q_w1320, q_w154, fun fs hfs => ⟨_, rfl, q_w1321⟩⟩) <| q_al.c (⟨"CaptainClaims$HonestClaim", rfl, q_w1344, q_w156, fun fs hfs => ⟨_, rfl, q_w1345⟩⟩) <| q_al.c (⟨"CaptainClaims$NotClaim", rfl, q_w1354, q_w158, fun fs hfs => ⟨_, rfl, q_w1355⟩⟩) <| q_al.c (⟨"CaptainClaims$BothClaim", rfl, q_w1386, q_w159, fun fs hfs => ⟨_, rfl, q_w1387⟩⟩) <| q_al.c (⟨"CaptainClaims$EitherClaim", rfl, q_w1396, q_w160, fun fs hfs => ⟨_, rfl, q_w1397⟩⟩) <| q_al.c (⟨"CaptainClaims$RowClaim", rfl, q_w1250, q_w150, fun fs hfs => ⟨_, rfl, q_w1251⟩⟩) <| q_al.c (⟨"CaptainClaims$ColumnClaim", rfl, q_w1274, q_w151, fun fs hfs => ⟨_, rfl, q_w1275⟩⟩) <| q_al.c (⟨"CaptainClaims$SizeClaim", rfl, q_w1309, q_w153, fun fs hfs => ⟨_, rfl, q_w1310⟩⟩) <| q_al.c (⟨"CaptainClaims$NearClaim", rfl, q_w1289, q_w152, fun fs hfs => ⟨_, rfl, q_w1290⟩⟩) <| q_al.c (⟨"CaptainClaims$SameClaim", rfl, q_w1331, q_w155, fun fs hfs => ⟨_, rfl, q_w1332⟩⟩) <| q_al.c (⟨"CaptainClaims$Captain", rfl, q_w1129, q_w147, fun fs hfs => ⟨_, rfl, q_w1130⟩⟩) <| q_al.c (⟨"CaptainClaims$Statement", rfl, q_w1223, q_w148, fun fs hfs => ⟨_, rfl, q_w1224⟩⟩) <| q_al.n) <|
  q_al2.c (q_al.n) <|
  q_al2.c (q_al.c (⟨"java/lang/IllegalArgumentException", rfl, q_w605, q_w135, fun fs hfs => nomatch hfs⟩) <| q_al.c (⟨"java/lang/StringBuilder", rfl, q_w614, q_w127, fun fs hfs => ⟨_, rfl, q_w445⟩⟩) <| q_al.n) <|
  q_al2.c (q_al.c (⟨"java/util/ArrayList", rfl, q_w799, q_w143, fun fs hfs => ⟨_, rfl, q_w800⟩⟩) <| q_al.n) <|
  q_al2.c (q_al.c (⟨"CaptainClaims$Register", rfl, q_w793, q_w141, fun fs hfs => ⟨_, rfl, q_w794⟩⟩) <| q_al.c (⟨"java/util/ArrayList", rfl, q_w838, q_w143, fun fs hfs => ⟨_, rfl, q_w800⟩⟩) <| q_al.c (⟨"CaptainClaims$MisfitException", rfl, q_w1072, q_w145, fun fs hfs => ⟨_, rfl, q_w1073⟩⟩) <| q_al.c (⟨"CaptainClaims$Census", rfl, q_w2124, q_w168, fun fs hfs => ⟨_, rfl, q_w2125⟩⟩) <| q_al.n) <|
  q_al2.c (q_al.c (⟨"java/lang/IllegalArgumentException", rfl, q_w811, q_w135, fun fs hfs => nomatch hfs⟩) <| q_al.c (⟨"java/lang/StringBuilder", rfl, q_w812, q_w127, fun fs hfs => ⟨_, rfl, q_w445⟩⟩) <| q_al.c (⟨"java/util/ArrayList$Itr", rfl, q_w1906, q_w166, fun fs hfs => ⟨_, rfl, q_w1907⟩⟩) <| q_al.n) <|
  q_al2.c (q_al.c (⟨"java/lang/Integer", rfl, q_w1571, q_w137, fun fs hfs => ⟨_, rfl, q_w1572⟩⟩) <| q_al.n) <|
  q_al2.c (q_al.n) <|
  q_al2.c (q_al.n) <|
  q_al2.c (q_al.n) <|
  q_al2.c (q_al.c (⟨"java/util/ArrayList", rfl, q_w1364, q_w143, fun fs hfs => ⟨_, rfl, q_w800⟩⟩) <| q_al.n) <|
  q_al2.c (q_al.n) <|
  q_al2.c (q_al.n) <|
  q_al2.c (q_al.n) <|
  q_al2.c (q_al.n) <|
  q_al2.c (q_al.n) <|
  q_al2.c (q_al.n) <|
  q_al2.c (q_al.n) <|
  q_al2.c (q_al.n) <|
  q_al2.c (q_al.n) <|
  q_al2.c (q_al.n) <|
  q_al2.c (q_al.c (⟨"java/lang/String", rfl, q_w574, q_w122, fun fs hfs => ⟨_, rfl, q_w343⟩⟩) <| q_al.n) <|
  q_al2.c (q_al.n) <|
  q_al2.c (q_al.n) <|
  q_al2.c (q_al.n) <|
  q_al2.c (q_al.n) <|
  q_al2.c (q_al.n) <|
  q_al2.c (q_al.n) <|
  q_al2.c (q_al.n) <|
  q_al2.c (q_al.n) <|
  q_al2.c (q_al.n) <|
  q_al2.c (q_al.n) <|
  q_al2.c (q_al.n) <|
  q_al2.c (q_al.n) <|
  q_al2.c (q_al.n) <|
  q_al2.c (q_al.n) <|
  q_al2.c (q_al.c (⟨"java/lang/IllegalArgumentException", rfl, q_w1002, q_w135, fun fs hfs => nomatch hfs⟩) <| q_al.c (⟨"java/lang/StringBuilder", rfl, q_w1003, q_w127, fun fs hfs => ⟨_, rfl, q_w445⟩⟩) <| q_al.n) <|
  q_al2.n
theorem q_cde1 : q_cde q_m1 := Or.inl ⟨rfl, q_w173⟩
theorem q_cde2 : q_cde q_m2 := Or.inl ⟨rfl, q_w2659⟩
theorem q_cde3 : q_cde q_m3 := Or.inl ⟨rfl, q_w232⟩
theorem q_cde4 : q_cde q_m4 := Or.inl ⟨rfl, q_w2753⟩
theorem q_cde5 : q_cde q_m5 := Or.inr ⟨List.cons_ne_nil _ _, q_w269⟩
theorem q_cde6 : q_cde q_m6 := Or.inl ⟨rfl, q_w2769⟩
theorem q_cde7 : q_cde q_m7 := Or.inl ⟨rfl, q_w2749⟩
theorem q_cde8 : q_cde q_m8 := Or.inl ⟨rfl, q_w241⟩
theorem q_cde9 : q_cde q_m9 := Or.inl ⟨rfl, q_w2761⟩
theorem q_cde10 : q_cde q_m10 := Or.inl ⟨rfl, q_w245⟩
theorem q_cde11 : q_cde q_m11 := Or.inl ⟨rfl, q_w2765⟩
theorem q_cde12 : q_cde q_m12 := Or.inl ⟨rfl, q_w249⟩
theorem q_cde13 : q_cde q_m13 := Or.inl ⟨rfl, q_w2757⟩
theorem q_cde14 : q_cde q_m14 := Or.inr ⟨List.cons_ne_nil _ _, q_w1462⟩
theorem q_cde15 : q_cde q_m15 := Or.inl ⟨rfl, q_w2945⟩
theorem q_cde16 : q_cde q_m16 := Or.inr ⟨List.cons_ne_nil _ _, q_w1489⟩
theorem q_cde17 : q_cde q_m17 := Or.inl ⟨rfl, q_w2957⟩
theorem q_cde18 : q_cde q_m18 := Or.inr ⟨List.cons_ne_nil _ _, q_w1496⟩
theorem q_cde19 : q_cde q_m19 := Or.inl ⟨rfl, q_w2961⟩
theorem q_cde20 : q_cde q_m20 := Or.inr ⟨List.cons_ne_nil _ _, q_w1503⟩
theorem q_cde21 : q_cde q_m21 := Or.inl ⟨rfl, q_w2965⟩
theorem q_cde22 : q_cde q_m22 := Or.inr ⟨List.cons_ne_nil _ _, q_w1516⟩
theorem q_cde23 : q_cde q_m23 := Or.inl ⟨rfl, q_w2973⟩
theorem q_cde24 : q_cde q_m24 := Or.inr ⟨List.cons_ne_nil _ _, q_w1524⟩
theorem q_cde25 : q_cde q_m25 := Or.inl ⟨rfl, q_w2977⟩
theorem q_cde26 : q_cde q_m26 := Or.inr ⟨List.cons_ne_nil _ _, q_w1536⟩
theorem q_cde27 : q_cde q_m27 := Or.inl ⟨rfl, q_w2989⟩
theorem q_cde28 : q_cde q_m28 := Or.inr ⟨List.cons_ne_nil _ _, q_w1543⟩
theorem q_cde29 : q_cde q_m29 := Or.inl ⟨rfl, q_w3005⟩
theorem q_cde30 : q_cde q_m30 := Or.inr ⟨List.cons_ne_nil _ _, q_w1550⟩
theorem q_cde31 : q_cde q_m31 := Or.inl ⟨rfl, q_w3009⟩
theorem q_cde32 : q_cde q_m32 := Or.inr ⟨List.cons_ne_nil _ _, q_w1557⟩
theorem q_cde33 : q_cde q_m33 := Or.inl ⟨rfl, q_w3013⟩
theorem q_cde34 : q_cde q_m34 := Or.inr ⟨List.cons_ne_nil _ _, q_w1819⟩
theorem q_cde35 : q_cde q_m35 := Or.inl ⟨rfl, q_w3017⟩
theorem q_cde36 : q_cde q_m36 := Or.inr ⟨List.cons_ne_nil _ _, q_w1826⟩
theorem q_cde37 : q_cde q_m37 := Or.inl ⟨rfl, q_w3021⟩
theorem q_cde38 : q_cde q_m38 := Or.inr ⟨List.cons_ne_nil _ _, q_w1855⟩
theorem q_cde39 : q_cde q_m39 := Or.inl ⟨rfl, q_w3030⟩
theorem q_cde40 : q_cde q_m40 := Or.inr ⟨List.cons_ne_nil _ _, q_w1862⟩
theorem q_cde41 : q_cde q_m41 := Or.inl ⟨rfl, q_w3034⟩
theorem q_cde42 : q_cde q_m42 := Or.inr ⟨List.cons_ne_nil _ _, q_w1869⟩
theorem q_cde43 : q_cde q_m43 := Or.inl ⟨rfl, q_w3038⟩
theorem q_cde44 : q_cde q_m44 := Or.inr ⟨List.cons_ne_nil _ _, q_w1877⟩
theorem q_cde45 : q_cde q_m45 := Or.inl ⟨rfl, q_w3042⟩
theorem q_cde46 : q_cde q_m46 := Or.inr ⟨List.cons_ne_nil _ _, q_w1885⟩
theorem q_cde47 : q_cde q_m47 := Or.inl ⟨rfl, q_w3046⟩
theorem q_cde48 : q_cde q_m48 := Or.inr ⟨List.cons_ne_nil _ _, q_w1892⟩
theorem q_cde49 : q_cde q_m49 := Or.inl ⟨rfl, q_w3050⟩
theorem q_cde50 : q_cde q_m50 := Or.inr ⟨List.cons_ne_nil _ _, q_w1954⟩
theorem q_cde51 : q_cde q_m51 := Or.inl ⟨rfl, q_w3054⟩
theorem q_cde52 : q_cde q_m52 := Or.inr ⟨List.cons_ne_nil _ _, q_w1965⟩
theorem q_cde53 : q_cde q_m53 := Or.inl ⟨rfl, q_w3062⟩
theorem q_cde54 : q_cde q_m54 := Or.inr ⟨List.cons_ne_nil _ _, q_w2015⟩
theorem q_cde55 : q_cde q_m55 := Or.inl ⟨rfl, q_w3066⟩
theorem q_cde56 : q_cde q_m56 := Or.inr ⟨List.cons_ne_nil _ _, q_w2111⟩
theorem q_cde57 : q_cde q_m57 := Or.inl ⟨rfl, q_w3079⟩
theorem q_cde58 : q_cde q_m58 := Or.inr ⟨List.cons_ne_nil _ _, q_w2182⟩
theorem q_cde59 : q_cde q_m59 := Or.inl ⟨rfl, q_w3102⟩
theorem q_cde60 : q_cde q_m60 := Or.inr ⟨List.cons_ne_nil _ _, q_w2189⟩
theorem q_cde61 : q_cde q_m61 := Or.inl ⟨rfl, q_w3106⟩
theorem q_cde62 : q_cde q_m62 := Or.inr ⟨List.cons_ne_nil _ _, q_w2204⟩
theorem q_cde63 : q_cde q_m63 := Or.inl ⟨rfl, q_w3114⟩
theorem q_cde64 : q_cde q_m64 := Or.inr ⟨List.cons_ne_nil _ _, q_w2212⟩
theorem q_cde65 : q_cde q_m65 := Or.inl ⟨rfl, q_w3118⟩
theorem q_cde66 : q_cde q_m66 := Or.inr ⟨List.cons_ne_nil _ _, q_w2219⟩
theorem q_cde67 : q_cde q_m67 := Or.inl ⟨rfl, q_w3122⟩
theorem q_cde68 : q_cde q_m68 := Or.inr ⟨List.cons_ne_nil _ _, q_w2226⟩
theorem q_cde69 : q_cde q_m69 := Or.inl ⟨rfl, q_w3126⟩
theorem q_cde70 : q_cde q_m70 := Or.inr ⟨List.cons_ne_nil _ _, q_w2233⟩
theorem q_cde71 : q_cde q_m71 := Or.inl ⟨rfl, q_w3130⟩
theorem q_cde72 : q_cde q_m72 := Or.inr ⟨List.cons_ne_nil _ _, q_w2240⟩
theorem q_cde73 : q_cde q_m73 := Or.inl ⟨rfl, q_w3134⟩
theorem q_cde74 : q_cde q_m74 := Or.inr ⟨List.cons_ne_nil _ _, q_w2254⟩
theorem q_cde75 : q_cde q_m75 := Or.inl ⟨rfl, q_w3142⟩
theorem q_cde76 : q_cde q_m76 := Or.inr ⟨List.cons_ne_nil _ _, q_w2261⟩
theorem q_cde77 : q_cde q_m77 := Or.inl ⟨rfl, q_w3146⟩
theorem q_cde78 : q_cde q_m78 := Or.inr ⟨List.cons_ne_nil _ _, q_w2268⟩
theorem q_cde79 : q_cde q_m79 := Or.inl ⟨rfl, q_w3150⟩
theorem q_cde80 : q_cde q_m80 := Or.inr ⟨List.cons_ne_nil _ _, q_w2279⟩
theorem q_cde81 : q_cde q_m81 := Or.inl ⟨rfl, q_w3158⟩
theorem q_cde82 : q_cde q_m82 := Or.inr ⟨List.cons_ne_nil _ _, q_w2286⟩
theorem q_cde83 : q_cde q_m83 := Or.inl ⟨rfl, q_w3162⟩
theorem q_cde84 : q_cde q_m84 := Or.inr ⟨List.cons_ne_nil _ _, q_w2310⟩
theorem q_cde85 : q_cde q_m85 := Or.inl ⟨rfl, q_w3170⟩
theorem q_cde86 : q_cde q_m86 := Or.inr ⟨List.cons_ne_nil _ _, q_w2317⟩
theorem q_cde87 : q_cde q_m87 := Or.inl ⟨rfl, q_w3174⟩
theorem q_cde88 : q_cde q_m88 := Or.inr ⟨List.cons_ne_nil _ _, q_w2325⟩
theorem q_cde89 : q_cde q_m89 := Or.inl ⟨rfl, q_w3178⟩
theorem q_cde90 : q_cde q_m90 := Or.inr ⟨List.cons_ne_nil _ _, q_w2332⟩
theorem q_cde91 : q_cde q_m91 := Or.inl ⟨rfl, q_w3183⟩
theorem q_cde92 : q_cde q_m92 := Or.inr ⟨List.cons_ne_nil _ _, q_w2339⟩
theorem q_cde93 : q_cde q_m93 := Or.inl ⟨rfl, q_w3187⟩
theorem q_cde94 : q_cde q_m94 := Or.inr ⟨List.cons_ne_nil _ _, q_w2347⟩
theorem q_cde95 : q_cde q_m95 := Or.inl ⟨rfl, q_w3196⟩
theorem q_cde96 : q_cde q_m96 := Or.inr ⟨List.cons_ne_nil _ _, q_w2354⟩
theorem q_cde97 : q_cde q_m97 := Or.inl ⟨rfl, q_w3200⟩
theorem q_cde98 : q_cde q_m98 := Or.inr ⟨List.cons_ne_nil _ _, q_w2361⟩
theorem q_cde99 : q_cde q_m99 := Or.inl ⟨rfl, q_w3204⟩
theorem q_cde100 : q_cde q_m100 := Or.inr ⟨List.cons_ne_nil _ _, q_w2379⟩
theorem q_cde101 : q_cde q_m101 := Or.inl ⟨rfl, q_w3212⟩
theorem q_cde102 : q_cde q_m102 := Or.inr ⟨List.cons_ne_nil _ _, q_w2453⟩
theorem q_cde103 : q_cde q_m103 := Or.inl ⟨rfl, q_w3234⟩
theorem q_cde104 : q_cde q_m104 := Or.inr ⟨List.cons_ne_nil _ _, q_w2460⟩
theorem q_cde105 : q_cde q_m105 := Or.inl ⟨rfl, q_w3238⟩
theorem q_cde106 : q_cde q_m106 := Or.inr ⟨List.cons_ne_nil _ _, q_w2467⟩
theorem q_cde107 : q_cde q_m107 := Or.inl ⟨rfl, q_w3242⟩
theorem q_cde108 : q_cde q_m108 := Or.inr ⟨List.cons_ne_nil _ _, q_w2532⟩
theorem q_cde109 : q_cde q_m109 := Or.inl ⟨rfl, q_w3254⟩
theorem q_cde110 : q_cde q_m110 := Or.inr ⟨List.cons_ne_nil _ _, q_w2548⟩
theorem q_cde111 : q_cde q_m111 := Or.inl ⟨rfl, q_w3258⟩
theorem q_cde112 : q_cde q_m112 := Or.inr ⟨List.cons_ne_nil _ _, q_w2569⟩
theorem q_cde113 : q_cde q_m113 := Or.inl ⟨rfl, q_w3266⟩
theorem q_cde114 : q_cde q_m114 := Or.inr ⟨List.cons_ne_nil _ _, q_w2580⟩
theorem q_cde115 : q_cde q_m115 := Or.inl ⟨rfl, q_w3274⟩
theorem q_cde116 : q_cde q_m116 := Or.inr ⟨List.cons_ne_nil _ _, q_w2587⟩
theorem q_cde117 : q_cde q_m117 := Or.inl ⟨rfl, q_w3278⟩
theorem q_cde118 : q_cde q_m118 := Or.inr ⟨List.cons_ne_nil _ _, q_w2595⟩
theorem q_cde119 : q_cde q_m119 := Or.inl ⟨rfl, q_w3282⟩
theorem q_cde120 : q_cde q_m120 := Or.inr ⟨List.cons_ne_nil _ _, q_w2602⟩
theorem q_cde121 : q_cde q_m121 := Or.inl ⟨rfl, q_w3287⟩
theorem q_cde122 : q_cde q_m122 := Or.inr ⟨List.cons_ne_nil _ _, q_w2609⟩
theorem q_cde123 : q_cde q_m123 := Or.inl ⟨rfl, q_w3291⟩
theorem q_cde124 : q_cde q_m124 := Or.inl ⟨rfl, q_w253⟩
theorem q_cde125 : q_cde q_m125 := Or.inl ⟨rfl, q_w3295⟩
theorem q_cde126 : q_cde q_m126 := Or.inr ⟨List.cons_ne_nil _ _, q_w2640⟩
theorem q_cde127 : q_cde q_m127 := Or.inl ⟨rfl, q_w3299⟩
theorem q_cde128 : q_cde q_m128 := Or.inr ⟨List.cons_ne_nil _ _, q_w2650⟩
theorem q_cde129 : q_cde q_m129 := Or.inl ⟨rfl, q_w3303⟩
theorem q_cde130 : q_cde q_m130 := Or.inl ⟨rfl, q_w181⟩
theorem q_cde131 : q_cde q_m131 := Or.inl ⟨rfl, q_w236⟩
theorem q_cde132 : q_cde q_m132 := Or.inr ⟨List.cons_ne_nil _ _, q_w352⟩
theorem q_cde133 : q_cde q_m133 := Or.inl ⟨rfl, q_w2772⟩
theorem q_cde134 : q_cde q_m134 := Or.inl ⟨rfl, q_w2776⟩
theorem q_cde135 : q_cde q_m135 := Or.inl ⟨rfl, q_w2780⟩
theorem q_cde136 : q_cde q_m136 := Or.inl ⟨rfl, q_w2787⟩
theorem q_cde137 : q_cde q_m137 := Or.inl ⟨rfl, q_w2808⟩
theorem q_cde138 : q_cde q_m138 := Or.inl ⟨rfl, q_w2941⟩
theorem q_cde139 : q_cde q_m139 := Or.inl ⟨rfl, q_w1467⟩
theorem q_cde140 : q_cde q_m140 := Or.inl ⟨rfl, q_w2949⟩
theorem q_cde141 : q_cde q_m141 := Or.inl ⟨rfl, q_w1493⟩
theorem q_cde142 : q_cde q_m142 := Or.inl ⟨rfl, q_w1500⟩
theorem q_cde143 : q_cde q_m143 := Or.inl ⟨rfl, q_w1507⟩
theorem q_cde144 : q_cde q_m144 := Or.inl ⟨rfl, q_w2969⟩
theorem q_cde145 : q_cde q_m145 := Or.inl ⟨rfl, q_w2856⟩
theorem q_cde146 : q_cde q_m146 := Or.inl ⟨rfl, q_w2860⟩
theorem q_cde147 : q_cde q_m147 := Or.inl ⟨rfl, q_w1520⟩
theorem q_cde148 : q_cde q_m148 := Or.inl ⟨rfl, q_w1528⟩
theorem q_cde149 : q_cde q_m149 := Or.inl ⟨rfl, q_w2981⟩
theorem q_cde150 : q_cde q_m150 := Or.inl ⟨rfl, q_w1540⟩
theorem q_cde151 : q_cde q_m151 := Or.inl ⟨rfl, q_w2953⟩
theorem q_cde152 : q_cde q_m152 := Or.inl ⟨rfl, q_w2993⟩
theorem q_cde153 : q_cde q_m153 := Or.inl ⟨rfl, q_w1547⟩
theorem q_cde154 : q_cde q_m154 := Or.inl ⟨rfl, q_w1554⟩
theorem q_cde155 : q_cde q_m155 := Or.inl ⟨rfl, q_w1561⟩
theorem q_cde156 : q_cde q_m156 := Or.inl ⟨rfl, q_w1823⟩
theorem q_cde157 : q_cde q_m157 := Or.inl ⟨rfl, q_w1830⟩
theorem q_cde158 : q_cde q_m158 := Or.inl ⟨rfl, q_w3025⟩
theorem q_cde159 : q_cde q_m159 := Or.inl ⟨rfl, q_w1859⟩
theorem q_cde160 : q_cde q_m160 := Or.inl ⟨rfl, q_w1866⟩
theorem q_cde161 : q_cde q_m161 := Or.inl ⟨rfl, q_w1873⟩
theorem q_cde162 : q_cde q_m162 := Or.inl ⟨rfl, q_w1881⟩
theorem q_cde163 : q_cde q_m163 := Or.inl ⟨rfl, q_w1889⟩
theorem q_cde164 : q_cde q_m164 := Or.inl ⟨rfl, q_w1896⟩
theorem q_cde165 : q_cde q_m165 := Or.inl ⟨rfl, q_w2911⟩
theorem q_cde166 : q_cde q_m166 := Or.inl ⟨rfl, q_w2867⟩
theorem q_cde167 : q_cde q_m167 := Or.inl ⟨rfl, q_w1958⟩
theorem q_cde168 : q_cde q_m168 := Or.inl ⟨rfl, q_w3058⟩
theorem q_cde169 : q_cde q_m169 := Or.inl ⟨rfl, q_w1969⟩
theorem q_cde170 : q_cde q_m170 := Or.inl ⟨rfl, q_w2019⟩
theorem q_cde171 : q_cde q_m171 := Or.inl ⟨rfl, q_w2852⟩
theorem q_cde172 : q_cde q_m172 := Or.inl ⟨rfl, q_w3070⟩
theorem q_cde173 : q_cde q_m173 := Or.inl ⟨rfl, q_w2115⟩
theorem q_cde174 : q_cde q_m174 := Or.inl ⟨rfl, q_w3083⟩
theorem q_cde175 : q_cde q_m175 := Or.inl ⟨rfl, q_w2186⟩
theorem q_cde176 : q_cde q_m176 := Or.inl ⟨rfl, q_w2193⟩
theorem q_cde177 : q_cde q_m177 := Or.inl ⟨rfl, q_w3110⟩
theorem q_cde178 : q_cde q_m178 := Or.inl ⟨rfl, q_w2208⟩
theorem q_cde179 : q_cde q_m179 := Or.inl ⟨rfl, q_w2997⟩
theorem q_cde180 : q_cde q_m180 := Or.inl ⟨rfl, q_w2216⟩
theorem q_cde181 : q_cde q_m181 := Or.inl ⟨rfl, q_w2223⟩
theorem q_cde182 : q_cde q_m182 := Or.inl ⟨rfl, q_w2230⟩
theorem q_cde183 : q_cde q_m183 := Or.inl ⟨rfl, q_w2237⟩
theorem q_cde184 : q_cde q_m184 := Or.inl ⟨rfl, q_w2244⟩
theorem q_cde185 : q_cde q_m185 := Or.inl ⟨rfl, q_w3138⟩
theorem q_cde186 : q_cde q_m186 := Or.inl ⟨rfl, q_w2087⟩
theorem q_cde187 : q_cde q_m187 := Or.inl ⟨rfl, q_w2258⟩
theorem q_cde188 : q_cde q_m188 := Or.inl ⟨rfl, q_w2265⟩
theorem q_cde189 : q_cde q_m189 := Or.inl ⟨rfl, q_w2272⟩
theorem q_cde190 : q_cde q_m190 := Or.inl ⟨rfl, q_w3154⟩
theorem q_cde191 : q_cde q_m191 := Or.inl ⟨rfl, q_w2283⟩
theorem q_cde192 : q_cde q_m192 := Or.inl ⟨rfl, q_w2290⟩
theorem q_cde193 : q_cde q_m193 := Or.inl ⟨rfl, q_w3166⟩
theorem q_cde194 : q_cde q_m194 := Or.inl ⟨rfl, q_w2314⟩
theorem q_cde195 : q_cde q_m195 := Or.inl ⟨rfl, q_w2321⟩
theorem q_cde196 : q_cde q_m196 := Or.inl ⟨rfl, q_w2329⟩
theorem q_cde197 : q_cde q_m197 := Or.inl ⟨rfl, q_w495⟩
theorem q_cde198 : q_cde q_m198 := Or.inl ⟨rfl, q_w2336⟩
theorem q_cde199 : q_cde q_m199 := Or.inl ⟨rfl, q_w2343⟩
theorem q_cde200 : q_cde q_m200 := Or.inl ⟨rfl, q_w3191⟩
theorem q_cde201 : q_cde q_m201 := Or.inl ⟨rfl, q_w513⟩
theorem q_cde202 : q_cde q_m202 := Or.inl ⟨rfl, q_w2351⟩
theorem q_cde203 : q_cde q_m203 := Or.inl ⟨rfl, q_w2358⟩
theorem q_cde204 : q_cde q_m204 := Or.inl ⟨rfl, q_w2365⟩
theorem q_cde205 : q_cde q_m205 := Or.inl ⟨rfl, q_w3208⟩
theorem q_cde206 : q_cde q_m206 := Or.inl ⟨rfl, q_w2383⟩
theorem q_cde207 : q_cde q_m207 := Or.inl ⟨rfl, q_w3216⟩
theorem q_cde208 : q_cde q_m208 := Or.inl ⟨rfl, q_w3074⟩
theorem q_cde209 : q_cde q_m209 := Or.inl ⟨rfl, q_w3219⟩
theorem q_cde210 : q_cde q_m210 := Or.inl ⟨rfl, q_w3223⟩
theorem q_cde211 : q_cde q_m211 := Or.inl ⟨rfl, q_w3226⟩
theorem q_cde212 : q_cde q_m212 := Or.inl ⟨rfl, q_w3230⟩
theorem q_cde213 : q_cde q_m213 := Or.inl ⟨rfl, q_w2457⟩
theorem q_cde214 : q_cde q_m214 := Or.inl ⟨rfl, q_w2464⟩
theorem q_cde215 : q_cde q_m215 := Or.inr ⟨List.cons_ne_nil _ _, q_w2471⟩
theorem q_cde216 : q_cde q_m216 := Or.inl ⟨rfl, q_w2844⟩
theorem q_cde217 : q_cde q_m217 := Or.inl ⟨rfl, q_w3246⟩
theorem q_cde218 : q_cde q_m218 := Or.inr ⟨List.cons_ne_nil _ _, q_w2536⟩
theorem q_cde219 : q_cde q_m219 := Or.inl ⟨rfl, q_w2885⟩
theorem q_cde220 : q_cde q_m220 := Or.inl ⟨rfl, q_w2552⟩
theorem q_cde221 : q_cde q_m221 := Or.inl ⟨rfl, q_w3262⟩
theorem q_cde222 : q_cde q_m222 := Or.inl ⟨rfl, q_w2573⟩
theorem q_cde223 : q_cde q_m223 := Or.inl ⟨rfl, q_w3270⟩
theorem q_cde224 : q_cde q_m224 := Or.inl ⟨rfl, q_w2584⟩
theorem q_cde225 : q_cde q_m225 := Or.inl ⟨rfl, q_w2591⟩
theorem q_cde226 : q_cde q_m226 := Or.inl ⟨rfl, q_w2599⟩
theorem q_cde227 : q_cde q_m227 := Or.inl ⟨rfl, q_w2606⟩
theorem q_cde228 : q_cde q_m228 := Or.inl ⟨rfl, q_w2613⟩
theorem q_cde229 : q_cde q_m229 := Or.inl ⟨rfl, q_w2783⟩
theorem q_cde230 : q_cde q_m230 := Or.inl ⟨rfl, q_w263⟩
theorem q_cde231 : q_cde q_m231 := Or.inl ⟨rfl, q_w2644⟩
theorem q_cde232 : q_cde q_m232 := Or.inl ⟨rfl, q_w2654⟩
theorem q_cde233 : q_cde q_m233 := Or.inl ⟨rfl, q_w184⟩
theorem q_cde234 : q_cde q_m234 := Or.inl ⟨rfl, q_w356⟩
theorem q_cde235 : q_cde q_m235 := Or.inl ⟨rfl, q_w359⟩
theorem q_cde236 : q_cde q_m236 := Or.inl ⟨rfl, q_w385⟩
theorem q_cde237 : q_cde q_m237 := Or.inl ⟨rfl, q_w424⟩
theorem q_cde238 : q_cde q_m238 := Or.inl ⟨rfl, q_w1434⟩
theorem q_cde239 : q_cde q_m239 := Or.inl ⟨rfl, q_w1454⟩
theorem q_cde240 : q_cde q_m240 := Or.inl ⟨rfl, q_w848⟩
theorem q_cde241 : q_cde q_m241 := Or.inl ⟨rfl, q_w1019⟩
theorem q_cde242 : q_cde q_m242 := Or.inl ⟨rfl, q_w2791⟩
theorem q_cde243 : q_cde q_m243 := Or.inl ⟨rfl, q_w2813⟩
theorem q_cde244 : q_cde q_m244 := Or.inl ⟨rfl, q_w2819⟩
theorem q_cde245 : q_cde q_m245 := Or.inl ⟨rfl, q_w2827⟩
theorem q_cde246 : q_cde q_m246 := Or.inl ⟨rfl, q_w2831⟩
theorem q_cde247 : q_cde q_m247 := Or.inl ⟨rfl, q_w2839⟩
theorem q_cde248 : q_cde q_m248 := Or.inl ⟨rfl, q_w1471⟩
theorem q_cde249 : q_cde q_m249 := Or.inl ⟨rfl, q_w1511⟩
theorem q_cde250 : q_cde q_m250 := Or.inl ⟨rfl, q_w1071⟩
theorem q_cde251 : q_cde q_m251 := Or.inl ⟨rfl, q_w865⟩
theorem q_cde252 : q_cde q_m252 := Or.inl ⟨rfl, q_w1532⟩
theorem q_cde253 : q_cde q_m253 := Or.inl ⟨rfl, q_w2985⟩
theorem q_cde254 : q_cde q_m254 := Or.inl ⟨rfl, q_w3001⟩
theorem q_cde255 : q_cde q_m255 := Or.inl ⟨rfl, q_w803⟩
theorem q_cde256 : q_cde q_m256 := Or.inl ⟨rfl, q_w1566⟩
theorem q_cde257 : q_cde q_m257 := Or.inl ⟨rfl, q_w1151⟩
theorem q_cde258 : q_cde q_m258 := Or.inl ⟨rfl, q_w1588⟩
theorem q_cde259 : q_cde q_m259 := Or.inl ⟨rfl, q_w1834⟩
theorem q_cde260 : q_cde q_m260 := Or.inl ⟨rfl, q_w1838⟩
theorem q_cde261 : q_cde q_m261 := Or.inl ⟨rfl, q_w1127⟩
theorem q_cde262 : q_cde q_m262 := Or.inl ⟨rfl, q_w670⟩
theorem q_cde263 : q_cde q_m263 := Or.inl ⟨rfl, q_w1845⟩
theorem q_cde264 : q_cde q_m264 := Or.inl ⟨rfl, q_w1029⟩
theorem q_cde265 : q_cde q_m265 := Or.inl ⟨rfl, q_w1905⟩
theorem q_cde266 : q_cde q_m266 := Or.inl ⟨rfl, q_w1934⟩
theorem q_cde267 : q_cde q_m267 := Or.inl ⟨rfl, q_w1943⟩
theorem q_cde268 : q_cde q_m268 := Or.inl ⟨rfl, q_w1951⟩
theorem q_cde269 : q_cde q_m269 := Or.inl ⟨rfl, q_w1962⟩
theorem q_cde270 : q_cde q_m270 := Or.inl ⟨rfl, q_w1108⟩
theorem q_cde271 : q_cde q_m271 := Or.inl ⟨rfl, q_w1979⟩
theorem q_cde272 : q_cde q_m272 := Or.inl ⟨rfl, q_w1994⟩
theorem q_cde273 : q_cde q_m273 := Or.inl ⟨rfl, q_w2022⟩
theorem q_cde274 : q_cde q_m274 := Or.inl ⟨rfl, q_w2031⟩
theorem q_cde275 : q_cde q_m275 := Or.inl ⟨rfl, q_w2041⟩
theorem q_cde276 : q_cde q_m276 := Or.inl ⟨rfl, q_w2047⟩
theorem q_cde277 : q_cde q_m277 := Or.inl ⟨rfl, q_w2066⟩
theorem q_cde278 : q_cde q_m278 := Or.inl ⟨rfl, q_w2076⟩
theorem q_cde279 : q_cde q_m279 := Or.inl ⟨rfl, q_w2084⟩
theorem q_cde280 : q_cde q_m280 := Or.inl ⟨rfl, q_w2092⟩
theorem q_cde281 : q_cde q_m281 := Or.inl ⟨rfl, q_w2104⟩
theorem q_cde282 : q_cde q_m282 := Or.inl ⟨rfl, q_w2119⟩
theorem q_cde283 : q_cde q_m283 := Or.inl ⟨rfl, q_w3087⟩
theorem q_cde284 : q_cde q_m284 := Or.inl ⟨rfl, q_w3094⟩
theorem q_cde285 : q_cde q_m285 := Or.inl ⟨rfl, q_w3098⟩
theorem q_cde286 : q_cde q_m286 := Or.inl ⟨rfl, q_w2197⟩
theorem q_cde287 : q_cde q_m287 := Or.inl ⟨rfl, q_w2201⟩
theorem q_cde288 : q_cde q_m288 := Or.inl ⟨rfl, q_w858⟩
theorem q_cde289 : q_cde q_m289 := Or.inl ⟨rfl, q_w2250⟩
theorem q_cde290 : q_cde q_m290 := Or.inl ⟨rfl, q_w2276⟩
theorem q_cde291 : q_cde q_m291 := Or.inl ⟨rfl, q_w2294⟩
theorem q_cde292 : q_cde q_m292 := Or.inl ⟨rfl, q_w2123⟩
theorem q_cde293 : q_cde q_m293 := Or.inl ⟨rfl, q_w448⟩
theorem q_cde294 : q_cde q_m294 := Or.inl ⟨rfl, q_w2370⟩
theorem q_cde295 : q_cde q_m295 := Or.inl ⟨rfl, q_w478⟩
theorem q_cde296 : q_cde q_m296 := Or.inl ⟨rfl, q_w2375⟩
theorem q_cde297 : q_cde q_m297 := Or.inl ⟨rfl, q_w656⟩
theorem q_cde298 : q_cde q_m298 := Or.inl ⟨rfl, q_w2394⟩
theorem q_cde299 : q_cde q_m299 := Or.inl ⟨rfl, q_w2408⟩
theorem q_cde300 : q_cde q_m300 := Or.inl ⟨rfl, q_w2420⟩
theorem q_cde301 : q_cde q_m301 := Or.inl ⟨rfl, q_w2428⟩
theorem q_cde302 : q_cde q_m302 := Or.inl ⟨rfl, q_w2435⟩
theorem q_cde303 : q_cde q_m303 := Or.inl ⟨rfl, q_w2446⟩
theorem q_cde304 : q_cde q_m304 := Or.inl ⟨rfl, q_w2297⟩
theorem q_cde305 : q_cde q_m305 := Or.inl ⟨rfl, q_w2475⟩
theorem q_cde306 : q_cde q_m306 := Or.inl ⟨rfl, q_w2480⟩
theorem q_cde307 : q_cde q_m307 := Or.inl ⟨rfl, q_w2484⟩
theorem q_cde308 : q_cde q_m308 := Or.inl ⟨rfl, q_w2848⟩
theorem q_cde309 : q_cde q_m309 := Or.inl ⟨rfl, q_w2864⟩
theorem q_cde310 : q_cde q_m310 := Or.inl ⟨rfl, q_w3250⟩
theorem q_cde311 : q_cde q_m311 := Or.inl ⟨rfl, q_w2540⟩
theorem q_cde312 : q_cde q_m312 := Or.inl ⟨rfl, q_w2544⟩
theorem q_cde313 : q_cde q_m313 := Or.inl ⟨rfl, q_w1408⟩
theorem q_cde314 : q_cde q_m314 := Or.inl ⟨rfl, q_w2889⟩
theorem q_cde315 : q_cde q_m315 := Or.inl ⟨rfl, q_w2893⟩
theorem q_cde316 : q_cde q_m316 := Or.inl ⟨rfl, q_w2561⟩
theorem q_cde317 : q_cde q_m317 := Or.inl ⟨rfl, q_w2577⟩
theorem q_cde318 : q_cde q_m318 := Or.inl ⟨rfl, q_w2621⟩
theorem q_cde319 : q_cde q_m319 := Or.inl ⟨rfl, q_w2630⟩
theorem q_cde320 : q_cde q_m320 := Or.inl ⟨rfl, q_w266⟩
theorem q_cde321 : q_cde q_m321 := Or.inl ⟨rfl, q_w2647⟩
theorem q_cde322 : q_cde q_m322 := Or.inl ⟨rfl, q_w428⟩
theorem q_cde323 : q_cde q_m323 := Or.inl ⟨rfl, q_w743⟩
theorem q_cde324 : q_cde q_m324 := Or.inl ⟨rfl, q_w751⟩
theorem q_cde325 : q_cde q_m325 := Or.inl ⟨rfl, q_w782⟩
theorem q_cde326 : q_cde q_m326 := Or.inl ⟨rfl, q_w791⟩
theorem q_cde327 : q_cde q_m327 := Or.inl ⟨rfl, q_w948⟩
theorem q_cde328 : q_cde q_m328 := Or.inl ⟨rfl, q_w1457⟩
theorem q_cde329 : q_cde q_m329 := Or.inl ⟨rfl, q_w2795⟩
theorem q_cde330 : q_cde q_m330 := Or.inl ⟨rfl, q_w2798⟩
theorem q_cde331 : q_cde q_m331 := Or.inl ⟨rfl, q_w2801⟩
theorem q_cde332 : q_cde q_m332 := Or.inl ⟨rfl, q_w2804⟩
theorem q_cde333 : q_cde q_m333 := Or.inl ⟨rfl, q_w2823⟩
theorem q_cde334 : q_cde q_m334 := Or.inl ⟨rfl, q_w2835⟩
theorem q_cde335 : q_cde q_m335 := Or.inl ⟨rfl, q_w2872⟩
theorem q_cde336 : q_cde q_m336 := Or.inl ⟨rfl, q_w2881⟩
theorem q_cde337 : q_cde q_m337 := Or.inl ⟨rfl, q_w2931⟩
theorem q_cde338 : q_cde q_m338 := Or.inl ⟨rfl, q_w2937⟩
theorem q_cde339 : q_cde q_m339 := Or.inl ⟨rfl, q_w875⟩
theorem q_cde340 : q_cde q_m340 := Or.inl ⟨rfl, q_w806⟩
theorem q_cde341 : q_cde q_m341 := Or.inl ⟨rfl, q_w621⟩
theorem q_cde342 : q_cde q_m342 := Or.inl ⟨rfl, q_w573⟩
theorem q_cde343 : q_cde q_m343 := Or.inl ⟨rfl, q_w1575⟩
theorem q_cde344 : q_cde q_m344 := Or.inl ⟨rfl, q_w1155⟩
theorem q_cde345 : q_cde q_m345 := Or.inl ⟨rfl, q_w1631⟩
theorem q_cde346 : q_cde q_m346 := Or.inl ⟨rfl, q_w674⟩
theorem q_cde347 : q_cde q_m347 := Or.inl ⟨rfl, q_w960⟩
theorem q_cde348 : q_cde q_m348 := Or.inl ⟨rfl, q_w1848⟩
theorem q_cde349 : q_cde q_m349 := Or.inl ⟨rfl, q_w1910⟩
theorem q_cde350 : q_cde q_m350 := Or.inl ⟨rfl, q_w1947⟩
theorem q_cde351 : q_cde q_m351 := Or.inl ⟨rfl, q_w1111⟩
theorem q_cde352 : q_cde q_m352 := Or.inl ⟨rfl, q_w1116⟩
theorem q_cde353 : q_cde q_m353 := Or.inl ⟨rfl, q_w1982⟩
theorem q_cde354 : q_cde q_m354 := Or.inl ⟨rfl, q_w2053⟩
theorem q_cde355 : q_cde q_m355 := Or.inl ⟨rfl, q_w2056⟩
theorem q_cde356 : q_cde q_m356 := Or.inl ⟨rfl, q_w2059⟩
theorem q_cde357 : q_cde q_m357 := Or.inl ⟨rfl, q_w2079⟩
theorem q_cde358 : q_cde q_m358 := Or.inl ⟨rfl, q_w3090⟩
theorem q_cde359 : q_cde q_m359 := Or.inl ⟨rfl, q_w2128⟩
theorem q_cde360 : q_cde q_m360 := Or.inl ⟨rfl, q_w2151⟩
theorem q_cde361 : q_cde q_m361 := Or.inl ⟨rfl, q_w2165⟩
theorem q_cde362 : q_cde q_m362 := Or.inl ⟨rfl, q_w2176⟩
theorem q_cde363 : q_cde q_m363 := Or.inl ⟨rfl, q_w451⟩
theorem q_cde364 : q_cde q_m364 := Or.inl ⟨rfl, q_w481⟩
theorem q_cde365 : q_cde q_m365 := Or.inl ⟨rfl, q_w659⟩
theorem q_cde366 : q_cde q_m366 := Or.inl ⟨rfl, q_w2412⟩
theorem q_cde367 : q_cde q_m367 := Or.inl ⟨rfl, q_w797⟩
theorem q_cde368 : q_cde q_m368 := Or.inl ⟨rfl, q_w2302⟩
theorem q_cde369 : q_cde q_m369 := Or.inl ⟨rfl, q_w1052⟩
theorem q_cde370 : q_cde q_m370 := Or.inl ⟨rfl, q_w2493⟩
theorem q_cde371 : q_cde q_m371 := Or.inl ⟨rfl, q_w2512⟩
theorem q_cde372 : q_cde q_m372 := Or.inr ⟨List.cons_ne_nil _ _, q_w1228⟩
theorem q_cde373 : q_cde q_m373 := Or.inl ⟨rfl, q_w2897⟩
theorem q_cde374 : q_cde q_m374 := Or.inl ⟨rfl, q_w2915⟩
theorem q_cde375 : q_cde q_m375 := Or.inl ⟨rfl, q_w2919⟩
theorem q_cde376 : q_cde q_m376 := Or.inl ⟨rfl, q_w2565⟩
theorem q_cde377 : q_cde q_m377 := Or.inl ⟨rfl, q_w2634⟩
theorem q_cde378 : q_cde q_m378 := Or.inl ⟨rfl, q_w432⟩
theorem q_cde379 : q_cde q_m379 := Or.inl ⟨rfl, q_w436⟩
theorem q_cde380 : q_cde q_m380 := Or.inl ⟨rfl, q_w747⟩
theorem q_cde381 : q_cde q_m381 := Or.inl ⟨rfl, q_w763⟩
theorem q_cde382 : q_cde q_m382 := Or.inl ⟨rfl, q_w786⟩
theorem q_cde383 : q_cde q_m383 := Or.inl ⟨rfl, q_w854⟩
theorem q_cde384 : q_cde q_m384 := Or.inl ⟨rfl, q_w952⟩
theorem q_cde385 : q_cde q_m385 := Or.inl ⟨rfl, q_w956⟩
theorem q_cde386 : q_cde q_m386 := Or.inr ⟨List.cons_ne_nil _ _, q_w1039⟩
theorem q_cde387 : q_cde q_m387 := Or.inl ⟨rfl, q_w1094⟩
theorem q_cde388 : q_cde q_m388 := Or.inl ⟨rfl, q_w1218⟩
theorem q_cde389 : q_cde q_m389 := Or.inl ⟨rfl, q_w1222⟩
theorem q_cde390 : q_cde q_m390 := Or.inl ⟨rfl, q_w1428⟩
theorem q_cde391 : q_cde q_m391 := Or.inl ⟨rfl, q_w2876⟩
theorem q_cde392 : q_cde q_m392 := Or.inl ⟨rfl, q_w624⟩
theorem q_cde393 : q_cde q_m393 := Or.inl ⟨rfl, q_w577⟩
theorem q_cde394 : q_cde q_m394 := Or.inl ⟨rfl, q_w1578⟩
theorem q_cde395 : q_cde q_m395 := Or.inl ⟨rfl, q_w1635⟩
theorem q_cde396 : q_cde q_m396 := Or.inl ⟨rfl, q_w566⟩
theorem q_cde397 : q_cde q_m397 := Or.inl ⟨rfl, q_w569⟩
theorem q_cde398 : q_cde q_m398 := Or.inl ⟨rfl, q_w2157⟩
theorem q_cde399 : q_cde q_m399 := Or.inl ⟨rfl, q_w485⟩
theorem q_cde400 : q_cde q_m400 := Or.inl ⟨rfl, q_w521⟩
theorem q_cde401 : q_cde q_m401 := Or.inl ⟨rfl, q_w524⟩
theorem q_cde402 : q_cde q_m402 := Or.inl ⟨rfl, q_w679⟩
theorem q_cde403 : q_cde q_m403 := Or.inl ⟨rfl, q_w1142⟩
theorem q_cde404 : q_cde q_m404 := Or.inl ⟨rfl, q_w1056⟩
theorem q_cde405 : q_cde q_m405 := Or.inl ⟨rfl, q_w2497⟩
theorem q_cde406 : q_cde q_m406 := Or.inl ⟨rfl, q_w2503⟩
theorem q_cde407 : q_cde q_m407 := Or.inl ⟨rfl, q_w1232⟩
theorem q_cde408 : q_cde q_m408 := Or.inl ⟨rfl, q_w1245⟩
theorem q_cde409 : q_cde q_m409 := Or.inl ⟨rfl, q_w2923⟩
theorem q_cde410 : q_cde q_m410 := Or.inl ⟨rfl, q_w2927⟩
theorem q_cde411 : q_cde q_m411 := Or.inl ⟨rfl, q_w2637⟩
theorem q_cde412 : q_cde q_m412 := Or.inl ⟨rfl, q_w2500⟩
theorem q_cde413 : q_cde q_m413 := Or.inl ⟨rfl, q_w443⟩
theorem q_cde414 : q_cde q_m414 := Or.inl ⟨rfl, q_w725⟩
theorem q_cde415 : q_cde q_m415 := Or.inl ⟨rfl, q_w730⟩
theorem q_cde416 : q_cde q_m416 := Or.inl ⟨rfl, q_w734⟩
theorem q_cde417 : q_cde q_m417 := Or.inl ⟨rfl, q_w766⟩
theorem q_cde418 : q_cde q_m418 := Or.inl ⟨rfl, q_w861⟩
theorem q_cde419 : q_cde q_m419 := Or.inl ⟨rfl, q_w871⟩
theorem q_cde420 : q_cde q_m420 := Or.inl ⟨rfl, q_w963⟩
theorem q_cde421 : q_cde q_m421 := Or.inl ⟨rfl, q_w1044⟩
theorem q_cde422 : q_cde q_m422 := Or.inl ⟨rfl, q_w1048⟩
theorem q_cde423 : q_cde q_m423 := Or.inl ⟨rfl, q_w1099⟩
theorem q_cde424 : q_cde q_m424 := Or.inl ⟨rfl, q_w1133⟩
theorem q_cde425 : q_cde q_m425 := Or.inl ⟨rfl, q_w627⟩
theorem q_cde426 : q_cde q_m426 := Or.inl ⟨rfl, q_w630⟩
theorem q_cde427 : q_cde q_m427 := Or.inl ⟨rfl, q_w580⟩
theorem q_cde428 : q_cde q_m428 := Or.inl ⟨rfl, q_w1638⟩
theorem q_cde429 : q_cde q_m429 := Or.inl ⟨rfl, q_w683⟩
theorem q_cde430 : q_cde q_m430 := Or.inl ⟨rfl, q_w688⟩
theorem q_cde431 : q_cde q_m431 := Or.inl ⟨rfl, q_w1059⟩
theorem q_cde432 : q_cde q_m432 := Or.inl ⟨rfl, q_w1067⟩
theorem q_cde433 : q_cde q_m433 := Or.inl ⟨rfl, q_w1083⟩
theorem q_cde434 : q_cde q_m434 := Or.inl ⟨rfl, q_w1249⟩
theorem q_cde435 : q_cde q_m435 := Or.inl ⟨rfl, q_w1273⟩
theorem q_cde436 : q_cde q_m436 := Or.inl ⟨rfl, q_w1288⟩
theorem q_cde437 : q_cde q_m437 := Or.inl ⟨rfl, q_w1308⟩
theorem q_cde438 : q_cde q_m438 := Or.inl ⟨rfl, q_w1324⟩
theorem q_cde439 : q_cde q_m439 := Or.inl ⟨rfl, q_w1330⟩
theorem q_cde440 : q_cde q_m440 := Or.inl ⟨rfl, q_w1348⟩
theorem q_cde441 : q_cde q_m441 := Or.inl ⟨rfl, q_w1358⟩
theorem q_cde442 : q_cde q_m442 := Or.inl ⟨rfl, q_w1383⟩
theorem q_cde443 : q_cde q_m443 := Or.inl ⟨rfl, q_w1390⟩
theorem q_cde444 : q_cde q_m444 := Or.inl ⟨rfl, q_w1400⟩
theorem q_cde445 : q_cde q_m445 := Or.inl ⟨rfl, q_w769⟩
theorem q_cde446 : q_cde q_m446 := Or.inl ⟨rfl, q_w966⟩
theorem q_cde447 : q_cde q_m447 := Or.inl ⟨rfl, q_w586⟩
theorem q_cde448 : q_cde q_m448 := Or.inl ⟨rfl, q_w592⟩
theorem q_cde449 : q_cde q_m449 := Or.inl ⟨rfl, q_w598⟩
theorem q_cde450 : q_cde q_m450 := Or.inl ⟨rfl, q_w1254⟩
theorem q_cde451 : q_cde q_m451 := Or.inl ⟨rfl, q_w1278⟩
theorem q_cde452 : q_cde q_m452 := Or.inl ⟨rfl, q_w1293⟩
theorem q_cde453 : q_cde q_m453 := Or.inl ⟨rfl, q_w1313⟩
theorem q_cde454 : q_cde q_m454 := Or.inl ⟨rfl, q_w1335⟩
theorem q_cde455 : q_cde q_m455 := Or.inl ⟨rfl, q_w1362⟩
theorem q_cde456 : q_cde q_m456 := Or.inl ⟨rfl, q_w970⟩
theorem q_cde457 : q_cde q_m457 := Or.inl ⟨rfl, q_w973⟩
theorem q_cde458 : q_cde q_m458 := Or.inl ⟨rfl, q_w990⟩
theorem q_cde459 : q_cde q_m459 := Or.inl ⟨rfl, q_w993⟩
theorem q_cde460 : q_cde q_m460 := Or.inl ⟨rfl, q_w997⟩
theorem q_cde461 : q_cde q_m461 := Or.inl ⟨rfl, q_w1001⟩
theorem q_cde462 : q_cde q_m462 := Or.inl ⟨rfl, q_w594⟩
theorem q_cde463 : q_cde q_m463 := Or.inl ⟨rfl, q_w601⟩
theorem q_cde464 : q_cde q_m464 := Or.inl ⟨rfl, q_w1258⟩
theorem q_cde465 : q_cde q_m465 := Or.inl ⟨rfl, q_w604⟩
theorem q_evM0 : q_al q_pM (q_ms0.drop 1) := q_al.c (⟨q_w113, q_cde1⟩) <| q_al.c (⟨q_w116, q_cde2⟩) <| q_al.c (⟨q_w113, q_cde3⟩) <| q_al.c (⟨q_w116, q_cde4⟩) <| q_al.c (⟨q_w112, q_cde5⟩) <| q_al.c (⟨q_w116, q_cde6⟩) <| q_al.c (⟨q_w116, q_cde7⟩) <| q_al.c (⟨q_w113, q_cde8⟩) <| q_al.c (⟨q_w116, q_cde9⟩) <| q_al.c (⟨q_w113, q_cde10⟩) <| q_al.c (⟨q_w116, q_cde11⟩) <| q_al.c (⟨q_w113, q_cde12⟩) <| q_al.c (⟨q_w116, q_cde13⟩) <| q_al.c (⟨q_w112, q_cde14⟩) <| q_al.c (⟨q_w116, q_cde15⟩) <| q_al.c (⟨q_w112, q_cde16⟩) <| q_al.c (⟨q_w116, q_cde17⟩) <| q_al.c (⟨q_w112, q_cde18⟩) <| q_al.c (⟨q_w116, q_cde19⟩) <| q_al.c (⟨q_w112, q_cde20⟩) <| q_al.c (⟨q_w116, q_cde21⟩) <| q_al.c (⟨q_w112, q_cde22⟩) <| q_al.c (⟨q_w116, q_cde23⟩) <| q_al.c (⟨q_w112, q_cde24⟩) <| q_al.c (⟨q_w116, q_cde25⟩) <| q_al.c (⟨q_w112, q_cde26⟩) <| q_al.c (⟨q_w116, q_cde27⟩) <| q_al.c (⟨q_w112, q_cde28⟩) <| q_al.c (⟨q_w116, q_cde29⟩) <| q_al.c (⟨q_w112, q_cde30⟩) <| q_al.c (⟨q_w116, q_cde31⟩) <| q_al.n
theorem q_evM1 : q_al q_pM (q_ms1) := q_al.c (⟨q_w112, q_cde32⟩) <| q_al.c (⟨q_w116, q_cde33⟩) <| q_al.c (⟨q_w112, q_cde34⟩) <| q_al.c (⟨q_w116, q_cde35⟩) <| q_al.c (⟨q_w112, q_cde36⟩) <| q_al.c (⟨q_w116, q_cde37⟩) <| q_al.c (⟨q_w112, q_cde38⟩) <| q_al.c (⟨q_w116, q_cde39⟩) <| q_al.c (⟨q_w112, q_cde40⟩) <| q_al.c (⟨q_w116, q_cde41⟩) <| q_al.c (⟨q_w112, q_cde42⟩) <| q_al.c (⟨q_w116, q_cde43⟩) <| q_al.c (⟨q_w112, q_cde44⟩) <| q_al.c (⟨q_w116, q_cde45⟩) <| q_al.c (⟨q_w112, q_cde46⟩) <| q_al.c (⟨q_w116, q_cde47⟩) <| q_al.c (⟨q_w112, q_cde48⟩) <| q_al.c (⟨q_w116, q_cde49⟩) <| q_al.c (⟨q_w112, q_cde50⟩) <| q_al.c (⟨q_w116, q_cde51⟩) <| q_al.c (⟨q_w112, q_cde52⟩) <| q_al.c (⟨q_w116, q_cde53⟩) <| q_al.c (⟨q_w112, q_cde54⟩) <| q_al.c (⟨q_w116, q_cde55⟩) <| q_al.c (⟨q_w112, q_cde56⟩) <| q_al.c (⟨q_w116, q_cde57⟩) <| q_al.c (⟨q_w112, q_cde58⟩) <| q_al.c (⟨q_w116, q_cde59⟩) <| q_al.c (⟨q_w112, q_cde60⟩) <| q_al.c (⟨q_w116, q_cde61⟩) <| q_al.c (⟨q_w112, q_cde62⟩) <| q_al.c (⟨q_w116, q_cde63⟩) <| q_al.n
theorem q_evM2 : q_al q_pM (q_ms2) := q_al.c (⟨q_w112, q_cde64⟩) <| q_al.c (⟨q_w116, q_cde65⟩) <| q_al.c (⟨q_w112, q_cde66⟩) <| q_al.c (⟨q_w116, q_cde67⟩) <| q_al.c (⟨q_w112, q_cde68⟩) <| q_al.c (⟨q_w116, q_cde69⟩) <| q_al.c (⟨q_w112, q_cde70⟩) <| q_al.c (⟨q_w116, q_cde71⟩) <| q_al.c (⟨q_w112, q_cde72⟩) <| q_al.c (⟨q_w116, q_cde73⟩) <| q_al.c (⟨q_w112, q_cde74⟩) <| q_al.c (⟨q_w116, q_cde75⟩) <| q_al.c (⟨q_w112, q_cde76⟩) <| q_al.c (⟨q_w116, q_cde77⟩) <| q_al.c (⟨q_w112, q_cde78⟩) <| q_al.c (⟨q_w116, q_cde79⟩) <| q_al.c (⟨q_w112, q_cde80⟩) <| q_al.c (⟨q_w116, q_cde81⟩) <| q_al.c (⟨q_w112, q_cde82⟩) <| q_al.c (⟨q_w116, q_cde83⟩) <| q_al.c (⟨q_w112, q_cde84⟩) <| q_al.c (⟨q_w116, q_cde85⟩) <| q_al.c (⟨q_w112, q_cde86⟩) <| q_al.c (⟨q_w116, q_cde87⟩) <| q_al.c (⟨q_w112, q_cde88⟩) <| q_al.c (⟨q_w116, q_cde89⟩) <| q_al.c (⟨q_w112, q_cde90⟩) <| q_al.c (⟨q_w116, q_cde91⟩) <| q_al.c (⟨q_w112, q_cde92⟩) <| q_al.c (⟨q_w116, q_cde93⟩) <| q_al.c (⟨q_w112, q_cde94⟩) <| q_al.c (⟨q_w116, q_cde95⟩) <| q_al.n
theorem q_evM3 : q_al q_pM (q_ms3) := q_al.c (⟨q_w112, q_cde96⟩) <| q_al.c (⟨q_w116, q_cde97⟩) <| q_al.c (⟨q_w112, q_cde98⟩) <| q_al.c (⟨q_w116, q_cde99⟩) <| q_al.c (⟨q_w112, q_cde100⟩) <| q_al.c (⟨q_w116, q_cde101⟩) <| q_al.c (⟨q_w112, q_cde102⟩) <| q_al.c (⟨q_w116, q_cde103⟩) <| q_al.c (⟨q_w112, q_cde104⟩) <| q_al.c (⟨q_w116, q_cde105⟩) <| q_al.c (⟨q_w112, q_cde106⟩) <| q_al.c (⟨q_w116, q_cde107⟩) <| q_al.c (⟨q_w112, q_cde108⟩) <| q_al.c (⟨q_w116, q_cde109⟩) <| q_al.c (⟨q_w112, q_cde110⟩) <| q_al.c (⟨q_w116, q_cde111⟩) <| q_al.c (⟨q_w112, q_cde112⟩) <| q_al.c (⟨q_w116, q_cde113⟩) <| q_al.c (⟨q_w112, q_cde114⟩) <| q_al.c (⟨q_w116, q_cde115⟩) <| q_al.c (⟨q_w112, q_cde116⟩) <| q_al.c (⟨q_w116, q_cde117⟩) <| q_al.c (⟨q_w112, q_cde118⟩) <| q_al.c (⟨q_w116, q_cde119⟩) <| q_al.c (⟨q_w112, q_cde120⟩) <| q_al.c (⟨q_w116, q_cde121⟩) <| q_al.c (⟨q_w112, q_cde122⟩) <| q_al.c (⟨q_w116, q_cde123⟩) <| q_al.c (⟨q_w113, q_cde124⟩) <| q_al.c (⟨q_w116, q_cde125⟩) <| q_al.c (⟨q_w112, q_cde126⟩) <| q_al.c (⟨q_w116, q_cde127⟩) <| q_al.n
theorem q_evM4 : q_al q_pM (q_ms4) := q_al.c (⟨q_w112, q_cde128⟩) <| q_al.c (⟨q_w116, q_cde129⟩) <| q_al.c (⟨q_w115, q_cde130⟩) <| q_al.c (⟨q_w113, q_cde131⟩) <| q_al.c (⟨q_w113, q_cde132⟩) <| q_al.c (⟨q_w116, q_cde133⟩) <| q_al.c (⟨q_w116, q_cde134⟩) <| q_al.c (⟨q_w116, q_cde135⟩) <| q_al.c (⟨q_w116, q_cde136⟩) <| q_al.c (⟨q_w116, q_cde137⟩) <| q_al.c (⟨q_w116, q_cde138⟩) <| q_al.c (⟨q_w113, q_cde139⟩) <| q_al.c (⟨q_w116, q_cde140⟩) <| q_al.c (⟨q_w113, q_cde141⟩) <| q_al.c (⟨q_w113, q_cde142⟩) <| q_al.c (⟨q_w113, q_cde143⟩) <| q_al.c (⟨q_w116, q_cde144⟩) <| q_al.c (⟨q_w116, q_cde145⟩) <| q_al.c (⟨q_w116, q_cde146⟩) <| q_al.c (⟨q_w113, q_cde147⟩) <| q_al.c (⟨q_w113, q_cde148⟩) <| q_al.c (⟨q_w116, q_cde149⟩) <| q_al.c (⟨q_w113, q_cde150⟩) <| q_al.c (⟨q_w116, q_cde151⟩) <| q_al.c (⟨q_w116, q_cde152⟩) <| q_al.c (⟨q_w113, q_cde153⟩) <| q_al.c (⟨q_w113, q_cde154⟩) <| q_al.c (⟨q_w113, q_cde155⟩) <| q_al.c (⟨q_w113, q_cde156⟩) <| q_al.c (⟨q_w113, q_cde157⟩) <| q_al.c (⟨q_w116, q_cde158⟩) <| q_al.c (⟨q_w113, q_cde159⟩) <| q_al.n
theorem q_evM5 : q_al q_pM (q_ms5) := q_al.c (⟨q_w113, q_cde160⟩) <| q_al.c (⟨q_w113, q_cde161⟩) <| q_al.c (⟨q_w113, q_cde162⟩) <| q_al.c (⟨q_w113, q_cde163⟩) <| q_al.c (⟨q_w113, q_cde164⟩) <| q_al.c (⟨q_w116, q_cde165⟩) <| q_al.c (⟨q_w116, q_cde166⟩) <| q_al.c (⟨q_w113, q_cde167⟩) <| q_al.c (⟨q_w116, q_cde168⟩) <| q_al.c (⟨q_w113, q_cde169⟩) <| q_al.c (⟨q_w113, q_cde170⟩) <| q_al.c (⟨q_w116, q_cde171⟩) <| q_al.c (⟨q_w116, q_cde172⟩) <| q_al.c (⟨q_w113, q_cde173⟩) <| q_al.c (⟨q_w116, q_cde174⟩) <| q_al.c (⟨q_w113, q_cde175⟩) <| q_al.c (⟨q_w113, q_cde176⟩) <| q_al.c (⟨q_w116, q_cde177⟩) <| q_al.c (⟨q_w113, q_cde178⟩) <| q_al.c (⟨q_w116, q_cde179⟩) <| q_al.c (⟨q_w113, q_cde180⟩) <| q_al.c (⟨q_w113, q_cde181⟩) <| q_al.c (⟨q_w113, q_cde182⟩) <| q_al.c (⟨q_w113, q_cde183⟩) <| q_al.c (⟨q_w113, q_cde184⟩) <| q_al.c (⟨q_w116, q_cde185⟩) <| q_al.c (⟨q_w130, q_cde186⟩) <| q_al.c (⟨q_w113, q_cde187⟩) <| q_al.c (⟨q_w113, q_cde188⟩) <| q_al.c (⟨q_w113, q_cde189⟩) <| q_al.c (⟨q_w116, q_cde190⟩) <| q_al.c (⟨q_w113, q_cde191⟩) <| q_al.n
theorem q_evM6 : q_al q_pM (q_ms6) := q_al.c (⟨q_w113, q_cde192⟩) <| q_al.c (⟨q_w116, q_cde193⟩) <| q_al.c (⟨q_w113, q_cde194⟩) <| q_al.c (⟨q_w113, q_cde195⟩) <| q_al.c (⟨q_w113, q_cde196⟩) <| q_al.c (⟨q_w130, q_cde197⟩) <| q_al.c (⟨q_w113, q_cde198⟩) <| q_al.c (⟨q_w113, q_cde199⟩) <| q_al.c (⟨q_w116, q_cde200⟩) <| q_al.c (⟨q_w130, q_cde201⟩) <| q_al.c (⟨q_w113, q_cde202⟩) <| q_al.c (⟨q_w113, q_cde203⟩) <| q_al.c (⟨q_w113, q_cde204⟩) <| q_al.c (⟨q_w116, q_cde205⟩) <| q_al.c (⟨q_w113, q_cde206⟩) <| q_al.c (⟨q_w116, q_cde207⟩) <| q_al.c (⟨q_w116, q_cde208⟩) <| q_al.c (⟨q_w116, q_cde209⟩) <| q_al.c (⟨q_w116, q_cde210⟩) <| q_al.c (⟨q_w116, q_cde211⟩) <| q_al.c (⟨q_w116, q_cde212⟩) <| q_al.c (⟨q_w113, q_cde213⟩) <| q_al.c (⟨q_w113, q_cde214⟩) <| q_al.c (⟨q_w113, q_cde215⟩) <| q_al.c (⟨q_w116, q_cde216⟩) <| q_al.c (⟨q_w116, q_cde217⟩) <| q_al.c (⟨q_w113, q_cde218⟩) <| q_al.c (⟨q_w116, q_cde219⟩) <| q_al.c (⟨q_w113, q_cde220⟩) <| q_al.c (⟨q_w116, q_cde221⟩) <| q_al.c (⟨q_w113, q_cde222⟩) <| q_al.c (⟨q_w116, q_cde223⟩) <| q_al.n
theorem q_evM7 : q_al q_pM (q_ms7) := q_al.c (⟨q_w113, q_cde224⟩) <| q_al.c (⟨q_w113, q_cde225⟩) <| q_al.c (⟨q_w113, q_cde226⟩) <| q_al.c (⟨q_w113, q_cde227⟩) <| q_al.c (⟨q_w113, q_cde228⟩) <| q_al.c (⟨q_w116, q_cde229⟩) <| q_al.c (⟨q_w115, q_cde230⟩) <| q_al.c (⟨q_w113, q_cde231⟩) <| q_al.c (⟨q_w113, q_cde232⟩) <| q_al.c (⟨q_w114, q_cde233⟩) <| q_al.c (⟨q_w113, q_cde234⟩) <| q_al.c (⟨q_w113, q_cde235⟩) <| q_al.c (⟨q_w123, q_cde236⟩) <| q_al.c (⟨q_w123, q_cde237⟩) <| q_al.c (⟨q_w139, q_cde238⟩) <| q_al.c (⟨q_w115, q_cde239⟩) <| q_al.c (⟨q_w131, q_cde240⟩) <| q_al.c (⟨q_w141, q_cde241⟩) <| q_al.c (⟨q_w116, q_cde242⟩) <| q_al.c (⟨q_w116, q_cde243⟩) <| q_al.c (⟨q_w116, q_cde244⟩) <| q_al.c (⟨q_w116, q_cde245⟩) <| q_al.c (⟨q_w116, q_cde246⟩) <| q_al.c (⟨q_w116, q_cde247⟩) <| q_al.c (⟨q_w113, q_cde248⟩) <| q_al.c (⟨q_w113, q_cde249⟩) <| q_al.c (⟨q_w140, q_cde250⟩) <| q_al.c (⟨q_w140, q_cde251⟩) <| q_al.c (⟨q_w140, q_cde252⟩) <| q_al.c (⟨q_w116, q_cde253⟩) <| q_al.c (⟨q_w116, q_cde254⟩) <| q_al.c (⟨q_w143, q_cde255⟩) <| q_al.n
theorem q_evM8 : q_al q_pM (q_ms8) := q_al.c (⟨q_w137, q_cde256⟩) <| q_al.c (⟨q_w143, q_cde257⟩) <| q_al.c (⟨q_w113, q_cde258⟩) <| q_al.c (⟨q_w113, q_cde259⟩) <| q_al.c (⟨q_w141, q_cde260⟩) <| q_al.c (⟨q_w147, q_cde261⟩) <| q_al.c (⟨q_w122, q_cde262⟩) <| q_al.c (⟨q_w122, q_cde263⟩) <| q_al.c (⟨q_w143, q_cde264⟩) <| q_al.c (⟨q_w143, q_cde265⟩) <| q_al.c (⟨q_w166, q_cde266⟩) <| q_al.c (⟨q_w166, q_cde267⟩) <| q_al.c (⟨q_w113, q_cde268⟩) <| q_al.c (⟨q_w113, q_cde269⟩) <| q_al.c (⟨q_w143, q_cde270⟩) <| q_al.c (⟨q_w157, q_cde271⟩) <| q_al.c (⟨q_w167, q_cde272⟩) <| q_al.c (⟨q_w113, q_cde273⟩) <| q_al.c (⟨q_w159, q_cde274⟩) <| q_al.c (⟨q_w154, q_cde275⟩) <| q_al.c (⟨q_w149, q_cde276⟩) <| q_al.c (⟨q_w160, q_cde277⟩) <| q_al.c (⟨q_w156, q_cde278⟩) <| q_al.c (⟨q_w152, q_cde279⟩) <| q_al.c (⟨q_w158, q_cde280⟩) <| q_al.c (⟨q_w155, q_cde281⟩) <| q_al.c (⟨q_w140, q_cde282⟩) <| q_al.c (⟨q_w116, q_cde283⟩) <| q_al.c (⟨q_w116, q_cde284⟩) <| q_al.c (⟨q_w116, q_cde285⟩) <| q_al.c (⟨q_w168, q_cde286⟩) <| q_al.c (⟨q_w168, q_cde287⟩) <| q_al.n
theorem q_evM9 : q_al q_pM (q_ms9) := q_al.c (⟨q_w140, q_cde288⟩) <| q_al.c (⟨q_w140, q_cde289⟩) <| q_al.c (⟨q_w168, q_cde290⟩) <| q_al.c (⟨q_w113, q_cde291⟩) <| q_al.c (⟨q_w140, q_cde292⟩) <| q_al.c (⟨q_w127, q_cde293⟩) <| q_al.c (⟨q_w113, q_cde294⟩) <| q_al.c (⟨q_w127, q_cde295⟩) <| q_al.c (⟨q_w113, q_cde296⟩) <| q_al.c (⟨q_w127, q_cde297⟩) <| q_al.c (⟨q_w157, q_cde298⟩) <| q_al.c (⟨q_w154, q_cde299⟩) <| q_al.c (⟨q_w149, q_cde300⟩) <| q_al.c (⟨q_w156, q_cde301⟩) <| q_al.c (⟨q_w152, q_cde302⟩) <| q_al.c (⟨q_w155, q_cde303⟩) <| q_al.c (⟨q_w140, q_cde304⟩) <| q_al.c (⟨q_w123, q_cde305⟩) <| q_al.c (⟨q_w123, q_cde306⟩) <| q_al.c (⟨q_w113, q_cde307⟩) <| q_al.c (⟨q_w116, q_cde308⟩) <| q_al.c (⟨q_w116, q_cde309⟩) <| q_al.c (⟨q_w116, q_cde310⟩) <| q_al.c (⟨q_w123, q_cde311⟩) <| q_al.c (⟨q_w113, q_cde312⟩) <| q_al.c (⟨q_w148, q_cde313⟩) <| q_al.c (⟨q_w116, q_cde314⟩) <| q_al.c (⟨q_w116, q_cde315⟩) <| q_al.c (⟨q_w143, q_cde316⟩) <| q_al.c (⟨q_w113, q_cde317⟩) <| q_al.c (⟨q_w115, q_cde318⟩) <| q_al.c (⟨q_w115, q_cde319⟩) <| q_al.n
theorem q_evM10 : q_al q_pM (q_ms10) := q_al.c (⟨q_w115, q_cde320⟩) <| q_al.c (⟨q_w113, q_cde321⟩) <| q_al.c (⟨q_w123, q_cde322⟩) <| q_al.c (⟨q_w122, q_cde323⟩) <| q_al.c (⟨q_w123, q_cde324⟩) <| q_al.c (⟨q_w123, q_cde325⟩) <| q_al.c (⟨q_w140, q_cde326⟩) <| q_al.c (⟨q_w123, q_cde327⟩) <| q_al.c (⟨q_w115, q_cde328⟩) <| q_al.c (⟨q_w116, q_cde329⟩) <| q_al.c (⟨q_w116, q_cde330⟩) <| q_al.c (⟨q_w116, q_cde331⟩) <| q_al.c (⟨q_w116, q_cde332⟩) <| q_al.c (⟨q_w116, q_cde333⟩) <| q_al.c (⟨q_w116, q_cde334⟩) <| q_al.c (⟨q_w116, q_cde335⟩) <| q_al.c (⟨q_w116, q_cde336⟩) <| q_al.c (⟨q_w116, q_cde337⟩) <| q_al.c (⟨q_w116, q_cde338⟩) <| q_al.c (⟨q_w140, q_cde339⟩) <| q_al.c (⟨q_w142, q_cde340⟩) <| q_al.c (⟨q_w127, q_cde341⟩) <| q_al.c (⟨q_w127, q_cde342⟩) <| q_al.c (⟨q_w137, q_cde343⟩) <| q_al.c (⟨q_w143, q_cde344⟩) <| q_al.c (⟨q_w137, q_cde345⟩) <| q_al.c (⟨q_w122, q_cde346⟩) <| q_al.c (⟨q_w122, q_cde347⟩) <| q_al.c (⟨q_w133, q_cde348⟩) <| q_al.c (⟨q_w166, q_cde349⟩) <| q_al.c (⟨q_w166, q_cde350⟩) <| q_al.c (⟨q_w146, q_cde351⟩) <| q_al.n
theorem q_evM11 : q_al q_pM (q_ms11) := q_al.c (⟨q_w143, q_cde352⟩) <| q_al.c (⟨q_w167, q_cde353⟩) <| q_al.c (⟨q_w151, q_cde354⟩) <| q_al.c (⟨q_w150, q_cde355⟩) <| q_al.c (⟨q_w153, q_cde356⟩) <| q_al.c (⟨q_w113, q_cde357⟩) <| q_al.c (⟨q_w116, q_cde358⟩) <| q_al.c (⟨q_w168, q_cde359⟩) <| q_al.c (⟨q_w140, q_cde360⟩) <| q_al.c (⟨q_w140, q_cde361⟩) <| q_al.c (⟨q_w168, q_cde362⟩) <| q_al.c (⟨q_w126, q_cde363⟩) <| q_al.c (⟨q_w126, q_cde364⟩) <| q_al.c (⟨q_w126, q_cde365⟩) <| q_al.c (⟨q_w167, q_cde366⟩) <| q_al.c (⟨q_w141, q_cde367⟩) <| q_al.c (⟨q_w141, q_cde368⟩) <| q_al.c (⟨q_w123, q_cde369⟩) <| q_al.c (⟨q_w115, q_cde370⟩) <| q_al.c (⟨q_w115, q_cde371⟩) <| q_al.c (⟨q_w123, q_cde372⟩) <| q_al.c (⟨q_w116, q_cde373⟩) <| q_al.c (⟨q_w116, q_cde374⟩) <| q_al.c (⟨q_w116, q_cde375⟩) <| q_al.c (⟨q_w143, q_cde376⟩) <| q_al.c (⟨q_w115, q_cde377⟩) <| q_al.c (⟨q_w123, q_cde378⟩) <| q_al.c (⟨q_w123, q_cde379⟩) <| q_al.c (⟨q_w133, q_cde380⟩) <| q_al.c (⟨q_w139, q_cde381⟩) <| q_al.c (⟨q_w123, q_cde382⟩) <| q_al.c (⟨q_w140, q_cde383⟩) <| q_al.n
theorem q_evM12 : q_al q_pM (q_ms12) := q_al.c (⟨q_w123, q_cde384⟩) <| q_al.c (⟨q_w122, q_cde385⟩) <| q_al.c (⟨q_w123, q_cde386⟩) <| q_al.c (⟨q_w123, q_cde387⟩) <| q_al.c (⟨q_w123, q_cde388⟩) <| q_al.c (⟨q_w123, q_cde389⟩) <| q_al.c (⟨q_w123, q_cde390⟩) <| q_al.c (⟨q_w116, q_cde391⟩) <| q_al.c (⟨q_w126, q_cde392⟩) <| q_al.c (⟨q_w122, q_cde393⟩) <| q_al.c (⟨q_w136, q_cde394⟩) <| q_al.c (⟨q_w137, q_cde395⟩) <| q_al.c (⟨q_w122, q_cde396⟩) <| q_al.c (⟨q_w134, q_cde397⟩) <| q_al.c (⟨q_w137, q_cde398⟩) <| q_al.c (⟨q_w126, q_cde399⟩) <| q_al.c (⟨q_w126, q_cde400⟩) <| q_al.c (⟨q_w133, q_cde401⟩) <| q_al.c (⟨q_w126, q_cde402⟩) <| q_al.c (⟨q_w141, q_cde403⟩) <| q_al.c (⟨q_w140, q_cde404⟩) <| q_al.c (⟨q_w115, q_cde405⟩) <| q_al.c (⟨q_w115, q_cde406⟩) <| q_al.c (⟨q_w123, q_cde407⟩) <| q_al.c (⟨q_w123, q_cde408⟩) <| q_al.c (⟨q_w116, q_cde409⟩) <| q_al.c (⟨q_w116, q_cde410⟩) <| q_al.c (⟨q_w115, q_cde411⟩) <| q_al.c (⟨q_w115, q_cde412⟩) <| q_al.c (⟨q_w123, q_cde413⟩) <| q_al.c (⟨q_w123, q_cde414⟩) <| q_al.c (⟨q_w138, q_cde415⟩) <| q_al.n
theorem q_evM13 : q_al q_pM (q_ms13) := q_al.c (⟨q_w123, q_cde416⟩) <| q_al.c (⟨q_w118, q_cde417⟩) <| q_al.c (⟨q_w131, q_cde418⟩) <| q_al.c (⟨q_w140, q_cde419⟩) <| q_al.c (⟨q_w133, q_cde420⟩) <| q_al.c (⟨q_w123, q_cde421⟩) <| q_al.c (⟨q_w123, q_cde422⟩) <| q_al.c (⟨q_w141, q_cde423⟩) <| q_al.c (⟨q_w147, q_cde424⟩) <| q_al.c (⟨q_w137, q_cde425⟩) <| q_al.c (⟨q_w137, q_cde426⟩) <| q_al.c (⟨q_w122, q_cde427⟩) <| q_al.c (⟨q_w137, q_cde428⟩) <| q_al.c (⟨q_w126, q_cde429⟩) <| q_al.c (⟨q_w122, q_cde430⟩) <| q_al.c (⟨q_w138, q_cde431⟩) <| q_al.c (⟨q_w140, q_cde432⟩) <| q_al.c (⟨q_w145, q_cde433⟩) <| q_al.c (⟨q_w123, q_cde434⟩) <| q_al.c (⟨q_w123, q_cde435⟩) <| q_al.c (⟨q_w123, q_cde436⟩) <| q_al.c (⟨q_w123, q_cde437⟩) <| q_al.c (⟨q_w154, q_cde438⟩) <| q_al.c (⟨q_w123, q_cde439⟩) <| q_al.c (⟨q_w156, q_cde440⟩) <| q_al.c (⟨q_w158, q_cde441⟩) <| q_al.c (⟨q_w123, q_cde442⟩) <| q_al.c (⟨q_w159, q_cde443⟩) <| q_al.c (⟨q_w160, q_cde444⟩) <| q_al.c (⟨q_w117, q_cde445⟩) <| q_al.c (⟨q_w129, q_cde446⟩) <| q_al.c (⟨q_w126, q_cde447⟩) <| q_al.n
theorem q_evM14 : q_al q_pM (q_ms14) := q_al.c (⟨q_w127, q_cde448⟩) <| q_al.c (⟨q_w131, q_cde449⟩) <| q_al.c (⟨q_w150, q_cde450⟩) <| q_al.c (⟨q_w151, q_cde451⟩) <| q_al.c (⟨q_w152, q_cde452⟩) <| q_al.c (⟨q_w153, q_cde453⟩) <| q_al.c (⟨q_w155, q_cde454⟩) <| q_al.c (⟨q_w157, q_cde455⟩) <| q_al.c (⟨q_w129, q_cde456⟩) <| q_al.c (⟨q_w129, q_cde457⟩) <| q_al.c (⟨q_w129, q_cde458⟩) <| q_al.c (⟨q_w129, q_cde459⟩) <| q_al.c (⟨q_w129, q_cde460⟩) <| q_al.c (⟨q_w129, q_cde461⟩) <| q_al.c (⟨q_w126, q_cde462⟩) <| q_al.c (⟨q_w131, q_cde463⟩) <| q_al.c (⟨q_w149, q_cde464⟩) <| q_al.c (⟨q_w131, q_cde465⟩) <| q_al.n
theorem q_evM : q_al (q_al q_pM) (q_ms0.drop 1 :: q_mb.drop 1) := q_al.c (q_evM0) <| q_al.c (q_evM1) <| q_al.c (q_evM2) <| q_al.c (q_evM3) <| q_al.c (q_evM4) <| q_al.c (q_evM5) <| q_al.c (q_evM6) <| q_al.c (q_evM7) <| q_al.c (q_evM8) <| q_al.c (q_evM9) <| q_al.c (q_evM10) <| q_al.c (q_evM11) <| q_al.c (q_evM12) <| q_al.c (q_evM13) <| q_al.c (q_evM14) <| q_al.n
theorem q_d2_0 : q_al (q_pV2 0) (q_vtT.getD 0 []) := q_al.c (⟨_, q_m132, "CaptainClaims", rfl, rfl, rfl, Or.inr ⟨q_m132, rfl, q_cde132, q_w350⟩, q_w350, Or.inl ⟨q_w351, Or.inl rfl⟩⟩) <| q_al.n
theorem q_d2_1 : q_al (q_pV2 1) (q_vtT.getD 1 []) := q_al.c (⟨_, q_m139, "CaptainClaims", rfl, rfl, rfl, Or.inr ⟨q_m139, rfl, q_cde139, q_w1465⟩, q_w1465, Or.inl ⟨q_w1466, Or.inl rfl⟩⟩) <| q_al.n
theorem q_d2_2 : q_al (q_pV2 2) (q_vtT.getD 2 []) := q_al.c (⟨_, q_m141, "CaptainClaims", rfl, rfl, rfl, Or.inr ⟨q_m141, rfl, q_cde141, q_w1491⟩, q_w1491, Or.inl ⟨q_w1492, Or.inl rfl⟩⟩) <| q_al.n
theorem q_d2_3 : q_al (q_pV2 3) (q_vtT.getD 3 []) := q_al.c (⟨_, q_m142, "CaptainClaims", rfl, rfl, rfl, Or.inr ⟨q_m142, rfl, q_cde142, q_w1498⟩, q_w1498, Or.inl ⟨q_w1499, Or.inl rfl⟩⟩) <| q_al.n
theorem q_d2_4 : q_al (q_pV2 4) (q_vtT.getD 4 []) := q_al.c (⟨_, q_m143, "CaptainClaims", rfl, rfl, rfl, Or.inr ⟨q_m143, rfl, q_cde143, q_w1505⟩, q_w1505, Or.inl ⟨q_w1506, Or.inl rfl⟩⟩) <| q_al.n
theorem q_d2_5 : q_al (q_pV2 5) (q_vtT.getD 5 []) := q_al.c (⟨_, q_m147, "CaptainClaims", rfl, rfl, rfl, Or.inr ⟨q_m147, rfl, q_cde147, q_w1518⟩, q_w1518, Or.inl ⟨q_w1519, Or.inl rfl⟩⟩) <| q_al.n
theorem q_d2_6 : q_al (q_pV2 6) (q_vtT.getD 6 []) := q_al.c (⟨_, q_m148, "CaptainClaims", rfl, rfl, rfl, Or.inr ⟨q_m148, rfl, q_cde148, q_w1526⟩, q_w1526, Or.inl ⟨q_w1527, Or.inl rfl⟩⟩) <| q_al.n
theorem q_d2_7 : q_al (q_pV2 7) (q_vtT.getD 7 []) := q_al.c (⟨_, q_m150, "CaptainClaims", rfl, rfl, rfl, Or.inr ⟨q_m150, rfl, q_cde150, q_w1538⟩, q_w1538, Or.inl ⟨q_w1539, Or.inl rfl⟩⟩) <| q_al.n
theorem q_d2_8 : q_al (q_pV2 8) (q_vtT.getD 8 []) := q_al.c (⟨_, q_m153, "CaptainClaims", rfl, rfl, rfl, Or.inr ⟨q_m153, rfl, q_cde153, q_w1545⟩, q_w1545, Or.inl ⟨q_w1546, Or.inl rfl⟩⟩) <| q_al.n
theorem q_d2_9 : q_al (q_pV2 9) (q_vtT.getD 9 []) := q_al.c (⟨_, q_m154, "CaptainClaims", rfl, rfl, rfl, Or.inr ⟨q_m154, rfl, q_cde154, q_w1552⟩, q_w1552, Or.inl ⟨q_w1553, Or.inl rfl⟩⟩) <| q_al.n
theorem q_d2_10 : q_al (q_pV2 10) (q_vtT.getD 10 []) := q_al.c (⟨_, q_m155, "CaptainClaims", rfl, rfl, rfl, Or.inr ⟨q_m155, rfl, q_cde155, q_w1559⟩, q_w1559, Or.inl ⟨q_w1560, Or.inl rfl⟩⟩) <| q_al.n
theorem q_d2_11 : q_al (q_pV2 11) (q_vtT.getD 11 []) := q_al.c (⟨_, q_m156, "CaptainClaims", rfl, rfl, rfl, Or.inr ⟨q_m156, rfl, q_cde156, q_w1821⟩, q_w1821, Or.inl ⟨q_w1822, Or.inl rfl⟩⟩) <| q_al.n
theorem q_d2_12 : q_al (q_pV2 12) (q_vtT.getD 12 []) := q_al.c (⟨_, q_m157, "CaptainClaims", rfl, rfl, rfl, Or.inr ⟨q_m157, rfl, q_cde157, q_w1828⟩, q_w1828, Or.inl ⟨q_w1829, Or.inl rfl⟩⟩) <| q_al.n
theorem q_d2_13 : q_al (q_pV2 13) (q_vtT.getD 13 []) := q_al.c (⟨_, q_m159, "CaptainClaims", rfl, rfl, rfl, Or.inr ⟨q_m159, rfl, q_cde159, q_w1857⟩, q_w1857, Or.inl ⟨q_w1858, Or.inl rfl⟩⟩) <| q_al.n
theorem q_d2_14 : q_al (q_pV2 14) (q_vtT.getD 14 []) := q_al.c (⟨_, q_m160, "CaptainClaims", rfl, rfl, rfl, Or.inr ⟨q_m160, rfl, q_cde160, q_w1864⟩, q_w1864, Or.inl ⟨q_w1865, Or.inl rfl⟩⟩) <| q_al.n
theorem q_d2_15 : q_al (q_pV2 15) (q_vtT.getD 15 []) := q_al.c (⟨_, q_m161, "CaptainClaims", rfl, rfl, rfl, Or.inr ⟨q_m161, rfl, q_cde161, q_w1871⟩, q_w1871, Or.inl ⟨q_w1872, Or.inl rfl⟩⟩) <| q_al.n
theorem q_d2_16 : q_al (q_pV2 16) (q_vtT.getD 16 []) := q_al.c (⟨_, q_m162, "CaptainClaims", rfl, rfl, rfl, Or.inr ⟨q_m162, rfl, q_cde162, q_w1879⟩, q_w1879, Or.inl ⟨q_w1880, Or.inl rfl⟩⟩) <| q_al.n
theorem q_d2_17 : q_al (q_pV2 17) (q_vtT.getD 17 []) := q_al.c (⟨_, q_m163, "CaptainClaims", rfl, rfl, rfl, Or.inr ⟨q_m163, rfl, q_cde163, q_w1887⟩, q_w1887, Or.inl ⟨q_w1888, Or.inl rfl⟩⟩) <| q_al.n
theorem q_d2_18 : q_al (q_pV2 18) (q_vtT.getD 18 []) := q_al.c (⟨_, q_m164, "CaptainClaims", rfl, rfl, rfl, Or.inr ⟨q_m164, rfl, q_cde164, q_w1894⟩, q_w1894, Or.inl ⟨q_w1895, Or.inl rfl⟩⟩) <| q_al.n
theorem q_d2_19 : q_al (q_pV2 19) (q_vtT.getD 19 []) := q_al.c (⟨_, q_m167, "CaptainClaims", rfl, rfl, rfl, Or.inr ⟨q_m167, rfl, q_cde167, q_w1956⟩, q_w1956, Or.inl ⟨q_w1957, Or.inl rfl⟩⟩) <| q_al.n
theorem q_d2_20 : q_al (q_pV2 20) (q_vtT.getD 20 []) := q_al.c (⟨_, q_m169, "CaptainClaims", rfl, rfl, rfl, Or.inr ⟨q_m169, rfl, q_cde169, q_w1967⟩, q_w1967, Or.inl ⟨q_w1968, Or.inl rfl⟩⟩) <| q_al.n
theorem q_d2_21 : q_al (q_pV2 21) (q_vtT.getD 21 []) := q_al.c (⟨_, q_m170, "CaptainClaims", rfl, rfl, rfl, Or.inr ⟨q_m170, rfl, q_cde170, q_w2017⟩, q_w2017, Or.inl ⟨q_w2018, Or.inl rfl⟩⟩) <| q_al.n
theorem q_d2_22 : q_al (q_pV2 22) (q_vtT.getD 22 []) := q_al.c (⟨_, q_m173, "CaptainClaims", rfl, rfl, rfl, Or.inr ⟨q_m173, rfl, q_cde173, q_w2113⟩, q_w2113, Or.inl ⟨q_w2114, Or.inl rfl⟩⟩) <| q_al.n
theorem q_d2_23 : q_al (q_pV2 23) (q_vtT.getD 23 []) := q_al.c (⟨_, q_m175, "CaptainClaims", rfl, rfl, rfl, Or.inr ⟨q_m175, rfl, q_cde175, q_w2184⟩, q_w2184, Or.inl ⟨q_w2185, Or.inl rfl⟩⟩) <| q_al.n
theorem q_d2_24 : q_al (q_pV2 24) (q_vtT.getD 24 []) := q_al.c (⟨_, q_m176, "CaptainClaims", rfl, rfl, rfl, Or.inr ⟨q_m176, rfl, q_cde176, q_w2191⟩, q_w2191, Or.inl ⟨q_w2192, Or.inl rfl⟩⟩) <| q_al.n
theorem q_d2_25 : q_al (q_pV2 25) (q_vtT.getD 25 []) := q_al.c (⟨_, q_m178, "CaptainClaims", rfl, rfl, rfl, Or.inr ⟨q_m178, rfl, q_cde178, q_w2206⟩, q_w2206, Or.inl ⟨q_w2207, Or.inl rfl⟩⟩) <| q_al.n
theorem q_d2_26 : q_al (q_pV2 26) (q_vtT.getD 26 []) := q_al.c (⟨_, q_m180, "CaptainClaims", rfl, rfl, rfl, Or.inr ⟨q_m180, rfl, q_cde180, q_w2214⟩, q_w2214, Or.inl ⟨q_w2215, Or.inl rfl⟩⟩) <| q_al.n
theorem q_d2_27 : q_al (q_pV2 27) (q_vtT.getD 27 []) := q_al.c (⟨_, q_m181, "CaptainClaims", rfl, rfl, rfl, Or.inr ⟨q_m181, rfl, q_cde181, q_w2221⟩, q_w2221, Or.inl ⟨q_w2222, Or.inl rfl⟩⟩) <| q_al.n
theorem q_d2_28 : q_al (q_pV2 28) (q_vtT.getD 28 []) := q_al.c (⟨_, q_m182, "CaptainClaims", rfl, rfl, rfl, Or.inr ⟨q_m182, rfl, q_cde182, q_w2228⟩, q_w2228, Or.inl ⟨q_w2229, Or.inl rfl⟩⟩) <| q_al.n
theorem q_d2_29 : q_al (q_pV2 29) (q_vtT.getD 29 []) := q_al.c (⟨_, q_m183, "CaptainClaims", rfl, rfl, rfl, Or.inr ⟨q_m183, rfl, q_cde183, q_w2235⟩, q_w2235, Or.inl ⟨q_w2236, Or.inl rfl⟩⟩) <| q_al.n
theorem q_d2_30 : q_al (q_pV2 30) (q_vtT.getD 30 []) := q_al.c (⟨_, q_m184, "CaptainClaims", rfl, rfl, rfl, Or.inr ⟨q_m184, rfl, q_cde184, q_w2242⟩, q_w2242, Or.inl ⟨q_w2243, Or.inl rfl⟩⟩) <| q_al.n
theorem q_d2_31 : q_al (q_pV2 31) (q_vtT.getD 31 []) := q_al.c (⟨_, q_m187, "CaptainClaims", rfl, rfl, rfl, Or.inr ⟨q_m187, rfl, q_cde187, q_w2256⟩, q_w2256, Or.inl ⟨q_w2257, Or.inl rfl⟩⟩) <| q_al.n
theorem q_d2_32 : q_al (q_pV2 32) (q_vtT.getD 32 []) := q_al.c (⟨_, q_m188, "CaptainClaims", rfl, rfl, rfl, Or.inr ⟨q_m188, rfl, q_cde188, q_w2263⟩, q_w2263, Or.inl ⟨q_w2264, Or.inl rfl⟩⟩) <| q_al.n
theorem q_d2_33 : q_al (q_pV2 33) (q_vtT.getD 33 []) := q_al.c (⟨_, q_m189, "CaptainClaims", rfl, rfl, rfl, Or.inr ⟨q_m189, rfl, q_cde189, q_w2270⟩, q_w2270, Or.inl ⟨q_w2271, Or.inl rfl⟩⟩) <| q_al.n
theorem q_d2_34 : q_al (q_pV2 34) (q_vtT.getD 34 []) := q_al.c (⟨_, q_m191, "CaptainClaims", rfl, rfl, rfl, Or.inr ⟨q_m191, rfl, q_cde191, q_w2281⟩, q_w2281, Or.inl ⟨q_w2282, Or.inl rfl⟩⟩) <| q_al.n
theorem q_d2_35 : q_al (q_pV2 35) (q_vtT.getD 35 []) := q_al.c (⟨_, q_m192, "CaptainClaims", rfl, rfl, rfl, Or.inr ⟨q_m192, rfl, q_cde192, q_w2288⟩, q_w2288, Or.inl ⟨q_w2289, Or.inl rfl⟩⟩) <| q_al.n
theorem q_d2_36 : q_al (q_pV2 36) (q_vtT.getD 36 []) := q_al.c (⟨_, q_m194, "CaptainClaims", rfl, rfl, rfl, Or.inr ⟨q_m194, rfl, q_cde194, q_w2312⟩, q_w2312, Or.inl ⟨q_w2313, Or.inl rfl⟩⟩) <| q_al.n
theorem q_d2_37 : q_al (q_pV2 37) (q_vtT.getD 37 []) := q_al.c (⟨_, q_m195, "CaptainClaims", rfl, rfl, rfl, Or.inr ⟨q_m195, rfl, q_cde195, q_w2319⟩, q_w2319, Or.inl ⟨q_w2320, Or.inl rfl⟩⟩) <| q_al.n
theorem q_d2_38 : q_al (q_pV2 38) (q_vtT.getD 38 []) := q_al.c (⟨_, q_m196, "CaptainClaims", rfl, rfl, rfl, Or.inr ⟨q_m196, rfl, q_cde196, q_w2327⟩, q_w2327, Or.inl ⟨q_w2328, Or.inl rfl⟩⟩) <| q_al.n
theorem q_d2_39 : q_al (q_pV2 39) (q_vtT.getD 39 []) := q_al.c (⟨_, q_m198, "CaptainClaims", rfl, rfl, rfl, Or.inr ⟨q_m198, rfl, q_cde198, q_w2334⟩, q_w2334, Or.inl ⟨q_w2335, Or.inl rfl⟩⟩) <| q_al.n
theorem q_d2_40 : q_al (q_pV2 40) (q_vtT.getD 40 []) := q_al.c (⟨_, q_m199, "CaptainClaims", rfl, rfl, rfl, Or.inr ⟨q_m199, rfl, q_cde199, q_w2341⟩, q_w2341, Or.inl ⟨q_w2342, Or.inl rfl⟩⟩) <| q_al.n
theorem q_d2_41 : q_al (q_pV2 41) (q_vtT.getD 41 []) := q_al.c (⟨_, q_m202, "CaptainClaims", rfl, rfl, rfl, Or.inr ⟨q_m202, rfl, q_cde202, q_w2349⟩, q_w2349, Or.inl ⟨q_w2350, Or.inl rfl⟩⟩) <| q_al.n
theorem q_d2_42 : q_al (q_pV2 42) (q_vtT.getD 42 []) := q_al.c (⟨_, q_m203, "CaptainClaims", rfl, rfl, rfl, Or.inr ⟨q_m203, rfl, q_cde203, q_w2356⟩, q_w2356, Or.inl ⟨q_w2357, Or.inl rfl⟩⟩) <| q_al.n
theorem q_d2_43 : q_al (q_pV2 43) (q_vtT.getD 43 []) := q_al.c (⟨_, q_m204, "CaptainClaims", rfl, rfl, rfl, Or.inr ⟨q_m204, rfl, q_cde204, q_w2363⟩, q_w2363, Or.inl ⟨q_w2364, Or.inl rfl⟩⟩) <| q_al.n
theorem q_d2_44 : q_al (q_pV2 44) (q_vtT.getD 44 []) := q_al.c (⟨_, q_m206, "CaptainClaims", rfl, rfl, rfl, Or.inr ⟨q_m206, rfl, q_cde206, q_w2381⟩, q_w2381, Or.inl ⟨q_w2382, Or.inl rfl⟩⟩) <| q_al.n
theorem q_d2_45 : q_al (q_pV2 45) (q_vtT.getD 45 []) := q_al.c (⟨_, q_m213, "CaptainClaims", rfl, rfl, rfl, Or.inr ⟨q_m213, rfl, q_cde213, q_w2455⟩, q_w2455, Or.inl ⟨q_w2456, Or.inl rfl⟩⟩) <| q_al.n
theorem q_d2_46 : q_al (q_pV2 46) (q_vtT.getD 46 []) := q_al.c (⟨_, q_m214, "CaptainClaims", rfl, rfl, rfl, Or.inr ⟨q_m214, rfl, q_cde214, q_w2462⟩, q_w2462, Or.inl ⟨q_w2463, Or.inl rfl⟩⟩) <| q_al.n
theorem q_d2_47 : q_al (q_pV2 47) (q_vtT.getD 47 []) := q_al.c (⟨_, q_m215, "CaptainClaims", rfl, rfl, rfl, Or.inr ⟨q_m215, rfl, q_cde215, q_w2469⟩, q_w2469, Or.inl ⟨q_w2470, Or.inl rfl⟩⟩) <| q_al.n
theorem q_d2_48 : q_al (q_pV2 48) (q_vtT.getD 48 []) := q_al.c (⟨_, q_m218, "CaptainClaims", rfl, rfl, rfl, Or.inr ⟨q_m218, rfl, q_cde218, q_w2534⟩, q_w2534, Or.inl ⟨q_w2535, Or.inl rfl⟩⟩) <| q_al.n
theorem q_d2_49 : q_al (q_pV2 49) (q_vtT.getD 49 []) := q_al.c (⟨_, q_m220, "CaptainClaims", rfl, rfl, rfl, Or.inr ⟨q_m220, rfl, q_cde220, q_w2550⟩, q_w2550, Or.inl ⟨q_w2551, Or.inl rfl⟩⟩) <| q_al.n
theorem q_d2_50 : q_al (q_pV2 50) (q_vtT.getD 50 []) := q_al.c (⟨_, q_m222, "CaptainClaims", rfl, rfl, rfl, Or.inr ⟨q_m222, rfl, q_cde222, q_w2571⟩, q_w2571, Or.inl ⟨q_w2572, Or.inl rfl⟩⟩) <| q_al.n
theorem q_d2_51 : q_al (q_pV2 51) (q_vtT.getD 51 []) := q_al.c (⟨_, q_m224, "CaptainClaims", rfl, rfl, rfl, Or.inr ⟨q_m224, rfl, q_cde224, q_w2582⟩, q_w2582, Or.inl ⟨q_w2583, Or.inl rfl⟩⟩) <| q_al.n
theorem q_d2_52 : q_al (q_pV2 52) (q_vtT.getD 52 []) := q_al.c (⟨_, q_m225, "CaptainClaims", rfl, rfl, rfl, Or.inr ⟨q_m225, rfl, q_cde225, q_w2589⟩, q_w2589, Or.inl ⟨q_w2590, Or.inl rfl⟩⟩) <| q_al.n
theorem q_d2_53 : q_al (q_pV2 53) (q_vtT.getD 53 []) := q_al.c (⟨_, q_m226, "CaptainClaims", rfl, rfl, rfl, Or.inr ⟨q_m226, rfl, q_cde226, q_w2597⟩, q_w2597, Or.inl ⟨q_w2598, Or.inl rfl⟩⟩) <| q_al.n
theorem q_d2_54 : q_al (q_pV2 54) (q_vtT.getD 54 []) := q_al.c (⟨_, q_m227, "CaptainClaims", rfl, rfl, rfl, Or.inr ⟨q_m227, rfl, q_cde227, q_w2604⟩, q_w2604, Or.inl ⟨q_w2605, Or.inl rfl⟩⟩) <| q_al.n
theorem q_d2_55 : q_al (q_pV2 55) (q_vtT.getD 55 []) := q_al.c (⟨_, q_m228, "CaptainClaims", rfl, rfl, rfl, Or.inr ⟨q_m228, rfl, q_cde228, q_w2611⟩, q_w2611, Or.inl ⟨q_w2612, Or.inl rfl⟩⟩) <| q_al.n
theorem q_d2_56 : q_al (q_pV2 56) (q_vtT.getD 56 []) := q_al.c (⟨_, q_m231, "CaptainClaims", rfl, rfl, rfl, Or.inr ⟨q_m231, rfl, q_cde231, q_w2642⟩, q_w2642, Or.inl ⟨q_w2643, Or.inl rfl⟩⟩) <| q_al.n
theorem q_d2_57 : q_al (q_pV2 57) (q_vtT.getD 57 []) := q_al.c (⟨_, q_m232, "CaptainClaims", rfl, rfl, rfl, Or.inr ⟨q_m232, rfl, q_cde232, q_w2652⟩, q_w2652, Or.inl ⟨q_w2653, Or.inl rfl⟩⟩) <| q_al.n
theorem q_d2_58 : q_al (q_pV2 58) (q_vtT.getD 58 []) := q_al.c (⟨_, q_m3, "CaptainClaims", rfl, rfl, rfl, Or.inr ⟨q_m3, rfl, q_cde3, q_w230⟩, q_w230, Or.inl ⟨q_w231, Or.inl rfl⟩⟩) <| q_al.n
theorem q_d2_59 : q_al (q_pV2 59) (q_vtT.getD 59 []) := q_al.c (⟨_, q_m4, "CaptainClaimsModel", rfl, rfl, rfl, Or.inr ⟨q_m4, rfl, q_cde4, q_w2751⟩, q_w2751, Or.inl ⟨q_w2752, Or.inl rfl⟩⟩) <| q_al.n
theorem q_d2_60 : q_al (q_pV2 60) (q_vtT.getD 60 []) := q_al.c (⟨_, q_m6, "CaptainClaimsModel", rfl, rfl, rfl, Or.inr ⟨q_m6, rfl, q_cde6, q_w2767⟩, q_w2767, Or.inl ⟨q_w2768, Or.inl rfl⟩⟩) <| q_al.n
theorem q_d2_61 : q_al (q_pV2 61) (q_vtT.getD 61 []) := q_al.c (⟨_, q_m7, "CaptainClaimsModel", rfl, rfl, rfl, Or.inr ⟨q_m7, rfl, q_cde7, q_w2747⟩, q_w2747, Or.inl ⟨q_w2748, Or.inl rfl⟩⟩) <| q_al.n
theorem q_d2_62 : q_al (q_pV2 62) (q_vtT.getD 62 []) := q_al.c (⟨_, q_m8, "CaptainClaims", rfl, rfl, rfl, Or.inr ⟨q_m8, rfl, q_cde8, q_w239⟩, q_w239, Or.inl ⟨q_w240, Or.inl rfl⟩⟩) <| q_al.n
theorem q_d2_63 : q_al (q_pV2 63) (q_vtT.getD 63 []) := q_al.c (⟨_, q_m9, "CaptainClaimsModel", rfl, rfl, rfl, Or.inr ⟨q_m9, rfl, q_cde9, q_w2759⟩, q_w2759, Or.inl ⟨q_w2760, Or.inl rfl⟩⟩) <| q_al.n
theorem q_d2_64 : q_al (q_pV2 64) (q_vtT.getD 64 []) := q_al.c (⟨_, q_m10, "CaptainClaims", rfl, rfl, rfl, Or.inr ⟨q_m10, rfl, q_cde10, q_w243⟩, q_w243, Or.inl ⟨q_w244, Or.inl rfl⟩⟩) <| q_al.n
theorem q_d2_65 : q_al (q_pV2 65) (q_vtT.getD 65 []) := q_al.c (⟨_, q_m11, "CaptainClaimsModel", rfl, rfl, rfl, Or.inr ⟨q_m11, rfl, q_cde11, q_w2763⟩, q_w2763, Or.inl ⟨q_w2764, Or.inl rfl⟩⟩) <| q_al.n
theorem q_d2_66 : q_al (q_pV2 66) (q_vtT.getD 66 []) := q_al.c (⟨_, q_m12, "CaptainClaims", rfl, rfl, rfl, Or.inr ⟨q_m12, rfl, q_cde12, q_w247⟩, q_w247, Or.inl ⟨q_w248, Or.inl rfl⟩⟩) <| q_al.n
theorem q_d2_67 : q_al (q_pV2 67) (q_vtT.getD 67 []) := q_al.c (⟨_, q_m13, "CaptainClaimsModel", rfl, rfl, rfl, Or.inr ⟨q_m13, rfl, q_cde13, q_w2755⟩, q_w2755, Or.inl ⟨q_w2756, Or.inl rfl⟩⟩) <| q_al.n
theorem q_d2_68 : q_al (q_pV2 68) (q_vtT.getD 68 []) := q_al.c (⟨_, q_m15, "CaptainClaimsModel", rfl, rfl, rfl, Or.inr ⟨q_m15, rfl, q_cde15, q_w2943⟩, q_w2943, Or.inl ⟨q_w2944, Or.inl rfl⟩⟩) <| q_al.n
theorem q_d2_69 : q_al (q_pV2 69) (q_vtT.getD 69 []) := q_al.c (⟨_, q_m17, "CaptainClaimsModel", rfl, rfl, rfl, Or.inr ⟨q_m17, rfl, q_cde17, q_w2955⟩, q_w2955, Or.inl ⟨q_w2956, Or.inl rfl⟩⟩) <| q_al.n
theorem q_d2_70 : q_al (q_pV2 70) (q_vtT.getD 70 []) := q_al.c (⟨_, q_m19, "CaptainClaimsModel", rfl, rfl, rfl, Or.inr ⟨q_m19, rfl, q_cde19, q_w2959⟩, q_w2959, Or.inl ⟨q_w2960, Or.inl rfl⟩⟩) <| q_al.n
theorem q_d2_71 : q_al (q_pV2 71) (q_vtT.getD 71 []) := q_al.c (⟨_, q_m21, "CaptainClaimsModel", rfl, rfl, rfl, Or.inr ⟨q_m21, rfl, q_cde21, q_w2963⟩, q_w2963, Or.inl ⟨q_w2964, Or.inl rfl⟩⟩) <| q_al.n
theorem q_d2_72 : q_al (q_pV2 72) (q_vtT.getD 72 []) := q_al.c (⟨_, q_m23, "CaptainClaimsModel", rfl, rfl, rfl, Or.inr ⟨q_m23, rfl, q_cde23, q_w2971⟩, q_w2971, Or.inl ⟨q_w2972, Or.inl rfl⟩⟩) <| q_al.n
theorem q_d2_73 : q_al (q_pV2 73) (q_vtT.getD 73 []) := q_al.c (⟨_, q_m25, "CaptainClaimsModel", rfl, rfl, rfl, Or.inr ⟨q_m25, rfl, q_cde25, q_w2975⟩, q_w2975, Or.inl ⟨q_w2976, Or.inl rfl⟩⟩) <| q_al.n
theorem q_d2_74 : q_al (q_pV2 74) (q_vtT.getD 74 []) := q_al.c (⟨_, q_m27, "CaptainClaimsModel", rfl, rfl, rfl, Or.inr ⟨q_m27, rfl, q_cde27, q_w2987⟩, q_w2987, Or.inl ⟨q_w2988, Or.inl rfl⟩⟩) <| q_al.n
theorem q_d2_75 : q_al (q_pV2 75) (q_vtT.getD 75 []) := q_al.c (⟨_, q_m29, "CaptainClaimsModel", rfl, rfl, rfl, Or.inr ⟨q_m29, rfl, q_cde29, q_w3003⟩, q_w3003, Or.inl ⟨q_w3004, Or.inl rfl⟩⟩) <| q_al.n
theorem q_d2_76 : q_al (q_pV2 76) (q_vtT.getD 76 []) := q_al.c (⟨_, q_m31, "CaptainClaimsModel", rfl, rfl, rfl, Or.inr ⟨q_m31, rfl, q_cde31, q_w3007⟩, q_w3007, Or.inl ⟨q_w3008, Or.inl rfl⟩⟩) <| q_al.n
theorem q_d2_77 : q_al (q_pV2 77) (q_vtT.getD 77 []) := q_al.c (⟨_, q_m33, "CaptainClaimsModel", rfl, rfl, rfl, Or.inr ⟨q_m33, rfl, q_cde33, q_w3011⟩, q_w3011, Or.inl ⟨q_w3012, Or.inl rfl⟩⟩) <| q_al.n
theorem q_d2_78 : q_al (q_pV2 78) (q_vtT.getD 78 []) := q_al.c (⟨_, q_m35, "CaptainClaimsModel", rfl, rfl, rfl, Or.inr ⟨q_m35, rfl, q_cde35, q_w3015⟩, q_w3015, Or.inl ⟨q_w3016, Or.inl rfl⟩⟩) <| q_al.n
theorem q_d2_79 : q_al (q_pV2 79) (q_vtT.getD 79 []) := q_al.c (⟨_, q_m37, "CaptainClaimsModel", rfl, rfl, rfl, Or.inr ⟨q_m37, rfl, q_cde37, q_w3019⟩, q_w3019, Or.inl ⟨q_w3020, Or.inl rfl⟩⟩) <| q_al.n
theorem q_d2_80 : q_al (q_pV2 80) (q_vtT.getD 80 []) := q_al.c (⟨_, q_m39, "CaptainClaimsModel", rfl, rfl, rfl, Or.inr ⟨q_m39, rfl, q_cde39, q_w3028⟩, q_w3028, Or.inl ⟨q_w3029, Or.inl rfl⟩⟩) <| q_al.n
theorem q_d2_81 : q_al (q_pV2 81) (q_vtT.getD 81 []) := q_al.c (⟨_, q_m41, "CaptainClaimsModel", rfl, rfl, rfl, Or.inr ⟨q_m41, rfl, q_cde41, q_w3032⟩, q_w3032, Or.inl ⟨q_w3033, Or.inl rfl⟩⟩) <| q_al.n
theorem q_d2_82 : q_al (q_pV2 82) (q_vtT.getD 82 []) := q_al.c (⟨_, q_m43, "CaptainClaimsModel", rfl, rfl, rfl, Or.inr ⟨q_m43, rfl, q_cde43, q_w3036⟩, q_w3036, Or.inl ⟨q_w3037, Or.inl rfl⟩⟩) <| q_al.n
theorem q_d2_83 : q_al (q_pV2 83) (q_vtT.getD 83 []) := q_al.c (⟨_, q_m45, "CaptainClaimsModel", rfl, rfl, rfl, Or.inr ⟨q_m45, rfl, q_cde45, q_w3040⟩, q_w3040, Or.inl ⟨q_w3041, Or.inl rfl⟩⟩) <| q_al.n
theorem q_d2_84 : q_al (q_pV2 84) (q_vtT.getD 84 []) := q_al.c (⟨_, q_m47, "CaptainClaimsModel", rfl, rfl, rfl, Or.inr ⟨q_m47, rfl, q_cde47, q_w3044⟩, q_w3044, Or.inl ⟨q_w3045, Or.inl rfl⟩⟩) <| q_al.n
theorem q_d2_85 : q_al (q_pV2 85) (q_vtT.getD 85 []) := q_al.c (⟨_, q_m49, "CaptainClaimsModel", rfl, rfl, rfl, Or.inr ⟨q_m49, rfl, q_cde49, q_w3048⟩, q_w3048, Or.inl ⟨q_w3049, Or.inl rfl⟩⟩) <| q_al.n
theorem q_d2_86 : q_al (q_pV2 86) (q_vtT.getD 86 []) := q_al.c (⟨_, q_m51, "CaptainClaimsModel", rfl, rfl, rfl, Or.inr ⟨q_m51, rfl, q_cde51, q_w3052⟩, q_w3052, Or.inl ⟨q_w3053, Or.inl rfl⟩⟩) <| q_al.n
theorem q_d2_87 : q_al (q_pV2 87) (q_vtT.getD 87 []) := q_al.c (⟨_, q_m53, "CaptainClaimsModel", rfl, rfl, rfl, Or.inr ⟨q_m53, rfl, q_cde53, q_w3060⟩, q_w3060, Or.inl ⟨q_w3061, Or.inl rfl⟩⟩) <| q_al.n
theorem q_d2_88 : q_al (q_pV2 88) (q_vtT.getD 88 []) := q_al.c (⟨_, q_m55, "CaptainClaimsModel", rfl, rfl, rfl, Or.inr ⟨q_m55, rfl, q_cde55, q_w3064⟩, q_w3064, Or.inl ⟨q_w3065, Or.inl rfl⟩⟩) <| q_al.n
theorem q_d2_89 : q_al (q_pV2 89) (q_vtT.getD 89 []) := q_al.c (⟨_, q_m57, "CaptainClaimsModel", rfl, rfl, rfl, Or.inr ⟨q_m57, rfl, q_cde57, q_w3077⟩, q_w3077, Or.inl ⟨q_w3078, Or.inl rfl⟩⟩) <| q_al.n
theorem q_d2_90 : q_al (q_pV2 90) (q_vtT.getD 90 []) := q_al.c (⟨_, q_m59, "CaptainClaimsModel", rfl, rfl, rfl, Or.inr ⟨q_m59, rfl, q_cde59, q_w3100⟩, q_w3100, Or.inl ⟨q_w3101, Or.inl rfl⟩⟩) <| q_al.n
theorem q_d2_91 : q_al (q_pV2 91) (q_vtT.getD 91 []) := q_al.c (⟨_, q_m61, "CaptainClaimsModel", rfl, rfl, rfl, Or.inr ⟨q_m61, rfl, q_cde61, q_w3104⟩, q_w3104, Or.inl ⟨q_w3105, Or.inl rfl⟩⟩) <| q_al.n
theorem q_d2_92 : q_al (q_pV2 92) (q_vtT.getD 92 []) := q_al.c (⟨_, q_m63, "CaptainClaimsModel", rfl, rfl, rfl, Or.inr ⟨q_m63, rfl, q_cde63, q_w3112⟩, q_w3112, Or.inl ⟨q_w3113, Or.inl rfl⟩⟩) <| q_al.n
theorem q_d2_93 : q_al (q_pV2 93) (q_vtT.getD 93 []) := q_al.c (⟨_, q_m65, "CaptainClaimsModel", rfl, rfl, rfl, Or.inr ⟨q_m65, rfl, q_cde65, q_w3116⟩, q_w3116, Or.inl ⟨q_w3117, Or.inl rfl⟩⟩) <| q_al.n
theorem q_d2_94 : q_al (q_pV2 94) (q_vtT.getD 94 []) := q_al.c (⟨_, q_m67, "CaptainClaimsModel", rfl, rfl, rfl, Or.inr ⟨q_m67, rfl, q_cde67, q_w3120⟩, q_w3120, Or.inl ⟨q_w3121, Or.inl rfl⟩⟩) <| q_al.n
theorem q_d2_95 : q_al (q_pV2 95) (q_vtT.getD 95 []) := q_al.c (⟨_, q_m69, "CaptainClaimsModel", rfl, rfl, rfl, Or.inr ⟨q_m69, rfl, q_cde69, q_w3124⟩, q_w3124, Or.inl ⟨q_w3125, Or.inl rfl⟩⟩) <| q_al.n
theorem q_d2_96 : q_al (q_pV2 96) (q_vtT.getD 96 []) := q_al.c (⟨_, q_m71, "CaptainClaimsModel", rfl, rfl, rfl, Or.inr ⟨q_m71, rfl, q_cde71, q_w3128⟩, q_w3128, Or.inl ⟨q_w3129, Or.inl rfl⟩⟩) <| q_al.n
theorem q_d2_97 : q_al (q_pV2 97) (q_vtT.getD 97 []) := q_al.c (⟨_, q_m73, "CaptainClaimsModel", rfl, rfl, rfl, Or.inr ⟨q_m73, rfl, q_cde73, q_w3132⟩, q_w3132, Or.inl ⟨q_w3133, Or.inl rfl⟩⟩) <| q_al.n
theorem q_d2_98 : q_al (q_pV2 98) (q_vtT.getD 98 []) := q_al.c (⟨_, q_m75, "CaptainClaimsModel", rfl, rfl, rfl, Or.inr ⟨q_m75, rfl, q_cde75, q_w3140⟩, q_w3140, Or.inl ⟨q_w3141, Or.inl rfl⟩⟩) <| q_al.n
theorem q_d2_99 : q_al (q_pV2 99) (q_vtT.getD 99 []) := q_al.c (⟨_, q_m77, "CaptainClaimsModel", rfl, rfl, rfl, Or.inr ⟨q_m77, rfl, q_cde77, q_w3144⟩, q_w3144, Or.inl ⟨q_w3145, Or.inl rfl⟩⟩) <| q_al.n
theorem q_d2_100 : q_al (q_pV2 100) (q_vtT.getD 100 []) := q_al.c (⟨_, q_m79, "CaptainClaimsModel", rfl, rfl, rfl, Or.inr ⟨q_m79, rfl, q_cde79, q_w3148⟩, q_w3148, Or.inl ⟨q_w3149, Or.inl rfl⟩⟩) <| q_al.n
theorem q_d2_101 : q_al (q_pV2 101) (q_vtT.getD 101 []) := q_al.c (⟨_, q_m81, "CaptainClaimsModel", rfl, rfl, rfl, Or.inr ⟨q_m81, rfl, q_cde81, q_w3156⟩, q_w3156, Or.inl ⟨q_w3157, Or.inl rfl⟩⟩) <| q_al.n
theorem q_d2_102 : q_al (q_pV2 102) (q_vtT.getD 102 []) := q_al.c (⟨_, q_m83, "CaptainClaimsModel", rfl, rfl, rfl, Or.inr ⟨q_m83, rfl, q_cde83, q_w3160⟩, q_w3160, Or.inl ⟨q_w3161, Or.inl rfl⟩⟩) <| q_al.n
theorem q_d2_103 : q_al (q_pV2 103) (q_vtT.getD 103 []) := q_al.c (⟨_, q_m85, "CaptainClaimsModel", rfl, rfl, rfl, Or.inr ⟨q_m85, rfl, q_cde85, q_w3168⟩, q_w3168, Or.inl ⟨q_w3169, Or.inl rfl⟩⟩) <| q_al.n
theorem q_d2_104 : q_al (q_pV2 104) (q_vtT.getD 104 []) := q_al.c (⟨_, q_m87, "CaptainClaimsModel", rfl, rfl, rfl, Or.inr ⟨q_m87, rfl, q_cde87, q_w3172⟩, q_w3172, Or.inl ⟨q_w3173, Or.inl rfl⟩⟩) <| q_al.n
theorem q_d2_105 : q_al (q_pV2 105) (q_vtT.getD 105 []) := q_al.c (⟨_, q_m89, "CaptainClaimsModel", rfl, rfl, rfl, Or.inr ⟨q_m89, rfl, q_cde89, q_w3176⟩, q_w3176, Or.inl ⟨q_w3177, Or.inl rfl⟩⟩) <| q_al.n
theorem q_d2_106 : q_al (q_pV2 106) (q_vtT.getD 106 []) := q_al.c (⟨_, q_m91, "CaptainClaimsModel", rfl, rfl, rfl, Or.inr ⟨q_m91, rfl, q_cde91, q_w3181⟩, q_w3181, Or.inl ⟨q_w3182, Or.inl rfl⟩⟩) <| q_al.n
theorem q_d2_107 : q_al (q_pV2 107) (q_vtT.getD 107 []) := q_al.c (⟨_, q_m93, "CaptainClaimsModel", rfl, rfl, rfl, Or.inr ⟨q_m93, rfl, q_cde93, q_w3185⟩, q_w3185, Or.inl ⟨q_w3186, Or.inl rfl⟩⟩) <| q_al.n
theorem q_d2_108 : q_al (q_pV2 108) (q_vtT.getD 108 []) := q_al.c (⟨_, q_m95, "CaptainClaimsModel", rfl, rfl, rfl, Or.inr ⟨q_m95, rfl, q_cde95, q_w3194⟩, q_w3194, Or.inl ⟨q_w3195, Or.inl rfl⟩⟩) <| q_al.n
theorem q_d2_109 : q_al (q_pV2 109) (q_vtT.getD 109 []) := q_al.c (⟨_, q_m97, "CaptainClaimsModel", rfl, rfl, rfl, Or.inr ⟨q_m97, rfl, q_cde97, q_w3198⟩, q_w3198, Or.inl ⟨q_w3199, Or.inl rfl⟩⟩) <| q_al.n
theorem q_d2_110 : q_al (q_pV2 110) (q_vtT.getD 110 []) := q_al.c (⟨_, q_m99, "CaptainClaimsModel", rfl, rfl, rfl, Or.inr ⟨q_m99, rfl, q_cde99, q_w3202⟩, q_w3202, Or.inl ⟨q_w3203, Or.inl rfl⟩⟩) <| q_al.n
theorem q_d2_111 : q_al (q_pV2 111) (q_vtT.getD 111 []) := q_al.c (⟨_, q_m101, "CaptainClaimsModel", rfl, rfl, rfl, Or.inr ⟨q_m101, rfl, q_cde101, q_w3210⟩, q_w3210, Or.inl ⟨q_w3211, Or.inl rfl⟩⟩) <| q_al.n
theorem q_d2_112 : q_al (q_pV2 112) (q_vtT.getD 112 []) := q_al.c (⟨_, q_m103, "CaptainClaimsModel", rfl, rfl, rfl, Or.inr ⟨q_m103, rfl, q_cde103, q_w3232⟩, q_w3232, Or.inl ⟨q_w3233, Or.inl rfl⟩⟩) <| q_al.n
theorem q_d2_113 : q_al (q_pV2 113) (q_vtT.getD 113 []) := q_al.c (⟨_, q_m105, "CaptainClaimsModel", rfl, rfl, rfl, Or.inr ⟨q_m105, rfl, q_cde105, q_w3236⟩, q_w3236, Or.inl ⟨q_w3237, Or.inl rfl⟩⟩) <| q_al.n
theorem q_d2_114 : q_al (q_pV2 114) (q_vtT.getD 114 []) := q_al.c (⟨_, q_m107, "CaptainClaimsModel", rfl, rfl, rfl, Or.inr ⟨q_m107, rfl, q_cde107, q_w3240⟩, q_w3240, Or.inl ⟨q_w3241, Or.inl rfl⟩⟩) <| q_al.n
theorem q_d2_115 : q_al (q_pV2 115) (q_vtT.getD 115 []) := q_al.c (⟨_, q_m109, "CaptainClaimsModel", rfl, rfl, rfl, Or.inr ⟨q_m109, rfl, q_cde109, q_w3252⟩, q_w3252, Or.inl ⟨q_w3253, Or.inl rfl⟩⟩) <| q_al.n
theorem q_d2_116 : q_al (q_pV2 116) (q_vtT.getD 116 []) := q_al.c (⟨_, q_m111, "CaptainClaimsModel", rfl, rfl, rfl, Or.inr ⟨q_m111, rfl, q_cde111, q_w3256⟩, q_w3256, Or.inl ⟨q_w3257, Or.inl rfl⟩⟩) <| q_al.n
theorem q_d2_117 : q_al (q_pV2 117) (q_vtT.getD 117 []) := q_al.c (⟨_, q_m113, "CaptainClaimsModel", rfl, rfl, rfl, Or.inr ⟨q_m113, rfl, q_cde113, q_w3264⟩, q_w3264, Or.inl ⟨q_w3265, Or.inl rfl⟩⟩) <| q_al.n
theorem q_d2_118 : q_al (q_pV2 118) (q_vtT.getD 118 []) := q_al.c (⟨_, q_m115, "CaptainClaimsModel", rfl, rfl, rfl, Or.inr ⟨q_m115, rfl, q_cde115, q_w3272⟩, q_w3272, Or.inl ⟨q_w3273, Or.inl rfl⟩⟩) <| q_al.n
theorem q_d2_119 : q_al (q_pV2 119) (q_vtT.getD 119 []) := q_al.c (⟨_, q_m117, "CaptainClaimsModel", rfl, rfl, rfl, Or.inr ⟨q_m117, rfl, q_cde117, q_w3276⟩, q_w3276, Or.inl ⟨q_w3277, Or.inl rfl⟩⟩) <| q_al.n
theorem q_d2_120 : q_al (q_pV2 120) (q_vtT.getD 120 []) := q_al.c (⟨_, q_m119, "CaptainClaimsModel", rfl, rfl, rfl, Or.inr ⟨q_m119, rfl, q_cde119, q_w3280⟩, q_w3280, Or.inl ⟨q_w3281, Or.inl rfl⟩⟩) <| q_al.n
theorem q_d2_121 : q_al (q_pV2 121) (q_vtT.getD 121 []) := q_al.c (⟨_, q_m121, "CaptainClaimsModel", rfl, rfl, rfl, Or.inr ⟨q_m121, rfl, q_cde121, q_w3285⟩, q_w3285, Or.inl ⟨q_w3286, Or.inl rfl⟩⟩) <| q_al.n
theorem q_d2_122 : q_al (q_pV2 122) (q_vtT.getD 122 []) := q_al.c (⟨_, q_m123, "CaptainClaimsModel", rfl, rfl, rfl, Or.inr ⟨q_m123, rfl, q_cde123, q_w3289⟩, q_w3289, Or.inl ⟨q_w3290, Or.inl rfl⟩⟩) <| q_al.n
theorem q_d2_123 : q_al (q_pV2 123) (q_vtT.getD 123 []) := q_al.c (⟨_, q_m124, "CaptainClaims", rfl, rfl, rfl, Or.inr ⟨q_m124, rfl, q_cde124, q_w251⟩, q_w251, Or.inl ⟨q_w252, Or.inl rfl⟩⟩) <| q_al.n
theorem q_d2_124 : q_al (q_pV2 124) (q_vtT.getD 124 []) := q_al.c (⟨_, q_m125, "CaptainClaimsModel", rfl, rfl, rfl, Or.inr ⟨q_m125, rfl, q_cde125, q_w3293⟩, q_w3293, Or.inl ⟨q_w3294, Or.inl rfl⟩⟩) <| q_al.n
theorem q_d2_125 : q_al (q_pV2 125) (q_vtT.getD 125 []) := q_al.c (⟨_, q_m127, "CaptainClaimsModel", rfl, rfl, rfl, Or.inr ⟨q_m127, rfl, q_cde127, q_w3297⟩, q_w3297, Or.inl ⟨q_w3298, Or.inl rfl⟩⟩) <| q_al.n
theorem q_d2_126 : q_al (q_pV2 126) (q_vtT.getD 126 []) := q_al.c (⟨_, q_m129, "CaptainClaimsModel", rfl, rfl, rfl, Or.inr ⟨q_m129, rfl, q_cde129, q_w3301⟩, q_w3301, Or.inl ⟨q_w3302, Or.inl rfl⟩⟩) <| q_al.n
theorem q_d7_127 : q_al (q_pV7 127) (q_vtT.getD 127 []) := q_al.c (⟨_, "java/util/List", q_m264, "java/util/ArrayList", rfl, rfl, rfl, q_w1023, Or.inl q_w1022, Or.inl rfl, q_w1027, q_w1028, q_w1024, q_w1026, Or.inl q_w1025⟩) <| q_al.n
theorem q_d7_128 : q_al (q_pV7 128) (q_vtT.getD 128 []) := q_al.c (⟨_, "java/util/List", q_m270, "java/util/ArrayList", rfl, rfl, rfl, q_w1103, Or.inl q_w1102, Or.inl rfl, q_w1106, q_w1107, q_w1024, q_w1105, Or.inl q_w1104⟩) <| q_al.n
theorem q_d7_129 : q_al (q_pV7 129) (q_vtT.getD 129 []) := q_al.c (⟨_, "java/lang/Comparable", q_m345, "java/lang/Integer", rfl, rfl, rfl, q_w1597, Or.inl q_w1596, Or.inl rfl, q_w1629, q_w1630, q_w1626, q_w1628, Or.inl q_w1627⟩) <| q_al.n
theorem q_d2_130 : q_al (q_pV2 130) (q_vtT.getD 130 []) := q_al.c (⟨_, q_m131, "CaptainClaims", rfl, rfl, rfl, Or.inr ⟨q_m131, rfl, q_cde131, q_w235⟩, q_w235, Or.inl ⟨qs0, Or.inl rfl⟩⟩) <| q_al.n
theorem q_d2_131 : q_al (q_pV2 131) (q_vtT.getD 131 []) := q_al.c (⟨_, q_m237, "CaptainClaims$Parser", rfl, rfl, rfl, Or.inr ⟨q_m237, rfl, q_cde237, q_w422⟩, q_w422, Or.inl ⟨q_w423, Or.inl rfl⟩⟩) <| q_al.n
theorem q_d2_132 : q_al (q_pV2 132) (q_vtT.getD 132 []) := q_al.c (⟨_, q_m238, "CaptainClaims$FormatException", rfl, rfl, rfl, Or.inr ⟨q_m238, rfl, q_cde238, q_w1432⟩, q_w1432, Or.inl ⟨q_w1433, Or.inl rfl⟩⟩) <| q_al.n
theorem q_d7_133 : q_al (q_pV7 133) (q_vtT.getD 133 []) := q_al.c (⟨_, "java/util/Collection", q_m239, "java/util/ArrayDeque", rfl, rfl, rfl, q_w1449, Or.inr (List.mem_of_getElem? (i := 2) rfl), Or.inr ⟨by decide, q_w1448, by decide, by decide⟩, q_w1452, q_w1453, q_w258, q_w1451, Or.inl q_w1450⟩) <| q_al.n
theorem q_d2_134 : q_al (q_pV2 134) (q_vtT.getD 134 []) := q_al.c (⟨_, q_m241, "CaptainClaims$Register", rfl, rfl, rfl, Or.inr ⟨q_m241, rfl, q_cde241, q_w1017⟩, q_w1017, Or.inl ⟨q_w1018, Or.inl rfl⟩⟩) <| q_al.n
theorem q_d2_135 : q_al (q_pV2 135) (q_vtT.getD 135 []) := q_al.c (⟨_, q_m248, "CaptainClaims", rfl, rfl, rfl, Or.inr ⟨q_m248, rfl, q_cde248, q_w1470⟩, q_w1470, Or.inl ⟨qs35, Or.inl rfl⟩⟩) <| q_al.n
theorem q_d2_136 : q_al (q_pV2 136) (q_vtT.getD 136 []) := q_al.c (⟨_, q_m249, "CaptainClaims", rfl, rfl, rfl, Or.inr ⟨q_m249, rfl, q_cde249, q_w1510⟩, q_w1510, Or.inl ⟨qs36, Or.inl rfl⟩⟩) <| q_al.n
theorem q_d2_137 : q_al (q_pV2 137) (q_vtT.getD 137 []) := q_al.c (⟨_, q_m250, "CaptainClaims$Puzzle", rfl, rfl, rfl, Or.inr ⟨q_m250, rfl, q_cde250, q_w1069⟩, q_w1069, Or.inl ⟨q_w1070, Or.inl rfl⟩⟩) <| q_al.n
theorem q_d2_138 : q_al (q_pV2 138) (q_vtT.getD 138 []) := q_al.c (⟨_, q_m251, "CaptainClaims$Puzzle", rfl, rfl, rfl, Or.inr ⟨q_m251, rfl, q_cde251, q_w863⟩, q_w863, Or.inl ⟨q_w864, Or.inl rfl⟩⟩) <| q_al.n
theorem q_d2_139 : q_al (q_pV2 139) (q_vtT.getD 139 []) := q_al.c (⟨_, q_m252, "CaptainClaims$Puzzle", rfl, rfl, rfl, Or.inr ⟨q_m252, rfl, q_cde252, q_w1530⟩, q_w1530, Or.inl ⟨q_w1531, Or.inl rfl⟩⟩) <| q_al.n
theorem q_d7_140 : q_al (q_pV7 140) (q_vtT.getD 140 []) := q_al.c (⟨_, "java/util/List", q_m257, "java/util/ArrayList", rfl, rfl, rfl, q_w1146, Or.inl q_w1145, Or.inl rfl, q_w1149, q_w1150, q_w1024, q_w1148, Or.inl q_w1147⟩) <| q_al.n
theorem q_d2_141 : q_al (q_pV2 141) (q_vtT.getD 141 []) := q_al.c (⟨_, q_m259, "CaptainClaims", rfl, rfl, rfl, Or.inr ⟨q_m259, rfl, q_cde259, q_w1833⟩, q_w1833, Or.inl ⟨qs37, Or.inl rfl⟩⟩) <| q_al.n
theorem q_d2_142 : q_al (q_pV2 142) (q_vtT.getD 142 []) := q_al.c (⟨_, q_m260, "CaptainClaims$Register", rfl, rfl, rfl, Or.inr ⟨q_m260, rfl, q_cde260, q_w1836⟩, q_w1836, Or.inl ⟨q_w1837, Or.inl rfl⟩⟩) <| q_al.n
theorem q_d2_143 : q_al (q_pV2 143) (q_vtT.getD 143 []) := q_al.c (⟨_, q_m261, "CaptainClaims$Captain", rfl, rfl, rfl, Or.inr ⟨q_m261, rfl, q_cde261, q_w1125⟩, q_w1125, Or.inl ⟨q_w3317, Or.inl rfl⟩⟩) <| q_al.n
theorem q_d2_144 : q_al (q_pV2 144) (q_vtT.getD 144 []) := q_al.c (⟨_, q_m262, "java/lang/String", rfl, rfl, rfl, Or.inr ⟨q_m262, rfl, q_cde262, q_w668⟩, q_w668, Or.inl ⟨q_w669, Or.inl rfl⟩⟩) <| q_al.n
theorem q_d2_145 : q_al (q_pV2 145) (q_vtT.getD 145 []) := q_al.c (⟨_, q_m263, "java/lang/String", rfl, rfl, rfl, Or.inr ⟨q_m263, rfl, q_cde263, q_w1843⟩, q_w1843, Or.inl ⟨q_w1844, Or.inl rfl⟩⟩) <| q_al.n
theorem q_d7_146 : q_al (q_pV7 146) (q_vtT.getD 146 []) := q_al.c (⟨_, "java/util/List", q_m265, "java/util/ArrayList", rfl, rfl, rfl, q_w1900, Or.inl q_w1899, Or.inl rfl, q_w1903, q_w1904, q_w1024, q_w1902, Or.inl q_w1901⟩) <| q_al.n
theorem q_d7_147 : q_al (q_pV7 147) (q_vtT.getD 147 []) := q_al.c (⟨_, "java/util/Iterator", q_m266, "java/util/ArrayList$Itr", rfl, rfl, rfl, q_w1928, Or.inl q_w1927, Or.inl rfl, q_w1932, q_w1933, q_w1929, q_w1931, Or.inl q_w1930⟩) <| q_al.n
theorem q_d7_148 : q_al (q_pV7 148) (q_vtT.getD 148 []) := q_al.c (⟨_, "java/util/Iterator", q_m267, "java/util/ArrayList$Itr", rfl, rfl, rfl, q_w1938, Or.inl q_w1937, Or.inl rfl, q_w1941, q_w1942, q_w1929, q_w1940, Or.inl q_w1939⟩) <| q_al.n
theorem q_d2_149 : q_al (q_pV2 149) (q_vtT.getD 149 []) := q_al.c (⟨_, q_m269, "CaptainClaims", rfl, rfl, rfl, Or.inr ⟨q_m269, rfl, q_cde269, q_w1961⟩, q_w1961, Or.inl ⟨qs38, Or.inl rfl⟩⟩) <| q_al.n
theorem q_d7_150 : q_al (q_pV7 150) (q_vtT.getD 150 []) := q_al.c (⟨_, "CaptainClaims$Claim", q_m271, "CaptainClaims$BothClaim", rfl, rfl, rfl, q_w1973, Or.inl q_w1972, Or.inl rfl, q_w1977, q_w1978, q_w1974, q_w1976, Or.inl q_w1975⟩) <| q_al.c (⟨_, "CaptainClaims$Claim", q_m271, "CaptainClaims$EitherClaim", rfl, rfl, rfl, q_w1973, Or.inl q_w1972, Or.inl rfl, q_w1977, q_w1978, q_w1997, q_w1999, Or.inl q_w1998⟩) <| q_al.c (⟨_, "CaptainClaims$Claim", q_m271, "CaptainClaims$NotClaim", rfl, rfl, rfl, q_w1973, Or.inl q_w1972, Or.inl rfl, q_w1977, q_w1978, q_w2004, q_w2006, Or.inl q_w2005⟩) <| q_al.c (⟨_, "CaptainClaims$Claim", q_m272, "CaptainClaims$RowClaim", rfl, rfl, rfl, q_w1973, Or.inl q_w1972, Or.inl rfl, q_w1992, q_w1993, q_w2007, q_w2008, Or.inr ⟨rfl, List.mem_of_getElem? (i := 8) rfl⟩⟩) <| q_al.c (⟨_, "CaptainClaims$Claim", q_m272, "CaptainClaims$ColumnClaim", rfl, rfl, rfl, q_w1973, Or.inl q_w1972, Or.inl rfl, q_w1992, q_w1993, q_w1995, q_w1996, Or.inr ⟨rfl, List.mem_of_getElem? (i := 5) rfl⟩⟩) <| q_al.c (⟨_, "CaptainClaims$Claim", q_m272, "CaptainClaims$NearClaim", rfl, rfl, rfl, q_w1973, Or.inl q_w1972, Or.inl rfl, q_w1992, q_w1993, q_w2002, q_w2003, Or.inr ⟨rfl, List.mem_of_getElem? (i := 7) rfl⟩⟩) <| q_al.c (⟨_, "CaptainClaims$Claim", q_m272, "CaptainClaims$SizeClaim", rfl, rfl, rfl, q_w1973, Or.inl q_w1972, Or.inl rfl, q_w1992, q_w1993, q_w2011, q_w2012, Or.inr ⟨rfl, List.mem_of_getElem? (i := 10) rfl⟩⟩) <| q_al.c (⟨_, "CaptainClaims$Claim", q_m272, "CaptainClaims$CoastClaim", rfl, rfl, rfl, q_w1973, Or.inl q_w1972, Or.inl rfl, q_w1992, q_w1993, q_w1990, q_w1991, Or.inr ⟨rfl, List.mem_of_getElem? (i := 4) rfl⟩⟩) <| q_al.c (⟨_, "CaptainClaims$Claim", q_m272, "CaptainClaims$SameClaim", rfl, rfl, rfl, q_w1973, Or.inl q_w1972, Or.inl rfl, q_w1992, q_w1993, q_w2009, q_w2010, Or.inr ⟨rfl, List.mem_of_getElem? (i := 9) rfl⟩⟩) <| q_al.c (⟨_, "CaptainClaims$Claim", q_m272, "CaptainClaims$HonestClaim", rfl, rfl, rfl, q_w1973, Or.inl q_w1972, Or.inl rfl, q_w1992, q_w1993, q_w2000, q_w2001, Or.inr ⟨rfl, List.mem_of_getElem? (i := 6) rfl⟩⟩) <| q_al.n
theorem q_d7_151 : q_al (q_pV7 151) (q_vtT.getD 151 []) := q_al.c (⟨_, "CaptainClaims$Claim", q_m274, "CaptainClaims$BothClaim", rfl, rfl, rfl, q_w2026, Or.inl q_w2025, Or.inl rfl, q_w2029, q_w2030, q_w1974, q_w2028, Or.inl q_w2027⟩) <| q_al.c (⟨_, "CaptainClaims$Claim", q_m275, "CaptainClaims$CoastClaim", rfl, rfl, rfl, q_w2026, Or.inl q_w2025, Or.inl rfl, q_w2039, q_w2040, q_w1990, q_w2038, Or.inl q_w2037⟩) <| q_al.c (⟨_, "CaptainClaims$Claim", q_m276, "CaptainClaims$ColumnClaim", rfl, rfl, rfl, q_w2026, Or.inl q_w2025, Or.inl rfl, q_w2045, q_w2046, q_w1995, q_w2044, Or.inl q_w2043⟩) <| q_al.c (⟨_, "CaptainClaims$Claim", q_m277, "CaptainClaims$EitherClaim", rfl, rfl, rfl, q_w2026, Or.inl q_w2025, Or.inl rfl, q_w2064, q_w2065, q_w1997, q_w2063, Or.inl q_w2062⟩) <| q_al.c (⟨_, "CaptainClaims$Claim", q_m278, "CaptainClaims$HonestClaim", rfl, rfl, rfl, q_w2026, Or.inl q_w2025, Or.inl rfl, q_w2074, q_w2075, q_w2000, q_w2073, Or.inl q_w2072⟩) <| q_al.c (⟨_, "CaptainClaims$Claim", q_m279, "CaptainClaims$NearClaim", rfl, rfl, rfl, q_w2026, Or.inl q_w2025, Or.inl rfl, q_w2082, q_w2083, q_w2002, q_w2081, Or.inl q_w2080⟩) <| q_al.c (⟨_, "CaptainClaims$Claim", q_m280, "CaptainClaims$NotClaim", rfl, rfl, rfl, q_w2026, Or.inl q_w2025, Or.inl rfl, q_w2090, q_w2091, q_w2004, q_w2089, Or.inl q_w2088⟩) <| q_al.c (⟨_, "CaptainClaims$Claim", q_m276, "CaptainClaims$RowClaim", rfl, rfl, rfl, q_w2026, Or.inl q_w2025, Or.inl rfl, q_w2045, q_w2046, q_w2007, q_w2099, Or.inl q_w2098⟩) <| q_al.c (⟨_, "CaptainClaims$Claim", q_m281, "CaptainClaims$SameClaim", rfl, rfl, rfl, q_w2026, Or.inl q_w2025, Or.inl rfl, q_w2102, q_w2103, q_w2009, q_w2101, Or.inl q_w2100⟩) <| q_al.c (⟨_, "CaptainClaims$Claim", q_m276, "CaptainClaims$SizeClaim", rfl, rfl, rfl, q_w2026, Or.inl q_w2025, Or.inl rfl, q_w2045, q_w2046, q_w2011, q_w2108, Or.inl q_w2107⟩) <| q_al.n
theorem q_d2_152 : q_al (q_pV2 152) (q_vtT.getD 152 []) := q_al.c (⟨_, q_m282, "CaptainClaims$Puzzle", rfl, rfl, rfl, Or.inr ⟨q_m282, rfl, q_cde282, q_w2117⟩, q_w2117, Or.inl ⟨q_w2118, Or.inl rfl⟩⟩) <| q_al.n
theorem q_d2_153 : q_al (q_pV2 153) (q_vtT.getD 153 []) := q_al.c (⟨_, q_m286, "CaptainClaims$Census", rfl, rfl, rfl, Or.inr ⟨q_m286, rfl, q_cde286, q_w2195⟩, q_w2195, Or.inl ⟨q_w2196, Or.inl rfl⟩⟩) <| q_al.n
theorem q_d2_154 : q_al (q_pV2 154) (q_vtT.getD 154 []) := q_al.c (⟨_, q_m287, "CaptainClaims$Census", rfl, rfl, rfl, Or.inr ⟨q_m287, rfl, q_cde287, q_w2199⟩, q_w2199, Or.inl ⟨q_w2200, Or.inl rfl⟩⟩) <| q_al.n
theorem q_d2_155 : q_al (q_pV2 155) (q_vtT.getD 155 []) := q_al.c (⟨_, q_m288, "CaptainClaims$Puzzle", rfl, rfl, rfl, Or.inr ⟨q_m288, rfl, q_cde288, q_w856⟩, q_w856, Or.inl ⟨q_w857, Or.inl rfl⟩⟩) <| q_al.n
theorem q_d2_156 : q_al (q_pV2 156) (q_vtT.getD 156 []) := q_al.c (⟨_, q_m289, "CaptainClaims$Puzzle", rfl, rfl, rfl, Or.inr ⟨q_m289, rfl, q_cde289, q_w2248⟩, q_w2248, Or.inl ⟨q_w2249, Or.inl rfl⟩⟩) <| q_al.n
theorem q_d2_157 : q_al (q_pV2 157) (q_vtT.getD 157 []) := q_al.c (⟨_, q_m290, "CaptainClaims$Census", rfl, rfl, rfl, Or.inr ⟨q_m290, rfl, q_cde290, q_w2274⟩, q_w2274, Or.inl ⟨q_w2275, Or.inl rfl⟩⟩) <| q_al.n
theorem q_d2_158 : q_al (q_pV2 158) (q_vtT.getD 158 []) := q_al.c (⟨_, q_m291, "CaptainClaims", rfl, rfl, rfl, Or.inr ⟨q_m291, rfl, q_cde291, q_w2293⟩, q_w2293, Or.inl ⟨qs41, Or.inl rfl⟩⟩) <| q_al.n
theorem q_d2_159 : q_al (q_pV2 159) (q_vtT.getD 159 []) := q_al.c (⟨_, q_m292, "CaptainClaims$Puzzle", rfl, rfl, rfl, Or.inr ⟨q_m292, rfl, q_cde292, q_w2121⟩, q_w2121, Or.inl ⟨q_w2122, Or.inl rfl⟩⟩) <| q_al.n
theorem q_d2_160 : q_al (q_pV2 160) (q_vtT.getD 160 []) := q_al.c (⟨_, q_m342, "java/lang/StringBuilder", rfl, rfl, rfl, Or.inr ⟨q_m342, rfl, q_cde342, q_w571⟩, q_w571, Or.inl ⟨q_w572, Or.inl rfl⟩⟩) <| q_al.n
theorem q_d2_161 : q_al (q_pV2 161) (q_vtT.getD 161 []) := q_al.c (⟨_, q_m295, "java/lang/StringBuilder", rfl, rfl, rfl, Or.inr ⟨q_m295, rfl, q_cde295, q_w476⟩, q_w476, Or.inl ⟨q_w477, Or.inl rfl⟩⟩) <| q_al.n
theorem q_d2_162 : q_al (q_pV2 162) (q_vtT.getD 162 []) := q_al.c (⟨_, q_m296, "CaptainClaims", rfl, rfl, rfl, Or.inr ⟨q_m296, rfl, q_cde296, q_w2374⟩, q_w2374, Or.inl ⟨qs42, Or.inl rfl⟩⟩) <| q_al.n
theorem q_d2_163 : q_al (q_pV2 163) (q_vtT.getD 163 []) := q_al.c (⟨_, q_m297, "java/lang/StringBuilder", rfl, rfl, rfl, Or.inr ⟨q_m297, rfl, q_cde297, q_w654⟩, q_w654, Or.inl ⟨q_w655, Or.inl rfl⟩⟩) <| q_al.n
theorem q_d7_164 : q_al (q_pV7 164) (q_vtT.getD 164 []) := q_al.c (⟨_, "CaptainClaims$Claim", q_m298, "CaptainClaims$BothClaim", rfl, rfl, rfl, q_w2389, Or.inl q_w2388, Or.inl rfl, q_w2392, q_w2393, q_w1974, q_w2391, Or.inl q_w2390⟩) <| q_al.c (⟨_, "CaptainClaims$Claim", q_m299, "CaptainClaims$CoastClaim", rfl, rfl, rfl, q_w2389, Or.inl q_w2388, Or.inl rfl, q_w2406, q_w2407, q_w1990, q_w2405, Or.inl q_w2404⟩) <| q_al.c (⟨_, "CaptainClaims$Claim", q_m300, "CaptainClaims$ColumnClaim", rfl, rfl, rfl, q_w2389, Or.inl q_w2388, Or.inl rfl, q_w2418, q_w2419, q_w1995, q_w2417, Or.inl q_w2416⟩) <| q_al.c (⟨_, "CaptainClaims$Claim", q_m298, "CaptainClaims$EitherClaim", rfl, rfl, rfl, q_w2389, Or.inl q_w2388, Or.inl rfl, q_w2392, q_w2393, q_w1997, q_w2423, Or.inl q_w2422⟩) <| q_al.c (⟨_, "CaptainClaims$Claim", q_m301, "CaptainClaims$HonestClaim", rfl, rfl, rfl, q_w2389, Or.inl q_w2388, Or.inl rfl, q_w2426, q_w2427, q_w2000, q_w2425, Or.inl q_w2424⟩) <| q_al.c (⟨_, "CaptainClaims$Claim", q_m302, "CaptainClaims$NearClaim", rfl, rfl, rfl, q_w2389, Or.inl q_w2388, Or.inl rfl, q_w2433, q_w2434, q_w2002, q_w2432, Or.inl q_w2431⟩) <| q_al.c (⟨_, "CaptainClaims$Claim", q_m298, "CaptainClaims$NotClaim", rfl, rfl, rfl, q_w2389, Or.inl q_w2388, Or.inl rfl, q_w2392, q_w2393, q_w2004, q_w2439, Or.inl q_w2438⟩) <| q_al.c (⟨_, "CaptainClaims$Claim", q_m300, "CaptainClaims$RowClaim", rfl, rfl, rfl, q_w2389, Or.inl q_w2388, Or.inl rfl, q_w2418, q_w2419, q_w2007, q_w2441, Or.inl q_w2440⟩) <| q_al.c (⟨_, "CaptainClaims$Claim", q_m303, "CaptainClaims$SameClaim", rfl, rfl, rfl, q_w2389, Or.inl q_w2388, Or.inl rfl, q_w2444, q_w2445, q_w2009, q_w2443, Or.inl q_w2442⟩) <| q_al.c (⟨_, "CaptainClaims$Claim", q_m300, "CaptainClaims$SizeClaim", rfl, rfl, rfl, q_w2389, Or.inl q_w2388, Or.inl rfl, q_w2418, q_w2419, q_w2011, q_w2450, Or.inl q_w2449⟩) <| q_al.n
theorem q_d7_165 : q_al (q_pV7 165) (q_vtT.getD 165 []) := q_al.c (⟨_, "java/util/Deque", q_m230, "java/util/ArrayDeque", rfl, rfl, rfl, q_w257, Or.inl q_w256, Or.inl rfl, q_w261, q_w262, q_w258, q_w260, Or.inl q_w259⟩) <| q_al.n
theorem q_d7_166 : q_al (q_pV7 166) (q_vtT.getD 166 []) := q_al.c (⟨_, "java/util/Deque", q_m370, "java/util/ArrayDeque", rfl, rfl, rfl, q_w2488, Or.inl q_w2487, Or.inl rfl, q_w2491, q_w2492, q_w258, q_w2490, Or.inl q_w2489⟩) <| q_al.n
theorem q_d7_167 : q_al (q_pV7 167) (q_vtT.getD 167 []) := q_al.c (⟨_, "java/util/Deque", q_m371, "java/util/ArrayDeque", rfl, rfl, rfl, q_w2507, Or.inl q_w2506, Or.inl rfl, q_w2510, q_w2511, q_w258, q_w2509, Or.inl q_w2508⟩) <| q_al.n
theorem q_d2_168 : q_al (q_pV2 168) (q_vtT.getD 168 []) := q_al.c (⟨_, q_m307, "CaptainClaims", rfl, rfl, rfl, Or.inr ⟨q_m307, rfl, q_cde307, q_w2483⟩, q_w2483, Or.inl ⟨qs43, Or.inl rfl⟩⟩) <| q_al.n
theorem q_d2_169 : q_al (q_pV2 169) (q_vtT.getD 169 []) := q_al.c (⟨_, q_m306, "CaptainClaims$Parser", rfl, rfl, rfl, Or.inr ⟨q_m306, rfl, q_cde306, q_w2478⟩, q_w2478, Or.inl ⟨q_w2479, Or.inl rfl⟩⟩) <| q_al.n
theorem q_d2_170 : q_al (q_pV2 170) (q_vtT.getD 170 []) := q_al.c (⟨_, q_m311, "CaptainClaims$Parser", rfl, rfl, rfl, Or.inr ⟨q_m311, rfl, q_cde311, q_w2538⟩, q_w2538, Or.inl ⟨q_w2539, Or.inl rfl⟩⟩) <| q_al.n
theorem q_d2_171 : q_al (q_pV2 171) (q_vtT.getD 171 []) := q_al.c (⟨_, q_m312, "CaptainClaims", rfl, rfl, rfl, Or.inr ⟨q_m312, rfl, q_cde312, q_w2543⟩, q_w2543, Or.inl ⟨qs46, Or.inl rfl⟩⟩) <| q_al.n
theorem q_d7_172 : q_al (q_pV7 172) (q_vtT.getD 172 []) := q_al.c (⟨_, "java/util/List", q_m316, "java/util/ArrayList", rfl, rfl, rfl, q_w2556, Or.inl q_w2555, Or.inl rfl, q_w2559, q_w2560, q_w1024, q_w2558, Or.inl q_w2557⟩) <| q_al.n
theorem q_d2_173 : q_al (q_pV2 173) (q_vtT.getD 173 []) := q_al.c (⟨_, q_m317, "CaptainClaims", rfl, rfl, rfl, Or.inr ⟨q_m317, rfl, q_cde317, q_w2576⟩, q_w2576, Or.inl ⟨qs48, Or.inl rfl⟩⟩) <| q_al.n
theorem q_d7_174 : q_al (q_pV7 174) (q_vtT.getD 174 []) := q_al.c (⟨_, "java/util/Collection", q_m318, "java/util/ArrayDeque", rfl, rfl, rfl, q_w2616, Or.inr (List.mem_of_getElem? (i := 3) rfl), Or.inr ⟨by decide, q_w2615, by decide, by decide⟩, q_w2619, q_w2620, q_w258, q_w2618, Or.inl q_w2617⟩) <| q_al.n
theorem q_d7_175 : q_al (q_pV7 175) (q_vtT.getD 175 []) := q_al.c (⟨_, "java/util/Deque", q_m319, "java/util/ArrayDeque", rfl, rfl, rfl, q_w2625, Or.inl q_w2624, Or.inl rfl, q_w2628, q_w2629, q_w258, q_w2627, Or.inl q_w2626⟩) <| q_al.n
theorem q_d2_176 : q_al (q_pV2 176) (q_vtT.getD 176 []) := q_al.c (⟨_, q_m134, "CaptainClaimsModel", rfl, rfl, rfl, Or.inr ⟨q_m134, rfl, q_cde134, q_w2775⟩, q_w2775, Or.inl ⟨qs49, Or.inl rfl⟩⟩) <| q_al.n
theorem q_d2_177 : q_al (q_pV2 177) (q_vtT.getD 177 []) := q_al.c (⟨_, q_m171, "CaptainClaimsModel", rfl, rfl, rfl, Or.inr ⟨q_m171, rfl, q_cde171, q_w2851⟩, q_w2851, Or.inl ⟨qs64, Or.inl rfl⟩⟩) <| q_al.n
theorem q_d2_178 : q_al (q_pV2 178) (q_vtT.getD 178 []) := q_al.c (⟨_, q_m145, "CaptainClaimsModel", rfl, rfl, rfl, Or.inr ⟨q_m145, rfl, q_cde145, q_w2855⟩, q_w2855, Or.inl ⟨qs65, Or.inl rfl⟩⟩) <| q_al.n
theorem q_d2_179 : q_al (q_pV2 179) (q_vtT.getD 179 []) := q_al.c (⟨_, q_m146, "CaptainClaimsModel", rfl, rfl, rfl, Or.inr ⟨q_m146, rfl, q_cde146, q_w2859⟩, q_w2859, Or.inl ⟨qs66, Or.inl rfl⟩⟩) <| q_al.n
theorem q_d2_180 : q_al (q_pV2 180) (q_vtT.getD 180 []) := q_al.c (⟨_, q_m253, "CaptainClaimsModel", rfl, rfl, rfl, Or.inr ⟨q_m253, rfl, q_cde253, q_w2984⟩, q_w2984, Or.inl ⟨qs87, Or.inl rfl⟩⟩) <| q_al.n
theorem q_d2_181 : q_al (q_pV2 181) (q_vtT.getD 181 []) := q_al.c (⟨_, q_m179, "CaptainClaimsModel", rfl, rfl, rfl, Or.inr ⟨q_m179, rfl, q_cde179, q_w2996⟩, q_w2996, Or.inl ⟨qs89, Or.inl rfl⟩⟩) <| q_al.n
theorem q_d2_182 : q_al (q_pV2 182) (q_vtT.getD 182 []) := q_al.c (⟨_, q_m254, "CaptainClaimsModel", rfl, rfl, rfl, Or.inr ⟨q_m254, rfl, q_cde254, q_w3000⟩, q_w3000, Or.inl ⟨qs90, Or.inl rfl⟩⟩) <| q_al.n
theorem q_d2_183 : q_al (q_pV2 183) (q_vtT.getD 183 []) := q_al.c (⟨_, q_m165, "CaptainClaimsModel", rfl, rfl, rfl, Or.inr ⟨q_m165, rfl, q_cde165, q_w2910⟩, q_w2910, Or.inl ⟨qs75, Or.inl rfl⟩⟩) <| q_al.n
theorem q_d2_184 : q_al (q_pV2 184) (q_vtT.getD 184 []) := q_al.c (⟨_, q_m208, "CaptainClaimsModel", rfl, rfl, rfl, Or.inr ⟨q_m208, rfl, q_cde208, q_w3073⟩, q_w3073, Or.inl ⟨qs94, Or.inl rfl⟩⟩) <| q_al.n
theorem q_d2_185 : q_al (q_pV2 185) (q_vtT.getD 185 []) := q_al.c (⟨_, q_m149, "CaptainClaimsModel", rfl, rfl, rfl, Or.inr ⟨q_m149, rfl, q_cde149, q_w2980⟩, q_w2980, Or.inl ⟨qs86, Or.inl rfl⟩⟩) <| q_al.n
theorem q_d2_186 : q_al (q_pV2 186) (q_vtT.getD 186 []) := q_al.c (⟨_, q_m172, "CaptainClaimsModel", rfl, rfl, rfl, Or.inr ⟨q_m172, rfl, q_cde172, q_w3069⟩, q_w3069, Or.inl ⟨qs93, Or.inl rfl⟩⟩) <| q_al.n
theorem q_d2_187 : q_al (q_pV2 187) (q_vtT.getD 187 []) := q_al.c (⟨_, q_m152, "CaptainClaimsModel", rfl, rfl, rfl, Or.inr ⟨q_m152, rfl, q_cde152, q_w2992⟩, q_w2992, Or.inl ⟨qs88, Or.inl rfl⟩⟩) <| q_al.n
theorem q_d2_188 : q_al (q_pV2 188) (q_vtT.getD 188 []) := q_al.c (⟨_, q_m283, "CaptainClaimsModel", rfl, rfl, rfl, Or.inr ⟨q_m283, rfl, q_cde283, q_w3086⟩, q_w3086, Or.inl ⟨qs96, Or.inl rfl⟩⟩) <| q_al.n
theorem q_d2_189 : q_al (q_pV2 189) (q_vtT.getD 189 []) := q_al.c (⟨_, q_m284, "CaptainClaimsModel", rfl, rfl, rfl, Or.inr ⟨q_m284, rfl, q_cde284, q_w3093⟩, q_w3093, Or.inl ⟨qs97, Or.inl rfl⟩⟩) <| q_al.n
theorem q_d2_190 : q_al (q_pV2 190) (q_vtT.getD 190 []) := q_al.c (⟨_, q_m285, "CaptainClaimsModel", rfl, rfl, rfl, Or.inr ⟨q_m285, rfl, q_cde285, q_w3097⟩, q_w3097, Or.inl ⟨qs98, Or.inl rfl⟩⟩) <| q_al.n
theorem q_d2_191 : q_al (q_pV2 191) (q_vtT.getD 191 []) := q_al.c (⟨_, q_m174, "CaptainClaimsModel", rfl, rfl, rfl, Or.inr ⟨q_m174, rfl, q_cde174, q_w3082⟩, q_w3082, Or.inl ⟨qs95, Or.inl rfl⟩⟩) <| q_al.n
theorem q_d2_192 : q_al (q_pV2 192) (q_vtT.getD 192 []) := q_al.c (⟨_, q_m329, "CaptainClaimsModel", rfl, rfl, rfl, Or.inr ⟨q_m329, rfl, q_cde329, q_w2794⟩, q_w2794, Or.inl ⟨qs53, Or.inl rfl⟩⟩) <| q_al.n
theorem q_d2_193 : q_al (q_pV2 193) (q_vtT.getD 193 []) := q_al.c (⟨_, q_m333, "CaptainClaimsModel", rfl, rfl, rfl, Or.inr ⟨q_m333, rfl, q_cde333, q_w2822⟩, q_w2822, Or.inl ⟨qs57, Or.inl rfl⟩⟩) <| q_al.n
theorem q_d2_194 : q_al (q_pV2 194) (q_vtT.getD 194 []) := q_al.c (⟨_, q_m242, "CaptainClaimsModel", rfl, rfl, rfl, Or.inr ⟨q_m242, rfl, q_cde242, q_w2790⟩, q_w2790, Or.inl ⟨qs52, Or.inl rfl⟩⟩) <| q_al.n
theorem q_d2_195 : q_al (q_pV2 195) (q_vtT.getD 195 []) := q_al.c (⟨_, q_m334, "CaptainClaimsModel", rfl, rfl, rfl, Or.inr ⟨q_m334, rfl, q_cde334, q_w2834⟩, q_w2834, Or.inl ⟨qs60, Or.inl rfl⟩⟩) <| q_al.n
theorem q_d2_196 : q_al (q_pV2 196) (q_vtT.getD 196 []) := q_al.c (⟨_, q_m245, "CaptainClaimsModel", rfl, rfl, rfl, Or.inr ⟨q_m245, rfl, q_cde245, q_w2826⟩, q_w2826, Or.inl ⟨qs58, Or.inl rfl⟩⟩) <| q_al.n
theorem q_d2_197 : q_al (q_pV2 197) (q_vtT.getD 197 []) := q_al.c (⟨_, q_m244, "CaptainClaimsModel", rfl, rfl, rfl, Or.inr ⟨q_m244, rfl, q_cde244, q_w2818⟩, q_w2818, Or.inl ⟨qs56, Or.inl rfl⟩⟩) <| q_al.n
theorem q_d2_198 : q_al (q_pV2 198) (q_vtT.getD 198 []) := q_al.c (⟨_, q_m308, "CaptainClaimsModel", rfl, rfl, rfl, Or.inr ⟨q_m308, rfl, q_cde308, q_w2847⟩, q_w2847, Or.inl ⟨qs63, Or.inl rfl⟩⟩) <| q_al.n
theorem q_d2_199 : q_al (q_pV2 199) (q_vtT.getD 199 []) := q_al.c (⟨_, q_m309, "CaptainClaimsModel", rfl, rfl, rfl, Or.inr ⟨q_m309, rfl, q_cde309, q_w2863⟩, q_w2863, Or.inl ⟨qs67, Or.inl rfl⟩⟩) <| q_al.n
theorem q_d2_200 : q_al (q_pV2 200) (q_vtT.getD 200 []) := q_al.c (⟨_, q_m391, "CaptainClaimsModel", rfl, rfl, rfl, Or.inr ⟨q_m391, rfl, q_cde391, q_w2875⟩, q_w2875, Or.inl ⟨qs69, Or.inl rfl⟩⟩) <| q_al.n
theorem q_d2_201 : q_al (q_pV2 201) (q_vtT.getD 201 []) := q_al.c (⟨_, q_m246, "CaptainClaimsModel", rfl, rfl, rfl, Or.inr ⟨q_m246, rfl, q_cde246, q_w2830⟩, q_w2830, Or.inl ⟨qs59, Or.inl rfl⟩⟩) <| q_al.n
theorem q_d2_202 : q_al (q_pV2 202) (q_vtT.getD 202 []) := q_al.c (⟨_, q_m243, "CaptainClaimsModel", rfl, rfl, rfl, Or.inr ⟨q_m243, rfl, q_cde243, q_w2812⟩, q_w2812, Or.inl ⟨qs55, Or.inl rfl⟩⟩) <| q_al.n
theorem q_d2_203 : q_al (q_pV2 203) (q_vtT.getD 203 []) := q_al.c (⟨_, q_m314, "CaptainClaimsModel", rfl, rfl, rfl, Or.inr ⟨q_m314, rfl, q_cde314, q_w2888⟩, q_w2888, Or.inl ⟨qs72, Or.inl rfl⟩⟩) <| q_al.n
theorem q_d2_204 : q_al (q_pV2 204) (q_vtT.getD 204 []) := q_al.c (⟨_, q_m374, "CaptainClaimsModel", rfl, rfl, rfl, Or.inr ⟨q_m374, rfl, q_cde374, q_w2914⟩, q_w2914, Or.inl ⟨qs76, Or.inl rfl⟩⟩) <| q_al.n
theorem q_d2_205 : q_al (q_pV2 205) (q_vtT.getD 205 []) := q_al.c (⟨_, q_m373, "CaptainClaimsModel", rfl, rfl, rfl, Or.inr ⟨q_m373, rfl, q_cde373, q_w2896⟩, q_w2896, Or.inl ⟨qs74, Or.inl rfl⟩⟩) <| q_al.n
theorem q_d2_206 : q_al (q_pV2 206) (q_vtT.getD 206 []) := q_al.c (⟨_, q_m375, "CaptainClaimsModel", rfl, rfl, rfl, Or.inr ⟨q_m375, rfl, q_cde375, q_w2918⟩, q_w2918, Or.inl ⟨qs77, Or.inl rfl⟩⟩) <| q_al.n
theorem q_d2_207 : q_al (q_pV2 207) (q_vtT.getD 207 []) := q_al.c (⟨_, q_m409, "CaptainClaimsModel", rfl, rfl, rfl, Or.inr ⟨q_m409, rfl, q_cde409, q_w2922⟩, q_w2922, Or.inl ⟨qs78, Or.inl rfl⟩⟩) <| q_al.n
theorem q_d2_208 : q_al (q_pV2 208) (q_vtT.getD 208 []) := q_al.c (⟨_, q_m410, "CaptainClaimsModel", rfl, rfl, rfl, Or.inr ⟨q_m410, rfl, q_cde410, q_w2926⟩, q_w2926, Or.inl ⟨qs79, Or.inl rfl⟩⟩) <| q_al.n
theorem q_d2_209 : q_al (q_pV2 209) (q_vtT.getD 209 []) := q_al.c (⟨_, q_m336, "CaptainClaimsModel", rfl, rfl, rfl, Or.inr ⟨q_m336, rfl, q_cde336, q_w2880⟩, q_w2880, Or.inl ⟨qs70, Or.inl rfl⟩⟩) <| q_al.n
theorem q_d2_210 : q_al (q_pV2 210) (q_vtT.getD 210 []) := q_al.c (⟨_, q_m315, "CaptainClaimsModel", rfl, rfl, rfl, Or.inr ⟨q_m315, rfl, q_cde315, q_w2892⟩, q_w2892, Or.inl ⟨qs73, Or.inl rfl⟩⟩) <| q_al.n
theorem q_d2_211 : q_al (q_pV2 211) (q_vtT.getD 211 []) := q_al.c (⟨_, q_m216, "CaptainClaimsModel", rfl, rfl, rfl, Or.inr ⟨q_m216, rfl, q_cde216, q_w2843⟩, q_w2843, Or.inl ⟨qs62, Or.inl rfl⟩⟩) <| q_al.n
theorem q_d2_212 : q_al (q_pV2 212) (q_vtT.getD 212 []) := q_al.c (⟨_, q_m335, "CaptainClaimsModel", rfl, rfl, rfl, Or.inr ⟨q_m335, rfl, q_cde335, q_w2871⟩, q_w2871, Or.inl ⟨qs68, Or.inl rfl⟩⟩) <| q_al.n
theorem q_d2_213 : q_al (q_pV2 213) (q_vtT.getD 213 []) := q_al.c (⟨_, q_m219, "CaptainClaimsModel", rfl, rfl, rfl, Or.inr ⟨q_m219, rfl, q_cde219, q_w2884⟩, q_w2884, Or.inl ⟨qs71, Or.inl rfl⟩⟩) <| q_al.n
theorem q_d2_214 : q_al (q_pV2 214) (q_vtT.getD 214 []) := q_al.c (⟨_, q_m337, "CaptainClaimsModel", rfl, rfl, rfl, Or.inr ⟨q_m337, rfl, q_cde337, q_w2930⟩, q_w2930, Or.inl ⟨qs80, Or.inl rfl⟩⟩) <| q_al.n
theorem q_d2_215 : q_al (q_pV2 215) (q_vtT.getD 215 []) := q_al.c (⟨_, q_m338, "CaptainClaimsModel", rfl, rfl, rfl, Or.inr ⟨q_m338, rfl, q_cde338, q_w2936⟩, q_w2936, Or.inl ⟨qs81, Or.inl rfl⟩⟩) <| q_al.n
theorem q_d2_216 : q_al (q_pV2 216) (q_vtT.getD 216 []) := q_al.c (⟨_, q_m247, "CaptainClaimsModel", rfl, rfl, rfl, Or.inr ⟨q_m247, rfl, q_cde247, q_w2838⟩, q_w2838, Or.inl ⟨qs61, Or.inl rfl⟩⟩) <| q_al.n
theorem q_d2_217 : q_al (q_pV2 217) (q_vtT.getD 217 []) := q_al.c (⟨_, q_m135, "CaptainClaimsModel", rfl, rfl, rfl, Or.inr ⟨q_m135, rfl, q_cde135, q_w2779⟩, q_w2779, Or.inl ⟨qs50, Or.inl rfl⟩⟩) <| q_al.n
theorem q_d2_218 : q_al (q_pV2 218) (q_vtT.getD 218 []) := q_al.c (⟨_, q_m136, "CaptainClaimsModel", rfl, rfl, rfl, Or.inr ⟨q_m136, rfl, q_cde136, q_w2786⟩, q_w2786, Or.inl ⟨qs51, Or.inl rfl⟩⟩) <| q_al.n
theorem q_d2_219 : q_al (q_pV2 219) (q_vtT.getD 219 []) := q_al.c (⟨_, q_m137, "CaptainClaimsModel", rfl, rfl, rfl, Or.inr ⟨q_m137, rfl, q_cde137, q_w2807⟩, q_w2807, Or.inl ⟨qs54, Or.inl rfl⟩⟩) <| q_al.n
theorem q_d2_220 : q_al (q_pV2 220) (q_vtT.getD 220 []) := q_al.c (⟨_, q_m138, "CaptainClaimsModel", rfl, rfl, rfl, Or.inr ⟨q_m138, rfl, q_cde138, q_w2940⟩, q_w2940, Or.inl ⟨qs82, Or.inl rfl⟩⟩) <| q_al.n
theorem q_d2_221 : q_al (q_pV2 221) (q_vtT.getD 221 []) := q_al.c (⟨_, q_m151, "CaptainClaimsModel", rfl, rfl, rfl, Or.inr ⟨q_m151, rfl, q_cde151, q_w2952⟩, q_w2952, Or.inl ⟨qs84, Or.inl rfl⟩⟩) <| q_al.n
theorem q_d2_222 : q_al (q_pV2 222) (q_vtT.getD 222 []) := q_al.c (⟨_, q_m140, "CaptainClaimsModel", rfl, rfl, rfl, Or.inr ⟨q_m140, rfl, q_cde140, q_w2948⟩, q_w2948, Or.inl ⟨qs83, Or.inl rfl⟩⟩) <| q_al.n
theorem q_d2_223 : q_al (q_pV2 223) (q_vtT.getD 223 []) := q_al.c (⟨_, q_m144, "CaptainClaimsModel", rfl, rfl, rfl, Or.inr ⟨q_m144, rfl, q_cde144, q_w2968⟩, q_w2968, Or.inl ⟨qs85, Or.inl rfl⟩⟩) <| q_al.n
theorem q_d2_224 : q_al (q_pV2 224) (q_vtT.getD 224 []) := q_al.c (⟨_, q_m158, "CaptainClaimsModel", rfl, rfl, rfl, Or.inr ⟨q_m158, rfl, q_cde158, q_w3024⟩, q_w3024, Or.inl ⟨qs91, Or.inl rfl⟩⟩) <| q_al.n
theorem q_d2_225 : q_al (q_pV2 225) (q_vtT.getD 225 []) := q_al.c (⟨_, q_m168, "CaptainClaimsModel", rfl, rfl, rfl, Or.inr ⟨q_m168, rfl, q_cde168, q_w3057⟩, q_w3057, Or.inl ⟨qs92, Or.inl rfl⟩⟩) <| q_al.n
theorem q_d2_226 : q_al (q_pV2 226) (q_vtT.getD 226 []) := q_al.c (⟨_, q_m177, "CaptainClaimsModel", rfl, rfl, rfl, Or.inr ⟨q_m177, rfl, q_cde177, q_w3109⟩, q_w3109, Or.inl ⟨qs99, Or.inl rfl⟩⟩) <| q_al.n
theorem q_d2_227 : q_al (q_pV2 227) (q_vtT.getD 227 []) := q_al.c (⟨_, q_m185, "CaptainClaimsModel", rfl, rfl, rfl, Or.inr ⟨q_m185, rfl, q_cde185, q_w3137⟩, q_w3137, Or.inl ⟨qs100, Or.inl rfl⟩⟩) <| q_al.n
theorem q_d2_228 : q_al (q_pV2 228) (q_vtT.getD 228 []) := q_al.c (⟨_, q_m190, "CaptainClaimsModel", rfl, rfl, rfl, Or.inr ⟨q_m190, rfl, q_cde190, q_w3153⟩, q_w3153, Or.inl ⟨qs101, Or.inl rfl⟩⟩) <| q_al.n
theorem q_d2_229 : q_al (q_pV2 229) (q_vtT.getD 229 []) := q_al.c (⟨_, q_m193, "CaptainClaimsModel", rfl, rfl, rfl, Or.inr ⟨q_m193, rfl, q_cde193, q_w3165⟩, q_w3165, Or.inl ⟨qs102, Or.inl rfl⟩⟩) <| q_al.n
theorem q_d2_230 : q_al (q_pV2 230) (q_vtT.getD 230 []) := q_al.c (⟨_, q_m200, "CaptainClaimsModel", rfl, rfl, rfl, Or.inr ⟨q_m200, rfl, q_cde200, q_w3190⟩, q_w3190, Or.inl ⟨qs103, Or.inl rfl⟩⟩) <| q_al.n
theorem q_d2_231 : q_al (q_pV2 231) (q_vtT.getD 231 []) := q_al.c (⟨_, q_m212, "CaptainClaimsModel", rfl, rfl, rfl, Or.inr ⟨q_m212, rfl, q_cde212, q_w3229⟩, q_w3229, Or.inl ⟨qs107, Or.inl rfl⟩⟩) <| q_al.n
theorem q_d2_232 : q_al (q_pV2 232) (q_vtT.getD 232 []) := q_al.c (⟨_, q_m205, "CaptainClaimsModel", rfl, rfl, rfl, Or.inr ⟨q_m205, rfl, q_cde205, q_w3207⟩, q_w3207, Or.inl ⟨qs104, Or.inl rfl⟩⟩) <| q_al.n
theorem q_d2_233 : q_al (q_pV2 233) (q_vtT.getD 233 []) := q_al.c (⟨_, q_m207, "CaptainClaimsModel", rfl, rfl, rfl, Or.inr ⟨q_m207, rfl, q_cde207, q_w3215⟩, q_w3215, Or.inl ⟨qs105, Or.inl rfl⟩⟩) <| q_al.n
theorem q_d2_234 : q_al (q_pV2 234) (q_vtT.getD 234 []) := q_al.c (⟨_, q_m210, "CaptainClaimsModel", rfl, rfl, rfl, Or.inr ⟨q_m210, rfl, q_cde210, q_w3222⟩, q_w3222, Or.inl ⟨qs106, Or.inl rfl⟩⟩) <| q_al.n
theorem q_d2_235 : q_al (q_pV2 235) (q_vtT.getD 235 []) := q_al.c (⟨_, q_m310, "CaptainClaimsModel", rfl, rfl, rfl, Or.inr ⟨q_m310, rfl, q_cde310, q_w3249⟩, q_w3249, Or.inl ⟨qs109, Or.inl rfl⟩⟩) <| q_al.n
theorem q_d2_236 : q_al (q_pV2 236) (q_vtT.getD 236 []) := q_al.c (⟨_, q_m217, "CaptainClaimsModel", rfl, rfl, rfl, Or.inr ⟨q_m217, rfl, q_cde217, q_w3245⟩, q_w3245, Or.inl ⟨qs108, Or.inl rfl⟩⟩) <| q_al.n
theorem q_d2_237 : q_al (q_pV2 237) (q_vtT.getD 237 []) := q_al.c (⟨_, q_m221, "CaptainClaimsModel", rfl, rfl, rfl, Or.inr ⟨q_m221, rfl, q_cde221, q_w3261⟩, q_w3261, Or.inl ⟨qs110, Or.inl rfl⟩⟩) <| q_al.n
theorem q_d2_238 : q_al (q_pV2 238) (q_vtT.getD 238 []) := q_al.c (⟨_, q_m223, "CaptainClaimsModel", rfl, rfl, rfl, Or.inr ⟨q_m223, rfl, q_cde223, q_w3269⟩, q_w3269, Or.inl ⟨qs111, Or.inl rfl⟩⟩) <| q_al.n
theorem q_d2_239 : q_al (q_pV2 239) (q_vtT.getD 239 []) := q_al.n
theorem q_d2_240 : q_al (q_pV2 240) (q_vtT.getD 240 []) := q_al.c (⟨_, q_m405, "java/util/ArrayDeque", rfl, rfl, rfl, Or.inr ⟨q_m405, rfl, q_cde405, q_w2495⟩, q_w2495, Or.inl ⟨q_w2496, Or.inl rfl⟩⟩) <| q_al.n
theorem q_d2_241 : q_al (q_pV2 241) (q_vtT.getD 241 []) := q_al.c (⟨_, q_m377, "java/util/ArrayDeque", rfl, rfl, rfl, Or.inr ⟨q_m377, rfl, q_cde377, q_w2632⟩, q_w2632, Or.inl ⟨q_w2633, Or.inl rfl⟩⟩) <| q_al.n
theorem q_d2_242 : q_al (q_pV2 242) (q_vtT.getD 242 []) := q_al.c (⟨_, q_m378, "CaptainClaims$Parser", rfl, rfl, rfl, Or.inr ⟨q_m378, rfl, q_cde378, q_w431⟩, q_w431, Or.inl ⟨qs3, Or.inl rfl⟩⟩) <| q_al.n
theorem q_d2_243 : q_al (q_pV2 243) (q_vtT.getD 243 []) := q_al.c (⟨_, q_m413, "CaptainClaims$Parser", rfl, rfl, rfl, Or.inr ⟨q_m413, rfl, q_cde413, q_w442⟩, q_w442, Or.inl ⟨qs5, Or.inl rfl⟩⟩) <| q_al.n
theorem q_d2_244 : q_al (q_pV2 244) (q_vtT.getD 244 []) := q_al.c (⟨_, q_m414, "CaptainClaims$Parser", rfl, rfl, rfl, Or.inr ⟨q_m414, rfl, q_cde414, q_w724⟩, q_w724, Or.inl ⟨qs6, Or.inl rfl⟩⟩) <| q_al.n
theorem q_d2_245 : q_al (q_pV2 245) (q_vtT.getD 245 []) := q_al.c (⟨_, q_m416, "CaptainClaims$Parser", rfl, rfl, rfl, Or.inr ⟨q_m416, rfl, q_cde416, q_w733⟩, q_w733, Or.inl ⟨qs7, Or.inl rfl⟩⟩) <| q_al.n
theorem q_d2_246 : q_al (q_pV2 246) (q_vtT.getD 246 []) := q_al.c (⟨_, q_m379, "CaptainClaims$Parser", rfl, rfl, rfl, Or.inr ⟨q_m379, rfl, q_cde379, q_w435⟩, q_w435, Or.inl ⟨qs4, Or.inl rfl⟩⟩) <| q_al.n
theorem q_d2_247 : q_al (q_pV2 247) (q_vtT.getD 247 []) := q_al.c (⟨_, q_m324, "CaptainClaims$Parser", rfl, rfl, rfl, Or.inr ⟨q_m324, rfl, q_cde324, q_w750⟩, q_w750, Or.inl ⟨qs8, Or.inl rfl⟩⟩) <| q_al.n
theorem q_d2_248 : q_al (q_pV2 248) (q_vtT.getD 248 []) := q_al.c (⟨_, q_m382, "CaptainClaims$Parser", rfl, rfl, rfl, Or.inr ⟨q_m382, rfl, q_cde382, q_w785⟩, q_w785, Or.inl ⟨qs10, Or.inl rfl⟩⟩) <| q_al.n
theorem q_d2_249 : q_al (q_pV2 249) (q_vtT.getD 249 []) := q_al.c (⟨_, q_m322, "CaptainClaims$Parser", rfl, rfl, rfl, Or.inr ⟨q_m322, rfl, q_cde322, q_w427⟩, q_w427, Or.inl ⟨qs2, Or.inl rfl⟩⟩) <| q_al.n
theorem q_d2_250 : q_al (q_pV2 250) (q_vtT.getD 250 []) := q_al.c (⟨_, q_m325, "CaptainClaims$Parser", rfl, rfl, rfl, Or.inr ⟨q_m325, rfl, q_cde325, q_w781⟩, q_w781, Or.inl ⟨qs9, Or.inl rfl⟩⟩) <| q_al.n
theorem q_d2_251 : q_al (q_pV2 251) (q_vtT.getD 251 []) := q_al.c (⟨_, q_m385, "java/lang/String", rfl, rfl, rfl, Or.inr ⟨q_m385, rfl, q_cde385, q_w954⟩, q_w954, Or.inl ⟨q_w955, Or.inl rfl⟩⟩) <| q_al.n
theorem q_d2_252 : q_al (q_pV2 252) (q_vtT.getD 252 []) := q_al.c (⟨_, q_m323, "java/lang/String", rfl, rfl, rfl, Or.inr ⟨q_m323, rfl, q_cde323, q_w741⟩, q_w741, Or.inl ⟨q_w742, Or.inl rfl⟩⟩) <| q_al.n
theorem q_d2_253 : q_al (q_pV2 253) (q_vtT.getD 253 []) := q_al.c (⟨_, q_m407, "CaptainClaims$Parser", rfl, rfl, rfl, Or.inr ⟨q_m407, rfl, q_cde407, q_w1231⟩, q_w1231, Or.inl ⟨qs26, Or.inl rfl⟩⟩) <| q_al.n
theorem q_d2_254 : q_al (q_pV2 254) (q_vtT.getD 254 []) := q_al.c (⟨_, q_m408, "CaptainClaims$Parser", rfl, rfl, rfl, Or.inr ⟨q_m408, rfl, q_cde408, q_w1244⟩, q_w1244, Or.inl ⟨qs27, Or.inl rfl⟩⟩) <| q_al.n
theorem q_d2_255 : q_al (q_pV2 255) (q_vtT.getD 255 []) := q_al.c (⟨_, q_m434, "CaptainClaims$Parser", rfl, rfl, rfl, Or.inr ⟨q_m434, rfl, q_cde434, q_w1248⟩, q_w1248, Or.inl ⟨qs28, Or.inl rfl⟩⟩) <| q_al.n
theorem q_d2_256 : q_al (q_pV2 256) (q_vtT.getD 256 []) := q_al.c (⟨_, q_m435, "CaptainClaims$Parser", rfl, rfl, rfl, Or.inr ⟨q_m435, rfl, q_cde435, q_w1272⟩, q_w1272, Or.inl ⟨qs29, Or.inl rfl⟩⟩) <| q_al.n
theorem q_d2_257 : q_al (q_pV2 257) (q_vtT.getD 257 []) := q_al.c (⟨_, q_m436, "CaptainClaims$Parser", rfl, rfl, rfl, Or.inr ⟨q_m436, rfl, q_cde436, q_w1287⟩, q_w1287, Or.inl ⟨qs30, Or.inl rfl⟩⟩) <| q_al.n
theorem q_d2_258 : q_al (q_pV2 258) (q_vtT.getD 258 []) := q_al.c (⟨_, q_m437, "CaptainClaims$Parser", rfl, rfl, rfl, Or.inr ⟨q_m437, rfl, q_cde437, q_w1307⟩, q_w1307, Or.inl ⟨qs31, Or.inl rfl⟩⟩) <| q_al.n
theorem q_d2_259 : q_al (q_pV2 259) (q_vtT.getD 259 []) := q_al.c (⟨_, q_m439, "CaptainClaims$Parser", rfl, rfl, rfl, Or.inr ⟨q_m439, rfl, q_cde439, q_w1329⟩, q_w1329, Or.inl ⟨qs32, Or.inl rfl⟩⟩) <| q_al.n
theorem q_d2_260 : q_al (q_pV2 260) (q_vtT.getD 260 []) := q_al.c (⟨_, q_m389, "CaptainClaims$Parser", rfl, rfl, rfl, Or.inr ⟨q_m389, rfl, q_cde389, q_w1221⟩, q_w1221, Or.inl ⟨qs24, Or.inl rfl⟩⟩) <| q_al.n
theorem q_d2_261 : q_al (q_pV2 261) (q_vtT.getD 261 []) := q_al.c (⟨_, q_m442, "CaptainClaims$Parser", rfl, rfl, rfl, Or.inr ⟨q_m442, rfl, q_cde442, q_w1382⟩, q_w1382, Or.inl ⟨qs33, Or.inl rfl⟩⟩) <| q_al.n
theorem q_d2_262 : q_al (q_pV2 262) (q_vtT.getD 262 []) := q_al.c (⟨_, q_m421, "CaptainClaims$Parser", rfl, rfl, rfl, Or.inr ⟨q_m421, rfl, q_cde421, q_w1043⟩, q_w1043, Or.inl ⟨qs15, Or.inl rfl⟩⟩) <| q_al.n
theorem q_d2_263 : q_al (q_pV2 263) (q_vtT.getD 263 []) := q_al.c (⟨_, q_m422, "CaptainClaims$Parser", rfl, rfl, rfl, Or.inr ⟨q_m422, rfl, q_cde422, q_w1047⟩, q_w1047, Or.inl ⟨qs16, Or.inl rfl⟩⟩) <| q_al.n
theorem q_d2_264 : q_al (q_pV2 264) (q_vtT.getD 264 []) := q_al.c (⟨_, q_m372, "CaptainClaims$Parser", rfl, rfl, rfl, Or.inr ⟨q_m372, rfl, q_cde372, q_w1227⟩, q_w1227, Or.inl ⟨qs25, Or.inl rfl⟩⟩) <| q_al.n
theorem q_d2_265 : q_al (q_pV2 265) (q_vtT.getD 265 []) := q_al.c (⟨_, q_m404, "CaptainClaims$Puzzle", rfl, rfl, rfl, Or.inr ⟨q_m404, rfl, q_cde404, q_w1054⟩, q_w1054, Or.inl ⟨q_w1055, Or.inl rfl⟩⟩) <| q_al.n
theorem q_d2_266 : q_al (q_pV2 266) (q_vtT.getD 266 []) := q_al.c (⟨_, q_m383, "CaptainClaims$Puzzle", rfl, rfl, rfl, Or.inr ⟨q_m383, rfl, q_cde383, q_w852⟩, q_w852, Or.inl ⟨q_w853, Or.inl rfl⟩⟩) <| q_al.n
theorem q_d2_267 : q_al (q_pV2 267) (q_vtT.getD 267 []) := q_al.c (⟨_, q_m369, "CaptainClaims$Parser", rfl, rfl, rfl, Or.inr ⟨q_m369, rfl, q_cde369, q_w1051⟩, q_w1051, Or.inl ⟨qs17, Or.inl rfl⟩⟩) <| q_al.n
theorem q_d2_268 : q_al (q_pV2 268) (q_vtT.getD 268 []) := q_al.c (⟨_, q_m423, "CaptainClaims$Register", rfl, rfl, rfl, Or.inr ⟨q_m423, rfl, q_cde423, q_w1097⟩, q_w1097, Or.inl ⟨q_w1098, Or.inl rfl⟩⟩) <| q_al.n
theorem q_d2_269 : q_al (q_pV2 269) (q_vtT.getD 269 []) := q_al.c (⟨_, q_m403, "CaptainClaims$Register", rfl, rfl, rfl, Or.inr ⟨q_m403, rfl, q_cde403, q_w1140⟩, q_w1140, Or.inl ⟨q_w1141, Or.inl rfl⟩⟩) <| q_al.n
theorem q_d2_270 : q_al (q_pV2 270) (q_vtT.getD 270 []) := q_al.c (⟨_, q_m384, "CaptainClaims$Parser", rfl, rfl, rfl, Or.inr ⟨q_m384, rfl, q_cde384, q_w951⟩, q_w951, Or.inl ⟨qs13, Or.inl rfl⟩⟩) <| q_al.n
theorem q_d2_271 : q_al (q_pV2 271) (q_vtT.getD 271 []) := q_al.c (⟨_, q_m386, "CaptainClaims$Parser", rfl, rfl, rfl, Or.inr ⟨q_m386, rfl, q_cde386, q_w1038⟩, q_w1038, Or.inl ⟨qs14, Or.inl rfl⟩⟩) <| q_al.n
theorem q_d2_272 : q_al (q_pV2 272) (q_vtT.getD 272 []) := q_al.c (⟨_, q_m387, "CaptainClaims$Parser", rfl, rfl, rfl, Or.inr ⟨q_m387, rfl, q_cde387, q_w1093⟩, q_w1093, Or.inl ⟨qs19, Or.inl rfl⟩⟩) <| q_al.n
theorem q_d2_273 : q_al (q_pV2 273) (q_vtT.getD 273 []) := q_al.c (⟨_, q_m388, "CaptainClaims$Parser", rfl, rfl, rfl, Or.inr ⟨q_m388, rfl, q_cde388, q_w1217⟩, q_w1217, Or.inl ⟨qs23, Or.inl rfl⟩⟩) <| q_al.n
theorem q_d2_274 : q_al (q_pV2 274) (q_vtT.getD 274 []) := q_al.c (⟨_, q_m390, "CaptainClaims$Parser", rfl, rfl, rfl, Or.inr ⟨q_m390, rfl, q_cde390, q_w1427⟩, q_w1427, Or.inl ⟨qs34, Or.inl rfl⟩⟩) <| q_al.n
theorem q_d2_275 : q_al (q_pV2 275) (q_vtT.getD 275 []) := q_al.c (⟨_, q_m327, "CaptainClaims$Parser", rfl, rfl, rfl, Or.inr ⟨q_m327, rfl, q_cde327, q_w947⟩, q_w947, Or.inl ⟨qs12, Or.inl rfl⟩⟩) <| q_al.n
theorem q_d2_276 : q_al (q_pV2 276) (q_vtT.getD 276 []) := q_al.c (⟨_, q_m341, "java/lang/StringBuilder", rfl, rfl, rfl, Or.inr ⟨q_m341, rfl, q_cde341, q_w619⟩, q_w619, Or.inl ⟨q_w620, Or.inl rfl⟩⟩) <| q_al.n
theorem q_d7_277 : q_al (q_pV7 277) (q_vtT.getD 277 []) := q_al.c (⟨_, "CaptainClaims$Named", q_m261, "CaptainClaims$Captain", rfl, rfl, rfl, q_w1121, Or.inl q_w1120, Or.inl rfl, q_w1125, q_w1126, q_w1122, q_w1124, Or.inl q_w1123⟩) <| q_al.n
theorem q_d2_278 : q_al (q_pV2 278) (q_vtT.getD 278 []) := q_al.c (⟨_, q_m368, "CaptainClaims$Register", rfl, rfl, rfl, Or.inr ⟨q_m368, rfl, q_cde368, q_w2300⟩, q_w2300, Or.inl ⟨q_w2301, Or.inl rfl⟩⟩) <| q_al.n
theorem q_d2_279 : q_al (q_pV2 279) (q_vtT.getD 279 []) := q_al.c (⟨_, q_m339, "CaptainClaims$Puzzle", rfl, rfl, rfl, Or.inr ⟨q_m339, rfl, q_cde339, q_w873⟩, q_w873, Or.inl ⟨q_w874, Or.inl rfl⟩⟩) <| q_al.n
theorem q_d2_280 : q_al (q_pV2 280) (q_vtT.getD 280 []) := q_al.c (⟨_, q_m432, "CaptainClaims$Puzzle", rfl, rfl, rfl, Or.inr ⟨q_m432, rfl, q_cde432, q_w1066⟩, q_w1066, Or.inl ⟨qs18, Or.inl rfl⟩⟩) <| q_al.n
theorem q_d2_281 : q_al (q_pV2 281) (q_vtT.getD 281 []) := q_al.c (⟨_, q_m419, "CaptainClaims$Puzzle", rfl, rfl, rfl, Or.inr ⟨q_m419, rfl, q_cde419, q_w870⟩, q_w870, Or.inl ⟨qs11, Or.inl rfl⟩⟩) <| q_al.n
theorem q_d2_282 : q_al (q_pV2 282) (q_vtT.getD 282 []) := q_al.c (⟨_, q_m360, "CaptainClaims$Puzzle", rfl, rfl, rfl, Or.inr ⟨q_m360, rfl, q_cde360, q_w2150⟩, q_w2150, Or.inl ⟨qs39, Or.inl rfl⟩⟩) <| q_al.n
theorem q_d2_283 : q_al (q_pV2 283) (q_vtT.getD 283 []) := q_al.c (⟨_, q_m361, "CaptainClaims$Puzzle", rfl, rfl, rfl, Or.inr ⟨q_m361, rfl, q_cde361, q_w2164⟩, q_w2164, Or.inl ⟨qs40, Or.inl rfl⟩⟩) <| q_al.n
theorem q_d2_284 : q_al (q_pV2 284) (q_vtT.getD 284 []) := q_al.c (⟨_, q_m362, "CaptainClaims$Census", rfl, rfl, rfl, Or.inr ⟨q_m362, rfl, q_cde362, q_w2174⟩, q_w2174, Or.inl ⟨q_w2175, Or.inl rfl⟩⟩) <| q_al.n
theorem q_d2_285 : q_al (q_pV2 285) (q_vtT.getD 285 []) := q_al.c (⟨_, q_m352, "java/util/ArrayList", rfl, rfl, rfl, Or.inr ⟨q_m352, rfl, q_cde352, q_w1114⟩, q_w1114, Or.inl ⟨q_w1115, Or.inl rfl⟩⟩) <| q_al.n
theorem q_d2_286 : q_al (q_pV2 286) (q_vtT.getD 286 []) := q_al.n
theorem q_d2_287 : q_al (q_pV2 287) (q_vtT.getD 287 []) := q_al.c (⟨_, q_m344, "java/util/ArrayList", rfl, rfl, rfl, Or.inr ⟨q_m344, rfl, q_cde344, q_w1154⟩, q_w1154, Or.inl ⟨qs20, Or.inl rfl⟩⟩) <| q_al.n
theorem q_d2_288 : q_al (q_pV2 288) (q_vtT.getD 288 []) := q_al.c (⟨_, q_m376, "java/util/ArrayList", rfl, rfl, rfl, Or.inr ⟨q_m376, rfl, q_cde376, q_w2564⟩, q_w2564, Or.inl ⟨qs47, Or.inl rfl⟩⟩) <| q_al.n
theorem q_d2_289 : q_al (q_pV2 289) (q_vtT.getD 289 []) := q_al.c (⟨_, q_m395, "java/lang/Integer", rfl, rfl, rfl, Or.inr ⟨q_m395, rfl, q_cde395, q_w1633⟩, q_w1633, Or.inl ⟨q_w1634, Or.inl rfl⟩⟩) <| q_al.n
theorem q_d2_290 : q_al (q_pV2 290) (q_vtT.getD 290 []) := q_al.c (⟨_, q_m346, "java/lang/String", rfl, rfl, rfl, Or.inr ⟨q_m346, rfl, q_cde346, q_w672⟩, q_w672, Or.inl ⟨q_w673, Or.inl rfl⟩⟩) <| q_al.n
theorem q_d2_291 : q_al (q_pV2 291) (q_vtT.getD 291 []) := q_al.c (⟨_, q_m347, "java/lang/String", rfl, rfl, rfl, Or.inr ⟨q_m347, rfl, q_cde347, q_w958⟩, q_w958, Or.inl ⟨q_w959, Or.inl rfl⟩⟩) <| q_al.n
theorem q_d2_292 : q_al (q_pV2 292) (q_vtT.getD 292 []) := q_al.c (⟨_, q_m448, "java/lang/StringBuilder", rfl, rfl, rfl, Or.inr ⟨q_m462, rfl, q_cde462, q_w588⟩, q_w591, Or.inl ⟨q_w590, Or.inr q_w589⟩⟩) <| q_al.n
theorem q_d2_293 : q_al (q_pV2 293) (q_vtT.getD 293 []) := q_al.c (⟨_, q_m447, "java/lang/StringBuilder", rfl, rfl, rfl, Or.inr ⟨q_m447, rfl, q_cde447, q_w583⟩, q_w583, Or.inl ⟨q_w585, Or.inl rfl⟩⟩) <| q_al.n
theorem q_d2_294 : q_al (q_pV2 294) (q_vtT.getD 294 []) := q_al.c (⟨_, q_m400, "java/lang/StringBuilder", rfl, rfl, rfl, Or.inr ⟨q_m400, rfl, q_cde400, q_w518⟩, q_w518, Or.inl ⟨q_w520, Or.inl rfl⟩⟩) <| q_al.n
theorem q_d2_295 : q_al (q_pV2 295) (q_vtT.getD 295 []) := q_al.c (⟨_, q_m350, "java/util/ArrayList$Itr", rfl, rfl, rfl, Or.inr ⟨q_m350, rfl, q_cde350, q_w1945⟩, q_w1945, Or.inl ⟨q_w1946, Or.inl rfl⟩⟩) <| q_al.n
theorem q_d2_296 : q_al (q_pV2 296) (q_vtT.getD 296 []) := q_al.c (⟨_, q_m354, "CaptainClaims$ColumnClaim", rfl, rfl, rfl, Or.inl q_w2049, q_w2052, Or.inl ⟨q_w2051, Or.inr q_w2050⟩⟩) <| q_al.c (⟨_, q_m355, "CaptainClaims$RowClaim", rfl, rfl, rfl, Or.inl q_w2049, q_w2055, Or.inl ⟨q_w2054, Or.inr q_w2050⟩⟩) <| q_al.c (⟨_, q_m356, "CaptainClaims$SizeClaim", rfl, rfl, rfl, Or.inl q_w2049, q_w2058, Or.inl ⟨q_w2057, Or.inr q_w2050⟩⟩) <| q_al.n
theorem q_d2_297 : q_al (q_pV2 297) (q_vtT.getD 297 []) := q_al.c (⟨_, q_m399, "java/lang/StringBuilder", rfl, rfl, rfl, Or.inr ⟨q_m399, rfl, q_cde399, q_w484⟩, q_w484, Or.inr ⟨rfl, q_w483, _, _, q_w519⟩⟩) <| q_al.n
theorem q_d2_298 : q_al (q_pV2 298) (q_vtT.getD 298 []) := q_al.n
theorem q_d2_299 : q_al (q_pV2 299) (q_vtT.getD 299 []) := q_al.n
theorem q_d2_300 : q_al (q_pV2 300) (q_vtT.getD 300 []) := q_al.n
theorem q_d2_301 : q_al (q_pV2 301) (q_vtT.getD 301 []) := q_al.c (⟨_, q_m402, "java/lang/StringBuilder", rfl, rfl, rfl, Or.inr ⟨q_m402, rfl, q_cde402, q_w678⟩, q_w678, Or.inr ⟨rfl, q_w677, _, _, q_w519⟩⟩) <| q_al.n
theorem q_d2_302 : q_al (q_pV2 302) (q_vtT.getD 302 []) := q_al.c (⟨_, q_m429, "java/lang/StringBuilder", rfl, rfl, rfl, Or.inr ⟨q_m429, rfl, q_cde429, q_w682⟩, q_w682, Or.inr ⟨rfl, q_w681, _, _, q_w519⟩⟩) <| q_al.n
theorem q_d2_303 : q_al (q_pV2 303) (q_vtT.getD 303 []) := q_al.c (⟨_, q_m430, "java/lang/String", rfl, rfl, rfl, Or.inr ⟨q_m430, rfl, q_cde430, q_w686⟩, q_w686, Or.inl ⟨q_w687, Or.inl rfl⟩⟩) <| q_al.n
theorem q_d2_304 : q_al (q_pV2 304) (q_vtT.getD 304 []) := q_al.n
theorem q_d7_305 : q_al (q_pV7 305) (q_vtT.getD 305 []) := q_al.n
theorem q_evIK : q_al2 q_pIK q_own q_ikT :=
  q_al2.c (q_al.c (q_i2 rfl q_w349 q_d2_0) <| q_al.c (q_i2 rfl q_w1464 q_d2_1) <| q_al.c (q_i2 rfl q_w1490 q_d2_2) <| q_al.c (q_i2 rfl q_w1497 q_d2_3) <| q_al.c (q_i2 rfl q_w1504 q_d2_4) <| q_al.c (q_i2 rfl q_w1517 q_d2_5) <| q_al.c (q_i2 rfl q_w1525 q_d2_6) <| q_al.c (q_i2 rfl q_w1537 q_d2_7) <| q_al.c (q_i2 rfl q_w1544 q_d2_8) <| q_al.c (q_i2 rfl q_w1551 q_d2_9) <| q_al.c (q_i2 rfl q_w1558 q_d2_10) <| q_al.c (q_i2 rfl q_w1820 q_d2_11) <| q_al.c (q_i2 rfl q_w1827 q_d2_12) <| q_al.c (q_i2 rfl q_w1856 q_d2_13) <| q_al.c (q_i2 rfl q_w1863 q_d2_14) <| q_al.c (q_i2 rfl q_w1870 q_d2_15) <| q_al.c (q_i2 rfl q_w1878 q_d2_16) <| q_al.c (q_i2 rfl q_w1886 q_d2_17) <| q_al.c (q_i2 rfl q_w1893 q_d2_18) <| q_al.c (q_i2 rfl q_w1955 q_d2_19) <| q_al.c (q_i2 rfl q_w1966 q_d2_20) <| q_al.c (q_i2 rfl q_w2016 q_d2_21) <| q_al.c (q_i2 rfl q_w2112 q_d2_22) <| q_al.c (q_i2 rfl q_w2183 q_d2_23) <| q_al.c (q_i2 rfl q_w2190 q_d2_24) <| q_al.c (q_i2 rfl q_w2205 q_d2_25) <| q_al.c (q_i2 rfl q_w2213 q_d2_26) <| q_al.c (q_i2 rfl q_w2220 q_d2_27) <| q_al.c (q_i2 rfl q_w2227 q_d2_28) <| q_al.c (q_i2 rfl q_w2234 q_d2_29) <| q_al.c (q_i2 rfl q_w2241 q_d2_30) <| q_al.c (q_i2 rfl q_w2255 q_d2_31) <| q_al.c (q_i2 rfl q_w2262 q_d2_32) <| q_al.c (q_i2 rfl q_w2269 q_d2_33) <| q_al.c (q_i2 rfl q_w2280 q_d2_34) <| q_al.c (q_i2 rfl q_w2287 q_d2_35) <| q_al.c (q_i2 rfl q_w2311 q_d2_36) <| q_al.c (q_i2 rfl q_w2318 q_d2_37) <| q_al.c (q_i2 rfl q_w2326 q_d2_38) <| q_al.c (q_i2 rfl q_w2333 q_d2_39) <| q_al.c (q_i2 rfl q_w2340 q_d2_40) <| q_al.c (q_i2 rfl q_w2348 q_d2_41) <| q_al.c (q_i2 rfl q_w2355 q_d2_42) <| q_al.c (q_i2 rfl q_w2362 q_d2_43) <| q_al.c (q_i2 rfl q_w2380 q_d2_44) <| q_al.c (q_i2 rfl q_w2454 q_d2_45) <| q_al.c (q_i2 rfl q_w2461 q_d2_46) <| q_al.c (q_i2 rfl q_w2468 q_d2_47) <| q_al.c (q_i2 rfl q_w2533 q_d2_48) <| q_al.c (q_i2 rfl q_w2549 q_d2_49) <| q_al.c (q_i2 rfl q_w2570 q_d2_50) <| q_al.c (q_i2 rfl q_w2581 q_d2_51) <| q_al.c (q_i2 rfl q_w2588 q_d2_52) <| q_al.c (q_i2 rfl q_w2596 q_d2_53) <| q_al.c (q_i2 rfl q_w2603 q_d2_54) <| q_al.c (q_i2 rfl q_w2610 q_d2_55) <| q_al.c (q_i2 rfl q_w2641 q_d2_56) <| q_al.c (q_i2 rfl q_w2651 q_d2_57) <| q_al.c (q_i1 (e := q_m1) rfl (Or.inl q_w171) q_w172 q_w173 rfl) <| q_al.c (q_i1 (e := q_m2) rfl (Or.inl q_w2657) q_w2658 q_w2659 rfl) <| q_al.c (q_i2 rfl q_w229 q_d2_58) <| q_al.c (q_i2 rfl q_w2750 q_d2_59) <| q_al.c (q_i0 (e := q_m5) rfl (Or.inl q_w267) q_w268 q_w112 q_cde5) <| q_al.c (q_i2 rfl q_w2766 q_d2_60) <| q_al.c (q_i2 rfl q_w2746 q_d2_61) <| q_al.c (q_i2 rfl q_w238 q_d2_62) <| q_al.c (q_i2 rfl q_w2758 q_d2_63) <| q_al.c (q_i2 rfl q_w242 q_d2_64) <| q_al.c (q_i2 rfl q_w2762 q_d2_65) <| q_al.c (q_i2 rfl q_w246 q_d2_66) <| q_al.c (q_i2 rfl q_w2754 q_d2_67) <| q_al.c (q_i0 (e := q_m14) rfl (Or.inl q_w1460) q_w1461 q_w112 q_cde14) <| q_al.c (q_i2 rfl q_w2942 q_d2_68) <| q_al.c (q_i0 (e := q_m16) rfl (Or.inl q_w1487) q_w1488 q_w112 q_cde16) <| q_al.c (q_i2 rfl q_w2954 q_d2_69) <| q_al.c (q_i0 (e := q_m18) rfl (Or.inl q_w1494) q_w1495 q_w112 q_cde18) <| q_al.c (q_i2 rfl q_w2958 q_d2_70) <| q_al.c (q_i0 (e := q_m20) rfl (Or.inl q_w1501) q_w1502 q_w112 q_cde20) <| q_al.c (q_i2 rfl q_w2962 q_d2_71) <| q_al.c (q_i0 (e := q_m22) rfl (Or.inl q_w1514) q_w1515 q_w112 q_cde22) <| q_al.c (q_i2 rfl q_w2970 q_d2_72) <| q_al.c (q_i0 (e := q_m24) rfl (Or.inl q_w1522) q_w1523 q_w112 q_cde24) <| q_al.c (q_i2 rfl q_w2974 q_d2_73) <| q_al.c (q_i0 (e := q_m26) rfl (Or.inl q_w1534) q_w1535 q_w112 q_cde26) <| q_al.c (q_i2 rfl q_w2986 q_d2_74) <| q_al.c (q_i0 (e := q_m28) rfl (Or.inl q_w1541) q_w1542 q_w112 q_cde28) <| q_al.c (q_i2 rfl q_w3002 q_d2_75) <| q_al.c (q_i0 (e := q_m30) rfl (Or.inl q_w1548) q_w1549 q_w112 q_cde30) <| q_al.c (q_i2 rfl q_w3006 q_d2_76) <| q_al.c (q_i0 (e := q_m32) rfl (Or.inl q_w1555) q_w1556 q_w112 q_cde32) <| q_al.c (q_i2 rfl q_w3010 q_d2_77) <| q_al.c (q_i0 (e := q_m34) rfl (Or.inl q_w1817) q_w1818 q_w112 q_cde34) <| q_al.c (q_i2 rfl q_w3014 q_d2_78) <| q_al.c (q_i0 (e := q_m36) rfl (Or.inl q_w1824) q_w1825 q_w112 q_cde36) <| q_al.c (q_i2 rfl q_w3018 q_d2_79) <| q_al.c (q_i0 (e := q_m38) rfl (Or.inl q_w1853) q_w1854 q_w112 q_cde38) <| q_al.c (q_i2 rfl q_w3027 q_d2_80) <| q_al.c (q_i0 (e := q_m40) rfl (Or.inl q_w1860) q_w1861 q_w112 q_cde40) <| q_al.c (q_i2 rfl q_w3031 q_d2_81) <| q_al.c (q_i0 (e := q_m42) rfl (Or.inl q_w1867) q_w1868 q_w112 q_cde42) <| q_al.c (q_i2 rfl q_w3035 q_d2_82) <| q_al.c (q_i0 (e := q_m44) rfl (Or.inl q_w1875) q_w1876 q_w112 q_cde44) <| q_al.c (q_i2 rfl q_w3039 q_d2_83) <| q_al.c (q_i0 (e := q_m46) rfl (Or.inl q_w1883) q_w1884 q_w112 q_cde46) <| q_al.c (q_i2 rfl q_w3043 q_d2_84) <| q_al.c (q_i0 (e := q_m48) rfl (Or.inl q_w1890) q_w1891 q_w112 q_cde48) <| q_al.c (q_i2 rfl q_w3047 q_d2_85) <| q_al.c (q_i0 (e := q_m50) rfl (Or.inl q_w1952) q_w1953 q_w112 q_cde50) <| q_al.c (q_i2 rfl q_w3051 q_d2_86) <| q_al.c (q_i0 (e := q_m52) rfl (Or.inl q_w1963) q_w1964 q_w112 q_cde52) <| q_al.c (q_i2 rfl q_w3059 q_d2_87) <| q_al.c (q_i0 (e := q_m54) rfl (Or.inl q_w2013) q_w2014 q_w112 q_cde54) <| q_al.c (q_i2 rfl q_w3063 q_d2_88) <| q_al.c (q_i0 (e := q_m56) rfl (Or.inl q_w2109) q_w2110 q_w112 q_cde56) <| q_al.c (q_i2 rfl q_w3076 q_d2_89) <| q_al.c (q_i0 (e := q_m58) rfl (Or.inl q_w2180) q_w2181 q_w112 q_cde58) <| q_al.c (q_i2 rfl q_w3099 q_d2_90) <| q_al.c (q_i0 (e := q_m60) rfl (Or.inl q_w2187) q_w2188 q_w112 q_cde60) <| q_al.c (q_i2 rfl q_w3103 q_d2_91) <| q_al.c (q_i0 (e := q_m62) rfl (Or.inl q_w2202) q_w2203 q_w112 q_cde62) <| q_al.c (q_i2 rfl q_w3111 q_d2_92) <| q_al.c (q_i0 (e := q_m64) rfl (Or.inl q_w2210) q_w2211 q_w112 q_cde64) <| q_al.c (q_i2 rfl q_w3115 q_d2_93) <| q_al.c (q_i0 (e := q_m66) rfl (Or.inl q_w2217) q_w2218 q_w112 q_cde66) <| q_al.c (q_i2 rfl q_w3119 q_d2_94) <| q_al.c (q_i0 (e := q_m68) rfl (Or.inl q_w2224) q_w2225 q_w112 q_cde68) <| q_al.c (q_i2 rfl q_w3123 q_d2_95) <| q_al.c (q_i0 (e := q_m70) rfl (Or.inl q_w2231) q_w2232 q_w112 q_cde70) <| q_al.c (q_i2 rfl q_w3127 q_d2_96) <| q_al.c (q_i0 (e := q_m72) rfl (Or.inl q_w2238) q_w2239 q_w112 q_cde72) <| q_al.c (q_i2 rfl q_w3131 q_d2_97) <| q_al.c (q_i0 (e := q_m74) rfl (Or.inl q_w2252) q_w2253 q_w112 q_cde74) <| q_al.c (q_i2 rfl q_w3139 q_d2_98) <| q_al.c (q_i0 (e := q_m76) rfl (Or.inl q_w2259) q_w2260 q_w112 q_cde76) <| q_al.c (q_i2 rfl q_w3143 q_d2_99) <| q_al.c (q_i0 (e := q_m78) rfl (Or.inl q_w2266) q_w2267 q_w112 q_cde78) <| q_al.c (q_i2 rfl q_w3147 q_d2_100) <| q_al.c (q_i0 (e := q_m80) rfl (Or.inl q_w2277) q_w2278 q_w112 q_cde80) <| q_al.c (q_i2 rfl q_w3155 q_d2_101) <| q_al.c (q_i0 (e := q_m82) rfl (Or.inl q_w2284) q_w2285 q_w112 q_cde82) <| q_al.c (q_i2 rfl q_w3159 q_d2_102) <| q_al.c (q_i0 (e := q_m84) rfl (Or.inl q_w2308) q_w2309 q_w112 q_cde84) <| q_al.c (q_i2 rfl q_w3167 q_d2_103) <| q_al.c (q_i0 (e := q_m86) rfl (Or.inl q_w2315) q_w2316 q_w112 q_cde86) <| q_al.c (q_i2 rfl q_w3171 q_d2_104) <| q_al.c (q_i0 (e := q_m88) rfl (Or.inl q_w2323) q_w2324 q_w112 q_cde88) <| q_al.c (q_i2 rfl q_w3175 q_d2_105) <| q_al.c (q_i0 (e := q_m90) rfl (Or.inl q_w2330) q_w2331 q_w112 q_cde90) <| q_al.c (q_i2 rfl q_w3180 q_d2_106) <| q_al.c (q_i0 (e := q_m92) rfl (Or.inl q_w2337) q_w2338 q_w112 q_cde92) <| q_al.c (q_i2 rfl q_w3184 q_d2_107) <| q_al.c (q_i0 (e := q_m94) rfl (Or.inl q_w2345) q_w2346 q_w112 q_cde94) <| q_al.c (q_i2 rfl q_w3193 q_d2_108) <| q_al.c (q_i0 (e := q_m96) rfl (Or.inl q_w2352) q_w2353 q_w112 q_cde96) <| q_al.c (q_i2 rfl q_w3197 q_d2_109) <| q_al.c (q_i0 (e := q_m98) rfl (Or.inl q_w2359) q_w2360 q_w112 q_cde98) <| q_al.c (q_i2 rfl q_w3201 q_d2_110) <| q_al.c (q_i0 (e := q_m100) rfl (Or.inl q_w2377) q_w2378 q_w112 q_cde100) <| q_al.c (q_i2 rfl q_w3209 q_d2_111) <| q_al.c (q_i0 (e := q_m102) rfl (Or.inl q_w2451) q_w2452 q_w112 q_cde102) <| q_al.c (q_i2 rfl q_w3231 q_d2_112) <| q_al.c (q_i0 (e := q_m104) rfl (Or.inl q_w2458) q_w2459 q_w112 q_cde104) <| q_al.c (q_i2 rfl q_w3235 q_d2_113) <| q_al.c (q_i0 (e := q_m106) rfl (Or.inl q_w2465) q_w2466 q_w112 q_cde106) <| q_al.c (q_i2 rfl q_w3239 q_d2_114) <| q_al.c (q_i0 (e := q_m108) rfl (Or.inl q_w2530) q_w2531 q_w112 q_cde108) <| q_al.c (q_i2 rfl q_w3251 q_d2_115) <| q_al.c (q_i0 (e := q_m110) rfl (Or.inl q_w2546) q_w2547 q_w112 q_cde110) <| q_al.c (q_i2 rfl q_w3255 q_d2_116) <| q_al.c (q_i0 (e := q_m112) rfl (Or.inl q_w2567) q_w2568 q_w112 q_cde112) <| q_al.c (q_i2 rfl q_w3263 q_d2_117) <| q_al.c (q_i0 (e := q_m114) rfl (Or.inl q_w2578) q_w2579 q_w112 q_cde114) <| q_al.c (q_i2 rfl q_w3271 q_d2_118) <| q_al.c (q_i0 (e := q_m116) rfl (Or.inl q_w2585) q_w2586 q_w112 q_cde116) <| q_al.c (q_i2 rfl q_w3275 q_d2_119) <| q_al.c (q_i0 (e := q_m118) rfl (Or.inl q_w2593) q_w2594 q_w112 q_cde118) <| q_al.c (q_i2 rfl q_w3279 q_d2_120) <| q_al.c (q_i0 (e := q_m120) rfl (Or.inl q_w2600) q_w2601 q_w112 q_cde120) <| q_al.c (q_i2 rfl q_w3284 q_d2_121) <| q_al.c (q_i0 (e := q_m122) rfl (Or.inl q_w2607) q_w2608 q_w112 q_cde122) <| q_al.c (q_i2 rfl q_w3288 q_d2_122) <| q_al.c (q_i2 rfl q_w250 q_d2_123) <| q_al.c (q_i2 rfl q_w3292 q_d2_124) <| q_al.c (q_i0 (e := q_m126) rfl (Or.inl q_w2638) q_w2639 q_w112 q_cde126) <| q_al.c (q_i2 rfl q_w3296 q_d2_125) <| q_al.c (q_i0 (e := q_m128) rfl (Or.inl q_w2648) q_w2649 q_w112 q_cde128) <| q_al.c (q_i2 rfl q_w3300 q_d2_126) <| q_al.n) <|
  q_al2.c (q_al.c (q_i7 rfl (Or.inl q_w1590) q_d7_127) <| q_al.c (q_i7 rfl (Or.inl q_w1592) q_d7_128) <| q_al.c (q_i7 rfl (Or.inl q_w1595) q_d7_129) <| q_al.c (q_i3 q_w174) <| q_al.c (q_i1 (e := q_m130) rfl (Or.inl q_w179) q_w180 q_w181 rfl) <| q_al.c (q_i2 rfl q_w233 q_d2_130) <| q_al.c (q_i0 (e := q_m234) rfl (Or.inl q_w354) q_w355 q_w113 q_cde234) <| q_al.c (q_i0 (e := q_m235) rfl (Or.inl q_w357) q_w358 q_w113 q_cde235) <| q_al.c (q_i1 (e := q_m236) rfl (Or.inl q_w383) q_w384 q_w385 rfl) <| q_al.c (q_i2 rfl q_w421 q_d2_131) <| q_al.c (q_i2 rfl q_w1431 q_d2_132) <| q_al.c (q_i7 rfl (Or.inr (List.mem_of_getElem? (i := 0) rfl)) q_d7_133) <| q_al.c (q_i0 (e := q_m240) rfl (Or.inl q_w1458) q_w847 q_w131 q_cde240) <| q_al.c (q_i2 rfl q_w1459 q_d2_134) <| q_al.c (q_i2 rfl q_w1468 q_d2_135) <| q_al.c (q_i2 rfl q_w1508 q_d2_136) <| q_al.c (q_i2 rfl q_w1512 q_d2_137) <| q_al.c (q_i2 rfl q_w1513 q_d2_138) <| q_al.c (q_i2 rfl q_w1529 q_d2_139) <| q_al.c (q_i1 (e := q_m255) rfl (Or.inl q_w1563) q_w802 q_w803 rfl) <| q_al.c (q_i0 (e := q_m256) rfl (Or.inl q_w1564) q_w1565 q_w137 q_cde256) <| q_al.c (q_i7 rfl (Or.inl q_w1585) q_d7_140) <| q_al.c (q_i0 (e := q_m258) rfl (Or.inl q_w1586) q_w1587 q_w113 q_cde258) <| q_al.c (q_i2 rfl q_w1831 q_d2_141) <| q_al.c (q_i2 rfl q_w1835 q_d2_142) <| q_al.c (q_i2 rfl q_w1840 q_d2_143) <| q_al.c (q_i2 rfl q_w1841 q_d2_144) <| q_al.c (q_i2 rfl q_w1842 q_d2_145) <| q_al.c (q_i7 rfl (Or.inl q_w1898) q_d7_146) <| q_al.c (q_i7 rfl (Or.inl q_w1926) q_d7_147) <| q_al.c (q_i7 rfl (Or.inl q_w1936) q_d7_148) <| q_al.c (q_i0 (e := q_m268) rfl (Or.inl q_w1949) q_w1950 q_w113 q_cde268) <| q_al.c (q_i2 rfl q_w1959 q_d2_149) <| q_al.c (q_i7 rfl (Or.inl q_w1971) q_d7_150) <| q_al.c (q_i0 (e := q_m273) rfl (Or.inl q_w2020) q_w2021 q_w113 q_cde273) <| q_al.c (q_i7 rfl (Or.inl q_w2024) q_d7_151) <| q_al.c (q_i2 rfl q_w2116 q_d2_152) <| q_al.c (q_i2 rfl q_w2194 q_d2_153) <| q_al.c (q_i2 rfl q_w2209 q_d2_154) <| q_al.c (q_i2 rfl q_w2245 q_d2_155) <| q_al.c (q_i0 (e := q_m186) rfl (Or.inl q_w2246) q_w2086 q_w130 q_cde186) <| q_al.c (q_i2 rfl q_w2247 q_d2_156) <| q_al.c (q_i2 rfl q_w2273 q_d2_157) <| q_al.c (q_i1 (e := q_m304) rfl (Or.inl q_w2295) q_w2296 q_w2297 rfl) <| q_al.c (q_i2 rfl q_w2291 q_d2_158) <| q_al.c (q_i2 rfl q_w2322 q_d2_159) <| q_al.c (q_i0 (e := q_m197) rfl (Or.inl q_w2344) q_w494 q_w130 q_cde197) <| q_al.c (q_i2 rfl q_w2376 q_d2_160) <| q_al.c (q_i1 (e := q_m293) rfl (Or.inl q_w2367) q_w447 q_w448 rfl) <| q_al.c (q_i0 (e := q_m294) rfl (Or.inl q_w2368) q_w2369 q_w113 q_cde294) <| q_al.c (q_i2 rfl q_w2371 q_d2_161) <| q_al.c (q_i2 rfl q_w2372 q_d2_162) <| q_al.c (q_i2 rfl q_w2384 q_d2_163) <| q_al.c (q_i7 rfl (Or.inl q_w2387) q_d7_164) <| q_al.c (q_i7 rfl (Or.inl q_w255) q_d7_165) <| q_al.c (q_i7 rfl (Or.inl q_w2486) q_d7_166) <| q_al.c (q_i7 rfl (Or.inl q_w2505) q_d7_167) <| q_al.c (q_i2 rfl q_w2481 q_d2_168) <| q_al.c (q_i1 (e := q_m305) rfl (Or.inl q_w2473) q_w2474 q_w2475 rfl) <| q_al.c (q_i2 rfl q_w2477 q_d2_169) <| q_al.c (q_i2 rfl q_w2537 q_d2_170) <| q_al.c (q_i2 rfl q_w2541 q_d2_171) <| q_al.c (q_i1 (e := q_m313) rfl (Or.inl q_w2545) q_w1407 q_w1408 rfl) <| q_al.c (q_i7 rfl (Or.inl q_w2554) q_d7_172) <| q_al.c (q_i2 rfl q_w2574 q_d2_173) <| q_al.c (q_i7 rfl (Or.inr (List.mem_of_getElem? (i := 1) rfl)) q_d7_174) <| q_al.c (q_i7 rfl (Or.inl q_w2623) q_d7_175) <| q_al.c (q_i0 (e := q_m321) rfl (Or.inl q_w2645) q_w2646 q_w113 q_cde321) <| q_al.n) <|
  q_al2.c (q_al.c (q_i3 q_w2660) <| q_al.c (q_i2 rfl q_w2773 q_d2_176) <| q_al.c (q_i0 (e := q_m229) rfl (Or.inl q_w2781) q_w2782 q_w116 q_cde229) <| q_al.c (q_i0 (e := q_m133) rfl (Or.inl q_w2770) q_w2771 q_w116 q_cde133) <| q_al.c (q_i2 rfl q_w2849 q_d2_177) <| q_al.c (q_i2 rfl q_w2853 q_d2_178) <| q_al.c (q_i2 rfl q_w2857 q_d2_179) <| q_al.c (q_i2 rfl q_w2982 q_d2_180) <| q_al.c (q_i2 rfl q_w2994 q_d2_181) <| q_al.c (q_i2 rfl q_w2998 q_d2_182) <| q_al.c (q_i2 rfl q_w2908 q_d2_183) <| q_al.c (q_i2 rfl q_w3071 q_d2_184) <| q_al.c (q_i0 (e := q_m186) rfl (Or.inl q_w3075) q_w2086 q_w130 q_cde186) <| q_al.c (q_i2 rfl q_w2978 q_d2_185) <| q_al.c (q_i2 rfl q_w3067 q_d2_186) <| q_al.c (q_i0 (e := q_m358) rfl (Or.inl q_w3088) q_w3089 q_w116 q_cde358) <| q_al.c (q_i2 rfl q_w2990 q_d2_187) <| q_al.c (q_i2 rfl q_w3084 q_d2_188) <| q_al.c (q_i2 rfl q_w3091 q_d2_189) <| q_al.c (q_i2 rfl q_w3095 q_d2_190) <| q_al.c (q_i2 rfl q_w3080 q_d2_191) <| q_al.c (q_i0 (e := q_m166) rfl (Or.inl q_w2865) q_w2866 q_w116 q_cde166) <| q_al.c (q_i2 rfl q_w2792 q_d2_192) <| q_al.c (q_i0 (e := q_m330) rfl (Or.inl q_w2796) q_w2797 q_w116 q_cde330) <| q_al.c (q_i0 (e := q_m331) rfl (Or.inl q_w2799) q_w2800 q_w116 q_cde331) <| q_al.c (q_i0 (e := q_m332) rfl (Or.inl q_w2802) q_w2803 q_w116 q_cde332) <| q_al.c (q_i2 rfl q_w2820 q_d2_193) <| q_al.c (q_i2 rfl q_w2788 q_d2_194) <| q_al.c (q_i2 rfl q_w2814 q_d2_144) <| q_al.c (q_i2 rfl q_w2815 q_d2_145) <| q_al.c (q_i2 rfl q_w2832 q_d2_195) <| q_al.c (q_i2 rfl q_w2824 q_d2_196) <| q_al.c (q_i2 rfl q_w2816 q_d2_197) <| q_al.c (q_i2 rfl q_w2845 q_d2_198) <| q_al.c (q_i2 rfl q_w2861 q_d2_199) <| q_al.c (q_i2 rfl q_w2873 q_d2_200) <| q_al.c (q_i2 rfl q_w2828 q_d2_201) <| q_al.c (q_i2 rfl q_w2810 q_d2_202) <| q_al.c (q_i2 rfl q_w2886 q_d2_203) <| q_al.c (q_i2 rfl q_w2912 q_d2_204) <| q_al.c (q_i2 rfl q_w2894 q_d2_205) <| q_al.c (q_i2 rfl q_w2916 q_d2_206) <| q_al.c (q_i2 rfl q_w2920 q_d2_207) <| q_al.c (q_i2 rfl q_w2924 q_d2_208) <| q_al.c (q_i2 rfl q_w2878 q_d2_209) <| q_al.c (q_i2 rfl q_w2890 q_d2_210) <| q_al.c (q_i2 rfl q_w2841 q_d2_211) <| q_al.c (q_i2 rfl q_w2869 q_d2_212) <| q_al.c (q_i2 rfl q_w2882 q_d2_213) <| q_al.c (q_i2 rfl q_w2928 q_d2_214) <| q_al.c (q_i2 rfl q_w2934 q_d2_215) <| q_al.c (q_i2 rfl q_w2836 q_d2_216) <| q_al.c (q_i2 rfl q_w2777 q_d2_217) <| q_al.c (q_i2 rfl q_w2784 q_d2_218) <| q_al.c (q_i2 rfl q_w2805 q_d2_219) <| q_al.c (q_i2 rfl q_w2938 q_d2_220) <| q_al.c (q_i2 rfl q_w2950 q_d2_221) <| q_al.c (q_i2 rfl q_w2946 q_d2_222) <| q_al.c (q_i2 rfl q_w2966 q_d2_223) <| q_al.c (q_i2 rfl q_w3022 q_d2_224) <| q_al.c (q_i2 rfl q_w3055 q_d2_225) <| q_al.c (q_i2 rfl q_w3107 q_d2_226) <| q_al.c (q_i2 rfl q_w3135 q_d2_227) <| q_al.c (q_i2 rfl q_w3151 q_d2_228) <| q_al.c (q_i2 rfl q_w3163 q_d2_229) <| q_al.c (q_i0 (e := q_m197) rfl (Or.inl q_w3179) q_w494 q_w130 q_cde197) <| q_al.c (q_i2 rfl q_w3188 q_d2_230) <| q_al.c (q_i0 (e := q_m201) rfl (Or.inl q_w3192) q_w512 q_w130 q_cde201) <| q_al.c (q_i2 rfl q_w3227 q_d2_231) <| q_al.c (q_i2 rfl q_w3205 q_d2_232) <| q_al.c (q_i2 rfl q_w3213 q_d2_233) <| q_al.c (q_i0 (e := q_m209) rfl (Or.inl q_w3217) q_w3218 q_w116 q_cde209) <| q_al.c (q_i2 rfl q_w3220 q_d2_234) <| q_al.c (q_i0 (e := q_m211) rfl (Or.inl q_w3224) q_w3225 q_w116 q_cde211) <| q_al.c (q_i2 rfl q_w3247 q_d2_235) <| q_al.c (q_i2 rfl q_w3243 q_d2_236) <| q_al.c (q_i2 rfl q_w3259 q_d2_237) <| q_al.c (q_i2 rfl q_w3267 q_d2_238) <| q_al.n) <|
  q_al2.c (q_al.c (q_i1 (e := q_m233) rfl (Or.inl q_w182) q_w183 q_w184 rfl) <| q_al.c (q_i0 (e := q_m411) rfl (Or.inl q_w2635) q_w2636 q_w115 q_cde411) <| q_al.c (q_i2n rfl) <| q_al.c (q_i0 (e := q_m406) rfl (Or.inl q_w2501) q_w2502 q_w115 q_cde406) <| q_al.c (q_i2 rfl q_w2494 q_d2_240) <| q_al.c (q_i2 rfl q_w2631 q_d2_241) <| q_al.c (q_i0 (e := q_m412) rfl (Or.inl q_w2498) q_w2499 q_w115 q_cde412) <| q_al.c (q_i0 (e := q_m320) rfl (Or.inl q_w264) q_w265 q_w115 q_cde320) <| q_al.c (q_i0 (e := q_m328) rfl (Or.inl q_w1455) q_w1456 q_w115 q_cde328) <| q_al.n) <|
  q_al2.c (q_al.n) <|
  q_al2.c (q_al.c (q_i3 q_w185) <| q_al.n) <|
  q_al2.c (q_al.c (q_i3 q_w386) <| q_al.c (q_i1 (e := q_m236) rfl (Or.inl q_w2476) q_w384 q_w385 rfl) <| q_al.c (q_i2 rfl q_w429 q_d2_242) <| q_al.c (q_i0 (e := q_m234) rfl (Or.inr ⟨_, q_w439⟩) q_w355 q_w113 q_cde234) <| q_al.c (q_i1 (e := q_m293) rfl (Or.inl q_w446) q_w447 q_w448 rfl) <| q_al.c (q_i2 rfl q_w475 q_d2_161) <| q_al.c (q_i2 rfl q_w570 q_d2_160) <| q_al.c (q_i0 (e := q_m415) rfl (Or.inl q_w728) q_w729 q_w138 q_cde415) <| q_al.c (q_i2 rfl q_w440 q_d2_243) <| q_al.c (q_i2 rfl q_w722 q_d2_244) <| q_al.c (q_i2 rfl q_w731 q_d2_245) <| q_al.c (q_i2 rfl q_w433 q_d2_246) <| q_al.c (q_i1 (e := q_m381) rfl (Or.inl q_w761) q_w762 q_w763 rfl) <| q_al.c (q_i2 rfl q_w748 q_d2_247) <| q_al.c (q_i2 rfl q_w783 q_d2_248) <| q_al.c (q_i2 rfl q_w425 q_d2_249) <| q_al.c (q_i2 rfl q_w779 q_d2_250) <| q_al.c (q_i2 rfl q_w1016 q_d2_134) <| q_al.c (q_i2 rfl q_w953 q_d2_251) <| q_al.c (q_i2 rfl q_w740 q_d2_252) <| q_al.c (q_i2 rfl q_w1229 q_d2_253) <| q_al.c (q_i2 rfl q_w1242 q_d2_254) <| q_al.c (q_i2 rfl q_w1246 q_d2_255) <| q_al.c (q_i2 rfl q_w1270 q_d2_256) <| q_al.c (q_i2 rfl q_w1285 q_d2_257) <| q_al.c (q_i2 rfl q_w1305 q_d2_258) <| q_al.c (q_i1 (e := q_m438) rfl (Or.inr ⟨_, q_w1322⟩) q_w1323 q_w1324 rfl) <| q_al.c (q_i2 rfl q_w1327 q_d2_259) <| q_al.c (q_i2 rfl q_w1219 q_d2_260) <| q_al.c (q_i1 (e := q_m440) rfl (Or.inl q_w1346) q_w1347 q_w1348 rfl) <| q_al.c (q_i1 (e := q_m441) rfl (Or.inl q_w1356) q_w1357 q_w1358 rfl) <| q_al.c (q_i2 rfl q_w1380 q_d2_261) <| q_al.c (q_i1 (e := q_m443) rfl (Or.inl q_w1388) q_w1389 q_w1390 rfl) <| q_al.c (q_i1 (e := q_m444) rfl (Or.inl q_w1398) q_w1399 q_w1400 rfl) <| q_al.c (q_i2 rfl q_w1041 q_d2_262) <| q_al.c (q_i1 (e := q_m450) rfl (Or.inl q_w1252) q_w1253 q_w1254 rfl) <| q_al.c (q_i2 rfl q_w1045 q_d2_263) <| q_al.c (q_i1 (e := q_m451) rfl (Or.inl q_w1276) q_w1277 q_w1278 rfl) <| q_al.c (q_i1 (e := q_m453) rfl (Or.inl q_w1311) q_w1312 q_w1313 rfl) <| q_al.c (q_i1 (e := q_m452) rfl (Or.inl q_w1291) q_w1292 q_w1293 rfl) <| q_al.c (q_i1 (e := q_m454) rfl (Or.inl q_w1333) q_w1334 q_w1335 rfl) <| q_al.c (q_i2 rfl q_w1225 q_d2_264) <| q_al.c (q_i7 rfl (Or.inl q_w1385) q_d7_140) <| q_al.c (q_i2 rfl q_w1053 q_d2_265) <| q_al.c (q_i2 rfl q_w1090 q_d2_266) <| q_al.c (q_i2 rfl q_w1049 q_d2_267) <| q_al.c (q_i2 rfl q_w1095 q_d2_144) <| q_al.c (q_i2 rfl q_w1096 q_d2_268) <| q_al.c (q_i1 (e := q_m424) rfl (Or.inl q_w1131) q_w1132 q_w1133 rfl) <| q_al.c (q_i2 rfl q_w1139 q_d2_269) <| q_al.c (q_i1 (e := q_m313) rfl (Or.inl q_w1406) q_w1407 q_w1408 rfl) <| q_al.c (q_i2 rfl q_w1429 q_d2_137) <| q_al.c (q_i2 rfl q_w1430 q_d2_138) <| q_al.c (q_i7 rfl (Or.inl q_w1031) q_d7_127) <| q_al.c (q_i2 rfl q_w949 q_d2_270) <| q_al.c (q_i2 rfl q_w1036 q_d2_271) <| q_al.c (q_i2 rfl q_w1091 q_d2_272) <| q_al.c (q_i2 rfl q_w1215 q_d2_273) <| q_al.c (q_i2 rfl q_w1425 q_d2_274) <| q_al.c (q_i1 (e := q_m326) rfl (Or.inl q_w789) q_w790 q_w791 rfl) <| q_al.c (q_i2 rfl q_w945 q_d2_275) <| q_al.n) <|
  q_al2.c (q_al.c (q_i1 (e := q_m417) rfl (Or.inl q_w764) q_w765 q_w766 rfl) <| q_al.c (q_i5 q_w1435) <| q_al.n) <|
  q_al2.c (q_al.c (q_i2 rfl q_w653 q_d2_163) <| q_al.c (q_i2 rfl q_w618 q_d2_276) <| q_al.c (q_i2 rfl q_w691 q_d2_160) <| q_al.c (q_i4 q_w514) <| q_al.c (q_i0 (e := q_m201) rfl (Or.inl q_w511) q_w512 q_w130 q_cde201) <| q_al.c (q_i6 q_w504) <| q_al.c (q_i0 (e := q_m463) rfl (Or.inl q_w599) q_w600 q_w131 q_cde463) <| q_al.c (q_i0 (e := q_m465) rfl (Or.inl q_w602) q_w603 q_w131 q_cde465) <| q_al.n) <|
  q_al2.c (q_al.c (q_i3 q_w798) <| q_al.c (q_i1 (e := q_m255) rfl (Or.inl q_w801) q_w802 q_w803 rfl) <| q_al.c (q_i7 rfl (Or.inl q_w1144) q_d7_140) <| q_al.c (q_i2 rfl q_w2303 q_d2_134) <| q_al.c (q_i2 rfl q_w2304 q_d2_142) <| q_al.c (q_i2 rfl q_w2305 q_d2_269) <| q_al.c (q_i7 rfl (Or.inl q_w1021) q_d7_127) <| q_al.c (q_i7 rfl (Or.inl q_w1101) q_d7_128) <| q_al.c (q_i7 rfl (Or.inl q_w1119) q_d7_277) <| q_al.c (q_i2 rfl q_w1128 q_d2_252) <| q_al.n) <|
  q_al2.c (q_al.c (q_i3 q_w792) <| q_al.c (q_i1 (e := q_m367) rfl (Or.inr ⟨_, q_w795⟩) q_w796 q_w797 rfl) <| q_al.c (q_i1 (e := q_m255) rfl (Or.inl q_w839) q_w802 q_w803 rfl) <| q_al.c (q_i0 (e := q_m240) rfl (Or.inl q_w846) q_w847 q_w131 q_cde240) <| q_al.c (q_i2 rfl q_w851 q_d2_266) <| q_al.c (q_i4 q_w2298) <| q_al.c (q_i2 rfl q_w2299 q_d2_278) <| q_al.c (q_i7 rfl (Or.inl q_w2167) q_d7_127) <| q_al.c (q_i7 rfl (Or.inl q_w2169) q_d7_128) <| q_al.c (q_i7 rfl (Or.inl q_w2307) q_d7_140) <| q_al.c (q_i2 rfl q_w855 q_d2_155) <| q_al.c (q_i2 rfl q_w862 q_d2_138) <| q_al.c (q_i2 rfl q_w872 q_d2_279) <| q_al.c (q_i2 rfl q_w1068 q_d2_137) <| q_al.c (q_i0 (e := q_m431) rfl (Or.inl q_w1057) q_w1058 q_w138 q_cde431) <| q_al.c (q_i2 rfl q_w1064 q_d2_280) <| q_al.c (q_i1 (e := q_m433) rfl (Or.inl q_w1081) q_w1082 q_w1083 rfl) <| q_al.c (q_i0 (e := q_m418) rfl (Or.inl q_w859) q_w860 q_w131 q_cde418) <| q_al.c (q_i2 rfl q_w868 q_d2_281) <| q_al.c (q_i0 (e := q_m268) rfl (Or.inr ⟨_, q_w2251⟩) q_w1950 q_w113 q_cde268) <| q_al.c (q_i2 rfl q_w2147 q_d2_134) <| q_al.c (q_i0 (e := q_m357) rfl (Or.inr ⟨_, q_w2153⟩) q_w2078 q_w113 q_cde357) <| q_al.c (q_i0 (e := q_m398) rfl (Or.inl q_w2155) q_w2156 q_w137 q_cde398) <| q_al.c (q_i0 (e := q_m234) rfl (Or.inr ⟨_, q_w2161⟩) q_w355 q_w113 q_cde234) <| q_al.c (q_i7 rfl (Or.inl q_w2172) q_d7_151) <| q_al.c (q_i1 (e := q_m359) rfl (Or.inl q_w2126) q_w2127 q_w2128 rfl) <| q_al.c (q_i2 rfl q_w2148 q_d2_282) <| q_al.c (q_i2 rfl q_w2162 q_d2_283) <| q_al.c (q_i2 rfl q_w2173 q_d2_284) <| q_al.c (q_i2 rfl q_w2120 q_d2_159) <| q_al.n) <|
  q_al2.c (q_al.c (q_i1 (e := q_m340) rfl (Or.inl q_w804) q_w805 q_w806 rfl) <| q_al.c (q_i2 rfl q_w815 q_d2_163) <| q_al.c (q_i2 rfl q_w816 q_d2_276) <| q_al.c (q_i2 rfl q_w817 q_d2_160) <| q_al.c (q_i4 q_w2566) <| q_al.c (q_i0 (e := q_m351) rfl (Or.inl q_w1109) q_w1110 q_w146 q_cde351) <| q_al.c (q_i2 rfl q_w1113 q_d2_285) <| q_al.c (q_i2n rfl) <| q_al.c (q_i2 rfl q_w1152 q_d2_287) <| q_al.c (q_i2 rfl q_w2562 q_d2_288) <| q_al.c (q_i1 (e := q_m349) rfl (Or.inl q_w1908) q_w1909 q_w1910 rfl) <| q_al.n) <|
  q_al2.c (q_al.c (q_i1 (e := q_m343) rfl (Or.inl q_w1573) q_w1574 q_w1575 rfl) <| q_al.c (q_i1 (e := q_m394) rfl (Or.inl q_w1576) q_w1577 q_w1578 rfl) <| q_al.c (q_i0 (e := q_m428) rfl (Or.inl q_w1636) q_w1637 q_w137 q_cde428) <| q_al.c (q_i2 rfl q_w1632 q_d2_289) <| q_al.n) <|
  q_al2.c (q_al.c (q_i3 q_w1134) <| q_al.n) <|
  q_al2.c (q_al.c (q_i3 q_w581) <| q_al.c (q_i0 (e := q_m449) rfl (Or.inl q_w596) q_w597 q_w131 q_cde449) <| q_al.c (q_i4 q_w689) <| q_al.c (q_i2 rfl q_w671 q_d2_290) <| q_al.c (q_i1 (e := q_m427) rfl (Or.inl q_w578) q_w579 q_w580 rfl) <| q_al.c (q_i2 rfl q_w957 q_d2_291) <| q_al.c (q_i0 (e := q_m348) rfl (Or.inl q_w1846) q_w1847 q_w133 q_cde348) <| q_al.c (q_i0 (e := q_m380) rfl (Or.inl q_w745) q_w746 q_w133 q_cde380) <| q_al.c (q_i2 rfl q_w587 q_d2_292) <| q_al.c (q_i2 rfl q_w582 q_d2_293) <| q_al.c (q_i0 (e := q_m420) rfl (Or.inl q_w961) q_w962 q_w133 q_cde420) <| q_al.c (q_i2 rfl q_w595 q_d2_294) <| q_al.c (q_i0 (e := q_m397) rfl (Or.inl q_w567) q_w568 q_w134 q_cde397) <| q_al.n) <|
  q_al2.c (q_al.c (q_i3 q_w1911) <| q_al.c (q_i2 rfl q_w1944 q_d2_295) <| q_al.n) <|
  q_al2.c (q_al.c (q_i3 q_w1363) <| q_al.c (q_i1 (e := q_m255) rfl (Or.inl q_w1365) q_w802 q_w803 rfl) <| q_al.c (q_i0 (e := q_m353) rfl (Or.inl q_w1980) q_w1981 q_w167 q_cde353) <| q_al.c (q_i2 rfl q_w2395 q_d2_163) <| q_al.c (q_i7 rfl (Or.inl q_w2397) q_d7_127) <| q_al.c (q_i2 rfl q_w2398 q_d2_161) <| q_al.c (q_i7 rfl (Or.inl q_w2400) q_d7_128) <| q_al.c (q_i7 rfl (Or.inl q_w2403) q_d7_164) <| q_al.n) <|
  q_al2.c (q_al.c (q_i2 rfl q_w2413 q_d2_163) <| q_al.c (q_i2 rfl q_w2414 q_d2_161) <| q_al.c (q_i2 rfl q_w2415 q_d2_276) <| q_al.c (q_i7 rfl (Or.inl q_w1984) q_d7_127) <| q_al.c (q_i7 rfl (Or.inl q_w1986) q_d7_128) <| q_al.c (q_i7 rfl (Or.inl q_w1989) q_d7_150) <| q_al.n) <|
  q_al2.c (q_al.c (q_i1 (e := q_m455) rfl (Or.inl q_w1392) q_w1361 q_w1362 rfl) <| q_al.c (q_i7 rfl (Or.inl q_w2033) q_d7_128) <| q_al.c (q_i7 rfl (Or.inl q_w2036) q_d7_151) <| q_al.n) <|
  q_al2.c (q_al.c (q_i3 q_w1325) <| q_al.c (q_i2 rfl q_w2042 q_d2_139) <| q_al.c (q_i0 (e := q_m366) rfl (Or.inl q_w2410) q_w2411 q_w167 q_cde366) <| q_al.n) <|
  q_al2.c (q_al.c (q_i3 q_w1259) <| q_al.c (q_i2 rfl q_w2048 q_d2_296) <| q_al.c (q_i0 (e := q_m234) rfl (Or.inr ⟨_, q_w2061⟩) q_w355 q_w113 q_cde234) <| q_al.c (q_i0 (e := q_m366) rfl (Or.inl q_w2421) q_w2411 q_w167 q_cde366) <| q_al.n) <|
  q_al2.c (q_al.c (q_i1 (e := q_m455) rfl (Or.inl q_w1402) q_w1361 q_w1362 rfl) <| q_al.c (q_i7 rfl (Or.inl q_w2068) q_d7_128) <| q_al.c (q_i7 rfl (Or.inl q_w2071) q_d7_151) <| q_al.n) <|
  q_al2.c (q_al.c (q_i3 q_w1349) <| q_al.c (q_i0 (e := q_m357) rfl (Or.inr ⟨_, q_w2077⟩) q_w2078 q_w113 q_cde357) <| q_al.c (q_i0 (e := q_m366) rfl (Or.inl q_w2430) q_w2411 q_w167 q_cde366) <| q_al.n) <|
  q_al2.c (q_al.c (q_i3 q_w1294) <| q_al.c (q_i0 (e := q_m186) rfl (Or.inl q_w2085) q_w2086 q_w130 q_cde186) <| q_al.c (q_i0 (e := q_m366) rfl (Or.inl q_w2437) q_w2411 q_w167 q_cde366) <| q_al.n) <|
  q_al2.c (q_al.c (q_i1 (e := q_m455) rfl (Or.inl q_w1360) q_w1361 q_w1362 rfl) <| q_al.c (q_i7 rfl (Or.inl q_w2094) q_d7_128) <| q_al.c (q_i7 rfl (Or.inl q_w2097) q_d7_151) <| q_al.n) <|
  q_al2.c (q_al.c (q_i3 q_w1336) <| q_al.c (q_i2 rfl q_w2105 q_d2_138) <| q_al.c (q_i2 rfl q_w2106 q_d2_137) <| q_al.c (q_i0 (e := q_m366) rfl (Or.inl q_w2448) q_w2411 q_w167 q_cde366) <| q_al.n) <|
  q_al2.c (q_al.c (q_i3 q_w2129) <| q_al.c (q_i0 (e := q_m398) rfl (Or.inl q_w2177) q_w2156 q_w137 q_cde398) <| q_al.c (q_i0 (e := q_m357) rfl (Or.inr ⟨_, q_w2178⟩) q_w2078 q_w113 q_cde357) <| q_al.c (q_i0 (e := q_m268) rfl (Or.inr ⟨_, q_w2179⟩) q_w1950 q_w113 q_cde268) <| q_al.c (q_i2 rfl q_w2198 q_d2_154) <| q_al.n) <|
  q_al2.c (q_al.c (q_i1 (e := q_m363) rfl (Or.inl q_w449) q_w450 q_w451 rfl) <| q_al.c (q_i1s (e := q_m365) rfl q_w657 q_w658 q_cde365 q_w3312 q_w474 (by decide)) <| q_al.c (q_i1s (e := q_m364) rfl q_w479 q_w480 q_cde364 q_w3307 q_w474 (by decide)) <| q_al.c (q_i1s (e := q_m392) rfl q_w622 q_w623 q_cde392 q_w3311 q_w474 (by decide)) <| q_al.c (q_i1 (e := q_m393) rfl (Or.inl q_w575) q_w576 q_w577 rfl) <| q_al.c (q_i1s (e := q_m462) rfl q_w593 q_w588 q_cde462 q_w589 q_w474 (by decide)) <| q_al.n) <|
  q_al2.c (q_al.c (q_i3 q_w1409) <| q_al.n) <|
  q_al2.c (q_al.c (q_i1 (e := q_m233) rfl (Or.inl q_w807) q_w183 q_w184 rfl) <| q_al.n) <|
  q_al2.c (q_al.c (q_i0 (e := q_m396) rfl (Or.inl q_w1849) q_w565 q_w122 q_cde396) <| q_al.c (q_i0 (e := q_m446) rfl (Or.inl q_w964) q_w965 q_w129 q_cde446) <| q_al.n) <|
  q_al2.c (q_al.c (q_i0 (e := q_m397) rfl (Or.inl q_w1112) q_w568 q_w134 q_cde397) <| q_al.n) <|
  q_al2.c (q_al.c (q_i1 (e := q_m464) rfl (Or.inl q_w1280) q_w1257 q_w1258 rfl) <| q_al.n) <|
  q_al2.c (q_al.c (q_i1 (e := q_m464) rfl (Or.inl q_w1256) q_w1257 q_w1258 rfl) <| q_al.n) <|
  q_al2.c (q_al.c (q_i1 (e := q_m464) rfl (Or.inl q_w1315) q_w1257 q_w1258 rfl) <| q_al.c (q_i2 rfl q_w2060 q_d2_138) <| q_al.n) <|
  q_al2.c (q_al.c (q_i3 q_w452) <| q_al.c (q_i2 rfl q_w667 q_d2_144) <| q_al.c (q_i2 rfl q_w684 q_d2_290) <| q_al.c (q_i2 rfl q_w517 q_d2_294) <| q_al.c (q_i2 rfl q_w482 q_d2_297) <| q_al.c (q_i2n rfl) <| q_al.c (q_i0 (e := q_m401) rfl (Or.inl q_w522) q_w523 q_w133 q_cde401) <| q_al.c (q_i2n rfl) <| q_al.c (q_i2n rfl) <| q_al.c (q_i2 rfl q_w676 q_d2_301) <| q_al.c (q_i0 (e := q_m425) rfl (Or.inl q_w625) q_w626 q_w137 q_cde425) <| q_al.c (q_i0 (e := q_m426) rfl (Or.inl q_w628) q_w629 q_w137 q_cde426) <| q_al.c (q_i2 rfl q_w680 q_d2_302) <| q_al.c (q_i2 rfl q_w685 q_d2_303) <| q_al.n) <|
  q_al2.c (q_al.c (q_i3 q_w1579) <| q_al.n) <|
  q_al2.c (q_al.n) <|
  q_al2.c (q_al.n) <|
  q_al2.c (q_al.c (q_i1 (e := q_m445) rfl (Or.inl q_w767) q_w768 q_w769 rfl) <| q_al.n) <|
  q_al2.c (q_al.c (q_i1 (e := q_m417) rfl (Or.inl q_w1084) q_w765 q_w766 rfl) <| q_al.n) <|
  q_al2.c (q_al.c (q_i3 q_w286) <| q_al.c (q_i2n rfl) <| q_al.n) <|
  q_al2.c (q_al.c (q_i0 (e := q_m456) rfl (Or.inl q_w968) q_w969 q_w129 q_cde456) <| q_al.c (q_i0 (e := q_m457) rfl (Or.inl q_w971) q_w972 q_w129 q_cde457) <| q_al.c (q_i0 (e := q_m458) rfl (Or.inl q_w988) q_w989 q_w129 q_cde458) <| q_al.c (q_i0 (e := q_m459) rfl (Or.inl q_w991) q_w992 q_w129 q_cde459) <| q_al.c (q_i0 (e := q_m460) rfl (Or.inl q_w995) q_w996 q_w129 q_cde460) <| q_al.c (q_i0 (e := q_m461) rfl (Or.inl q_w999) q_w1000 q_w129 q_cde461) <| q_al.c (q_i2 rfl q_w1006 q_d2_163) <| q_al.c (q_i2 rfl q_w1007 q_d2_276) <| q_al.c (q_i2 rfl q_w1008 q_d2_160) <| q_al.c (q_i7n rfl) <| q_al.n) <|
  q_al2.n
theorem q_evCS : q_al q_pCS q_cs := q_al.c (⟨"java/lang/IndexOutOfBoundsException", "java/lang/IndexOutOfBoundsException", rfl, rfl, Or.inl q_w362⟩) <| q_al.c (⟨"java/lang/IllegalArgumentException", "java/lang/IllegalArgumentException", rfl, rfl, Or.inl q_w607⟩) <| q_al.c (⟨"CaptainClaims$FormatException", "CaptainClaims$FormatException", rfl, rfl, Or.inl q_w754⟩) <| q_al.c (⟨"CaptainClaims$MisfitException", "CaptainClaims$MisfitException", rfl, rfl, Or.inl q_w1074⟩) <| q_al.c (⟨"CaptainClaims$Captain", "CaptainClaims$Named", rfl, rfl, Or.inl q_w1122⟩) <| q_al.c (⟨"java/lang/IllegalStateException", "java/lang/IllegalStateException", rfl, rfl, Or.inl q_w1474⟩) <| q_al.c (⟨"CaptainClaims$Declaration", "java/lang/Comparable", rfl, rfl, Or.inl q_w1598⟩) <| q_al.c (⟨"CaptainClaims$Mark", "java/lang/Comparable", rfl, rfl, Or.inl q_w1620⟩) <| q_al.c (⟨"CaptainClaims$Token", "java/lang/Comparable", rfl, rfl, Or.inl q_w1623⟩) <| q_al.c (⟨"java/lang/Integer", "java/lang/Comparable", rfl, rfl, Or.inl q_w1626⟩) <| q_al.c (⟨"java/lang/String", "java/lang/Comparable", rfl, rfl, Or.inl q_w1639⟩) <| q_al.c (⟨"java/lang/StringBuilder", "java/lang/Comparable", rfl, rfl, Or.inl q_w1785⟩) <| q_al.c (⟨"CaptainClaims$BothClaim", "CaptainClaims$Claim", rfl, rfl, Or.inl q_w1974⟩) <| q_al.c (⟨"CaptainClaims$CoastClaim", "CaptainClaims$Claim", rfl, rfl, Or.inl q_w1990⟩) <| q_al.c (⟨"CaptainClaims$ColumnClaim", "CaptainClaims$Claim", rfl, rfl, Or.inl q_w1995⟩) <| q_al.c (⟨"CaptainClaims$EitherClaim", "CaptainClaims$Claim", rfl, rfl, Or.inl q_w1997⟩) <| q_al.c (⟨"CaptainClaims$HonestClaim", "CaptainClaims$Claim", rfl, rfl, Or.inl q_w2000⟩) <| q_al.c (⟨"CaptainClaims$NearClaim", "CaptainClaims$Claim", rfl, rfl, Or.inl q_w2002⟩) <| q_al.c (⟨"CaptainClaims$NotClaim", "CaptainClaims$Claim", rfl, rfl, Or.inl q_w2004⟩) <| q_al.c (⟨"CaptainClaims$RowClaim", "CaptainClaims$Claim", rfl, rfl, Or.inl q_w2007⟩) <| q_al.c (⟨"CaptainClaims$SameClaim", "CaptainClaims$Claim", rfl, rfl, Or.inl q_w2009⟩) <| q_al.c (⟨"CaptainClaims$SizeClaim", "CaptainClaims$Claim", rfl, rfl, Or.inl q_w2011⟩) <| q_al.c (⟨"java/lang/String", "java/lang/String", rfl, rfl, Or.inr rfl⟩) <| q_al.c (⟨"CaptainClaims$Puzzle", "CaptainClaims$Puzzle", rfl, rfl, Or.inr rfl⟩) <| q_al.c (⟨"CaptainClaims$Captain", "CaptainClaims$Captain", rfl, rfl, Or.inr rfl⟩) <| q_al.c (⟨"CaptainClaims$Statement", "CaptainClaims$Statement", rfl, rfl, Or.inr rfl⟩) <| q_al.c (⟨"CaptainClaims$NotClaim", "CaptainClaims$NotClaim", rfl, rfl, Or.inr rfl⟩) <| q_al.c (⟨"CaptainClaims$BothClaim", "CaptainClaims$BothClaim", rfl, rfl, Or.inr rfl⟩) <| q_al.c (⟨"CaptainClaims$EitherClaim", "CaptainClaims$EitherClaim", rfl, rfl, Or.inr rfl⟩) <| q_al.c (⟨"java/lang/Integer", "java/lang/Integer", rfl, rfl, Or.inr rfl⟩) <| q_al.n
