/-! more evidence: printed by gen/pev2.py -/
set_option maxRecDepth 100000
theorem q_w132 : (Jvm.Cond.initialized "java/lang/System") ∈ lw_all := lw_g (lw_at lw_m1 20 rfl) rfl
theorem q_w175 : (Jvm.Cond.instanceMethod ({ cls := "java/lang/Object", name := "<init>", desc := "()V" } : Jvm.MethodName)) ∈ lw_all := lw_g (lw_at lw_m1 63 rfl) rfl
theorem q_w176 : (Jvm.Cond.code ({ cls := "java/lang/Object", name := "<init>", desc := "()V" } : Jvm.MethodName) object_method_1_code (1 : Nat) (Option.none : Option Jvm.ClassFile.FieldType)) ∈ lw_all := lw_g (lw_at lw_m1 64 rfl) rfl
theorem q_w192 : (Jvm.Cond.lays "java/util/ArrayDeque" "java/util/ArrayDeque" "elements" "[Ljava/lang/Object;") ∈ lw_all := lw_g (lw_at lw_m1 80 rfl) rfl
theorem q_w194 : (Jvm.Cond.lays "java/util/ArrayDeque" "java/util/ArrayDeque" "head" "I") ∈ lw_all := lw_g (lw_at lw_m1 82 rfl) rfl
theorem q_w196 : (Jvm.Cond.lays "java/util/ArrayDeque" "java/util/ArrayDeque" "tail" "I") ∈ lw_all := lw_g (lw_at lw_m1 84 rfl) rfl
theorem q_w199 : (Jvm.Cond.arrayClass Jvm.ClassFile.FieldType.byte) ∈ lw_all := lw_g (lw_at lw_m1 87 rfl) rfl
theorem q_w212 : (Jvm.Cond.laysFinal "CaptainClaims" "CaptainClaims" "buffer" "[B") ∈ lw_all := lw_g (lw_at lw_m1 100 rfl) rfl
theorem q_w214 : (Jvm.Cond.lays "CaptainClaims" "CaptainClaims" "bufferLength" "I") ∈ lw_all := lw_g (lw_at lw_m1 102 rfl) rfl
theorem q_w216 : (Jvm.Cond.lays "CaptainClaims" "CaptainClaims" "parseError" "I") ∈ lw_all := lw_g (lw_at lw_m1 104 rfl) rfl
theorem q_w218 : (Jvm.Cond.lays "CaptainClaims" "CaptainClaims" "errorPosition" "I") ∈ lw_all := lw_g (lw_at lw_m1 106 rfl) rfl
theorem q_w220 : (Jvm.Cond.lays "CaptainClaims" "CaptainClaims" "current" "LCaptainClaims$Puzzle;") ∈ lw_all := lw_g (lw_at lw_m1 108 rfl) rfl
theorem q_w222 : (Jvm.Cond.laysFinal "CaptainClaims" "CaptainClaims" "undos" "Ljava/util/Deque;") ∈ lw_all := lw_g (lw_at lw_m1 110 rfl) rfl
theorem q_w224 : (Jvm.Cond.laysFinal "CaptainClaims" "CaptainClaims" "saved" "[LCaptainClaims$Puzzle;") ∈ lw_all := lw_g (lw_at lw_m1 112 rfl) rfl
theorem q_w226 : (Jvm.Cond.lays "CaptainClaims" "CaptainClaims" "written" "Ljava/lang/String;") ∈ lw_all := lw_g (lw_at lw_m1 114 rfl) rfl
theorem q_w237 : (Jvm.Cond.arrayClass Jvm.ClassFile.FieldType.int) ∈ lw_all := lw_g (lw_at lw_m1 125 rfl) rfl
theorem q_w344 : (Jvm.Cond.laysFinal "java/lang/String" "java/lang/String" "value" "[B") ∈ lw_all := lw_g (lw_at lw_m1 232 rfl) rfl
theorem q_w346 : (Jvm.Cond.laysFinal "java/lang/String" "java/lang/String" "coder" "B") ∈ lw_all := lw_g (lw_at lw_m1 234 rfl) rfl
theorem q_w400 : (Jvm.Cond.laysFinal "CaptainClaims$Parser" "CaptainClaims$Parser" "length" "I") ∈ lw_all := lw_g (lw_at lw_m2 48 rfl) rfl
theorem q_w402 : (Jvm.Cond.lays "CaptainClaims$Parser" "CaptainClaims$Parser" "from" "I") ∈ lw_all := lw_g (lw_at lw_m2 50 rfl) rfl
theorem q_w404 : (Jvm.Cond.lays "CaptainClaims$Parser" "CaptainClaims$Parser" "to" "I") ∈ lw_all := lw_g (lw_at lw_m2 52 rfl) rfl
theorem q_w406 : (Jvm.Cond.lays "CaptainClaims$Parser" "CaptainClaims$Parser" "value" "I") ∈ lw_all := lw_g (lw_at lw_m2 54 rfl) rfl
theorem q_w408 : (Jvm.Cond.lays "CaptainClaims$Parser" "CaptainClaims$Parser" "nodes" "I") ∈ lw_all := lw_g (lw_at lw_m2 56 rfl) rfl
theorem q_w410 : (Jvm.Cond.lays "CaptainClaims$Parser" "CaptainClaims$Parser" "depth" "I") ∈ lw_all := lw_g (lw_at lw_m2 58 rfl) rfl
theorem q_w412 : (Jvm.Cond.lays "CaptainClaims$Parser" "CaptainClaims$Parser" "token" "LCaptainClaims$Token;") ∈ lw_all := lw_g (lw_at lw_m2 60 rfl) rfl
theorem q_w414 : (Jvm.Cond.lays "CaptainClaims$Parser" "CaptainClaims$Parser" "word" "Ljava/lang/String;") ∈ lw_all := lw_g (lw_at lw_m2 62 rfl) rfl
theorem q_w416 : (Jvm.Cond.lays "CaptainClaims$Parser" "CaptainClaims$Parser" "puzzle" "LCaptainClaims$Puzzle;") ∈ lw_all := lw_g (lw_at lw_m2 64 rfl) rfl
theorem q_w418 : (Jvm.Cond.laysFinal "CaptainClaims$Parser" "CaptainClaims$Parser" "this$0" "LCaptainClaims;") ∈ lw_all := lw_g (lw_at lw_m2 66 rfl) rfl
theorem q_w466 : (Jvm.Cond.lays "java/lang/StringBuilder" "java/lang/AbstractStringBuilder" "value" "[B") ∈ lw_all := lw_g (lw_at lw_m2 114 rfl) rfl
theorem q_w468 : (Jvm.Cond.lays "java/lang/StringBuilder" "java/lang/AbstractStringBuilder" "coder" "B") ∈ lw_all := lw_g (lw_at lw_m2 116 rfl) rfl
theorem q_w470 : (Jvm.Cond.lays "java/lang/StringBuilder" "java/lang/AbstractStringBuilder" "maybeLatin1" "Z") ∈ lw_all := lw_g (lw_at lw_m2 118 rfl) rfl
theorem q_w472 : (Jvm.Cond.lays "java/lang/StringBuilder" "java/lang/AbstractStringBuilder" "count" "I") ∈ lw_all := lw_g (lw_at lw_m2 120 rfl) rfl
theorem q_w505 : (Jvm.Cond.sameMethod "[B" "java/lang/Object" "clone" "()Ljava/lang/Object;") ∈ lw_all := lw_g (lw_at lw_m2 153 rfl) rfl
theorem q_w506 : (Jvm.Cond.native ({ cls := "java/lang/Object", name := "clone", desc := "()Ljava/lang/Object;" } : Jvm.MethodName)) ∈ lw_all := lw_g (lw_at lw_m2 154 rfl) rfl
theorem q_w507 : (Jvm.Cond.instanceMethod ({ cls := "java/lang/Object", name := "clone", desc := "()Ljava/lang/Object;" } : Jvm.MethodName)) ∈ lw_all := lw_g (lw_at lw_m2 155 rfl) rfl
theorem q_w508 : (Jvm.Cond.selects "[B" ({ cls := "[B", name := "clone", desc := "()Ljava/lang/Object;" } : Jvm.MethodName) ({ cls := "java/lang/Object", name := "clone", desc := "()Ljava/lang/Object;" } : Jvm.MethodName)) ∈ lw_all := lw_g (lw_at lw_m2 156 rfl) rfl
theorem q_w509 : (Jvm.Cond.castable "[B" "java/lang/Cloneable") ∈ lw_tbl := lw_at lw_m2 157 rfl
theorem q_w515 : (Jvm.Cond.static ({ cls := "java/lang/System", name := "arraycopy", desc := "(Ljava/lang/Object;ILjava/lang/Object;II)V" } : Jvm.MethodName)) ∈ lw_all := lw_g (lw_at lw_m2 163 rfl) rfl
theorem q_w516 : (Jvm.Cond.native ({ cls := "java/lang/System", name := "arraycopy", desc := "(Ljava/lang/Object;ILjava/lang/Object;II)V" } : Jvm.MethodName)) ∈ lw_all := lw_g (lw_at lw_m2 164 rfl) rfl
theorem q_w715 : (Jvm.Cond.lays "java/lang/String" "java/lang/String" "hash" "I") ∈ lw_all := lw_g (lw_at lw_m3 123 rfl) rfl
theorem q_w717 : (Jvm.Cond.lays "java/lang/String" "java/lang/String" "hashIsZero" "Z") ∈ lw_all := lw_g (lw_at lw_m3 125 rfl) rfl
theorem q_w756 : (Jvm.Cond.lays "CaptainClaims$FormatException" "java/lang/Throwable" "cause" "Ljava/lang/Throwable;") ∈ lw_all := lw_g (lw_at lw_m3 164 rfl) rfl
theorem q_w757 : (Jvm.Cond.lays "CaptainClaims$FormatException" "java/lang/Throwable" "stackTrace" "[Ljava/lang/StackTraceElement;") ∈ lw_all := lw_g (lw_at lw_m3 165 rfl) rfl
theorem q_w758 : (Jvm.Cond.lays "CaptainClaims$FormatException" "java/lang/Throwable" "suppressedExceptions" "Ljava/util/List;") ∈ lw_all := lw_g (lw_at lw_m3 166 rfl) rfl
theorem q_w759 : (Jvm.Cond.lays "CaptainClaims$FormatException" "java/lang/Throwable" "detailMessage" "Ljava/lang/String;") ∈ lw_all := lw_g (lw_at lw_m3 167 rfl) rfl
theorem q_w760 : (Jvm.Cond.lays "CaptainClaims$FormatException" "java/lang/Throwable" "backtrace" "Ljava/lang/Object;") ∈ lw_all := lw_g (lw_at lw_m3 168 rfl) rfl
theorem q_w773 : (Jvm.Cond.laysFinal "CaptainClaims$FormatException" "CaptainClaims$FormatException" "code" "I") ∈ lw_all := lw_g (lw_at lw_m3 181 rfl) rfl
theorem q_w775 : (Jvm.Cond.laysFinal "CaptainClaims$FormatException" "CaptainClaims$FormatException" "position" "I") ∈ lw_all := lw_g (lw_at lw_m3 183 rfl) rfl
theorem q_w777 : (Jvm.Cond.lays "CaptainClaims$FormatException" "java/lang/Throwable" "depth" "I") ∈ lw_all := lw_g (lw_at lw_m3 185 rfl) rfl
theorem q_w827 : (Jvm.Cond.lays "java/util/ArrayList" "java/util/ArrayList" "elementData" "[Ljava/lang/Object;") ∈ lw_all := lw_g (lw_at lw_m3 235 rfl) rfl
theorem q_w829 : (Jvm.Cond.lays "java/util/ArrayList" "java/util/ArrayList" "size" "I") ∈ lw_all := lw_g (lw_at lw_m3 237 rfl) rfl
theorem q_w831 : (Jvm.Cond.lays "java/util/ArrayList" "java/util/AbstractList" "modCount" "I") ∈ lw_all := lw_g (lw_at lw_m3 239 rfl) rfl
theorem q_w835 : (Jvm.Cond.laysFinal "CaptainClaims$Register" "CaptainClaims$Register" "items" "Ljava/util/List;") ∈ lw_all := lw_g (lw_at lw_m4 3 rfl) rfl
theorem q_w917 : (Jvm.Cond.laysFinal "CaptainClaims$Puzzle" "CaptainClaims$Puzzle" "rows" "I") ∈ lw_all := lw_g (lw_at lw_m4 85 rfl) rfl
theorem q_w919 : (Jvm.Cond.laysFinal "CaptainClaims$Puzzle" "CaptainClaims$Puzzle" "columns" "I") ∈ lw_all := lw_g (lw_at lw_m4 87 rfl) rfl
theorem q_w921 : (Jvm.Cond.laysFinal "CaptainClaims$Puzzle" "CaptainClaims$Puzzle" "marks" "[LCaptainClaims$Mark;") ∈ lw_all := lw_g (lw_at lw_m4 89 rfl) rfl
theorem q_w923 : (Jvm.Cond.laysFinal "CaptainClaims$Puzzle" "CaptainClaims$Puzzle" "isEmpty" "[Z") ∈ lw_all := lw_g (lw_at lw_m4 91 rfl) rfl
theorem q_w925 : (Jvm.Cond.lays "CaptainClaims$Puzzle" "CaptainClaims$Puzzle" "islands" "[I") ∈ lw_all := lw_g (lw_at lw_m4 93 rfl) rfl
theorem q_w927 : (Jvm.Cond.lays "CaptainClaims$Puzzle" "CaptainClaims$Puzzle" "sizes" "[I") ∈ lw_all := lw_g (lw_at lw_m4 95 rfl) rfl
theorem q_w929 : (Jvm.Cond.lays "CaptainClaims$Puzzle" "CaptainClaims$Puzzle" "islandCount" "I") ∈ lw_all := lw_g (lw_at lw_m4 97 rfl) rfl
theorem q_w931 : (Jvm.Cond.lays "CaptainClaims$Puzzle" "CaptainClaims$Puzzle" "pieces" "I") ∈ lw_all := lw_g (lw_at lw_m4 99 rfl) rfl
theorem q_w933 : (Jvm.Cond.lays "CaptainClaims$Puzzle" "CaptainClaims$Puzzle" "lower" "I") ∈ lw_all := lw_g (lw_at lw_m4 101 rfl) rfl
theorem q_w935 : (Jvm.Cond.lays "CaptainClaims$Puzzle" "CaptainClaims$Puzzle" "upper" "I") ∈ lw_all := lw_g (lw_at lw_m4 103 rfl) rfl
theorem q_w937 : (Jvm.Cond.laysFinal "CaptainClaims$Puzzle" "CaptainClaims$Puzzle" "captains" "LCaptainClaims$Register;") ∈ lw_all := lw_g (lw_at lw_m4 105 rfl) rfl
theorem q_w939 : (Jvm.Cond.laysFinal "CaptainClaims$Puzzle" "CaptainClaims$Puzzle" "statements" "Ljava/util/List;") ∈ lw_all := lw_g (lw_at lw_m4 107 rfl) rfl
theorem q_w941 : (Jvm.Cond.laysFinal "CaptainClaims$Puzzle" "CaptainClaims$Puzzle" "declarations" "[LCaptainClaims$Declaration;") ∈ lw_all := lw_g (lw_at lw_m4 109 rfl) rfl
theorem q_w944 : (Jvm.Cond.arrayClass Jvm.ClassFile.FieldType.boolean) ∈ lw_all := lw_g (lw_at lw_m4 112 rfl) rfl
theorem q_w1076 : (Jvm.Cond.lays "CaptainClaims$MisfitException" "java/lang/Throwable" "cause" "Ljava/lang/Throwable;") ∈ lw_all := lw_g (lw_at lw_m5 4 rfl) rfl
theorem q_w1077 : (Jvm.Cond.lays "CaptainClaims$MisfitException" "java/lang/Throwable" "stackTrace" "[Ljava/lang/StackTraceElement;") ∈ lw_all := lw_g (lw_at lw_m5 5 rfl) rfl
theorem q_w1078 : (Jvm.Cond.lays "CaptainClaims$MisfitException" "java/lang/Throwable" "suppressedExceptions" "Ljava/util/List;") ∈ lw_all := lw_g (lw_at lw_m5 6 rfl) rfl
theorem q_w1079 : (Jvm.Cond.lays "CaptainClaims$MisfitException" "java/lang/Throwable" "detailMessage" "Ljava/lang/String;") ∈ lw_all := lw_g (lw_at lw_m5 7 rfl) rfl
theorem q_w1080 : (Jvm.Cond.lays "CaptainClaims$MisfitException" "java/lang/Throwable" "backtrace" "Ljava/lang/Object;") ∈ lw_all := lw_g (lw_at lw_m5 8 rfl) rfl
theorem q_w1086 : (Jvm.Cond.laysFinal "CaptainClaims$MisfitException" "CaptainClaims$MisfitException" "row" "I") ∈ lw_all := lw_g (lw_at lw_m5 14 rfl) rfl
theorem q_w1088 : (Jvm.Cond.lays "CaptainClaims$MisfitException" "java/lang/Throwable" "depth" "I") ∈ lw_all := lw_g (lw_at lw_m5 16 rfl) rfl
theorem q_w1136 : (Jvm.Cond.laysFinal "CaptainClaims$Captain" "CaptainClaims$Captain" "name" "Ljava/lang/String;") ∈ lw_all := lw_g (lw_at lw_m5 64 rfl) rfl
theorem q_w1263 : (Jvm.Cond.laysFinal "CaptainClaims$RowClaim" "CaptainClaims$RangeClaim" "word" "Ljava/lang/String;") ∈ lw_all := lw_g (lw_at lw_m5 191 rfl) rfl
theorem q_w1265 : (Jvm.Cond.laysFinal "CaptainClaims$RowClaim" "CaptainClaims$RangeClaim" "low" "I") ∈ lw_all := lw_g (lw_at lw_m5 193 rfl) rfl
theorem q_w1267 : (Jvm.Cond.laysFinal "CaptainClaims$RowClaim" "CaptainClaims$RangeClaim" "high" "I") ∈ lw_all := lw_g (lw_at lw_m5 195 rfl) rfl
theorem q_w1281 : (Jvm.Cond.laysFinal "CaptainClaims$ColumnClaim" "CaptainClaims$RangeClaim" "word" "Ljava/lang/String;") ∈ lw_all := lw_g (lw_at lw_m5 209 rfl) rfl
theorem q_w1282 : (Jvm.Cond.laysFinal "CaptainClaims$ColumnClaim" "CaptainClaims$RangeClaim" "low" "I") ∈ lw_all := lw_g (lw_at lw_m5 210 rfl) rfl
theorem q_w1283 : (Jvm.Cond.laysFinal "CaptainClaims$ColumnClaim" "CaptainClaims$RangeClaim" "high" "I") ∈ lw_all := lw_g (lw_at lw_m5 211 rfl) rfl
theorem q_w1298 : (Jvm.Cond.laysFinal "CaptainClaims$NearClaim" "CaptainClaims$NearClaim" "row" "I") ∈ lw_all := lw_g (lw_at lw_m5 226 rfl) rfl
theorem q_w1300 : (Jvm.Cond.laysFinal "CaptainClaims$NearClaim" "CaptainClaims$NearClaim" "column" "I") ∈ lw_all := lw_g (lw_at lw_m5 228 rfl) rfl
theorem q_w1302 : (Jvm.Cond.laysFinal "CaptainClaims$NearClaim" "CaptainClaims$NearClaim" "distance" "I") ∈ lw_all := lw_g (lw_at lw_m5 230 rfl) rfl
theorem q_w1316 : (Jvm.Cond.laysFinal "CaptainClaims$SizeClaim" "CaptainClaims$RangeClaim" "word" "Ljava/lang/String;") ∈ lw_all := lw_g (lw_at lw_m6 4 rfl) rfl
theorem q_w1317 : (Jvm.Cond.laysFinal "CaptainClaims$SizeClaim" "CaptainClaims$RangeClaim" "low" "I") ∈ lw_all := lw_g (lw_at lw_m6 5 rfl) rfl
theorem q_w1318 : (Jvm.Cond.laysFinal "CaptainClaims$SizeClaim" "CaptainClaims$RangeClaim" "high" "I") ∈ lw_all := lw_g (lw_at lw_m6 6 rfl) rfl
theorem q_w1339 : (Jvm.Cond.laysFinal "CaptainClaims$SameClaim" "CaptainClaims$SameClaim" "row" "I") ∈ lw_all := lw_g (lw_at lw_m6 27 rfl) rfl
theorem q_w1341 : (Jvm.Cond.laysFinal "CaptainClaims$SameClaim" "CaptainClaims$SameClaim" "column" "I") ∈ lw_all := lw_g (lw_at lw_m6 29 rfl) rfl
theorem q_w1351 : (Jvm.Cond.laysFinal "CaptainClaims$HonestClaim" "CaptainClaims$HonestClaim" "captain" "I") ∈ lw_all := lw_g (lw_at lw_m6 39 rfl) rfl
theorem q_w1375 : (Jvm.Cond.laysFinal "CaptainClaims$NotClaim" "CaptainClaims$JoinedClaim" "word" "Ljava/lang/String;") ∈ lw_all := lw_g (lw_at lw_m6 63 rfl) rfl
theorem q_w1377 : (Jvm.Cond.laysFinal "CaptainClaims$NotClaim" "CaptainClaims$JoinedClaim" "parts" "Ljava/util/List;") ∈ lw_all := lw_g (lw_at lw_m6 65 rfl) rfl
theorem q_w1393 : (Jvm.Cond.laysFinal "CaptainClaims$BothClaim" "CaptainClaims$JoinedClaim" "word" "Ljava/lang/String;") ∈ lw_all := lw_g (lw_at lw_m6 81 rfl) rfl
theorem q_w1394 : (Jvm.Cond.laysFinal "CaptainClaims$BothClaim" "CaptainClaims$JoinedClaim" "parts" "Ljava/util/List;") ∈ lw_all := lw_g (lw_at lw_m6 82 rfl) rfl
theorem q_w1403 : (Jvm.Cond.laysFinal "CaptainClaims$EitherClaim" "CaptainClaims$JoinedClaim" "word" "Ljava/lang/String;") ∈ lw_all := lw_g (lw_at lw_m6 91 rfl) rfl
theorem q_w1404 : (Jvm.Cond.laysFinal "CaptainClaims$EitherClaim" "CaptainClaims$JoinedClaim" "parts" "Ljava/util/List;") ∈ lw_all := lw_g (lw_at lw_m6 92 rfl) rfl
theorem q_w1416 : (Jvm.Cond.laysFinal "CaptainClaims$Statement" "CaptainClaims$Statement" "captain" "I") ∈ lw_all := lw_g (lw_at lw_m6 104 rfl) rfl
theorem q_w1418 : (Jvm.Cond.laysFinal "CaptainClaims$Statement" "CaptainClaims$Statement" "claim" "LCaptainClaims$Claim;") ∈ lw_all := lw_g (lw_at lw_m6 106 rfl) rfl
theorem q_w1581 : (Jvm.Cond.laysFinal "java/lang/Integer" "java/lang/Integer" "value" "I") ∈ lw_all := lw_g (lw_at lw_m7 29 rfl) rfl
theorem q_w1916 : (Jvm.Cond.lays "java/util/ArrayList$Itr" "java/util/ArrayList$Itr" "cursor" "I") ∈ lw_all := lw_g (lw_at lw_m8 124 rfl) rfl
theorem q_w1918 : (Jvm.Cond.lays "java/util/ArrayList$Itr" "java/util/ArrayList$Itr" "lastRet" "I") ∈ lw_all := lw_g (lw_at lw_m8 126 rfl) rfl
theorem q_w1920 : (Jvm.Cond.lays "java/util/ArrayList$Itr" "java/util/ArrayList$Itr" "expectedModCount" "I") ∈ lw_all := lw_g (lw_at lw_m8 128 rfl) rfl
theorem q_w1922 : (Jvm.Cond.laysFinal "java/util/ArrayList$Itr" "java/util/ArrayList$Itr" "this$0" "Ljava/util/ArrayList;") ∈ lw_all := lw_g (lw_at lw_m8 130 rfl) rfl
theorem q_w2138 : (Jvm.Cond.laysFinal "CaptainClaims$Census" "CaptainClaims$Census" "at" "[I") ∈ lw_all := lw_g (lw_at lw_m9 106 rfl) rfl
theorem q_w2140 : (Jvm.Cond.laysFinal "CaptainClaims$Census" "CaptainClaims$Census" "lying" "[I") ∈ lw_all := lw_g (lw_at lw_m9 108 rfl) rfl
theorem q_w2142 : (Jvm.Cond.lays "CaptainClaims$Census" "CaptainClaims$Census" "total" "I") ∈ lw_all := lw_g (lw_at lw_m9 110 rfl) rfl
theorem q_w2144 : (Jvm.Cond.lays "CaptainClaims$Census" "CaptainClaims$Census" "liars" "I") ∈ lw_all := lw_g (lw_at lw_m9 112 rfl) rfl
theorem q_w2689 : (Jvm.Cond.lays "CaptainClaimsModel" "CaptainClaimsModel" "thrown" "I") ∈ lw_all := lw_g (lw_at lw_m11 177 rfl) rfl
theorem q_w2691 : (Jvm.Cond.lays "CaptainClaimsModel" "CaptainClaimsModel" "isLoaded" "Z") ∈ lw_all := lw_g (lw_at lw_m11 179 rfl) rfl
theorem q_w2693 : (Jvm.Cond.laysFinal "CaptainClaimsModel" "CaptainClaimsModel" "h" "[I") ∈ lw_all := lw_g (lw_at lw_m11 181 rfl) rfl
theorem q_w2695 : (Jvm.Cond.laysFinal "CaptainClaimsModel" "CaptainClaimsModel" "s" "[I") ∈ lw_all := lw_g (lw_at lw_m11 183 rfl) rfl
theorem q_w2697 : (Jvm.Cond.laysFinal "CaptainClaimsModel" "CaptainClaimsModel" "stores" "[I") ∈ lw_all := lw_g (lw_at lw_m11 185 rfl) rfl
theorem q_w2699 : (Jvm.Cond.lays "CaptainClaimsModel" "CaptainClaimsModel" "changes" "I") ∈ lw_all := lw_g (lw_at lw_m11 187 rfl) rfl
theorem q_w2701 : (Jvm.Cond.laysFinal "CaptainClaimsModel" "CaptainClaimsModel" "isKept" "[Z") ∈ lw_all := lw_g (lw_at lw_m11 189 rfl) rfl
theorem q_w2703 : (Jvm.Cond.laysFinal "CaptainClaimsModel" "CaptainClaimsModel" "island" "[I") ∈ lw_all := lw_g (lw_at lw_m11 191 rfl) rfl
theorem q_w2705 : (Jvm.Cond.laysFinal "CaptainClaimsModel" "CaptainClaimsModel" "sizes" "[I") ∈ lw_all := lw_g (lw_at lw_m11 193 rfl) rfl
theorem q_w2707 : (Jvm.Cond.laysFinal "CaptainClaimsModel" "CaptainClaimsModel" "open" "[I") ∈ lw_all := lw_g (lw_at lw_m11 195 rfl) rfl
theorem q_w2709 : (Jvm.Cond.lays "CaptainClaimsModel" "CaptainClaimsModel" "islands" "I") ∈ lw_all := lw_g (lw_at lw_m11 197 rfl) rfl
theorem q_w2711 : (Jvm.Cond.laysFinal "CaptainClaimsModel" "CaptainClaimsModel" "scenarios" "[I") ∈ lw_all := lw_g (lw_at lw_m11 199 rfl) rfl
theorem q_w2713 : (Jvm.Cond.laysFinal "CaptainClaimsModel" "CaptainClaimsModel" "lying" "[I") ∈ lw_all := lw_g (lw_at lw_m11 201 rfl) rfl
theorem q_w2715 : (Jvm.Cond.lays "CaptainClaimsModel" "CaptainClaimsModel" "all" "I") ∈ lw_all := lw_g (lw_at lw_m11 203 rfl) rfl
theorem q_w2717 : (Jvm.Cond.lays "CaptainClaimsModel" "CaptainClaimsModel" "allLiars" "I") ∈ lw_all := lw_g (lw_at lw_m11 205 rfl) rfl
theorem q_w2719 : (Jvm.Cond.laysFinal "CaptainClaimsModel" "CaptainClaimsModel" "buffer" "[I") ∈ lw_all := lw_g (lw_at lw_m11 207 rfl) rfl
theorem q_w2721 : (Jvm.Cond.lays "CaptainClaimsModel" "CaptainClaimsModel" "buffered" "I") ∈ lw_all := lw_g (lw_at lw_m11 209 rfl) rfl
theorem q_w2723 : (Jvm.Cond.lays "CaptainClaimsModel" "CaptainClaimsModel" "parseError" "I") ∈ lw_all := lw_g (lw_at lw_m11 211 rfl) rfl
theorem q_w2725 : (Jvm.Cond.lays "CaptainClaimsModel" "CaptainClaimsModel" "errorPosition" "I") ∈ lw_all := lw_g (lw_at lw_m11 213 rfl) rfl
theorem q_w2727 : (Jvm.Cond.lays "CaptainClaimsModel" "CaptainClaimsModel" "length" "I") ∈ lw_all := lw_g (lw_at lw_m11 215 rfl) rfl
theorem q_w2729 : (Jvm.Cond.lays "CaptainClaimsModel" "CaptainClaimsModel" "next" "I") ∈ lw_all := lw_g (lw_at lw_m11 217 rfl) rfl
theorem q_w2731 : (Jvm.Cond.lays "CaptainClaimsModel" "CaptainClaimsModel" "from" "I") ∈ lw_all := lw_g (lw_at lw_m11 219 rfl) rfl
theorem q_w2733 : (Jvm.Cond.lays "CaptainClaimsModel" "CaptainClaimsModel" "sort" "I") ∈ lw_all := lw_g (lw_at lw_m11 221 rfl) rfl
theorem q_w2735 : (Jvm.Cond.lays "CaptainClaimsModel" "CaptainClaimsModel" "number" "I") ∈ lw_all := lw_g (lw_at lw_m11 223 rfl) rfl
theorem q_w2737 : (Jvm.Cond.lays "CaptainClaimsModel" "CaptainClaimsModel" "bad" "I") ∈ lw_all := lw_g (lw_at lw_m11 225 rfl) rfl
theorem q_w2739 : (Jvm.Cond.lays "CaptainClaimsModel" "CaptainClaimsModel" "badAt" "I") ∈ lw_all := lw_g (lw_at lw_m11 227 rfl) rfl
theorem q_w2741 : (Jvm.Cond.laysFinal "CaptainClaimsModel" "CaptainClaimsModel" "text" "[I") ∈ lw_all := lw_g (lw_at lw_m11 229 rfl) rfl
theorem q_w2743 : (Jvm.Cond.lays "CaptainClaimsModel" "CaptainClaimsModel" "textLong" "I") ∈ lw_all := lw_g (lw_at lw_m11 231 rfl) rfl
theorem q_w3304 : (Jvm.Cond.arrayClass Jvm.ClassFile.FieldType.long) ∈ lw_all := lw_g (lw_at lw_m14 72 rfl) rfl
theorem q_w3305 : (Jvm.Cond.arrayClass Jvm.ClassFile.FieldType.double) ∈ lw_all := lw_g (lw_at lw_m14 73 rfl) rfl
theorem q_w3323 : (Jvm.Cond.castable "CaptainClaims$Puzzle" "java/lang/Object") ∈ lw_tbl := lw_at lw_m14 91 rfl
theorem q_w3324 : (Jvm.Cond.castable "CaptainClaims$Declaration" "java/lang/Object") ∈ lw_tbl := lw_at lw_m14 92 rfl
theorem q_w3325 : (Jvm.Cond.castable "CaptainClaims$Mark" "java/lang/Object") ∈ lw_tbl := lw_at lw_m14 93 rfl
theorem q_w3326 : (Jvm.Cond.castable "CaptainClaims" "java/lang/Object") ∈ lw_tbl := lw_at lw_m14 94 rfl
theorem q_w3327 : (Jvm.Cond.castable "java/util/ArrayDeque" "java/lang/Object") ∈ lw_tbl := lw_at lw_m14 95 rfl
theorem q_w3328 : (Jvm.Cond.castable "CaptainClaimsModel" "java/lang/Object") ∈ lw_tbl := lw_at lw_m14 96 rfl
theorem q_w3330 : (Jvm.Cond.castable "java/lang/IndexOutOfBoundsException" "java/lang/Object") ∈ lw_tbl := lw_at lw_m14 98 rfl
theorem q_w3331 : (Jvm.Cond.castable "CaptainClaims$Parser" "java/lang/Object") ∈ lw_tbl := lw_at lw_m14 99 rfl
theorem q_w3332 : (Jvm.Cond.castable "CaptainClaims$Token" "java/lang/Object") ∈ lw_tbl := lw_at lw_m14 100 rfl
theorem q_w3333 : (Jvm.Cond.castable "java/lang/StringBuilder" "java/lang/Object") ∈ lw_tbl := lw_at lw_m14 101 rfl
theorem q_w3334 : (Jvm.Cond.castable "java/lang/String" "java/lang/Object") ∈ lw_tbl := lw_at lw_m14 102 rfl
theorem q_w3335 : (Jvm.Cond.castable "java/lang/IllegalArgumentException" "java/lang/Object") ∈ lw_tbl := lw_at lw_m14 103 rfl
theorem q_w3336 : (Jvm.Cond.castable "CaptainClaims$FormatException" "java/lang/Object") ∈ lw_tbl := lw_at lw_m14 104 rfl
theorem q_w3337 : (Jvm.Cond.castable "CaptainClaims$Register" "java/lang/Object") ∈ lw_tbl := lw_at lw_m14 105 rfl
theorem q_w3338 : (Jvm.Cond.castable "java/util/ArrayList" "java/lang/Object") ∈ lw_tbl := lw_at lw_m14 106 rfl
theorem q_w3340 : (Jvm.Cond.castable "CaptainClaims$MisfitException" "java/lang/Object") ∈ lw_tbl := lw_at lw_m14 108 rfl
theorem q_w3341 : (Jvm.Cond.castable "CaptainClaims$Captain" "java/lang/Object") ∈ lw_tbl := lw_at lw_m14 109 rfl
theorem q_w3342 : (Jvm.Cond.castable "CaptainClaims$Statement" "java/lang/Object") ∈ lw_tbl := lw_at lw_m14 110 rfl
theorem q_w3343 : (Jvm.Cond.castable "CaptainClaims$RowClaim" "java/lang/Object") ∈ lw_tbl := lw_at lw_m14 111 rfl
theorem q_w3344 : (Jvm.Cond.castable "CaptainClaims$ColumnClaim" "java/lang/Object") ∈ lw_tbl := lw_at lw_m14 112 rfl
theorem q_w3345 : (Jvm.Cond.castable "CaptainClaims$NearClaim" "java/lang/Object") ∈ lw_tbl := lw_at lw_m14 113 rfl
theorem q_w3346 : (Jvm.Cond.castable "CaptainClaims$SizeClaim" "java/lang/Object") ∈ lw_tbl := lw_at lw_m14 114 rfl
theorem q_w3347 : (Jvm.Cond.castable "CaptainClaims$CoastClaim" "java/lang/Object") ∈ lw_tbl := lw_at lw_m14 115 rfl
theorem q_w3348 : (Jvm.Cond.castable "CaptainClaims$SameClaim" "java/lang/Object") ∈ lw_tbl := lw_at lw_m14 116 rfl
theorem q_w3349 : (Jvm.Cond.castable "CaptainClaims$HonestClaim" "java/lang/Object") ∈ lw_tbl := lw_at lw_m14 117 rfl
theorem q_w3350 : (Jvm.Cond.castable "CaptainClaims$NotClaim" "java/lang/Object") ∈ lw_tbl := lw_at lw_m14 118 rfl
theorem q_w3351 : (Jvm.Cond.castable "CaptainClaims$BothClaim" "java/lang/Object") ∈ lw_tbl := lw_at lw_m14 119 rfl
theorem q_w3352 : (Jvm.Cond.castable "CaptainClaims$EitherClaim" "java/lang/Object") ∈ lw_tbl := lw_at lw_m14 120 rfl
theorem q_w3353 : (Jvm.Cond.castable "java/lang/IllegalStateException" "java/lang/Object") ∈ lw_tbl := lw_at lw_m14 121 rfl
theorem q_w3354 : (Jvm.Cond.castable "java/lang/Integer" "java/lang/Object") ∈ lw_tbl := lw_at lw_m14 122 rfl
theorem q_w3356 : (Jvm.Cond.castable "java/util/ArrayList$Itr" "java/lang/Object") ∈ lw_tbl := lw_at lw_m14 124 rfl
theorem q_w3357 : (Jvm.Cond.castable "CaptainClaims$Census" "java/lang/Object") ∈ lw_tbl := lw_at lw_m14 125 rfl
theorem q_lay0 : q_al (fun z => z ∈ lw_all) (u_ws "CaptainClaims" q_T0 8) := q_al.c (q_w212) <| q_al.c (q_w214) <| q_al.c (q_w216) <| q_al.c (q_w218) <| q_al.c (q_w220) <| q_al.c (q_w222) <| q_al.c (q_w224) <| q_al.c (q_w226) <| q_al.n
theorem q_lay1 : q_al (fun z => z ∈ lw_all) (u_ws "java/util/ArrayDeque" q_T1 3) := q_al.c (q_w192) <| q_al.c (q_w194) <| q_al.c (q_w196) <| q_al.n
theorem q_lay2 : q_al (fun z => z ∈ lw_all) (u_ws "java/lang/String" q_T2 4) := q_al.c (q_w344) <| q_al.c (q_w346) <| q_al.c (q_w715) <| q_al.c (q_w717) <| q_al.n
theorem q_lay3 : q_al (fun z => z ∈ lw_all) (u_ws "CaptainClaims$Parser" q_T3 10) := q_al.c (q_w400) <| q_al.c (q_w402) <| q_al.c (q_w404) <| q_al.c (q_w406) <| q_al.c (q_w408) <| q_al.c (q_w410) <| q_al.c (q_w412) <| q_al.c (q_w414) <| q_al.c (q_w416) <| q_al.c (q_w418) <| q_al.n
theorem q_lay4 : q_al (fun z => z ∈ lw_all) (u_ws "java/lang/StringBuilder" q_T4 4) := q_al.c (q_w466) <| q_al.c (q_w468) <| q_al.c (q_w470) <| q_al.c (q_w472) <| q_al.n
theorem q_lay5 : q_al (fun z => z ∈ lw_all) (u_ws "CaptainClaims$FormatException" q_T5 8) := q_al.c (q_w756) <| q_al.c (q_w757) <| q_al.c (q_w758) <| q_al.c (q_w759) <| q_al.c (q_w760) <| q_al.c (q_w777) <| q_al.c (q_w773) <| q_al.c (q_w775) <| q_al.n
theorem q_lay6 : q_al (fun z => z ∈ lw_all) (u_ws "CaptainClaims$Puzzle" q_T6 13) := q_al.c (q_w917) <| q_al.c (q_w919) <| q_al.c (q_w921) <| q_al.c (q_w923) <| q_al.c (q_w925) <| q_al.c (q_w927) <| q_al.c (q_w929) <| q_al.c (q_w931) <| q_al.c (q_w933) <| q_al.c (q_w935) <| q_al.c (q_w937) <| q_al.c (q_w939) <| q_al.c (q_w941) <| q_al.n
theorem q_lay7 : q_al (fun z => z ∈ lw_all) (u_ws "CaptainClaims$Register" q_T7 1) := q_al.c (q_w835) <| q_al.n
theorem q_lay8 : q_al (fun z => z ∈ lw_all) (u_ws "java/util/ArrayList" q_T8 3) := q_al.c (q_w831) <| q_al.c (q_w827) <| q_al.c (q_w829) <| q_al.n
theorem q_lay9 : q_al (fun z => z ∈ lw_all) (u_ws "CaptainClaims$MisfitException" q_T9 7) := q_al.c (q_w1076) <| q_al.c (q_w1077) <| q_al.c (q_w1078) <| q_al.c (q_w1079) <| q_al.c (q_w1080) <| q_al.c (q_w1088) <| q_al.c (q_w1086) <| q_al.n
theorem q_lay10 : q_al (fun z => z ∈ lw_all) (u_ws "CaptainClaims$Captain" q_T10 1) := q_al.c (q_w1136) <| q_al.n
theorem q_lay11 : q_al (fun z => z ∈ lw_all) (u_ws "CaptainClaims$Statement" q_T11 2) := q_al.c (q_w1416) <| q_al.c (q_w1418) <| q_al.n
theorem q_lay12 : q_al (fun z => z ∈ lw_all) (u_ws "CaptainClaims$RowClaim" q_T12 3) := q_al.c (q_w1263) <| q_al.c (q_w1265) <| q_al.c (q_w1267) <| q_al.n
theorem q_lay13 : q_al (fun z => z ∈ lw_all) (u_ws "CaptainClaims$ColumnClaim" q_T13 3) := q_al.c (q_w1281) <| q_al.c (q_w1282) <| q_al.c (q_w1283) <| q_al.n
theorem q_lay14 : q_al (fun z => z ∈ lw_all) (u_ws "CaptainClaims$NearClaim" q_T14 3) := q_al.c (q_w1298) <| q_al.c (q_w1300) <| q_al.c (q_w1302) <| q_al.n
theorem q_lay15 : q_al (fun z => z ∈ lw_all) (u_ws "CaptainClaims$SizeClaim" q_T15 3) := q_al.c (q_w1316) <| q_al.c (q_w1317) <| q_al.c (q_w1318) <| q_al.n
theorem q_lay16 : q_al (fun z => z ∈ lw_all) (u_ws "CaptainClaims$CoastClaim" q_T16 0) := q_al.n
theorem q_lay17 : q_al (fun z => z ∈ lw_all) (u_ws "CaptainClaims$SameClaim" q_T17 2) := q_al.c (q_w1339) <| q_al.c (q_w1341) <| q_al.n
theorem q_lay18 : q_al (fun z => z ∈ lw_all) (u_ws "CaptainClaims$HonestClaim" q_T18 1) := q_al.c (q_w1351) <| q_al.n
theorem q_lay19 : q_al (fun z => z ∈ lw_all) (u_ws "CaptainClaims$NotClaim" q_T19 2) := q_al.c (q_w1375) <| q_al.c (q_w1377) <| q_al.n
theorem q_lay20 : q_al (fun z => z ∈ lw_all) (u_ws "CaptainClaims$BothClaim" q_T20 2) := q_al.c (q_w1393) <| q_al.c (q_w1394) <| q_al.n
theorem q_lay21 : q_al (fun z => z ∈ lw_all) (u_ws "CaptainClaims$EitherClaim" q_T21 2) := q_al.c (q_w1403) <| q_al.c (q_w1404) <| q_al.n
theorem q_lay22 : q_al (fun z => z ∈ lw_all) (u_ws "java/lang/Integer" q_T22 1) := q_al.c (q_w1581) <| q_al.n
theorem q_lay23 : q_al (fun z => z ∈ lw_all) (u_ws "java/util/ArrayList$Itr" q_T23 4) := q_al.c (q_w1916) <| q_al.c (q_w1918) <| q_al.c (q_w1920) <| q_al.c (q_w1922) <| q_al.n
theorem q_lay24 : q_al (fun z => z ∈ lw_all) (u_ws "CaptainClaims$Census" q_T24 4) := q_al.c (q_w2138) <| q_al.c (q_w2140) <| q_al.c (q_w2142) <| q_al.c (q_w2144) <| q_al.n
theorem q_lay25 : q_al (fun z => z ∈ lw_all) (u_ws "CaptainClaimsModel" q_T25 28) := q_al.c (q_w2689) <| q_al.c (q_w2691) <| q_al.c (q_w2693) <| q_al.c (q_w2695) <| q_al.c (q_w2697) <| q_al.c (q_w2699) <| q_al.c (q_w2701) <| q_al.c (q_w2703) <| q_al.c (q_w2705) <| q_al.c (q_w2707) <| q_al.c (q_w2709) <| q_al.c (q_w2711) <| q_al.c (q_w2713) <| q_al.c (q_w2715) <| q_al.c (q_w2717) <| q_al.c (q_w2719) <| q_al.c (q_w2721) <| q_al.c (q_w2723) <| q_al.c (q_w2725) <| q_al.c (q_w2727) <| q_al.c (q_w2729) <| q_al.c (q_w2731) <| q_al.c (q_w2733) <| q_al.c (q_w2735) <| q_al.c (q_w2737) <| q_al.c (q_w2739) <| q_al.c (q_w2741) <| q_al.c (q_w2743) <| q_al.n
theorem q_lay26 : q_al (fun z => z ∈ lw_all) (u_ws "java/lang/IndexOutOfBoundsException" q_T26 0) := q_al.n
theorem q_lay27 : q_al (fun z => z ∈ lw_all) (u_ws "java/lang/IllegalArgumentException" q_T27 0) := q_al.n
theorem q_lay28 : q_al (fun z => z ∈ lw_all) (u_ws "java/lang/IllegalStateException" q_T28 0) := q_al.n
theorem q_lays : q_al (fun r : vw_C => q_al (fun z => z ∈ lw_all) (u_ws r.1 r.2.1 r.2.2)) q_cl := q_al.c (q_lay0) <| q_al.c (q_lay1) <| q_al.c (q_lay2) <| q_al.c (q_lay3) <| q_al.c (q_lay4) <| q_al.c (q_lay5) <| q_al.c (q_lay6) <| q_al.c (q_lay7) <| q_al.c (q_lay8) <| q_al.c (q_lay9) <| q_al.c (q_lay10) <| q_al.c (q_lay11) <| q_al.c (q_lay12) <| q_al.c (q_lay13) <| q_al.c (q_lay14) <| q_al.c (q_lay15) <| q_al.c (q_lay16) <| q_al.c (q_lay17) <| q_al.c (q_lay18) <| q_al.c (q_lay19) <| q_al.c (q_lay20) <| q_al.c (q_lay21) <| q_al.c (q_lay22) <| q_al.c (q_lay23) <| q_al.c (q_lay24) <| q_al.c (q_lay25) <| q_al.c (q_lay26) <| q_al.c (q_lay27) <| q_al.c (q_lay28) <| q_al.n
theorem q_laysOk_ok : q_laysOk := fun c r h z hz => (q_lays.at (List.mem_of_getElem? h)).at hz
theorem q_evCO : q_al (fun c => ∃ C : String, q_nm[c]? = some C ∧ Cond.castable C "java/lang/Object" ∈ lw_tbl) q_co := q_al.c (⟨"CaptainClaims$Puzzle", rfl, q_w3323⟩) <| q_al.c (⟨"CaptainClaims$Declaration", rfl, q_w3324⟩) <| q_al.c (⟨"CaptainClaims$Mark", rfl, q_w3325⟩) <| q_al.c (⟨"CaptainClaims", rfl, q_w3326⟩) <| q_al.c (⟨"java/util/ArrayDeque", rfl, q_w3327⟩) <| q_al.c (⟨"CaptainClaimsModel", rfl, q_w3328⟩) <| q_al.c (⟨"java/lang/IndexOutOfBoundsException", rfl, q_w3330⟩) <| q_al.c (⟨"CaptainClaims$Parser", rfl, q_w3331⟩) <| q_al.c (⟨"CaptainClaims$Token", rfl, q_w3332⟩) <| q_al.c (⟨"java/lang/StringBuilder", rfl, q_w3333⟩) <| q_al.c (⟨"java/lang/String", rfl, q_w3334⟩) <| q_al.c (⟨"java/lang/IllegalArgumentException", rfl, q_w3335⟩) <| q_al.c (⟨"CaptainClaims$FormatException", rfl, q_w3336⟩) <| q_al.c (⟨"CaptainClaims$Register", rfl, q_w3337⟩) <| q_al.c (⟨"java/util/ArrayList", rfl, q_w3338⟩) <| q_al.c (⟨"CaptainClaims$MisfitException", rfl, q_w3340⟩) <| q_al.c (⟨"CaptainClaims$Captain", rfl, q_w3341⟩) <| q_al.c (⟨"CaptainClaims$Statement", rfl, q_w3342⟩) <| q_al.c (⟨"CaptainClaims$RowClaim", rfl, q_w3343⟩) <| q_al.c (⟨"CaptainClaims$ColumnClaim", rfl, q_w3344⟩) <| q_al.c (⟨"CaptainClaims$NearClaim", rfl, q_w3345⟩) <| q_al.c (⟨"CaptainClaims$SizeClaim", rfl, q_w3346⟩) <| q_al.c (⟨"CaptainClaims$CoastClaim", rfl, q_w3347⟩) <| q_al.c (⟨"CaptainClaims$SameClaim", rfl, q_w3348⟩) <| q_al.c (⟨"CaptainClaims$HonestClaim", rfl, q_w3349⟩) <| q_al.c (⟨"CaptainClaims$NotClaim", rfl, q_w3350⟩) <| q_al.c (⟨"CaptainClaims$BothClaim", rfl, q_w3351⟩) <| q_al.c (⟨"CaptainClaims$EitherClaim", rfl, q_w3352⟩) <| q_al.c (⟨"java/lang/IllegalStateException", rfl, q_w3353⟩) <| q_al.c (⟨"java/lang/Integer", rfl, q_w3354⟩) <| q_al.c (⟨"java/util/ArrayList$Itr", rfl, q_w3356⟩) <| q_al.c (⟨"CaptainClaims$Census", rfl, q_w3357⟩) <| q_al.n
theorem q_eST_ok : q_eST := by
  intro t c h
  unfold q_sto at h
  split at h
  · obtain ⟨C, h1, h2⟩ := q_evCO.at (List.contains_iff_mem.mp h)
    exact ⟨C, _, h1, rfl, Or.inl h2⟩
  · cases eq_of_beq h; exact ⟨_, _, rfl, rfl, Or.inr rfl⟩
  · cases eq_of_beq h; exact ⟨_, _, rfl, rfl, Or.inr rfl⟩
  · cases eq_of_beq h; exact ⟨_, _, rfl, rfl, Or.inr rfl⟩
  · cases h
theorem q_eAT_ok : q_eAT := by
  intro ty t x h
  unfold q_at at h
  split at h
  · cases h; exact ⟨q_w237, rfl⟩
  · cases h; exact ⟨q_w199, rfl⟩
  · cases h; exact ⟨q_w944, rfl⟩
  · cases h; exact ⟨q_w3304, rfl⟩
  · cases h; exact ⟨q_w3305, rfl⟩
  · cases h
theorem q_eI3_ok : q_eI3 := fun cn i a b own hown h => ⟨(q_evIK.at hown (q_lkG h) : q_pIK own (i, 3, a, b)), q_w175, q_w176⟩
theorem q_eI4_ok : q_eI4 := fun cn i a b own hown h => ⟨(q_evIK.at hown (q_lkG h) : q_pIK own (i, 4, a, b)), q_w516, q_w515, q_w132⟩
theorem q_eI6_ok : q_eI6 := fun cn i a b own hown h => ⟨(q_evIK.at hown (q_lkG h) : q_pIK own (i, 6, a, b)), q_w505, q_w506, q_w507, q_w508, q_w509⟩
theorem q_evNC : q_al (fun q : Nat × Nat => ∃ (E T : String) (p : List Bool), q_nm[q.1]? = some E ∧ q_tn[q.2]? = some T ∧ q_pth (Cond.and given_1 narrow_1) p = some (.not (.castable E T))) q_nc := q_al.c (⟨"java/lang/IllegalArgumentException", "java/lang/IndexOutOfBoundsException", [true, false, false, true, true, false, true, true, false, false, true, false], rfl, rfl, rfl⟩) <| q_al.c (⟨"CaptainClaims$FormatException", "java/lang/IndexOutOfBoundsException", [true, false, false, true, true, false, true, true, false, false, true, true], rfl, rfl, rfl⟩) <| q_al.c (⟨"CaptainClaims$MisfitException", "java/lang/IndexOutOfBoundsException", [true, false, false, true, true, false, true, true, true, true, false, false], rfl, rfl, rfl⟩) <| q_al.c (⟨"java/lang/IllegalStateException", "java/lang/IndexOutOfBoundsException", [true, false, false, true, true, true, false, false, true, true, false], rfl, rfl, rfl⟩) <| q_al.c (⟨"java/lang/IndexOutOfBoundsException", "java/lang/IllegalArgumentException", [true, false, false, true, true, true, false, true, true, false, false], rfl, rfl, rfl⟩) <| q_al.c (⟨"CaptainClaims$FormatException", "java/lang/IllegalArgumentException", [true, false, false, true, true, true, false, true, true, true, true, false], rfl, rfl, rfl⟩) <| q_al.c (⟨"CaptainClaims$MisfitException", "java/lang/IllegalArgumentException", [true, false, false, true, true, true, true, false, false, true, true, true], rfl, rfl, rfl⟩) <| q_al.c (⟨"java/lang/IllegalStateException", "java/lang/IllegalArgumentException", [true, false, false, true, true, true, true, true, true, false, false], rfl, rfl, rfl⟩) <| q_al.c (⟨"java/lang/IndexOutOfBoundsException", "CaptainClaims$FormatException", [true, false, true, false, false, false, false, false, false, false, true, true], rfl, rfl, rfl⟩) <| q_al.c (⟨"java/lang/IllegalArgumentException", "CaptainClaims$FormatException", [true, false, true, false, false, false, false, false, true, false, true, false], rfl, rfl, rfl⟩) <| q_al.c (⟨"CaptainClaims$MisfitException", "CaptainClaims$FormatException", [true, false, true, false, false, false, false, true, false, false, true, true], rfl, rfl, rfl⟩) <| q_al.c (⟨"java/lang/IllegalStateException", "CaptainClaims$FormatException", [true, false, true, false, false, false, true, false, false, false, true, true], rfl, rfl, rfl⟩) <| q_al.c (⟨"java/lang/IndexOutOfBoundsException", "CaptainClaims$MisfitException", [true, false, true, false, false, true, false, true, true, false, true, true], rfl, rfl, rfl⟩) <| q_al.c (⟨"java/lang/IllegalArgumentException", "CaptainClaims$MisfitException", [true, false, true, false, false, true, true, false, false, false, false], rfl, rfl, rfl⟩) <| q_al.c (⟨"CaptainClaims$FormatException", "CaptainClaims$MisfitException", [true, false, true, false, false, true, true, false, false, false, true, false], rfl, rfl, rfl⟩) <| q_al.c (⟨"java/lang/IllegalStateException", "CaptainClaims$MisfitException", [true, false, true, false, false, true, true, true, true, false, true, true], rfl, rfl, rfl⟩) <| q_al.c (⟨"java/lang/IndexOutOfBoundsException", "java/lang/IllegalStateException", [true, false, true, false, true, false, false, false, false, true, true, false], rfl, rfl, rfl⟩) <| q_al.c (⟨"java/lang/IllegalArgumentException", "java/lang/IllegalStateException", [true, false, true, false, true, false, false, false, true, true, false], rfl, rfl, rfl⟩) <| q_al.c (⟨"CaptainClaims$FormatException", "java/lang/IllegalStateException", [true, false, true, false, true, false, false, false, true, true, true, false], rfl, rfl, rfl⟩) <| q_al.c (⟨"CaptainClaims$MisfitException", "java/lang/IllegalStateException", [true, false, true, false, true, false, false, true, false, true, true, true], rfl, rfl, rfl⟩) <| q_al.n
theorem q_eNC_ok : q_eNC := by
  intro w hw c tid h
  obtain ⟨E, T, p, h1, h2, h3⟩ := q_evNC.at (List.contains_iff_mem.mp h)
  exact ⟨E, T, h1, h2, va_Nc.of (q_pth_ok p _ _ h3 hw.2.2.2.2.2.1)⟩
def q_mvB (z : Cond) : Bool := goodWord z || (match z with | .declares _ => true | .castable _ _ => true | _ => false)
theorem q_mvB_s {z : Cond} (h : q_mvB z = true) : q_moves z := by
  unfold q_mvB at h
  rw [Bool.or_eq_true] at h
  rcases h with h | h
  · exact Or.inl h
  · split at h
    · exact Or.inr (Or.inl ⟨_, rfl⟩)
    · exact Or.inr (Or.inr ⟨_, _, rfl⟩)
    · cases h
def q_xOk (ws : List Cond) (ps : List Nat) : Bool := ws.all fun w => (ps.any fun i => decide (lw_tbl[i]? = some w)) && q_mvB w && vx_ot w
theorem q_xOk_s {ws : List Cond} {ps : List Nat} (h : q_xOk ws ps = true) : ∀ z ∈ ws, (z ∈ lw_tbl ∧ q_moves z) ∧ vx_ot z = true := by
  intro z hz
  have h1 := List.all_eq_true.mp h z hz
  simp only [Bool.and_eq_true, List.any_eq_true, decide_eq_true_eq] at h1
  obtain ⟨⟨⟨i, -, h2⟩, h3⟩, h4⟩ := h1
  exact ⟨⟨List.mem_of_getElem? h2, q_mvB_s h3⟩, h4⟩
theorem q_x26 : q_xOk (vx_at0 "CaptainClaims" 116 "java/lang/IndexOutOfBoundsException" ["java/lang/RuntimeException", "java/lang/Exception"]) [117, 118, 119, 120, 175, 176, 274, 275, 276, 277, 278, 279, 280, 281, 282, 283, 284, 285, 286, 287, 288, 289, 290, 291, 292, 293, 296, 297, 298, 299, 300, 301, 302, 303, 304, 305, 306, 307, 308, 309, 310, 311, 312, 313, 314, 315, 316, 317, 318, 319, 320, 321, 322, 323, 325, 326, 327, 328, 329, 330, 331, 332, 333, 334, 335, 336, 337, 338, 339, 340, 341, 342, 360, 361, 362, 363, 364, 365, 366, 367, 368, 369, 370, 371, 372, 373, 374, 375, 376, 377, 378, 379, 380, 608, 609, 610, 611, 612, 613, 695, 696, 697, 765, 766, 767, 768, 769, 1199, 1437, 1439, 1440, 1446, 1475, 1476, 1477, 1478, 1479, 1480, 1484, 1485, 1486, 2527, 3306, 3319, 3330, 3358] = true := by decide +kernel
theorem q_x27 : q_xOk (vx_at0 "CaptainClaims" 95 "java/lang/IllegalArgumentException" ["java/lang/RuntimeException", "java/lang/Exception"]) [117, 118, 119, 135, 175, 176, 277, 278, 279, 280, 281, 282, 283, 284, 285, 286, 287, 288, 289, 290, 291, 292, 293, 296, 297, 298, 299, 300, 301, 302, 303, 304, 305, 306, 307, 308, 309, 310, 311, 312, 313, 314, 315, 316, 317, 318, 319, 320, 321, 322, 327, 328, 329, 330, 331, 332, 333, 334, 335, 336, 337, 338, 339, 340, 341, 342, 363, 364, 365, 366, 367, 368, 372, 373, 374, 375, 376, 377, 378, 379, 380, 605, 606, 607, 608, 609, 610, 611, 612, 613, 692, 693, 694, 695, 696, 697, 765, 766, 767, 768, 769, 811, 818, 1002, 1009, 1197, 1437, 1439, 1440, 1442, 1443, 1444, 1445, 1446, 1475, 1476, 1477, 1478, 1479, 1480, 1484, 1485, 1486, 2527, 3306, 3335, 3358] = true := by decide +kernel
theorem q_x28 : q_xOk (vx_at0 "CaptainClaims" 119 "java/lang/IllegalStateException" ["java/lang/RuntimeException", "java/lang/Exception"]) [117, 118, 119, 161, 175, 176, 277, 278, 279, 280, 281, 282, 283, 284, 285, 286, 287, 288, 289, 290, 291, 292, 293, 296, 297, 298, 299, 300, 301, 302, 303, 304, 305, 306, 307, 308, 309, 310, 311, 312, 313, 314, 315, 316, 317, 318, 319, 320, 321, 322, 327, 328, 329, 330, 331, 332, 333, 334, 335, 336, 337, 338, 339, 340, 341, 342, 363, 364, 365, 366, 367, 368, 372, 373, 374, 375, 376, 377, 378, 379, 380, 608, 609, 610, 611, 612, 613, 695, 696, 697, 765, 766, 767, 768, 769, 1198, 1437, 1439, 1440, 1446, 1472, 1473, 1474, 1475, 1476, 1477, 1478, 1479, 1480, 1481, 1482, 1483, 1484, 1485, 1486, 2522, 2524, 2525, 2526, 2527, 3306, 3353, 3358] = true := by decide +kernel
theorem q_eNX_ok : q_eNX := by
  intro cn i ic c own hown hnw hdf hjx
  obtain ⟨C, hC, h1, h2, -⟩ := q_evNW.at hown (q_lkG hnw)
  have hj := q_lkG hjx
  have hlt : cn < q_jxT.length := by
    rcases Nat.lt_or_ge cn q_jxT.length with h | h
    · exact h
    · exfalso
      rw [List.getD_eq_getElem?_getD, List.getElem?_eq_none h] at hj
      cases hj
  have hcn : cn = 1 := by
    by_cases h1 : cn = 1
    · exact h1
    · exfalso
      have hd : ∀ k, k < q_jxT.length → k ≠ 1 → q_jxT.getD k [] = [] := by decide +kernel
      rw [hd cn hlt h1] at hj; cases hj
  subst hcn
  have hown1 : own = "CaptainClaims" := Option.some.inj (hown.symm.trans rfl)
  subst hown1
  have hj2 : (ic, c) ∈ [(95, 27), (116, 26), (119, 28)] := hj
  simp only [List.mem_cons, Prod.mk.injEq, List.not_mem_nil, or_false] at hj2
  have hot : vx_ot (Cond.classLink "CaptainClaims" i C) = true ∧ vx_ot (Cond.initialized C) = true := ⟨rfl, rfl⟩
  rcases hj2 with ⟨rfl, rfl⟩ | ⟨rfl, rfl⟩ | ⟨rfl, rfl⟩
  · obtain rfl : C = "java/lang/IllegalArgumentException" := (Option.some.inj (hC.symm.trans rfl))
    have hx := q_xOk_s q_x27
    exact ⟨_, _, ["java/lang/RuntimeException", "java/lang/Exception"], rfl, rfl, by decide +kernel, by decide +kernel, by decide, h1, h2, fun z hz => (hx z hz).1, fun z hz => by
      rcases List.mem_cons.mp hz with rfl | hz
      · exact hot.1
      · rcases List.mem_cons.mp hz with rfl | hz
        · exact hot.2
        · exact (hx z hz).2⟩
  · obtain rfl : C = "java/lang/IndexOutOfBoundsException" := (Option.some.inj (hC.symm.trans rfl))
    have hx := q_xOk_s q_x26
    exact ⟨_, _, ["java/lang/RuntimeException", "java/lang/Exception"], rfl, rfl, by decide +kernel, by decide +kernel, by decide, h1, h2, fun z hz => (hx z hz).1, fun z hz => by
      rcases List.mem_cons.mp hz with rfl | hz
      · exact hot.1
      · rcases List.mem_cons.mp hz with rfl | hz
        · exact hot.2
        · exact (hx z hz).2⟩
  · obtain rfl : C = "java/lang/IllegalStateException" := (Option.some.inj (hC.symm.trans rfl))
    have hx := q_xOk_s q_x28
    exact ⟨_, _, ["java/lang/RuntimeException", "java/lang/Exception"], rfl, rfl, by decide +kernel, by decide +kernel, by decide, h1, h2, fun z hz => (hx z hz).1, fun z hz => by
      rcases List.mem_cons.mp hz with rfl | hz
      · exact hot.1
      · rcases List.mem_cons.mp hz with rfl | hz
        · exact hot.2
        · exact (hx z hz).2⟩
