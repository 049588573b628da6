/-! the world at the start: printed by gen/pworld2.py -/
section
variable {a0 : Array Value} {s : State} {a : Nat} {t : Term} {w : q_Wd}
theorem q_stV (hn : (Cond.and given_1 narrow_1).before a0 s = true) (hw1 : w.1 = s) (hwo : w.2.2.1 = q_tmO q_tm a0 s) (hT : q_tm a = some t) (ha : a < 1000) (h : q_in (.isRef t)) : t.eval a0 s none [] s = some (q_vm (q_F w) (.ref a)) := by
  obtain ⟨v, hv, hr⟩ := Cond.isRef_spec (q_in_at hn h)
  show _ = some (va_rf (q_F w a))
  rw [q_F_old w ha, hwo]
  cases v with
  | ref r => rw [q_tmO_at hT hv, hv]; rfl
  | null =>
    have : q_tmO q_tm a0 s a = none := by unfold q_tmO; rw [hT]; dsimp only; rw [hv]
    rw [this, hv]; rfl
  | _ => cases hr
theorem q_stX (hn : (Cond.and given_1 narrow_1).before a0 s = true) (hw1 : w.1 = s) (hwo : w.2.2.1 = q_tmO q_tm a0 s) {C : String} (hT : q_tm a = some t) (ha : a < 1000) (h : q_in (.exactly t C)) : t.eval a0 s none [] s = some (q_vm (q_F w) (.ref a)) := by
  obtain ⟨r, hr⟩ := q_in_ref hn h
  show _ = some (va_rf (q_F w a))
  rw [q_F_old w ha, hwo, q_tmO_at hT hr, hr]; rfl
theorem q_ltR (hn : (Cond.and given_1 narrow_1).before a0 s = true) (hts : ∀ z ∈ lw_tbl, z.before a0 s = true) (hw1 : w.1 = s) (hwo : w.2.2.1 = q_tmO q_tm a0 s) {own tx C : String} {i : Nat} (hT : q_tm a = some t) (h : q_in (.exactly t C)) (hs : Cond.stringRef own i tx ∈ lw_tbl) (heq : (Term.string own i).eval a0 s none [] s = t.eval a0 s none [] s) :
    ∃ r, w.2.2.1 a = some r ∧ vk_R own i tx r w.1 := by
  obtain ⟨r, hr⟩ := q_in_ref hn h
  refine ⟨r, by rw [hwo]; exact q_tmO_at hT hr, ?_⟩
  rw [hw1]
  exact vk_R.of (hts _ hs) (heq.trans hr)
theorem q_tm_ev {r : Nat} (h : q_tmO q_tm a0 s a = some r) : ∃ t, q_tm a = some t ∧ t.eval a0 s none [] s = some (.ref r) := by
  unfold q_tmO at h
  split at h
  · rename_i t ht
    split at h
    · rename_i r2 hr
      cases h
      exact ⟨t, ht, hr⟩
    · cases h
  · cases h
end
set_option maxRecDepth 100000
theorem q_w125 : (Jvm.Cond.initialized "CaptainClaims$Token") ∈ lw_all := lw_g (lw_at lw_m1 13 rfl) rfl
theorem q_w144 : (Jvm.Cond.initialized "CaptainClaims$Declaration") ∈ lw_all := lw_g (lw_at lw_m1 32 rfl) rfl
theorem q_w162 : (Jvm.Cond.initialized "java/lang/Integer$IntegerCache") ∈ lw_all := lw_g (lw_at lw_m1 50 rfl) rfl
theorem q_w202 : (Jvm.Cond.stringRef "CaptainClaims" (48 : Nat) "") ∈ lw_tbl := lw_at lw_m1 90 rfl
theorem q_w288 : (Jvm.Cond.laysStatic "java/lang/Throwable" "UNASSIGNED_STACK" "[Ljava/lang/StackTraceElement;") ∈ lw_tbl := lw_at lw_m1 176 rfl
theorem q_w290 : (Jvm.Cond.laysStatic "java/lang/Throwable" "SUPPRESSED_SENTINEL" "Ljava/util/List;") ∈ lw_tbl := lw_at lw_m1 178 rfl
theorem q_w361 : (Jvm.Cond.instantiable "java/lang/IndexOutOfBoundsException" (6 : Nat)) ∈ lw_all := lw_g (lw_at lw_m2 9 rfl) rfl
theorem q_w388 : (Jvm.Cond.laysStatic "CaptainClaims$Token" "INVALID" "LCaptainClaims$Token;") ∈ lw_tbl := lw_at lw_m2 36 rfl
theorem q_w389 : (Jvm.Cond.stringRef "CaptainClaims$Parser" (24 : Nat) "") ∈ lw_tbl := lw_at lw_m2 37 rfl
theorem q_w438 : (Jvm.Cond.laysStatic "CaptainClaims$Token" "END" "LCaptainClaims$Token;") ∈ lw_tbl := lw_at lw_m2 86 rfl
theorem q_w454 : (Jvm.Cond.laysStatic "java/lang/String" "COMPACT_STRINGS" "Z") ∈ lw_tbl := lw_at lw_m2 102 rfl
theorem q_w545 : (Jvm.Cond.laysStatic "jdk/internal/util/Preconditions" "SIOOBE_FORMATTER" "Ljava/util/function/BiFunction;") ∈ lw_tbl := lw_at lw_m2 193 rfl
theorem q_w606 : (Jvm.Cond.instantiable "java/lang/IllegalArgumentException" (6 : Nat)) ∈ lw_all := lw_g (lw_at lw_m3 14 rfl) rfl
theorem q_w632 : (Jvm.Cond.laysStatic "java/lang/Integer" "DigitOnes" "[B") ∈ lw_tbl := lw_at lw_m3 40 rfl
theorem q_w634 : (Jvm.Cond.laysStatic "java/lang/Integer" "DigitTens" "[B") ∈ lw_tbl := lw_at lw_m3 42 rfl
theorem q_w652 : (Jvm.Cond.stringRef "java/util/Arrays" (337 : Nat) " > ") ∈ lw_tbl := lw_at lw_m3 60 rfl
theorem q_w721 : (Jvm.Cond.laysStatic "CaptainClaims$Token" "WORD" "LCaptainClaims$Token;") ∈ lw_tbl := lw_at lw_m3 129 rfl
theorem q_w727 : (Jvm.Cond.laysStatic "CaptainClaims$Token" "NUMBER" "LCaptainClaims$Token;") ∈ lw_tbl := lw_at lw_m3 135 rfl
theorem q_w736 : (Jvm.Cond.laysStatic "CaptainClaims$Token" "MARKS" "LCaptainClaims$Token;") ∈ lw_tbl := lw_at lw_m3 144 rfl
theorem q_w738 : (Jvm.Cond.laysStatic "CaptainClaims$Token" "LINE_END" "LCaptainClaims$Token;") ∈ lw_tbl := lw_at lw_m3 146 rfl
theorem q_w739 : (Jvm.Cond.stringRef "CaptainClaims$Parser" (346 : Nat) "map") ∈ lw_tbl := lw_at lw_m3 147 rfl
theorem q_w810 : (Jvm.Cond.laysStatic "java/util/ArrayList" "EMPTY_ELEMENTDATA" "[Ljava/lang/Object;") ∈ lw_tbl := lw_at lw_m3 218 rfl
theorem q_w814 : (Jvm.Cond.stringRef "java/util/ArrayList" (23 : Nat) "Illegal Capacity: ") ∈ lw_tbl := lw_at lw_m3 222 rfl
theorem q_w845 : (Jvm.Cond.laysStatic "CaptainClaims$Mark" "UNKNOWN" "LCaptainClaims$Mark;") ∈ lw_tbl := lw_at lw_m4 13 rfl
theorem q_w850 : (Jvm.Cond.laysStatic "CaptainClaims$Declaration" "NO" "LCaptainClaims$Declaration;") ∈ lw_tbl := lw_at lw_m4 18 rfl
theorem q_w867 : (Jvm.Cond.laysStatic "CaptainClaims$Mark" "LAND" "LCaptainClaims$Mark;") ∈ lw_tbl := lw_at lw_m4 35 rfl
theorem q_w1005 : (Jvm.Cond.stringRef "jdk/internal/util/ArraysSupport" (92 : Nat) "unrecognized basic type: ") ∈ lw_tbl := lw_at lw_m4 173 rfl
theorem q_w1014 : (Jvm.Cond.stringRef "CaptainClaims$Parser" (310 : Nat) "captain") ∈ lw_tbl := lw_at lw_m4 182 rfl
theorem q_w1015 : (Jvm.Cond.stringRef "CaptainClaims$Parser" (311 : Nat) "says") ∈ lw_tbl := lw_at lw_m4 183 rfl
theorem q_w1032 : (Jvm.Cond.stringRef "CaptainClaims$Parser" (317 : Nat) "piece") ∈ lw_tbl := lw_at lw_m4 200 rfl
theorem q_w1033 : (Jvm.Cond.stringRef "CaptainClaims$Parser" (166 : Nat) "honest") ∈ lw_tbl := lw_at lw_m4 201 rfl
theorem q_w1034 : (Jvm.Cond.stringRef "CaptainClaims$Parser" (319 : Nat) "liar") ∈ lw_tbl := lw_at lw_m4 202 rfl
theorem q_w1035 : (Jvm.Cond.stringRef "CaptainClaims$Parser" (321 : Nat) "empty") ∈ lw_tbl := lw_at lw_m4 203 rfl
theorem q_w1062 : (Jvm.Cond.laysStatic "CaptainClaims$Mark" "SEA" "LCaptainClaims$Mark;") ∈ lw_tbl := lw_at lw_m4 230 rfl
theorem q_w1233 : (Jvm.Cond.stringRef "CaptainClaims$Parser" (151 : Nat) "row") ∈ lw_tbl := lw_at lw_m5 161 rfl
theorem q_w1234 : (Jvm.Cond.stringRef "CaptainClaims$Parser" (157 : Nat) "column") ∈ lw_tbl := lw_at lw_m5 162 rfl
theorem q_w1235 : (Jvm.Cond.stringRef "CaptainClaims$Parser" (159 : Nat) "near") ∈ lw_tbl := lw_at lw_m5 163 rfl
theorem q_w1236 : (Jvm.Cond.stringRef "CaptainClaims$Parser" (161 : Nat) "size") ∈ lw_tbl := lw_at lw_m5 164 rfl
theorem q_w1237 : (Jvm.Cond.stringRef "CaptainClaims$Parser" (162 : Nat) "coast") ∈ lw_tbl := lw_at lw_m5 165 rfl
theorem q_w1238 : (Jvm.Cond.stringRef "CaptainClaims$Parser" (164 : Nat) "same") ∈ lw_tbl := lw_at lw_m5 166 rfl
theorem q_w1239 : (Jvm.Cond.stringRef "CaptainClaims$Parser" (168 : Nat) "not") ∈ lw_tbl := lw_at lw_m5 167 rfl
theorem q_w1240 : (Jvm.Cond.stringRef "CaptainClaims$Parser" (170 : Nat) "both") ∈ lw_tbl := lw_at lw_m5 168 rfl
theorem q_w1241 : (Jvm.Cond.stringRef "CaptainClaims$Parser" (172 : Nat) "either") ∈ lw_tbl := lw_at lw_m5 169 rfl
theorem q_w1255 : (Jvm.Cond.stringRef "CaptainClaims$RowClaim" (1 : Nat) "row") ∈ lw_tbl := lw_at lw_m5 183 rfl
theorem q_w1279 : (Jvm.Cond.stringRef "CaptainClaims$ColumnClaim" (1 : Nat) "column") ∈ lw_tbl := lw_at lw_m5 207 rfl
theorem q_w1314 : (Jvm.Cond.stringRef "CaptainClaims$SizeClaim" (3 : Nat) "size") ∈ lw_tbl := lw_at lw_m6 2 rfl
theorem q_w1359 : (Jvm.Cond.stringRef "CaptainClaims$NotClaim" (1 : Nat) "not") ∈ lw_tbl := lw_at lw_m6 47 rfl
theorem q_w1391 : (Jvm.Cond.stringRef "CaptainClaims$BothClaim" (1 : Nat) "both") ∈ lw_tbl := lw_at lw_m6 79 rfl
theorem q_w1401 : (Jvm.Cond.stringRef "CaptainClaims$EitherClaim" (1 : Nat) "either") ∈ lw_tbl := lw_at lw_m6 89 rfl
theorem q_w1422 : (Jvm.Cond.laysStatic "CaptainClaims$Declaration" "TRUTHFUL" "LCaptainClaims$Declaration;") ∈ lw_tbl := lw_at lw_m6 110 rfl
theorem q_w1424 : (Jvm.Cond.laysStatic "CaptainClaims$Declaration" "LIAR" "LCaptainClaims$Declaration;") ∈ lw_tbl := lw_at lw_m6 112 rfl
theorem q_w1473 : (Jvm.Cond.instantiable "java/lang/IllegalStateException" (6 : Nat)) ∈ lw_all := lw_g (lw_at lw_m6 161 rfl) rfl
theorem q_w1568 : (Jvm.Cond.laysStatic "java/lang/Integer$IntegerCache" "high" "I") ∈ lw_tbl := lw_at lw_m7 16 rfl
theorem q_w1570 : (Jvm.Cond.laysStatic "java/lang/Integer$IntegerCache" "cache" "[Ljava/lang/Integer;") ∈ lw_tbl := lw_at lw_m7 18 rfl
theorem q_w2385 : (Jvm.Cond.stringRef "CaptainClaims" (352 : Nat) ": ") ∈ lw_tbl := lw_at lw_m10 113 rfl
theorem q_w2409 : (Jvm.Cond.stringRef "CaptainClaims$CoastClaim" (13 : Nat) "coast") ∈ lw_tbl := lw_at lw_m10 137 rfl
theorem q_w2429 : (Jvm.Cond.stringRef "CaptainClaims$HonestClaim" (19 : Nat) "honest") ∈ lw_tbl := lw_at lw_m10 157 rfl
theorem q_w2436 : (Jvm.Cond.stringRef "CaptainClaims$NearClaim" (30 : Nat) "near") ∈ lw_tbl := lw_at lw_m10 164 rfl
theorem q_w2447 : (Jvm.Cond.stringRef "CaptainClaims$SameClaim" (30 : Nat) "same") ∈ lw_tbl := lw_at lw_m10 175 rfl
theorem q_w2523 : (Jvm.Cond.stringRef "java/util/ArrayDeque" (35 : Nat) "Sorry, deque too big") ∈ lw_tbl := lw_at lw_m11 11 rfl
theorem q_w2809 : (Jvm.Cond.stringRef "CaptainClaimsModel" (292 : Nat) "map") ∈ lw_tbl := lw_at lw_m12 57 rfl
theorem q_w2840 : (Jvm.Cond.stringRef "CaptainClaimsModel" (267 : Nat) "piece") ∈ lw_tbl := lw_at lw_m12 88 rfl
theorem q_w2868 : (Jvm.Cond.stringRef "CaptainClaimsModel" (272 : Nat) "captain") ∈ lw_tbl := lw_at lw_m12 116 rfl
theorem q_w2877 : (Jvm.Cond.stringRef "CaptainClaimsModel" (277 : Nat) "says") ∈ lw_tbl := lw_at lw_m12 125 rfl
theorem q_w2898 : (Jvm.Cond.stringRef "CaptainClaimsModel" (218 : Nat) "row") ∈ lw_tbl := lw_at lw_m12 146 rfl
theorem q_w2899 : (Jvm.Cond.stringRef "CaptainClaimsModel" (224 : Nat) "column") ∈ lw_tbl := lw_at lw_m12 147 rfl
theorem q_w2900 : (Jvm.Cond.stringRef "CaptainClaimsModel" (226 : Nat) "near") ∈ lw_tbl := lw_at lw_m12 148 rfl
theorem q_w2901 : (Jvm.Cond.stringRef "CaptainClaimsModel" (228 : Nat) "size") ∈ lw_tbl := lw_at lw_m12 149 rfl
theorem q_w2902 : (Jvm.Cond.stringRef "CaptainClaimsModel" (230 : Nat) "coast") ∈ lw_tbl := lw_at lw_m12 150 rfl
theorem q_w2903 : (Jvm.Cond.stringRef "CaptainClaimsModel" (232 : Nat) "same") ∈ lw_tbl := lw_at lw_m12 151 rfl
theorem q_w2904 : (Jvm.Cond.stringRef "CaptainClaimsModel" (234 : Nat) "honest") ∈ lw_tbl := lw_at lw_m12 152 rfl
theorem q_w2905 : (Jvm.Cond.stringRef "CaptainClaimsModel" (236 : Nat) "not") ∈ lw_tbl := lw_at lw_m12 153 rfl
theorem q_w2906 : (Jvm.Cond.stringRef "CaptainClaimsModel" (238 : Nat) "both") ∈ lw_tbl := lw_at lw_m12 154 rfl
theorem q_w2907 : (Jvm.Cond.stringRef "CaptainClaimsModel" (240 : Nat) "either") ∈ lw_tbl := lw_at lw_m12 155 rfl
theorem q_w2932 : (Jvm.Cond.stringRef "CaptainClaimsModel" (285 : Nat) "liar") ∈ lw_tbl := lw_at lw_m12 180 rfl
theorem q_w2933 : (Jvm.Cond.stringRef "CaptainClaimsModel" (287 : Nat) "empty") ∈ lw_tbl := lw_at lw_m12 181 rfl
theorem q_st_ok {a0 : Array Value} {s : State} (hn : (Cond.and given_1 narrow_1).before a0 s = true) (hts : ∀ z ∈ lw_tbl, z.before a0 s = true) {w : q_Wd} (hw1 : w.1 = s) (hwo : w.2.2.1 = q_tmO q_tm a0 s) : q_al (fun z : String × String × String × Value => va_Z z.1 z.2.1 z.2.2.1 (q_vm (q_F w) z.2.2.2) (fun a => w.1.heap.size ≤ a) w.1 w.1.heap) q_stl := by
  subst hw1
  have hA : ∀ a : Nat, a < w.1.heap.size → ¬ (fun a => w.1.heap.size ≤ a) a := fun a h => Nat.not_le.mpr h
  exact q_al.c (va_Zof (hts _ q_w454) (hts _ (lw_all_tbl q_w122)) (q_in_int hn (v := 1) ⟨[true, false, false, false, false, false, false, false, true, true, false], rfl⟩) hA) <|
    q_al.c (va_Zof (hts _ q_w1568) (hts _ (lw_all_tbl q_w162)) (q_in_int hn (v := 127) ⟨[true, false, false, true, true, false, false, true, true, false, false], rfl⟩) hA) <|
    q_al.c (va_Zof (hts _ q_w1570) (hts _ (lw_all_tbl q_w162)) (q_stV hn rfl hwo (a := 23) rfl (by decide) ⟨[true, false, false, true, true, false, false, true, true, false, true, false], rfl⟩) hA) <|
    q_al.c (va_Zof (hts _ q_w632) (hts _ (lw_all_tbl q_w137)) (q_stV hn rfl hwo (a := 20) rfl (by decide) ⟨[true, false, false, false, false, false, false, true, false, false, true, true], rfl⟩) hA) <|
    q_al.c (va_Zof (hts _ q_w634) (hts _ (lw_all_tbl q_w137)) (q_stV hn rfl hwo (a := 21) rfl (by decide) ⟨[true, false, false, false, true, false, false, true, false, true, true, true], rfl⟩) hA) <|
    q_al.c (va_Zof (hts _ q_w810) (hts _ (lw_all_tbl q_w143)) (q_stV hn rfl hwo (a := 22) rfl (by decide) ⟨[true, false, false, true, false, false, true, true, false, true, true, true], rfl⟩) hA) <|
    q_al.c (va_Zof (hts _ q_w545) (hts _ (lw_all_tbl q_w134)) (q_stV hn rfl hwo (a := 32) rfl (by decide) ⟨[true, false, false, false, false, false, false, false, true, true, true, false], rfl⟩) hA) <|
    q_al.c (va_Zof (hts _ q_w288) (hts _ (lw_all_tbl q_w117)) (q_stV hn rfl hwo (a := 30) rfl (by decide) ⟨[true, false, false, false, false, false, false, false, false, false, true, true], rfl⟩) hA) <|
    q_al.c (va_Zof (hts _ q_w290) (hts _ (lw_all_tbl q_w117)) (q_stV hn rfl hwo (a := 31) rfl (by decide) ⟨[true, false, false, false, false, false, false, false, false, true, false], rfl⟩) hA) <|
    q_al.c (va_Zof (hts _ q_w845) (hts _ (lw_all_tbl q_w138)) (q_stX hn rfl hwo (a := 1) rfl (by decide) ⟨[true, false, false, true, false, false, true, true, true, true, false, false], rfl⟩) hA) <|
    q_al.c (va_Zof (hts _ q_w1062) (hts _ (lw_all_tbl q_w138)) (q_stX hn rfl hwo (a := 2) rfl (by decide) ⟨[true, false, false, true, false, true, true, false, false, false, true, false], rfl⟩) hA) <|
    q_al.c (va_Zof (hts _ q_w867) (hts _ (lw_all_tbl q_w138)) (q_stX hn rfl hwo (a := 3) rfl (by decide) ⟨[true, false, false, true, false, true, false, true, false, false, true, true], rfl⟩) hA) <|
    q_al.c (va_Zof (hts _ q_w850) (hts _ (lw_all_tbl q_w144)) (q_stX hn rfl hwo (a := 4) rfl (by decide) ⟨[true, false, false, true, false, true, false, false, false, true, true, true], rfl⟩) hA) <|
    q_al.c (va_Zof (hts _ q_w1422) (hts _ (lw_all_tbl q_w144)) (q_stX hn rfl hwo (a := 5) rfl (by decide) ⟨[true, false, false, true, false, true, true, true, true, false, false], rfl⟩) hA) <|
    q_al.c (va_Zof (hts _ q_w1424) (hts _ (lw_all_tbl q_w144)) (q_stX hn rfl hwo (a := 6) rfl (by decide) ⟨[true, false, false, true, true, false, false, false, false, true, true, true], rfl⟩) hA) <|
    q_al.c (va_Zof (hts _ q_w388) (hts _ (lw_all_tbl q_w125)) (q_stX hn rfl hwo (a := 7) rfl (by decide) ⟨[true, false, false, false, false, false, false, false, false, true, true, false], rfl⟩) hA) <|
    q_al.c (va_Zof (hts _ q_w438) (hts _ (lw_all_tbl q_w125)) (q_stX hn rfl hwo (a := 8) rfl (by decide) ⟨[true, false, false, false, false, false, false, false, true, false, false], rfl⟩) hA) <|
    q_al.c (va_Zof (hts _ q_w721) (hts _ (lw_all_tbl q_w125)) (q_stX hn rfl hwo (a := 9) rfl (by decide) ⟨[true, false, false, true, false, false, false, true, true, false, true, true], rfl⟩) hA) <|
    q_al.c (va_Zof (hts _ q_w727) (hts _ (lw_all_tbl q_w125)) (q_stX hn rfl hwo (a := 10) rfl (by decide) ⟨[true, false, false, true, false, false, false, true, true, true, true, true], rfl⟩) hA) <|
    q_al.c (va_Zof (hts _ q_w736) (hts _ (lw_all_tbl q_w125)) (q_stX hn rfl hwo (a := 11) rfl (by decide) ⟨[true, false, false, true, false, false, true, false, false, true, true, false], rfl⟩) hA) <|
    q_al.c (va_Zof (hts _ q_w738) (hts _ (lw_all_tbl q_w125)) (q_stX hn rfl hwo (a := 12) rfl (by decide) ⟨[true, false, false, true, false, false, true, false, true, true, true, false], rfl⟩) hA) <|
    q_al.n
theorem q_lt_ok {a0 : Array Value} {s : State} (hn : (Cond.and given_1 narrow_1).before a0 s = true) (hts : ∀ z ∈ lw_tbl, z.before a0 s = true) {w : q_Wd} (hw1 : w.1 = s) (hwo : w.2.2.1 = q_tmO q_tm a0 s) : q_al (fun z : String × Nat × String × Nat => ∃ r, w.2.2.1 z.2.2.2 = some r ∧ vk_R z.1 z.2.1 z.2.2.1 r w.1) q_ltl :=
  q_al.c (q_ltR hn hts hw1 hwo (a := 100) rfl (C := "java/lang/String") ⟨[true, true, false, false, false, false, false, true, true, false, true, true], rfl⟩ q_w202 (rfl)) <|
  q_al.c (q_ltR hn hts hw1 hwo (a := 100) rfl (C := "java/lang/String") ⟨[true, true, false, false, false, false, false, true, true, false, true, true], rfl⟩ q_w389 ((q_in_eq hn (⟨[true, true, false, false, false, false, true, false, true, false, true, false], rfl⟩ : q_in (.eq (Term.string "CaptainClaims" (48 : Nat)) (Term.string "CaptainClaims$Parser" (24 : Nat))))).symm)) <|
  q_al.c (q_ltR hn hts hw1 hwo (a := 102) rfl (C := "java/lang/String") ⟨[true, true, false, false, false, false, true, false, true, false, true, true], rfl⟩ q_w652 (rfl)) <|
  q_al.c (q_ltR hn hts hw1 hwo (a := 104) rfl (C := "java/lang/String") ⟨[true, true, false, false, false, false, true, true, false, true, true, true], rfl⟩ q_w739 (rfl)) <|
  q_al.c (q_ltR hn hts hw1 hwo (a := 106) rfl (C := "java/lang/String") ⟨[true, true, false, false, false, true, false, false, false, false, true, false], rfl⟩ q_w814 (rfl)) <|
  q_al.c (q_ltR hn hts hw1 hwo (a := 108) rfl (C := "java/lang/String") ⟨[true, true, false, false, false, true, true, false, false, false, false], rfl⟩ q_w1005 (rfl)) <|
  q_al.c (q_ltR hn hts hw1 hwo (a := 110) rfl (C := "java/lang/String") ⟨[true, true, false, false, true, false, false, false, true, false, false], rfl⟩ q_w1014 (rfl)) <|
  q_al.c (q_ltR hn hts hw1 hwo (a := 112) rfl (C := "java/lang/String") ⟨[true, true, false, false, true, false, false, true, true, false, true, false], rfl⟩ q_w1015 (rfl)) <|
  q_al.c (q_ltR hn hts hw1 hwo (a := 114) rfl (C := "java/lang/String") ⟨[true, true, false, false, true, false, true, false, false, true, true, false], rfl⟩ q_w1032 (rfl)) <|
  q_al.c (q_ltR hn hts hw1 hwo (a := 116) rfl (C := "java/lang/String") ⟨[true, true, false, false, true, false, true, true, false, true, false], rfl⟩ q_w1033 (rfl)) <|
  q_al.c (q_ltR hn hts hw1 hwo (a := 118) rfl (C := "java/lang/String") ⟨[true, true, false, false, true, true, false, false, false, false, true, true], rfl⟩ q_w1034 (rfl)) <|
  q_al.c (q_ltR hn hts hw1 hwo (a := 120) rfl (C := "java/lang/String") ⟨[true, true, false, false, true, true, false, true, false, false, false], rfl⟩ q_w1035 (rfl)) <|
  q_al.c (q_ltR hn hts hw1 hwo (a := 122) rfl (C := "java/lang/String") ⟨[true, true, false, false, true, true, false, true, true, true, true, false], rfl⟩ q_w1233 (rfl)) <|
  q_al.c (q_ltR hn hts hw1 hwo (a := 124) rfl (C := "java/lang/String") ⟨[true, true, false, false, true, true, true, false, true, false, true, false], rfl⟩ q_w1234 (rfl)) <|
  q_al.c (q_ltR hn hts hw1 hwo (a := 126) rfl (C := "java/lang/String") ⟨[true, true, false, false, true, true, true, true, true, false, true, false], rfl⟩ q_w1235 (rfl)) <|
  q_al.c (q_ltR hn hts hw1 hwo (a := 128) rfl (C := "java/lang/String") ⟨[true, true, false, true, false, false, false, false, false, true, true, false], rfl⟩ q_w1236 (rfl)) <|
  q_al.c (q_ltR hn hts hw1 hwo (a := 130) rfl (C := "java/lang/String") ⟨[true, true, false, true, false, false, false, true, false, false, true, true], rfl⟩ q_w1237 (rfl)) <|
  q_al.c (q_ltR hn hts hw1 hwo (a := 132) rfl (C := "java/lang/String") ⟨[true, true, false, true, false, false, true, false, false, false, false], rfl⟩ q_w1238 (rfl)) <|
  q_al.c (q_ltR hn hts hw1 hwo (a := 134) rfl (C := "java/lang/String") ⟨[true, true, false, true, false, false, true, false, true, true, true, false], rfl⟩ q_w1239 (rfl)) <|
  q_al.c (q_ltR hn hts hw1 hwo (a := 136) rfl (C := "java/lang/String") ⟨[true, true, false, true, false, false, true, true, true, false, true, false], rfl⟩ q_w1240 (rfl)) <|
  q_al.c (q_ltR hn hts hw1 hwo (a := 138) rfl (C := "java/lang/String") ⟨[true, true, false, true, false, true, false, false, false, true, true, false], rfl⟩ q_w1241 (rfl)) <|
  q_al.c (q_ltR hn hts hw1 hwo (a := 122) rfl (C := "java/lang/String") ⟨[true, true, false, false, true, true, false, true, true, true, true, false], rfl⟩ q_w1255 ((q_in_eq hn (⟨[true, true, false, true, false, true, true, false, false, false, false], rfl⟩ : q_in (.eq (Term.string "CaptainClaims$Parser" (151 : Nat)) (Term.string "CaptainClaims$RowClaim" (1 : Nat))))).symm)) <|
  q_al.c (q_ltR hn hts hw1 hwo (a := 124) rfl (C := "java/lang/String") ⟨[true, true, false, false, true, true, true, false, true, false, true, false], rfl⟩ q_w1279 ((q_in_eq hn (⟨[true, true, false, true, false, true, true, true, false, false, true, false], rfl⟩ : q_in (.eq (Term.string "CaptainClaims$Parser" (157 : Nat)) (Term.string "CaptainClaims$ColumnClaim" (1 : Nat))))).symm)) <|
  q_al.c (q_ltR hn hts hw1 hwo (a := 128) rfl (C := "java/lang/String") ⟨[true, true, false, true, false, false, false, false, false, true, true, false], rfl⟩ q_w1314 ((q_in_eq hn (⟨[true, true, false, true, false, true, true, true, true, true, true, true], rfl⟩ : q_in (.eq (Term.string "CaptainClaims$Parser" (161 : Nat)) (Term.string "CaptainClaims$SizeClaim" (3 : Nat))))).symm)) <|
  q_al.c (q_ltR hn hts hw1 hwo (a := 134) rfl (C := "java/lang/String") ⟨[true, true, false, true, false, false, true, false, true, true, true, false], rfl⟩ q_w1359 ((q_in_eq hn (⟨[true, true, false, true, true, false, false, false, true, true, false], rfl⟩ : q_in (.eq (Term.string "CaptainClaims$Parser" (168 : Nat)) (Term.string "CaptainClaims$NotClaim" (1 : Nat))))).symm)) <|
  q_al.c (q_ltR hn hts hw1 hwo (a := 136) rfl (C := "java/lang/String") ⟨[true, true, false, true, false, false, true, true, true, false, true, false], rfl⟩ q_w1391 ((q_in_eq hn (⟨[true, true, false, true, true, false, false, true, true, false, true, true], rfl⟩ : q_in (.eq (Term.string "CaptainClaims$Parser" (170 : Nat)) (Term.string "CaptainClaims$BothClaim" (1 : Nat))))).symm)) <|
  q_al.c (q_ltR hn hts hw1 hwo (a := 138) rfl (C := "java/lang/String") ⟨[true, true, false, true, false, true, false, false, false, true, true, false], rfl⟩ q_w1401 ((q_in_eq hn (⟨[true, true, false, true, true, false, true, false, true, false, true, true], rfl⟩ : q_in (.eq (Term.string "CaptainClaims$Parser" (172 : Nat)) (Term.string "CaptainClaims$EitherClaim" (1 : Nat))))).symm)) <|
  q_al.c (q_ltR hn hts hw1 hwo (a := 140) rfl (C := "java/lang/String") ⟨[true, true, false, true, true, false, true, false, true, true, false], rfl⟩ q_w2385 (rfl)) <|
  q_al.c (q_ltR hn hts hw1 hwo (a := 130) rfl (C := "java/lang/String") ⟨[true, true, false, true, false, false, false, true, false, false, true, true], rfl⟩ q_w2409 ((q_in_eq hn (⟨[true, true, false, true, true, true, false, false, false, true, false], rfl⟩ : q_in (.eq (Term.string "CaptainClaims$Parser" (162 : Nat)) (Term.string "CaptainClaims$CoastClaim" (13 : Nat))))).symm)) <|
  q_al.c (q_ltR hn hts hw1 hwo (a := 116) rfl (C := "java/lang/String") ⟨[true, true, false, false, true, false, true, true, false, true, false], rfl⟩ q_w2429 ((q_in_eq hn (⟨[true, true, false, true, true, true, false, true, false, true, true, false], rfl⟩ : q_in (.eq (Term.string "CaptainClaims$Parser" (166 : Nat)) (Term.string "CaptainClaims$HonestClaim" (19 : Nat))))).symm)) <|
  q_al.c (q_ltR hn hts hw1 hwo (a := 126) rfl (C := "java/lang/String") ⟨[true, true, false, false, true, true, true, true, true, false, true, false], rfl⟩ q_w2436 ((q_in_eq hn (⟨[true, true, false, true, true, true, true, false, false, false, true, true], rfl⟩ : q_in (.eq (Term.string "CaptainClaims$Parser" (159 : Nat)) (Term.string "CaptainClaims$NearClaim" (30 : Nat))))).symm)) <|
  q_al.c (q_ltR hn hts hw1 hwo (a := 132) rfl (C := "java/lang/String") ⟨[true, true, false, true, false, false, true, false, false, false, false], rfl⟩ q_w2447 ((q_in_eq hn (⟨[true, true, false, true, true, true, true, true, false, false, true, false], rfl⟩ : q_in (.eq (Term.string "CaptainClaims$Parser" (164 : Nat)) (Term.string "CaptainClaims$SameClaim" (30 : Nat))))).symm)) <|
  q_al.c (q_ltR hn hts hw1 hwo (a := 142) rfl (C := "java/lang/String") ⟨[true, true, false, true, true, true, true, true, false, false, true, true], rfl⟩ q_w2523 (rfl)) <|
  q_al.c (q_ltR hn hts hw1 hwo (a := 104) rfl (C := "java/lang/String") ⟨[true, true, false, false, false, false, true, true, false, true, true, true], rfl⟩ q_w2809 ((q_in_eq hn (⟨[true, true, true, false, false, false, true, false, true, true, true], rfl⟩ : q_in (.eq (Term.string "CaptainClaims$Parser" (346 : Nat)) (Term.string "CaptainClaimsModel" (292 : Nat))))).symm)) <|
  q_al.c (q_ltR hn hts hw1 hwo (a := 114) rfl (C := "java/lang/String") ⟨[true, true, false, false, true, false, true, false, false, true, true, false], rfl⟩ q_w2840 ((q_in_eq hn (⟨[true, true, true, false, false, true, false, false, false, true, false], rfl⟩ : q_in (.eq (Term.string "CaptainClaims$Parser" (317 : Nat)) (Term.string "CaptainClaimsModel" (267 : Nat))))).symm)) <|
  q_al.c (q_ltR hn hts hw1 hwo (a := 110) rfl (C := "java/lang/String") ⟨[true, true, false, false, true, false, false, false, true, false, false], rfl⟩ q_w2868 ((q_in_eq hn (⟨[true, true, true, false, false, true, false, true, true, true, true, true], rfl⟩ : q_in (.eq (Term.string "CaptainClaims$Parser" (310 : Nat)) (Term.string "CaptainClaimsModel" (272 : Nat))))).symm)) <|
  q_al.c (q_ltR hn hts hw1 hwo (a := 112) rfl (C := "java/lang/String") ⟨[true, true, false, false, true, false, false, true, true, false, true, false], rfl⟩ q_w2877 ((q_in_eq hn (⟨[true, true, true, false, false, true, true, true, false, true, false], rfl⟩ : q_in (.eq (Term.string "CaptainClaims$Parser" (311 : Nat)) (Term.string "CaptainClaimsModel" (277 : Nat))))).symm)) <|
  q_al.c (q_ltR hn hts hw1 hwo (a := 122) rfl (C := "java/lang/String") ⟨[true, true, false, false, true, true, false, true, true, true, true, false], rfl⟩ q_w2898 ((q_in_eq hn (⟨[true, true, true, false, true, false, false, false, false, true, true], rfl⟩ : q_in (.eq (Term.string "CaptainClaims$Parser" (151 : Nat)) (Term.string "CaptainClaimsModel" (218 : Nat))))).symm)) <|
  q_al.c (q_ltR hn hts hw1 hwo (a := 124) rfl (C := "java/lang/String") ⟨[true, true, false, false, true, true, true, false, true, false, true, false], rfl⟩ q_w2899 ((q_in_eq hn (⟨[true, true, true, false, true, false, true, false, false, false, false], rfl⟩ : q_in (.eq (Term.string "CaptainClaims$Parser" (157 : Nat)) (Term.string "CaptainClaimsModel" (224 : Nat))))).symm)) <|
  q_al.c (q_ltR hn hts hw1 hwo (a := 126) rfl (C := "java/lang/String") ⟨[true, true, false, false, true, true, true, true, true, false, true, false], rfl⟩ q_w2900 ((q_in_eq hn (⟨[true, true, true, false, true, false, true, true, true, false, false], rfl⟩ : q_in (.eq (Term.string "CaptainClaims$Parser" (159 : Nat)) (Term.string "CaptainClaimsModel" (226 : Nat))))).symm)) <|
  q_al.c (q_ltR hn hts hw1 hwo (a := 128) rfl (C := "java/lang/String") ⟨[true, true, false, true, false, false, false, false, false, true, true, false], rfl⟩ q_w2901 ((q_in_eq hn (⟨[true, true, true, false, true, true, false, false, true, true, true], rfl⟩ : q_in (.eq (Term.string "CaptainClaims$Parser" (161 : Nat)) (Term.string "CaptainClaimsModel" (228 : Nat))))).symm)) <|
  q_al.c (q_ltR hn hts hw1 hwo (a := 130) rfl (C := "java/lang/String") ⟨[true, true, false, true, false, false, false, true, false, false, true, true], rfl⟩ q_w2902 ((q_in_eq hn (⟨[true, true, true, false, true, true, true, false, false, true, true], rfl⟩ : q_in (.eq (Term.string "CaptainClaims$Parser" (162 : Nat)) (Term.string "CaptainClaimsModel" (230 : Nat))))).symm)) <|
  q_al.c (q_ltR hn hts hw1 hwo (a := 132) rfl (C := "java/lang/String") ⟨[true, true, false, true, false, false, true, false, false, false, false], rfl⟩ q_w2903 ((q_in_eq hn (⟨[true, true, true, false, true, true, true, true, true, true, true, false], rfl⟩ : q_in (.eq (Term.string "CaptainClaims$Parser" (164 : Nat)) (Term.string "CaptainClaimsModel" (232 : Nat))))).symm)) <|
  q_al.c (q_ltR hn hts hw1 hwo (a := 116) rfl (C := "java/lang/String") ⟨[true, true, false, false, true, false, true, true, false, true, false], rfl⟩ q_w2904 ((q_in_eq hn (⟨[true, true, true, true, false, false, false, true, true, false, false], rfl⟩ : q_in (.eq (Term.string "CaptainClaims$Parser" (166 : Nat)) (Term.string "CaptainClaimsModel" (234 : Nat))))).symm)) <|
  q_al.c (q_ltR hn hts hw1 hwo (a := 134) rfl (C := "java/lang/String") ⟨[true, true, false, true, false, false, true, false, true, true, true, false], rfl⟩ q_w2905 ((q_in_eq hn (⟨[true, true, true, true, false, false, true, false, true, true, false], rfl⟩ : q_in (.eq (Term.string "CaptainClaims$Parser" (168 : Nat)) (Term.string "CaptainClaimsModel" (236 : Nat))))).symm)) <|
  q_al.c (q_ltR hn hts hw1 hwo (a := 136) rfl (C := "java/lang/String") ⟨[true, true, false, true, false, false, true, true, true, false, true, false], rfl⟩ q_w2906 ((q_in_eq hn (⟨[true, true, true, true, false, true, false, false, false, false, true], rfl⟩ : q_in (.eq (Term.string "CaptainClaims$Parser" (170 : Nat)) (Term.string "CaptainClaimsModel" (238 : Nat))))).symm)) <|
  q_al.c (q_ltR hn hts hw1 hwo (a := 138) rfl (C := "java/lang/String") ⟨[true, true, false, true, false, true, false, false, false, true, true, false], rfl⟩ q_w2907 ((q_in_eq hn (⟨[true, true, true, true, false, true, false, true, true, true, true, false], rfl⟩ : q_in (.eq (Term.string "CaptainClaims$Parser" (172 : Nat)) (Term.string "CaptainClaimsModel" (240 : Nat))))).symm)) <|
  q_al.c (q_ltR hn hts hw1 hwo (a := 118) rfl (C := "java/lang/String") ⟨[true, true, false, false, true, true, false, false, false, false, true, true], rfl⟩ q_w2932 ((q_in_eq hn (⟨[true, true, true, true, false, true, true, true, false, true, false], rfl⟩ : q_in (.eq (Term.string "CaptainClaims$Parser" (319 : Nat)) (Term.string "CaptainClaimsModel" (285 : Nat))))).symm)) <|
  q_al.c (q_ltR hn hts hw1 hwo (a := 120) rfl (C := "java/lang/String") ⟨[true, true, false, false, true, true, false, true, false, false, false], rfl⟩ q_w2933 ((q_in_eq hn (⟨[true, true, true, true, true, false, false, false, true, false, true], rfl⟩ : q_in (.eq (Term.string "CaptainClaims$Parser" (321 : Nat)) (Term.string "CaptainClaimsModel" (287 : Nat))))).symm)) <|
  q_al.n
def q_txs : List (Nat × List Int32) := [(100, q_bt101), (102, q_bt103), (104, q_bt105), (106, q_bt107), (108, q_bt109), (110, q_bt111), (112, q_bt113), (114, q_bt115), (116, q_bt117), (118, q_bt119), (120, q_bt121), (122, q_bt123), (124, q_bt125), (126, q_bt127), (128, q_bt129), (130, q_bt131), (132, q_bt133), (134, q_bt135), (136, q_bt137), (138, q_bt139), (140, q_bt141), (142, q_bt143)]
def q_kindP (x : Nat × Term) : Prop := q_cmb x.1 = true → (∃ C : String, q_in (.exactly x.2 C) ∧ C ≠ "java/lang/String" ∧ x.1 ≤ 12) ∨ (∃ L : List Int32, q_in (.exactly x.2 "java/lang/String") ∧ q_in (.eq (.length (.field x.2 "java/lang/String" "value" "[B")) (.int (Int32.ofNat L.length))) ∧ q_inEl (.field x.2 "java/lang/String" "value" "[B") 0 L ∧ q_txs.lookup x.1 = some L)
theorem q_kinds : q_al q_kindP q_tmT :=
  q_al.c (fun _ => Or.inl ⟨"CaptainClaims$Mark", ⟨[true, false, false, true, false, false, true, true, true, true, false, false], rfl⟩, by decide, by decide⟩) <|
  q_al.c (fun _ => Or.inl ⟨"CaptainClaims$Mark", ⟨[true, false, false, true, false, true, true, false, false, false, true, false], rfl⟩, by decide, by decide⟩) <|
  q_al.c (fun _ => Or.inl ⟨"CaptainClaims$Mark", ⟨[true, false, false, true, false, true, false, true, false, false, true, true], rfl⟩, by decide, by decide⟩) <|
  q_al.c (fun _ => Or.inl ⟨"CaptainClaims$Declaration", ⟨[true, false, false, true, false, true, false, false, false, true, true, true], rfl⟩, by decide, by decide⟩) <|
  q_al.c (fun _ => Or.inl ⟨"CaptainClaims$Declaration", ⟨[true, false, false, true, false, true, true, true, true, false, false], rfl⟩, by decide, by decide⟩) <|
  q_al.c (fun _ => Or.inl ⟨"CaptainClaims$Declaration", ⟨[true, false, false, true, true, false, false, false, false, true, true, true], rfl⟩, by decide, by decide⟩) <|
  q_al.c (fun _ => Or.inl ⟨"CaptainClaims$Token", ⟨[true, false, false, false, false, false, false, false, false, true, true, false], rfl⟩, by decide, by decide⟩) <|
  q_al.c (fun _ => Or.inl ⟨"CaptainClaims$Token", ⟨[true, false, false, false, false, false, false, false, true, false, false], rfl⟩, by decide, by decide⟩) <|
  q_al.c (fun _ => Or.inl ⟨"CaptainClaims$Token", ⟨[true, false, false, true, false, false, false, true, true, false, true, true], rfl⟩, by decide, by decide⟩) <|
  q_al.c (fun _ => Or.inl ⟨"CaptainClaims$Token", ⟨[true, false, false, true, false, false, false, true, true, true, true, true], rfl⟩, by decide, by decide⟩) <|
  q_al.c (fun _ => Or.inl ⟨"CaptainClaims$Token", ⟨[true, false, false, true, false, false, true, false, false, true, true, false], rfl⟩, by decide, by decide⟩) <|
  q_al.c (fun _ => Or.inl ⟨"CaptainClaims$Token", ⟨[true, false, false, true, false, false, true, false, true, true, true, false], rfl⟩, by decide, by decide⟩) <|
  q_al.c (fun h => nomatch h) <|
  q_al.c (fun h => nomatch h) <|
  q_al.c (fun _ => Or.inr ⟨q_bt101, ⟨[true, true, false, false, false, false, false, true, true, false, true, true], rfl⟩, (⟨[true, true, false, false, false, false, false, true, true, true, true, false], rfl⟩ : q_in (.eq (.length (Term.field (Term.string "CaptainClaims" (48 : Nat)) "java/lang/String" "value" "[B")) (.int (0 : Int32)))), q_bt101_el, rfl⟩) <|
  q_al.c (fun h => nomatch h) <|
  q_al.c (fun _ => Or.inr ⟨q_bt103, ⟨[true, true, false, false, false, false, true, false, true, false, true, true], rfl⟩, (⟨[true, true, false, false, false, false, true, false, true, true, true, true], rfl⟩ : q_in (.eq (.length (Term.field (Term.string "java/util/Arrays" (337 : Nat)) "java/lang/String" "value" "[B")) (.int (3 : Int32)))), q_bt103_el, rfl⟩) <|
  q_al.c (fun h => nomatch h) <|
  q_al.c (fun _ => Or.inr ⟨q_bt105, ⟨[true, true, false, false, false, false, true, true, false, true, true, true], rfl⟩, (⟨[true, true, false, false, false, false, true, true, true, false, true, true], rfl⟩ : q_in (.eq (.length (Term.field (Term.string "CaptainClaims$Parser" (346 : Nat)) "java/lang/String" "value" "[B")) (.int (3 : Int32)))), q_bt105_el, rfl⟩) <|
  q_al.c (fun h => nomatch h) <|
  q_al.c (fun _ => Or.inr ⟨q_bt107, ⟨[true, true, false, false, false, true, false, false, false, false, true, false], rfl⟩, (⟨[true, true, false, false, false, true, false, false, false, true, true, false], rfl⟩ : q_in (.eq (.length (Term.field (Term.string "java/util/ArrayList" (23 : Nat)) "java/lang/String" "value" "[B")) (.int (18 : Int32)))), q_bt107_el, rfl⟩) <|
  q_al.c (fun h => nomatch h) <|
  q_al.c (fun _ => Or.inr ⟨q_bt109, ⟨[true, true, false, false, false, true, true, false, false, false, false], rfl⟩, (⟨[true, true, false, false, false, true, true, false, false, true, false], rfl⟩ : q_in (.eq (.length (Term.field (Term.string "jdk/internal/util/ArraysSupport" (92 : Nat)) "java/lang/String" "value" "[B")) (.int (25 : Int32)))), q_bt109_el, rfl⟩) <|
  q_al.c (fun h => nomatch h) <|
  q_al.c (fun _ => Or.inr ⟨q_bt111, ⟨[true, true, false, false, true, false, false, false, true, false, false], rfl⟩, (⟨[true, true, false, false, true, false, false, false, true, true, false], rfl⟩ : q_in (.eq (.length (Term.field (Term.string "CaptainClaims$Parser" (310 : Nat)) "java/lang/String" "value" "[B")) (.int (7 : Int32)))), q_bt111_el, rfl⟩) <|
  q_al.c (fun h => nomatch h) <|
  q_al.c (fun _ => Or.inr ⟨q_bt113, ⟨[true, true, false, false, true, false, false, true, true, false, true, false], rfl⟩, (⟨[true, true, false, false, true, false, false, true, true, true, false, true], rfl⟩ : q_in (.eq (.length (Term.field (Term.string "CaptainClaims$Parser" (311 : Nat)) "java/lang/String" "value" "[B")) (.int (4 : Int32)))), q_bt113_el, rfl⟩) <|
  q_al.c (fun h => nomatch h) <|
  q_al.c (fun _ => Or.inr ⟨q_bt115, ⟨[true, true, false, false, true, false, true, false, false, true, true, false], rfl⟩, (⟨[true, true, false, false, true, false, true, false, true, false, true, false], rfl⟩ : q_in (.eq (.length (Term.field (Term.string "CaptainClaims$Parser" (317 : Nat)) "java/lang/String" "value" "[B")) (.int (5 : Int32)))), q_bt115_el, rfl⟩) <|
  q_al.c (fun h => nomatch h) <|
  q_al.c (fun _ => Or.inr ⟨q_bt117, ⟨[true, true, false, false, true, false, true, true, false, true, false], rfl⟩, (⟨[true, true, false, false, true, false, true, true, true, false, false], rfl⟩ : q_in (.eq (.length (Term.field (Term.string "CaptainClaims$Parser" (166 : Nat)) "java/lang/String" "value" "[B")) (.int (6 : Int32)))), q_bt117_el, rfl⟩) <|
  q_al.c (fun h => nomatch h) <|
  q_al.c (fun _ => Or.inr ⟨q_bt119, ⟨[true, true, false, false, true, true, false, false, false, false, true, true], rfl⟩, (⟨[true, true, false, false, true, true, false, false, false, true, true, true], rfl⟩ : q_in (.eq (.length (Term.field (Term.string "CaptainClaims$Parser" (319 : Nat)) "java/lang/String" "value" "[B")) (.int (4 : Int32)))), q_bt119_el, rfl⟩) <|
  q_al.c (fun h => nomatch h) <|
  q_al.c (fun _ => Or.inr ⟨q_bt121, ⟨[true, true, false, false, true, true, false, true, false, false, false], rfl⟩, (⟨[true, true, false, false, true, true, false, true, false, true, false], rfl⟩ : q_in (.eq (.length (Term.field (Term.string "CaptainClaims$Parser" (321 : Nat)) "java/lang/String" "value" "[B")) (.int (5 : Int32)))), q_bt121_el, rfl⟩) <|
  q_al.c (fun h => nomatch h) <|
  q_al.c (fun _ => Or.inr ⟨q_bt123, ⟨[true, true, false, false, true, true, false, true, true, true, true, false], rfl⟩, (⟨[true, true, false, false, true, true, true, false, false, false, true, false], rfl⟩ : q_in (.eq (.length (Term.field (Term.string "CaptainClaims$Parser" (151 : Nat)) "java/lang/String" "value" "[B")) (.int (3 : Int32)))), q_bt123_el, rfl⟩) <|
  q_al.c (fun h => nomatch h) <|
  q_al.c (fun _ => Or.inr ⟨q_bt125, ⟨[true, true, false, false, true, true, true, false, true, false, true, false], rfl⟩, (⟨[true, true, false, false, true, true, true, false, true, true, true, false], rfl⟩ : q_in (.eq (.length (Term.field (Term.string "CaptainClaims$Parser" (157 : Nat)) "java/lang/String" "value" "[B")) (.int (6 : Int32)))), q_bt125_el, rfl⟩) <|
  q_al.c (fun h => nomatch h) <|
  q_al.c (fun _ => Or.inr ⟨q_bt127, ⟨[true, true, false, false, true, true, true, true, true, false, true, false], rfl⟩, (⟨[true, true, false, false, true, true, true, true, true, true, false, true], rfl⟩ : q_in (.eq (.length (Term.field (Term.string "CaptainClaims$Parser" (159 : Nat)) "java/lang/String" "value" "[B")) (.int (4 : Int32)))), q_bt127_el, rfl⟩) <|
  q_al.c (fun h => nomatch h) <|
  q_al.c (fun _ => Or.inr ⟨q_bt129, ⟨[true, true, false, true, false, false, false, false, false, true, true, false], rfl⟩, (⟨[true, true, false, true, false, false, false, false, true, false, true, false], rfl⟩ : q_in (.eq (.length (Term.field (Term.string "CaptainClaims$Parser" (161 : Nat)) "java/lang/String" "value" "[B")) (.int (4 : Int32)))), q_bt129_el, rfl⟩) <|
  q_al.c (fun h => nomatch h) <|
  q_al.c (fun _ => Or.inr ⟨q_bt131, ⟨[true, true, false, true, false, false, false, true, false, false, true, true], rfl⟩, (⟨[true, true, false, true, false, false, false, true, false, true, true, true], rfl⟩ : q_in (.eq (.length (Term.field (Term.string "CaptainClaims$Parser" (162 : Nat)) "java/lang/String" "value" "[B")) (.int (5 : Int32)))), q_bt131_el, rfl⟩) <|
  q_al.c (fun h => nomatch h) <|
  q_al.c (fun _ => Or.inr ⟨q_bt133, ⟨[true, true, false, true, false, false, true, false, false, false, false], rfl⟩, (⟨[true, true, false, true, false, false, true, false, false, true, false], rfl⟩ : q_in (.eq (.length (Term.field (Term.string "CaptainClaims$Parser" (164 : Nat)) "java/lang/String" "value" "[B")) (.int (4 : Int32)))), q_bt133_el, rfl⟩) <|
  q_al.c (fun h => nomatch h) <|
  q_al.c (fun _ => Or.inr ⟨q_bt135, ⟨[true, true, false, true, false, false, true, false, true, true, true, false], rfl⟩, (⟨[true, true, false, true, false, false, true, true, false, false, true, false], rfl⟩ : q_in (.eq (.length (Term.field (Term.string "CaptainClaims$Parser" (168 : Nat)) "java/lang/String" "value" "[B")) (.int (3 : Int32)))), q_bt135_el, rfl⟩) <|
  q_al.c (fun h => nomatch h) <|
  q_al.c (fun _ => Or.inr ⟨q_bt137, ⟨[true, true, false, true, false, false, true, true, true, false, true, false], rfl⟩, (⟨[true, true, false, true, false, false, true, true, true, true, false, true], rfl⟩ : q_in (.eq (.length (Term.field (Term.string "CaptainClaims$Parser" (170 : Nat)) "java/lang/String" "value" "[B")) (.int (4 : Int32)))), q_bt137_el, rfl⟩) <|
  q_al.c (fun h => nomatch h) <|
  q_al.c (fun _ => Or.inr ⟨q_bt139, ⟨[true, true, false, true, false, true, false, false, false, true, true, false], rfl⟩, (⟨[true, true, false, true, false, true, false, false, true, false, true, false], rfl⟩ : q_in (.eq (.length (Term.field (Term.string "CaptainClaims$Parser" (172 : Nat)) "java/lang/String" "value" "[B")) (.int (6 : Int32)))), q_bt139_el, rfl⟩) <|
  q_al.c (fun h => nomatch h) <|
  q_al.c (fun _ => Or.inr ⟨q_bt141, ⟨[true, true, false, true, true, false, true, false, true, true, false], rfl⟩, (⟨[true, true, false, true, true, false, true, true, false, false, false], rfl⟩ : q_in (.eq (.length (Term.field (Term.string "CaptainClaims" (352 : Nat)) "java/lang/String" "value" "[B")) (.int (2 : Int32)))), q_bt141_el, rfl⟩) <|
  q_al.c (fun h => nomatch h) <|
  q_al.c (fun _ => Or.inr ⟨q_bt143, ⟨[true, true, false, true, true, true, true, true, false, false, true, true], rfl⟩, (⟨[true, true, false, true, true, true, true, true, false, true, true, true], rfl⟩ : q_in (.eq (.length (Term.field (Term.string "java/util/ArrayDeque" (35 : Nat)) "java/lang/String" "value" "[B")) (.int (20 : Int32)))), q_bt143_el, rfl⟩) <|
  q_al.c (fun h => nomatch h) <|
  q_al.c (fun h => nomatch h) <|
  q_al.c (fun h => nomatch h) <|
  q_al.c (fun h => nomatch h) <|
  q_al.c (fun h => nomatch h) <|
  q_al.c (fun h => nomatch h) <|
  q_al.c (fun h => nomatch h) <|
  q_al.n
def q_prs : List ((Nat × Term) × (Nat × Term)) := (q_tmT.filter fun x => decide (x.1 ≤ 12)).flatMap fun x => ((q_tmT.filter fun x => decide (x.1 ≤ 12)).filter fun y => decide (x.1 < y.1)).map fun y => (x, y)
theorem q_pr_mem {x y : Nat × Term} (hx : x ∈ q_tmT) (hy : y ∈ q_tmT) (h1 : x.1 ≤ 12) (h2 : y.1 ≤ 12) (h : x.1 < y.1) : (x, y) ∈ q_prs :=
  List.mem_flatMap.mpr ⟨x, List.mem_filter.mpr ⟨hx, decide_eq_true h1⟩, List.mem_map.mpr ⟨y, List.mem_filter.mpr ⟨List.mem_filter.mpr ⟨hy, decide_eq_true h2⟩, decide_eq_true h⟩, rfl⟩⟩
theorem q_pairs : q_al (fun x : (Nat × Term) × (Nat × Term) => q_in (.not (.eq x.1.2 x.2.2)) ∨ q_in (.not (.eq x.2.2 x.1.2))) q_prs :=
  (show q_prs = [((1, (Term.static "CaptainClaims$Mark" "UNKNOWN" "LCaptainClaims$Mark;")), (2, (Term.static "CaptainClaims$Mark" "SEA" "LCaptainClaims$Mark;"))), ((1, (Term.static "CaptainClaims$Mark" "UNKNOWN" "LCaptainClaims$Mark;")), (3, (Term.static "CaptainClaims$Mark" "LAND" "LCaptainClaims$Mark;"))), ((1, (Term.static "CaptainClaims$Mark" "UNKNOWN" "LCaptainClaims$Mark;")), (4, (Term.static "CaptainClaims$Declaration" "NO" "LCaptainClaims$Declaration;"))), ((1, (Term.static "CaptainClaims$Mark" "UNKNOWN" "LCaptainClaims$Mark;")), (5, (Term.static "CaptainClaims$Declaration" "TRUTHFUL" "LCaptainClaims$Declaration;"))), ((1, (Term.static "CaptainClaims$Mark" "UNKNOWN" "LCaptainClaims$Mark;")), (6, (Term.static "CaptainClaims$Declaration" "LIAR" "LCaptainClaims$Declaration;"))), ((1, (Term.static "CaptainClaims$Mark" "UNKNOWN" "LCaptainClaims$Mark;")), (7, (Term.static "CaptainClaims$Token" "INVALID" "LCaptainClaims$Token;"))), ((1, (Term.static "CaptainClaims$Mark" "UNKNOWN" "LCaptainClaims$Mark;")), (8, (Term.static "CaptainClaims$Token" "END" "LCaptainClaims$Token;"))), ((1, (Term.static "CaptainClaims$Mark" "UNKNOWN" "LCaptainClaims$Mark;")), (9, (Term.static "CaptainClaims$Token" "WORD" "LCaptainClaims$Token;"))), ((1, (Term.static "CaptainClaims$Mark" "UNKNOWN" "LCaptainClaims$Mark;")), (10, (Term.static "CaptainClaims$Token" "NUMBER" "LCaptainClaims$Token;"))), ((1, (Term.static "CaptainClaims$Mark" "UNKNOWN" "LCaptainClaims$Mark;")), (11, (Term.static "CaptainClaims$Token" "MARKS" "LCaptainClaims$Token;"))), ((1, (Term.static "CaptainClaims$Mark" "UNKNOWN" "LCaptainClaims$Mark;")), (12, (Term.static "CaptainClaims$Token" "LINE_END" "LCaptainClaims$Token;"))), ((2, (Term.static "CaptainClaims$Mark" "SEA" "LCaptainClaims$Mark;")), (3, (Term.static "CaptainClaims$Mark" "LAND" "LCaptainClaims$Mark;"))), ((2, (Term.static "CaptainClaims$Mark" "SEA" "LCaptainClaims$Mark;")), (4, (Term.static "CaptainClaims$Declaration" "NO" "LCaptainClaims$Declaration;"))), ((2, (Term.static "CaptainClaims$Mark" "SEA" "LCaptainClaims$Mark;")), (5, (Term.static "CaptainClaims$Declaration" "TRUTHFUL" "LCaptainClaims$Declaration;"))), ((2, (Term.static "CaptainClaims$Mark" "SEA" "LCaptainClaims$Mark;")), (6, (Term.static "CaptainClaims$Declaration" "LIAR" "LCaptainClaims$Declaration;"))), ((2, (Term.static "CaptainClaims$Mark" "SEA" "LCaptainClaims$Mark;")), (7, (Term.static "CaptainClaims$Token" "INVALID" "LCaptainClaims$Token;"))), ((2, (Term.static "CaptainClaims$Mark" "SEA" "LCaptainClaims$Mark;")), (8, (Term.static "CaptainClaims$Token" "END" "LCaptainClaims$Token;"))), ((2, (Term.static "CaptainClaims$Mark" "SEA" "LCaptainClaims$Mark;")), (9, (Term.static "CaptainClaims$Token" "WORD" "LCaptainClaims$Token;"))), ((2, (Term.static "CaptainClaims$Mark" "SEA" "LCaptainClaims$Mark;")), (10, (Term.static "CaptainClaims$Token" "NUMBER" "LCaptainClaims$Token;"))), ((2, (Term.static "CaptainClaims$Mark" "SEA" "LCaptainClaims$Mark;")), (11, (Term.static "CaptainClaims$Token" "MARKS" "LCaptainClaims$Token;"))), ((2, (Term.static "CaptainClaims$Mark" "SEA" "LCaptainClaims$Mark;")), (12, (Term.static "CaptainClaims$Token" "LINE_END" "LCaptainClaims$Token;"))), ((3, (Term.static "CaptainClaims$Mark" "LAND" "LCaptainClaims$Mark;")), (4, (Term.static "CaptainClaims$Declaration" "NO" "LCaptainClaims$Declaration;"))), ((3, (Term.static "CaptainClaims$Mark" "LAND" "LCaptainClaims$Mark;")), (5, (Term.static "CaptainClaims$Declaration" "TRUTHFUL" "LCaptainClaims$Declaration;"))), ((3, (Term.static "CaptainClaims$Mark" "LAND" "LCaptainClaims$Mark;")), (6, (Term.static "CaptainClaims$Declaration" "LIAR" "LCaptainClaims$Declaration;"))), ((3, (Term.static "CaptainClaims$Mark" "LAND" "LCaptainClaims$Mark;")), (7, (Term.static "CaptainClaims$Token" "INVALID" "LCaptainClaims$Token;"))), ((3, (Term.static "CaptainClaims$Mark" "LAND" "LCaptainClaims$Mark;")), (8, (Term.static "CaptainClaims$Token" "END" "LCaptainClaims$Token;"))), ((3, (Term.static "CaptainClaims$Mark" "LAND" "LCaptainClaims$Mark;")), (9, (Term.static "CaptainClaims$Token" "WORD" "LCaptainClaims$Token;"))), ((3, (Term.static "CaptainClaims$Mark" "LAND" "LCaptainClaims$Mark;")), (10, (Term.static "CaptainClaims$Token" "NUMBER" "LCaptainClaims$Token;"))), ((3, (Term.static "CaptainClaims$Mark" "LAND" "LCaptainClaims$Mark;")), (11, (Term.static "CaptainClaims$Token" "MARKS" "LCaptainClaims$Token;"))), ((3, (Term.static "CaptainClaims$Mark" "LAND" "LCaptainClaims$Mark;")), (12, (Term.static "CaptainClaims$Token" "LINE_END" "LCaptainClaims$Token;"))), ((4, (Term.static "CaptainClaims$Declaration" "NO" "LCaptainClaims$Declaration;")), (5, (Term.static "CaptainClaims$Declaration" "TRUTHFUL" "LCaptainClaims$Declaration;"))), ((4, (Term.static "CaptainClaims$Declaration" "NO" "LCaptainClaims$Declaration;")), (6, (Term.static "CaptainClaims$Declaration" "LIAR" "LCaptainClaims$Declaration;"))), ((4, (Term.static "CaptainClaims$Declaration" "NO" "LCaptainClaims$Declaration;")), (7, (Term.static "CaptainClaims$Token" "INVALID" "LCaptainClaims$Token;"))), ((4, (Term.static "CaptainClaims$Declaration" "NO" "LCaptainClaims$Declaration;")), (8, (Term.static "CaptainClaims$Token" "END" "LCaptainClaims$Token;"))), ((4, (Term.static "CaptainClaims$Declaration" "NO" "LCaptainClaims$Declaration;")), (9, (Term.static "CaptainClaims$Token" "WORD" "LCaptainClaims$Token;"))), ((4, (Term.static "CaptainClaims$Declaration" "NO" "LCaptainClaims$Declaration;")), (10, (Term.static "CaptainClaims$Token" "NUMBER" "LCaptainClaims$Token;"))), ((4, (Term.static "CaptainClaims$Declaration" "NO" "LCaptainClaims$Declaration;")), (11, (Term.static "CaptainClaims$Token" "MARKS" "LCaptainClaims$Token;"))), ((4, (Term.static "CaptainClaims$Declaration" "NO" "LCaptainClaims$Declaration;")), (12, (Term.static "CaptainClaims$Token" "LINE_END" "LCaptainClaims$Token;"))), ((5, (Term.static "CaptainClaims$Declaration" "TRUTHFUL" "LCaptainClaims$Declaration;")), (6, (Term.static "CaptainClaims$Declaration" "LIAR" "LCaptainClaims$Declaration;"))), ((5, (Term.static "CaptainClaims$Declaration" "TRUTHFUL" "LCaptainClaims$Declaration;")), (7, (Term.static "CaptainClaims$Token" "INVALID" "LCaptainClaims$Token;"))), ((5, (Term.static "CaptainClaims$Declaration" "TRUTHFUL" "LCaptainClaims$Declaration;")), (8, (Term.static "CaptainClaims$Token" "END" "LCaptainClaims$Token;"))), ((5, (Term.static "CaptainClaims$Declaration" "TRUTHFUL" "LCaptainClaims$Declaration;")), (9, (Term.static "CaptainClaims$Token" "WORD" "LCaptainClaims$Token;"))), ((5, (Term.static "CaptainClaims$Declaration" "TRUTHFUL" "LCaptainClaims$Declaration;")), (10, (Term.static "CaptainClaims$Token" "NUMBER" "LCaptainClaims$Token;"))), ((5, (Term.static "CaptainClaims$Declaration" "TRUTHFUL" "LCaptainClaims$Declaration;")), (11, (Term.static "CaptainClaims$Token" "MARKS" "LCaptainClaims$Token;"))), ((5, (Term.static "CaptainClaims$Declaration" "TRUTHFUL" "LCaptainClaims$Declaration;")), (12, (Term.static "CaptainClaims$Token" "LINE_END" "LCaptainClaims$Token;"))), ((6, (Term.static "CaptainClaims$Declaration" "LIAR" "LCaptainClaims$Declaration;")), (7, (Term.static "CaptainClaims$Token" "INVALID" "LCaptainClaims$Token;"))), ((6, (Term.static "CaptainClaims$Declaration" "LIAR" "LCaptainClaims$Declaration;")), (8, (Term.static "CaptainClaims$Token" "END" "LCaptainClaims$Token;"))), ((6, (Term.static "CaptainClaims$Declaration" "LIAR" "LCaptainClaims$Declaration;")), (9, (Term.static "CaptainClaims$Token" "WORD" "LCaptainClaims$Token;"))), ((6, (Term.static "CaptainClaims$Declaration" "LIAR" "LCaptainClaims$Declaration;")), (10, (Term.static "CaptainClaims$Token" "NUMBER" "LCaptainClaims$Token;"))), ((6, (Term.static "CaptainClaims$Declaration" "LIAR" "LCaptainClaims$Declaration;")), (11, (Term.static "CaptainClaims$Token" "MARKS" "LCaptainClaims$Token;"))), ((6, (Term.static "CaptainClaims$Declaration" "LIAR" "LCaptainClaims$Declaration;")), (12, (Term.static "CaptainClaims$Token" "LINE_END" "LCaptainClaims$Token;"))), ((7, (Term.static "CaptainClaims$Token" "INVALID" "LCaptainClaims$Token;")), (8, (Term.static "CaptainClaims$Token" "END" "LCaptainClaims$Token;"))), ((7, (Term.static "CaptainClaims$Token" "INVALID" "LCaptainClaims$Token;")), (9, (Term.static "CaptainClaims$Token" "WORD" "LCaptainClaims$Token;"))), ((7, (Term.static "CaptainClaims$Token" "INVALID" "LCaptainClaims$Token;")), (10, (Term.static "CaptainClaims$Token" "NUMBER" "LCaptainClaims$Token;"))), ((7, (Term.static "CaptainClaims$Token" "INVALID" "LCaptainClaims$Token;")), (11, (Term.static "CaptainClaims$Token" "MARKS" "LCaptainClaims$Token;"))), ((7, (Term.static "CaptainClaims$Token" "INVALID" "LCaptainClaims$Token;")), (12, (Term.static "CaptainClaims$Token" "LINE_END" "LCaptainClaims$Token;"))), ((8, (Term.static "CaptainClaims$Token" "END" "LCaptainClaims$Token;")), (9, (Term.static "CaptainClaims$Token" "WORD" "LCaptainClaims$Token;"))), ((8, (Term.static "CaptainClaims$Token" "END" "LCaptainClaims$Token;")), (10, (Term.static "CaptainClaims$Token" "NUMBER" "LCaptainClaims$Token;"))), ((8, (Term.static "CaptainClaims$Token" "END" "LCaptainClaims$Token;")), (11, (Term.static "CaptainClaims$Token" "MARKS" "LCaptainClaims$Token;"))), ((8, (Term.static "CaptainClaims$Token" "END" "LCaptainClaims$Token;")), (12, (Term.static "CaptainClaims$Token" "LINE_END" "LCaptainClaims$Token;"))), ((9, (Term.static "CaptainClaims$Token" "WORD" "LCaptainClaims$Token;")), (10, (Term.static "CaptainClaims$Token" "NUMBER" "LCaptainClaims$Token;"))), ((9, (Term.static "CaptainClaims$Token" "WORD" "LCaptainClaims$Token;")), (11, (Term.static "CaptainClaims$Token" "MARKS" "LCaptainClaims$Token;"))), ((9, (Term.static "CaptainClaims$Token" "WORD" "LCaptainClaims$Token;")), (12, (Term.static "CaptainClaims$Token" "LINE_END" "LCaptainClaims$Token;"))), ((10, (Term.static "CaptainClaims$Token" "NUMBER" "LCaptainClaims$Token;")), (11, (Term.static "CaptainClaims$Token" "MARKS" "LCaptainClaims$Token;"))), ((10, (Term.static "CaptainClaims$Token" "NUMBER" "LCaptainClaims$Token;")), (12, (Term.static "CaptainClaims$Token" "LINE_END" "LCaptainClaims$Token;"))), ((11, (Term.static "CaptainClaims$Token" "MARKS" "LCaptainClaims$Token;")), (12, (Term.static "CaptainClaims$Token" "LINE_END" "LCaptainClaims$Token;")))] from rfl) ▸ (
  q_al.c (Or.inl ⟨[true, false, false, true, false, true, true, false, true, true, true, false], rfl⟩) <|
  q_al.c (Or.inl ⟨[true, false, false, true, false, true, false, true, true, true, true, false], rfl⟩) <|
  q_al.c (Or.inl ⟨[true, false, false, true, false, true, false, true, false, false, true, false], rfl⟩) <|
  q_al.c (Or.inl ⟨[true, false, false, true, true, false, false, false, false, false, true, false], rfl⟩) <|
  q_al.c (Or.inl ⟨[true, false, false, true, true, false, false, true, false, false, true, false], rfl⟩) <|
  q_al.c (Or.inr ⟨[true, false, false, true, false, false, true, true, true, true, true, true], rfl⟩) <|
  q_al.c (Or.inr ⟨[true, false, false, true, false, true, false, false, false, false, false], rfl⟩) <|
  q_al.c (Or.inr ⟨[true, false, false, true, false, true, false, false, false, false, true, false], rfl⟩) <|
  q_al.c (Or.inr ⟨[true, false, false, true, false, true, false, false, false, false, true, true], rfl⟩) <|
  q_al.c (Or.inr ⟨[true, false, false, true, false, true, false, false, false, true, false], rfl⟩) <|
  q_al.c (Or.inr ⟨[true, false, false, true, false, true, false, false, false, true, true, false], rfl⟩) <|
  q_al.c (Or.inr ⟨[true, false, false, true, false, true, true, true, false, false, false], rfl⟩) <|
  q_al.c (Or.inr ⟨[true, false, false, true, false, true, true, false, true, true, true, true], rfl⟩) <|
  q_al.c (Or.inl ⟨[true, false, false, true, true, false, false, false, false, true, true, false], rfl⟩) <|
  q_al.c (Or.inl ⟨[true, false, false, true, true, false, false, true, false, true, true, false], rfl⟩) <|
  q_al.c (Or.inr ⟨[true, false, false, true, false, true, true, false, false, true, true, false], rfl⟩) <|
  q_al.c (Or.inr ⟨[true, false, false, true, false, true, true, false, false, true, true, true], rfl⟩) <|
  q_al.c (Or.inr ⟨[true, false, false, true, false, true, true, false, true, false, false], rfl⟩) <|
  q_al.c (Or.inr ⟨[true, false, false, true, false, true, true, false, true, false, true, false], rfl⟩) <|
  q_al.c (Or.inr ⟨[true, false, false, true, false, true, true, false, true, false, true, true], rfl⟩) <|
  q_al.c (Or.inr ⟨[true, false, false, true, false, true, true, false, true, true, false], rfl⟩) <|
  q_al.c (Or.inr ⟨[true, false, false, true, false, true, false, true, true, true, true, true], rfl⟩) <|
  q_al.c (Or.inl ⟨[true, false, false, true, true, false, false, false, false, true, false], rfl⟩) <|
  q_al.c (Or.inl ⟨[true, false, false, true, true, false, false, true, false, true, false], rfl⟩) <|
  q_al.c (Or.inr ⟨[true, false, false, true, false, true, false, true, false, true, true, true], rfl⟩) <|
  q_al.c (Or.inr ⟨[true, false, false, true, false, true, false, true, true, false, false], rfl⟩) <|
  q_al.c (Or.inr ⟨[true, false, false, true, false, true, false, true, true, false, true, false], rfl⟩) <|
  q_al.c (Or.inr ⟨[true, false, false, true, false, true, false, true, true, false, true, true], rfl⟩) <|
  q_al.c (Or.inr ⟨[true, false, false, true, false, true, false, true, true, true, false, false], rfl⟩) <|
  q_al.c (Or.inr ⟨[true, false, false, true, false, true, false, true, true, true, false, true], rfl⟩) <|
  q_al.c (Or.inl ⟨[true, false, false, true, true, false, false, false, false, false, true, true], rfl⟩) <|
  q_al.c (Or.inl ⟨[true, false, false, true, true, false, false, true, false, false, true, true], rfl⟩) <|
  q_al.c (Or.inr ⟨[true, false, false, true, false, true, false, false, true, false, true, false], rfl⟩) <|
  q_al.c (Or.inr ⟨[true, false, false, true, false, true, false, false, true, false, true, true], rfl⟩) <|
  q_al.c (Or.inr ⟨[true, false, false, true, false, true, false, false, true, true, false], rfl⟩) <|
  q_al.c (Or.inr ⟨[true, false, false, true, false, true, false, false, true, true, true, false], rfl⟩) <|
  q_al.c (Or.inr ⟨[true, false, false, true, false, true, false, false, true, true, true, true], rfl⟩) <|
  q_al.c (Or.inr ⟨[true, false, false, true, false, true, false, true, false, false, false], rfl⟩) <|
  q_al.c (Or.inl ⟨[true, false, false, true, true, false, false, true, false, true, true, true], rfl⟩) <|
  q_al.c (Or.inr ⟨[true, false, false, true, false, true, true, true, true, false, true, true], rfl⟩) <|
  q_al.c (Or.inr ⟨[true, false, false, true, false, true, true, true, true, true, false, false], rfl⟩) <|
  q_al.c (Or.inr ⟨[true, false, false, true, false, true, true, true, true, true, false, true], rfl⟩) <|
  q_al.c (Or.inr ⟨[true, false, false, true, false, true, true, true, true, true, true, false], rfl⟩) <|
  q_al.c (Or.inr ⟨[true, false, false, true, false, true, true, true, true, true, true, true], rfl⟩) <|
  q_al.c (Or.inr ⟨[true, false, false, true, true, false, false, false, false, false, false], rfl⟩) <|
  q_al.c (Or.inr ⟨[true, false, false, true, true, false, false, false, true, false, true, false], rfl⟩) <|
  q_al.c (Or.inr ⟨[true, false, false, true, true, false, false, false, true, false, true, true], rfl⟩) <|
  q_al.c (Or.inr ⟨[true, false, false, true, true, false, false, false, true, true, false], rfl⟩) <|
  q_al.c (Or.inr ⟨[true, false, false, true, true, false, false, false, true, true, true, false], rfl⟩) <|
  q_al.c (Or.inr ⟨[true, false, false, true, true, false, false, false, true, true, true, true], rfl⟩) <|
  q_al.c (Or.inr ⟨[true, false, false, true, true, false, false, true, false, false, false], rfl⟩) <|
  q_al.c (Or.inl ⟨[true, false, false, false, false, false, false, false, true, false, true, true], rfl⟩) <|
  q_al.c (Or.inl ⟨[true, false, false, true, false, false, false, true, true, true, false, true], rfl⟩) <|
  q_al.c (Or.inl ⟨[true, false, false, true, false, false, true, false, false, false, true, false], rfl⟩) <|
  q_al.c (Or.inl ⟨[true, false, false, true, false, false, true, false, true, false, false], rfl⟩) <|
  q_al.c (Or.inl ⟨[true, false, false, true, false, false, true, true, false, false, false], rfl⟩) <|
  q_al.c (Or.inl ⟨[true, false, false, true, false, false, false, true, true, true, true, false], rfl⟩) <|
  q_al.c (Or.inl ⟨[true, false, false, true, false, false, true, false, false, false, true, true], rfl⟩) <|
  q_al.c (Or.inl ⟨[true, false, false, true, false, false, true, false, true, false, true, false], rfl⟩) <|
  q_al.c (Or.inl ⟨[true, false, false, true, false, false, true, true, false, false, true, false], rfl⟩) <|
  q_al.c (Or.inl ⟨[true, false, false, true, false, false, true, false, false, true, false], rfl⟩) <|
  q_al.c (Or.inl ⟨[true, false, false, true, false, false, true, false, true, false, true, true], rfl⟩) <|
  q_al.c (Or.inl ⟨[true, false, false, true, false, false, true, true, false, false, true, true], rfl⟩) <|
  q_al.c (Or.inl ⟨[true, false, false, true, false, false, true, false, true, true, false], rfl⟩) <|
  q_al.c (Or.inl ⟨[true, false, false, true, false, false, true, true, false, true, false], rfl⟩) <|
  q_al.c (Or.inl ⟨[true, false, false, true, false, false, true, true, false, true, true, false], rfl⟩) <|
  q_al.n)
theorem q_insts : q_al (fun r : vw_C => ∃ n, Cond.instantiable r.1 n ∈ lw_all) q_cl := q_al.c (⟨_, q_w170⟩) <| q_al.c (⟨_, q_w178⟩) <| q_al.c (⟨_, q_w343⟩) <| q_al.c (⟨_, q_w382⟩) <| q_al.c (⟨_, q_w445⟩) <| q_al.c (⟨_, q_w753⟩) <| q_al.c (⟨_, q_w788⟩) <| q_al.c (⟨_, q_w794⟩) <| q_al.c (⟨_, q_w800⟩) <| q_al.c (⟨_, q_w1073⟩) <| q_al.c (⟨_, q_w1130⟩) <| q_al.c (⟨_, q_w1224⟩) <| q_al.c (⟨_, q_w1251⟩) <| q_al.c (⟨_, q_w1275⟩) <| q_al.c (⟨_, q_w1290⟩) <| q_al.c (⟨_, q_w1310⟩) <| q_al.c (⟨_, q_w1321⟩) <| q_al.c (⟨_, q_w1332⟩) <| q_al.c (⟨_, q_w1345⟩) <| q_al.c (⟨_, q_w1355⟩) <| q_al.c (⟨_, q_w1387⟩) <| q_al.c (⟨_, q_w1397⟩) <| q_al.c (⟨_, q_w1572⟩) <| q_al.c (⟨_, q_w1907⟩) <| q_al.c (⟨_, q_w2125⟩) <| q_al.c (⟨_, q_w2656⟩) <| q_al.c (⟨_, q_w361⟩) <| q_al.c (⟨_, q_w606⟩) <| q_al.c (⟨_, q_w1473⟩) <| q_al.n
theorem q_txs_ne : (q_txs.all fun x => q_txs.all fun y => x.1 == y.1 || !(x.2 == y.2)) = true := by decide +kernel
theorem q_txs_len : (q_txs.all fun x => decide (x.2.length < 1000)) = true := by decide +kernel
theorem q_evF {a0 : Array Value} {s : State} {t u : Term} (h : t.eval a0 s none [] s = u.eval a0 s none [] s) (o n d : String) : (Term.field t o n d).eval a0 s none [] s = (Term.field u o n d).eval a0 s none [] s := by
  simp only [Term.eval, h]
theorem q_evL {a0 : Array Value} {s : State} {t u : Term} (h : t.eval a0 s none [] s = u.eval a0 s none [] s) : (Term.length t).eval a0 s none [] s = (Term.length u).eval a0 s none [] s := by
  simp only [Term.eval, h]
theorem q_evE {a0 : Array Value} {s : State} {t u i : Term} (h : t.eval a0 s none [] s = u.eval a0 s none [] s) : (Term.elem t i).eval a0 s none [] s = (Term.elem u i).eval a0 s none [] s := by
  simp only [Term.eval, h]
theorem q_inj {a0 : Array Value} {s : State} (hn : (Cond.and given_1 narrow_1).before a0 s = true) {a b r : Nat} (ha : q_cmb a = true) (hb : q_cmb b = true) (h1 : q_tmO q_tm a0 s a = some r) (h2 : q_tmO q_tm a0 s b = some r) (hla : a < 1000) (hlb : b < 1000) : a = b := by
  obtain ⟨t, ht, het⟩ := q_tm_ev h1
  obtain ⟨u, hu, heu⟩ := q_tm_ev h2
  have hmem : ∀ {x : Nat} {y : Term}, q_cmb x = true → x < 1000 → q_tm x = some y → (x, y) ∈ q_tmT := by
    intro x y hx hx2 hy
    unfold q_tm at hy
    unfold q_cmb at hx
    rw [if_neg (by intro hc; simp only [decide_eq_true_eq] at hx; omega)] at hy
    exact q_lkG hy
  have hA := q_kinds.at (hmem ha hla ht) ha
  have hB := q_kinds.at (hmem hb hlb hu) hb
  have hcls : ∀ {C D : String}, q_in (.exactly t C) → q_in (.exactly u D) → C = D := by
    intro C D hC hD
    obtain ⟨r1, c1, cell1, k1, e1, f1, g1, m1, -, n1, -⟩ := Cond.exactly_spec (q_in_at hn hC)
    obtain ⟨r2, c2, cell2, k2, e2, f2, g2, m2, -, n2, -⟩ := Cond.exactly_spec (q_in_at hn hD)
    cases het.symm.trans e1
    cases heu.symm.trans e2
    cases g1.symm.trans g2
    obtain ⟨k3, p3, q3⟩ := Vm.findClass_spec f1
    obtain ⟨k4, p4, q4⟩ := Vm.findClass_spec f2
    rw [← n1] at p3
    rw [← n2] at p4
    cases p3.symm.trans p4
    exact q3.symm.trans q4
  rcases hA with ⟨C, hC, hCs, ha12⟩ | ⟨L, hC, hlen, hel, hlk⟩
  · rcases hB with ⟨D, hD, hDs, hb12⟩ | ⟨L2, hD, hlen2, hel2, hlk2⟩
    · rcases Nat.lt_trichotomy a b with h | h | h
      · rcases q_pairs.at (q_pr_mem (hmem ha hla ht) (hmem hb hlb hu) ha12 hb12 h) with h9 | h9
        · exact (q_in_ne hn h9 het heu).elim
        · exact (q_in_ne hn h9 heu het).elim
      · exact h
      · rcases q_pairs.at (q_pr_mem (hmem hb hlb hu) (hmem ha hla ht) hb12 ha12 h) with h9 | h9
        · exact (q_in_ne hn h9 heu het).elim
        · exact (q_in_ne hn h9 het heu).elim
    · exact absurd (hcls hC hD) hCs
  · rcases hB with ⟨D, hD, hDs, hb12⟩ | ⟨L2, hD, hlen2, hel2, hlk2⟩
    · exact absurd (hcls hC hD).symm hDs
    · have hev : t.eval a0 s none [] s = u.eval a0 s none [] s := het.trans heu.symm
      have hfv := q_evF hev "java/lang/String" "value" "[B"
      have m1 := q_lkG hlk
      have m2 := q_lkG hlk2
      have l1 : L.length < 1000 := of_decide_eq_true (List.all_eq_true.mp q_txs_len _ m1)
      have l2 : L2.length < 1000 := of_decide_eq_true (List.all_eq_true.mp q_txs_len _ m2)
      have hll : L.length = L2.length := by
        have e1 := q_in_int hn hlen
        have e2 := q_in_int hn hlen2
        rw [q_evL hfv, e2] at e1
        have e3 : Int32.ofNat L2.length = Int32.ofNat L.length := by
          have := Option.some.inj e1
          exact Value.int.inj this
        have e4 := congrArg Int32.toNatClampNeg e3
        rw [Int32.toNatClampNeg_ofNat_of_lt (by omega), Int32.toNatClampNeg_ofNat_of_lt (by omega)] at e4
        exact e4.symm
      have hLL : L = L2 := by
        refine List.ext_getElem hll fun j hj hj2 => ?_
        have e1 := q_inEl_at hel j hj
        have e2 := q_inEl_at hel2 j hj2
        have e1 := q_in_int hn e1
        have e2 := q_in_int hn e2
        rw [q_evE hfv, e2] at e1
        have := Value.int.inj (Option.some.inj e1)
        rw [List.getD_eq_getElem?_getD, List.getD_eq_getElem?_getD, List.getElem?_eq_getElem hj, List.getElem?_eq_getElem hj2] at this
        exact this.symm
      have h9 := List.all_eq_true.mp (List.all_eq_true.mp q_txs_ne _ m1) _ m2
      rw [Bool.or_eq_true] at h9
      rcases h9 with h9 | h9
      · exact eq_of_beq h9
      · rw [hLL] at h9
        simp at h9
theorem q_arP {s : State} {a0 : Array Value} {ty : FieldType} (h : (Cond.arrayClass ty).before a0 s = true) (hne : ∀ C, ty ≠ .object C) : ∃ cA, ArrOfT s cA ty ∧ va_RA s cA ty := by
  obtain ⟨c, k, comp, h1, h2, h3⟩ := Cond.arrayClass_spec h
  refine ⟨c, fun n z => ⟨(fun k q => nomatch q), k, h2, comp, h3⟩, ?_⟩
  cases ty with
  | object C => exact absurd rfl (hne C)
  | _ => exact h1
theorem q_arO {s : State} {a0 : Array Value} {C : String} (h : (Cond.arrayOver (.object C)).before a0 s = true) : ∃ cA, ArrOfT s cA (.object C) ∧ va_RA s cA (.object C) := by
  obtain ⟨comp, c, k, h1, -, h2, h3, h4⟩ := Cond.arrayOver_spec h
  exact ⟨c, fun n z => ⟨(fun k q => nomatch q), k, h2, comp, h3⟩, k, comp, h2, h3, h1, h4⟩
theorem q_arA {s : State} {a0 : Array Value} (hts : ∀ z ∈ lw_tbl, z.before a0 s = true) : ∀ t : Nat, ∃ cA, t < 9 → ArrOfT s cA (q_tag.getD t .int) ∧ va_RA s cA (q_tag.getD t .int) := by
  intro t
  by_cases ht : t < 9
  · have h : ∃ cA, ArrOfT s cA (q_tag.getD t .int) ∧ va_RA s cA (q_tag.getD t .int) := by
      match t, ht with
      | 0, _ => exact q_arP (hts _ (lw_all_tbl q_w237)) (fun C h => nomatch h)
      | 1, _ => exact q_arP (hts _ (lw_all_tbl q_w199)) (fun C h => nomatch h)
      | 2, _ => exact q_arP (hts _ (lw_all_tbl q_w944)) (fun C h => nomatch h)
      | 3, _ => exact q_arP (hts _ (lw_all_tbl q_w3304)) (fun C h => nomatch h)
      | 4, _ => exact q_arP (hts _ (lw_all_tbl q_w3305)) (fun C h => nomatch h)
      | 5, _ => exact q_arO (hts _ q_w188)
      | 6, _ => exact q_arO (hts _ q_w843)
      | 7, _ => exact q_arO (hts _ q_w841)
      | 8, _ => exact q_arO (hts _ q_w201)
      | t + 9, ht => omega
    obtain ⟨cA, h⟩ := h
    exact ⟨cA, fun _ => h⟩
  · exact ⟨0, fun h => absurd h ht⟩
theorem q_clA {s : State} {a0 : Array Value} (hts : ∀ z ∈ lw_tbl, z.before a0 s = true) : ∀ c : Nat, ∃ p : ClassId × (Nat → Nat), ∀ r : vw_C, q_cl[c]? = some r → u_Kn s r.1 r.2.1 r.2.2 p.1 p.2 := by
  intro c
  cases hr : q_cl[c]? with
  | none => exact ⟨(0, id), fun r h => by cases h⟩
  | some r =>
    obtain ⟨n, hn⟩ := q_insts.at (List.mem_of_getElem? hr)
    obtain ⟨cC, iS, hK⟩ := u_known (fun z hz => hts z (lw_all_tbl hz)) (q_laysOk_ok c r hr) (hts _ (lw_all_tbl hn))
    exact ⟨(cC, iS), fun r2 h => by cases h; exact hK⟩
