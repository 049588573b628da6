/-! the reference's islands -/
section
variable {d : Nat} {g : q_H} {M : tw_M}
theorem w254w {st : Int} (hr : ∀ i, z_R (M 2 i)) (h0 : 2 ≤ M 1 0 ∧ M 1 0 ≤ 8) (h1 : 2 ≤ M 1 1 ∧ M 1 1 ≤ 8) (hk : 0 ≤ M 0 10 ∧ M 0 10 < 64) : ∀ (n : Nat) (T z : Int) (X : sp_X) (l3 l4 l5 : Option Value), sp_iX (M 1 0 * M 1 1) (M 0 10) (M 2) T X → T ≤ n → T ≤ 64 → q_ev (d + 3, 254, 29, [some (.ref 1005), some (.int (z_i st)), some (.int (z_i X.2.2)), l3, l4, l5], [], q_tu g (tw_fm M z X)) = some (.inl none, q_tu g (tw_fm M (sp_fw (M 1 0) (M 1 1) (M 0 10) (M 2) n z X).1 (sp_fw (M 1 0) (M 1 1) (M 0 10) (M 2) n z X).2)) := by
  have hN := sp_N h0 h1
  intro n
  induction n with
  | zero =>
    intro T z X l3 l4 l5 hX hT hT2
    have hw : X.2.2 = 0 := by have := hX.1; have := hX.2.2.1; omega
    simp (disch := first | assumption | exact hr _ | exact hr1 _ | exact z_Rm (by omega) (by omega) | omega | exact tw_cls | exact z_k_int | exact z_k_ref | exact (show q_cat _ ≤ 8 from by with_unfolding_all exact Nat.le_of_ble_eq_true rfl) | exact z_01 _ | exact z_R01 _ | exact z_n0 | exact z_n1 | exact z_nb _ | exact z_ne0 (z_Rm (by omega) (by omega)) (by omega) | exact (show (_ ∨ 8 < Int32.toInt _) from Or.inr (by decide)) | (simp (disch := omega) only [tw_ua_s, tw_ua_j, tw_up_s, tw_up_j, tw_up_i, tw_up_x, sp_u_s, sp_u_i, sp_u_x] <;> (first | assumption | exact hr _ | exact z_Rm (by omega) (by omega) | omega)) | fail) only [e254_0, e254_1, e254_2, e254_2n, e254_3, e254_6, e254_7, e254_8, e254_9, e254_9n, e254_10, e254_13, e254_14, e254_14n, e254_15, e254_18, e254_19, e254_19n, e254_20, e254_23, e254_23n, e254_24, e254_27, e254_28, e254_29, e254_30, e254_33, e254_36, e254_36n, e254_37, e254_40, e254_41, e254_42, e254_43, e254_43n, e254_44, e254_47, e254_47n, e254_48, e254_51, e254_52, e254_53, e254_54, e254_55, e254_56, e254_57, e254_61, e254_62, e254_65, e254_65n, e254_66, e254_67, e254_69, e254_72, e254_74, e254_76, e254_77, e254_80, e254_80n, e254_81, e254_83, e254_84, e254_87, e254_90, e254_90n, e254_91, e254_94, e254_96, e254_97, e254_98, e254_101, e254_101n, e254_102, e254_105, e254_107, e254_107n, e254_108, e254_111, e254_112, e254_112n, e254_113, e254_116, e254_117, e254_119, e254_120, e254_123, e254_126, e254_129, e254_132, z_m1, tw_ua_S, tw_ua_J, z_bv_s, z_bi_s, z_bh_s, z_cl_v, z_cl_n, z_add, z_sub, z_mul, z_neg, z_lt, z_eq, z_dv, z_md, z_ifb, z_ifb1, z_lcl, z_lcg, tw_up_s, tw_up_j, tw_up_x, tw_up_i, tw_ua_s, tw_ua_j, tw_up_ua, tw_up_uj, sp_u_s, sp_u_x, sp_u_i, sp_uu, z_if_true, z_if_false, z_if_t, z_if_f, if_pos, if_neg, tw_g0, tw_g1, tw_g2, tw_g3, tw_g4, tw_g5, tw_g6, tw_g7, tw_g8, tw_g9, tw_g10, tw_g11, tw_g12, tw_g13, tw_g14, tw_g15, tw_g16, tw_g17, tw_g18, tw_g19, tw_g20, tw_g21, tw_g22, tw_g23, tw_g24, tw_g25, tw_g26, tw_g27, tw_p0, tw_p1, tw_p5, tw_p10, tw_p13, tw_p14, tw_p16, tw_p17, tw_p18, tw_p19, tw_p20, tw_p21, tw_p22, tw_p23, tw_p24, tw_p25, tw_p27, tw_r1, tw_r2, tw_r3, tw_r4, tw_r5, tw_r6, tw_r7, tw_r8, tw_r9, tw_r10, tw_r11, tw_w1, tw_w2, tw_w3, tw_w4, tw_w5, tw_w6, tw_w7, tw_w8, tw_w9, tw_w10, tw_w11]
    rfl
  | succ n ih =>
    intro T z X l3 l4 l5 hX hT hT2
    have hw1 := hX.1
    have hw2 := hX.2.2.1
    unfold sp_fw
    by_cases hw : 0 < X.2.2
    · rw [if_pos hw]
      have hc := hX.2.1 (X.2.2 - 1) (by omega) (by omega)
      obtain ⟨l5', e⟩ := w254d (g := g) (d := d) (st := st) (c := X.2.1 (X.2.2 - 1)) hr h0 h1 hk (by omega) (z + 1) (T - 1) (by omega) 4 0 l5 _ (by omega) (by omega) (sp_pop_i hX hw)
      have e2 := ih (T - 1) (z + 1) _ (some (.int (z_i (X.2.1 (X.2.2 - 1))))) (some (.int (z_i 4))) l5' (sp_fds_i (cell := X.2.1 (X.2.2 - 1)) (by omega) hN.2 hk.1 4 0 _ (sp_pop_i hX hw)) (by omega) (by omega)
      rw [← e2, ← e]
      rw [e254_29]
      unfold tw_fm
      simp (disch := first | assumption | exact hr _ | exact hr1 _ | exact z_Rm (by omega) (by omega) | omega | exact tw_cls | exact z_k_int | exact z_k_ref | exact (show q_cat _ ≤ 8 from by with_unfolding_all exact Nat.le_of_ble_eq_true rfl) | exact z_01 _ | exact z_R01 _ | exact z_n0 | exact z_n1 | exact z_nb _ | exact z_ne0 (z_Rm (by omega) (by omega)) (by omega) | exact (show (_ ∨ 8 < Int32.toInt _) from Or.inr (by decide)) | (simp (disch := omega) only [tw_ua_s, tw_ua_j, tw_up_s, tw_up_j, tw_up_i, tw_up_x, sp_u_s, sp_u_i, sp_u_x] <;> (first | assumption | exact hr _ | exact z_Rm (by omega) (by omega) | omega)) | fail) only [e254_0, e254_1, e254_2, e254_2n, e254_3, e254_6, e254_7, e254_8, e254_9, e254_9n, e254_10, e254_13, e254_14, e254_14n, e254_15, e254_18, e254_19, e254_19n, e254_20, e254_23, e254_23n, e254_24, e254_27, e254_28, e254_30, e254_33, e254_36, e254_36n, e254_37, e254_40, e254_41, e254_42, e254_43, e254_43n, e254_44, e254_47, e254_47n, e254_48, e254_51, e254_52, e254_53, e254_54, e254_55, e254_56, e254_57, e254_61, e254_62, e254_65, e254_65n, e254_66, e254_67, e254_69, e254_72, e254_74, e254_76, e254_77, e254_80, e254_80n, e254_81, e254_83, e254_84, e254_87, e254_90, e254_90n, e254_91, e254_94, e254_96, e254_97, e254_98, e254_101, e254_101n, e254_102, e254_105, e254_107, e254_107n, e254_108, e254_111, e254_112, e254_112n, e254_113, e254_116, e254_117, e254_119, e254_120, e254_123, e254_126, e254_129, e254_132, z_m1, tw_ua_S, tw_ua_J, z_bv_s, z_bi_s, z_bh_s, z_cl_v, z_cl_n, z_add, z_sub, z_mul, z_neg, z_lt, z_eq, z_dv, z_md, z_ifb, z_ifb1, z_lcl, z_lcg, tw_up_s, tw_up_j, tw_up_x, tw_up_i, tw_ua_s, tw_ua_j, tw_up_ua, tw_up_uj, sp_u_s, sp_u_x, sp_u_i, sp_uu, z_if_true, z_if_false, z_if_t, z_if_f, if_pos, if_neg, tw_g0, tw_g1, tw_g2, tw_g3, tw_g4, tw_g5, tw_g6, tw_g7, tw_g8, tw_g9, tw_g10, tw_g11, tw_g12, tw_g13, tw_g14, tw_g15, tw_g16, tw_g17, tw_g18, tw_g19, tw_g20, tw_g21, tw_g22, tw_g23, tw_g24, tw_g25, tw_g26, tw_g27, tw_p0, tw_p1, tw_p5, tw_p10, tw_p13, tw_p14, tw_p16, tw_p17, tw_p18, tw_p19, tw_p20, tw_p21, tw_p22, tw_p23, tw_p24, tw_p25, tw_p27, tw_r1, tw_r2, tw_r3, tw_r4, tw_r5, tw_r6, tw_r7, tw_r8, tw_r9, tw_r10, tw_r11, tw_w1, tw_w2, tw_w3, tw_w4, tw_w5, tw_w6, tw_w7, tw_w8, tw_w9, tw_w10, tw_w11]
    · rw [if_neg hw]
      simp (disch := first | assumption | exact hr _ | exact hr1 _ | exact z_Rm (by omega) (by omega) | omega | exact tw_cls | exact z_k_int | exact z_k_ref | exact (show q_cat _ ≤ 8 from by with_unfolding_all exact Nat.le_of_ble_eq_true rfl) | exact z_01 _ | exact z_R01 _ | exact z_n0 | exact z_n1 | exact z_nb _ | exact z_ne0 (z_Rm (by omega) (by omega)) (by omega) | exact (show (_ ∨ 8 < Int32.toInt _) from Or.inr (by decide)) | (simp (disch := omega) only [tw_ua_s, tw_ua_j, tw_up_s, tw_up_j, tw_up_i, tw_up_x, sp_u_s, sp_u_i, sp_u_x] <;> (first | assumption | exact hr _ | exact z_Rm (by omega) (by omega) | omega)) | fail) only [e254_0, e254_1, e254_2, e254_2n, e254_3, e254_6, e254_7, e254_8, e254_9, e254_9n, e254_10, e254_13, e254_14, e254_14n, e254_15, e254_18, e254_19, e254_19n, e254_20, e254_23, e254_23n, e254_24, e254_27, e254_28, e254_29, e254_30, e254_33, e254_36, e254_36n, e254_37, e254_40, e254_41, e254_42, e254_43, e254_43n, e254_44, e254_47, e254_47n, e254_48, e254_51, e254_52, e254_53, e254_54, e254_55, e254_56, e254_57, e254_61, e254_62, e254_65, e254_65n, e254_66, e254_67, e254_69, e254_72, e254_74, e254_76, e254_77, e254_80, e254_80n, e254_81, e254_83, e254_84, e254_87, e254_90, e254_90n, e254_91, e254_94, e254_96, e254_97, e254_98, e254_101, e254_101n, e254_102, e254_105, e254_107, e254_107n, e254_108, e254_111, e254_112, e254_112n, e254_113, e254_116, e254_117, e254_119, e254_120, e254_123, e254_126, e254_129, e254_132, z_m1, tw_ua_S, tw_ua_J, z_bv_s, z_bi_s, z_bh_s, z_cl_v, z_cl_n, z_add, z_sub, z_mul, z_neg, z_lt, z_eq, z_dv, z_md, z_ifb, z_ifb1, z_lcl, z_lcg, tw_up_s, tw_up_j, tw_up_x, tw_up_i, tw_ua_s, tw_ua_j, tw_up_ua, tw_up_uj, sp_u_s, sp_u_x, sp_u_i, sp_uu, z_if_true, z_if_false, z_if_t, z_if_f, if_pos, if_neg, tw_g0, tw_g1, tw_g2, tw_g3, tw_g4, tw_g5, tw_g6, tw_g7, tw_g8, tw_g9, tw_g10, tw_g11, tw_g12, tw_g13, tw_g14, tw_g15, tw_g16, tw_g17, tw_g18, tw_g19, tw_g20, tw_g21, tw_g22, tw_g23, tw_g24, tw_g25, tw_g26, tw_g27, tw_p0, tw_p1, tw_p5, tw_p10, tw_p13, tw_p14, tw_p16, tw_p17, tw_p18, tw_p19, tw_p20, tw_p21, tw_p22, tw_p23, tw_p24, tw_p25, tw_p27, tw_r1, tw_r2, tw_r3, tw_r4, tw_r5, tw_r6, tw_r7, tw_r8, tw_r9, tw_r10, tw_r11, tw_w1, tw_w2, tw_w3, tw_w4, tw_w5, tw_w6, tw_w7, tw_w8, tw_w9, tw_w10, tw_w11]
theorem w254 {st T : Int} (hr : ∀ i, z_R (M 2 i)) (h0 : 2 ≤ M 1 0 ∧ M 1 0 ≤ 8) (h1 : 2 ≤ M 1 1 ∧ M 1 1 ≤ 8) (hk : 0 ≤ M 0 10 ∧ M 0 10 < 64) (hst : 0 ≤ st ∧ st < 64) (hT : T ≤ 64) (hX : sp_iX (M 1 0 * M 1 1) (M 0 10) (M 2) T (sp_u (M 5) st (M 0 10), sp_u (M 7) 0 st, 1)) : q_ev (d + 3, 254, 0, [some (.ref 1005), some (.int (z_i st)), none, none, none, none], [], q_tu g M) = some (.inl none, q_tu g (tw_fm M (sp_fw (M 1 0) (M 1 1) (M 0 10) (M 2) 65 0 (sp_u (M 5) st (M 0 10), sp_u (M 7) 0 st, 1)).1 (sp_fw (M 1 0) (M 1 1) (M 0 10) (M 2) 65 0 (sp_u (M 5) st (M 0 10), sp_u (M 7) 0 st, 1)).2)) := by
  rw [← w254w (d := d) (g := g) (st := st) hr h0 h1 hk 65 T 0 _ none none none hX (by omega) hT]
  have e : tw_fm M 0 (sp_u (M 5) st (M 0 10), sp_u (M 7) 0 st, 1) = tw_up (tw_up (tw_up M 7 0 st) 5 st (M 0 10)) 6 (M 0 10) 0 := by
    unfold tw_fm
    simp (disch := omega) only [tw_up_eq, tw_ua_S, tw_ua_J]
    rw [tw_ua_cm (M := M) (j := 7) (k := 5) (by omega)]
  rw [e]
  simp (disch := first | assumption | exact hr _ | exact hr1 _ | exact z_Rm (by omega) (by omega) | omega | exact tw_cls | exact z_k_int | exact z_k_ref | exact (show q_cat _ ≤ 8 from by with_unfolding_all exact Nat.le_of_ble_eq_true rfl) | exact z_01 _ | exact z_R01 _ | exact z_n0 | exact z_n1 | exact z_nb _ | exact z_ne0 (z_Rm (by omega) (by omega)) (by omega) | exact (show (_ ∨ 8 < Int32.toInt _) from Or.inr (by decide)) | (simp (disch := omega) only [tw_ua_s, tw_ua_j, tw_up_s, tw_up_j, tw_up_i, tw_up_x, sp_u_s, sp_u_i, sp_u_x] <;> (first | assumption | exact hr _ | exact z_Rm (by omega) (by omega) | omega)) | fail) only [e254_0, e254_1, e254_2, e254_2n, e254_3, e254_6, e254_7, e254_8, e254_9, e254_9n, e254_10, e254_13, e254_14, e254_14n, e254_15, e254_18, e254_19, e254_19n, e254_20, e254_23, e254_23n, e254_24, e254_27, e254_28, e254_30, e254_33, e254_36, e254_36n, e254_37, e254_40, e254_41, e254_42, e254_43, e254_43n, e254_44, e254_47, e254_47n, e254_48, e254_51, e254_52, e254_53, e254_54, e254_55, e254_56, e254_57, e254_59, e254_61, e254_62, e254_65, e254_65n, e254_66, e254_67, e254_69, e254_72, e254_74, e254_76, e254_77, e254_80, e254_80n, e254_81, e254_83, e254_84, e254_87, e254_90, e254_90n, e254_91, e254_94, e254_96, e254_97, e254_98, e254_101, e254_101n, e254_102, e254_105, e254_107, e254_107n, e254_108, e254_111, e254_112, e254_112n, e254_113, e254_116, e254_117, e254_119, e254_120, e254_123, e254_126, e254_129, e254_132, z_m1, tw_ua_S, tw_ua_J, z_bv_s, z_bi_s, z_bh_s, z_cl_v, z_cl_n, z_add, z_sub, z_mul, z_neg, z_lt, z_eq, z_dv, z_md, z_ifb, z_ifb1, z_lcl, z_lcg, tw_up_s, tw_up_j, tw_up_x, tw_up_i, tw_ua_s, tw_ua_j, tw_up_ua, tw_up_uj, sp_u_s, sp_u_x, sp_u_i, sp_uu, z_if_true, z_if_false, z_if_t, z_if_f, if_pos, if_neg, tw_g0, tw_g1, tw_g2, tw_g3, tw_g4, tw_g5, tw_g6, tw_g7, tw_g8, tw_g9, tw_g10, tw_g11, tw_g12, tw_g13, tw_g14, tw_g15, tw_g16, tw_g17, tw_g18, tw_g19, tw_g20, tw_g21, tw_g22, tw_g23, tw_g24, tw_g25, tw_g26, tw_g27, tw_p0, tw_p1, tw_p5, tw_p10, tw_p13, tw_p14, tw_p16, tw_p17, tw_p18, tw_p19, tw_p20, tw_p21, tw_p22, tw_p23, tw_p24, tw_p25, tw_p27, tw_r1, tw_r2, tw_r3, tw_r4, tw_r5, tw_r6, tw_r7, tw_r8, tw_r9, tw_r10, tw_r11, tw_w1, tw_w2, tw_w3, tw_w4, tw_w5, tw_w6, tw_w7, tw_w8, tw_w9, tw_w10, tw_w11]
/-- the memory while islands are sought -/
def tw_zm (M : tw_M) (Z : sp_Z) : tw_M := tw_ua (tw_ua (tw_ua (tw_up M 0 10 Z.1) 5 Z.2.1) 7 Z.2.2.2) 6 Z.2.2.1
theorem tw_zfm {Z : sp_Z} {z : Int} {X : sp_X} : tw_up (tw_fm (tw_zm M Z) z X) 0 10 (Z.1 + 1) = tw_zm M (Z.1 + 1, X.1, sp_u Z.2.2.1 Z.1 z, X.2.1) := by
  have h6 : tw_zm M Z 6 = Z.2.2.1 := rfl
  have h0 : tw_zm M Z 0 10 = Z.1 := rfl
  unfold tw_fm
  rw [h6, h0]
  unfold tw_zm
  funext j
  by_cases e0 : j = 0
  · subst e0
    funext i
    simp (disch := omega) only [tw_up_uj, tw_ua_j, tw_up_up]
  · simp (disch := omega) only [tw_up_eq, tw_ua_S, tw_ua_J]
    unfold tw_ua
    by_cases e6 : j = 6
    · simp [e6]
    · by_cases e7 : j = 7
      · simp [e7]
      · by_cases e5 : j = 5
        · simp [e5]
        · simp [e0, e5, e6, e7]
theorem tw_fm_0 {z : Int} {X : sp_X} : tw_fm M z X 0 = M 0 := rfl
theorem tw_zm_0 {Z : sp_Z} : tw_zm M Z 0 10 = Z.1 := rfl
theorem tw_zm_1 {Z : sp_Z} : tw_zm M Z 1 = M 1 := rfl
theorem tw_zm_2 {Z : sp_Z} : tw_zm M Z 2 = M 2 := rfl
theorem tw_zm_5 {Z : sp_Z} : tw_zm M Z 5 = Z.2.1 := rfl
theorem tw_zm_6 {Z : sp_Z} : tw_zm M Z 6 = Z.2.2.1 := rfl
theorem tw_zm_7 {Z : sp_Z} : tw_zm M Z 7 = Z.2.2.2 := rfl
theorem w152s (hr : ∀ i, z_R (M 2 i)) (h0 : 2 ≤ M 1 0 ∧ M 1 0 ≤ 8) (h1 : 2 ≤ M 1 1 ∧ M 1 1 ≤ 8) : ∀ (n : Nat) (m : Int) (Z : sp_Z), sp_iZ (M 1 0 * M 1 1) (M 2) m Z → 0 ≤ m → m + n = M 1 0 * M 1 1 → q_ev (d + 4, 152, 28, [some (.ref 1005), some (.int (z_i m))], [], q_tu g (tw_zm M Z)) = some (.inl none, q_tu g (tw_zm M (sp_is (M 1 0) (M 1 1) (M 2) n m Z))) := by
  have hN := sp_N h0 h1
  intro n
  induction n with
  | zero =>
    intro m Z hZ hm0 hm
    simp (disch := first | assumption | exact hr _ | exact hr1 _ | exact z_Rm (by omega) (by omega) | omega | exact tw_cls | exact z_k_int | exact z_k_ref | exact (show q_cat _ ≤ 8 from by with_unfolding_all exact Nat.le_of_ble_eq_true rfl) | exact z_01 _ | exact z_R01 _ | exact z_n0 | exact z_n1 | exact z_nb _ | exact z_ne0 (z_Rm (by omega) (by omega)) (by omega) | exact (show (_ ∨ 8 < Int32.toInt _) from Or.inr (by decide)) | (simp (disch := omega) only [tw_ua_s, tw_ua_j, tw_up_s, tw_up_j, tw_up_i, tw_up_x, sp_u_s, sp_u_i, sp_u_x] <;> (first | assumption | exact hr _ | exact z_Rm (by omega) (by omega) | omega)) | fail) only [e152_0, e152_1, e152_3, e152_5, e152_8, e152_8n, e152_9, e152_12, e152_13, e152_14, e152_15, e152_18, e152_21, e152_21n, e152_22, e152_23, e152_26, e152_27, e152_28, e152_29, e152_29n, e152_30, e152_33, e152_36, e152_36n, e152_37, e152_38, e152_39, e152_42, e152_45, e152_45n, e152_46, e152_49, e152_50, e152_51, e152_52, e152_55, e152_55n, e152_56, e152_57, e152_60, e152_60n, e152_61, e152_62, e152_65, e152_66, e152_67, e152_70, e152_73, e152_76, z_m1, tw_ua_S, tw_ua_J, z_bv_s, z_bi_s, z_bh_s, z_cl_v, z_cl_n, z_add, z_sub, z_mul, z_neg, z_lt, z_eq, z_dv, z_md, z_ifb, z_ifb1, z_lcl, z_lcg, tw_up_s, tw_up_j, tw_up_x, tw_up_i, tw_ua_s, tw_ua_j, tw_up_ua, tw_up_uj, sp_u_s, sp_u_x, sp_u_i, sp_uu, z_if_true, z_if_false, z_if_t, z_if_f, if_pos, if_neg, tw_g0, tw_g1, tw_g2, tw_g3, tw_g4, tw_g5, tw_g6, tw_g7, tw_g8, tw_g9, tw_g10, tw_g11, tw_g12, tw_g13, tw_g14, tw_g15, tw_g16, tw_g17, tw_g18, tw_g19, tw_g20, tw_g21, tw_g22, tw_g23, tw_g24, tw_g25, tw_g26, tw_g27, tw_p0, tw_p1, tw_p5, tw_p10, tw_p13, tw_p14, tw_p16, tw_p17, tw_p18, tw_p19, tw_p20, tw_p21, tw_p22, tw_p23, tw_p24, tw_p25, tw_p27, tw_r1, tw_r2, tw_r3, tw_r4, tw_r5, tw_r6, tw_r7, tw_r8, tw_r9, tw_r10, tw_r11, tw_w1, tw_w2, tw_w3, tw_w4, tw_w5, tw_w6, tw_w7, tw_w8, tw_w9, tw_w10, tw_w11, w179, tw_zm_1]
    rfl
  | succ n ih =>
    intro m Z hZ hm0 hm
    have hZ' := sp_ic_i (by omega) hN.2 hZ ⟨hm0, by omega⟩
    have e2 := ih (m + 1) _ hZ' (by omega) (by omega)
    have hr1 : ∀ i, z_R (tw_zm M Z 2 i) := hr
    unfold sp_is
    rw [← e2, e152_28]
    have hc5 := hZ.2.2.1 m hm0 (by omega)
    have hum := hZ.2.1
    have hz0 := hZ.1
    unfold sp_ic
    by_cases hc : M 2 (33 + m) = 1
    · by_cases hc2 : Z.2.1 m = -1
      · have e := w254 (d := d) (g := g) (M := tw_zm M Z) (st := m) (T := 64 - Z.1) hr h0 h1 ⟨hZ.1, by show Z.1 < 64; have := (sp_st hN.2 hZ ⟨hm0, by omega⟩ ⟨hc, hc2⟩).1; omega⟩ (by omega) (by omega) (sp_st hN.2 hZ ⟨hm0, by omega⟩ ⟨hc, hc2⟩).2
        simp only [tw_zm_0, tw_zm_1, tw_zm_2, tw_zm_5, tw_zm_7] at e
        rw [if_pos ⟨hc, hc2⟩]
        simp (disch := first | assumption | exact hr _ | exact hr1 _ | exact z_Rm (by omega) (by omega) | omega | exact tw_cls | exact z_k_int | exact z_k_ref | exact (show q_cat _ ≤ 8 from by with_unfolding_all exact Nat.le_of_ble_eq_true rfl) | exact z_01 _ | exact z_R01 _ | exact z_n0 | exact z_n1 | exact z_nb _ | exact z_ne0 (z_Rm (by omega) (by omega)) (by omega) | exact (show (_ ∨ 8 < Int32.toInt _) from Or.inr (by decide)) | (simp (disch := omega) only [tw_ua_s, tw_ua_j, tw_up_s, tw_up_j, tw_up_i, tw_up_x, sp_u_s, sp_u_i, sp_u_x] <;> (first | assumption | exact hr _ | exact z_Rm (by omega) (by omega) | omega)) | fail) only [e152_0, e152_1, e152_3, e152_5, e152_8, e152_8n, e152_9, e152_12, e152_13, e152_14, e152_15, e152_18, e152_21, e152_21n, e152_22, e152_23, e152_26, e152_27, e152_29, e152_29n, e152_30, e152_33, e152_36, e152_36n, e152_37, e152_38, e152_39, e152_42, e152_45, e152_45n, e152_46, e152_49, e152_50, e152_51, e152_52, e152_55, e152_55n, e152_56, e152_57, e152_60, e152_60n, e152_61, e152_62, e152_65, e152_66, e152_67, e152_70, e152_73, e152_76, z_m1, tw_ua_S, tw_ua_J, z_bv_s, z_bi_s, z_bh_s, z_cl_v, z_cl_n, z_add, z_sub, z_mul, z_neg, z_lt, z_eq, z_dv, z_md, z_ifb, z_ifb1, z_lcl, z_lcg, tw_up_s, tw_up_j, tw_up_x, tw_up_i, tw_ua_s, tw_ua_j, tw_up_ua, tw_up_uj, sp_u_s, sp_u_x, sp_u_i, sp_uu, z_if_true, z_if_false, z_if_t, z_if_f, if_pos, if_neg, tw_g0, tw_g1, tw_g2, tw_g3, tw_g4, tw_g5, tw_g6, tw_g7, tw_g8, tw_g9, tw_g10, tw_g11, tw_g12, tw_g13, tw_g14, tw_g15, tw_g16, tw_g17, tw_g18, tw_g19, tw_g20, tw_g21, tw_g22, tw_g23, tw_g24, tw_g25, tw_g26, tw_g27, tw_p0, tw_p1, tw_p5, tw_p10, tw_p13, tw_p14, tw_p16, tw_p17, tw_p18, tw_p19, tw_p20, tw_p21, tw_p22, tw_p23, tw_p24, tw_p25, tw_p27, tw_r1, tw_r2, tw_r3, tw_r4, tw_r5, tw_r6, tw_r7, tw_r8, tw_r9, tw_r10, tw_r11, tw_w1, tw_w2, tw_w3, tw_w4, tw_w5, tw_w6, tw_w7, tw_w8, tw_w9, tw_w10, tw_w11, w179, w146, e, tw_zm_0, tw_zm_1, tw_zm_2, tw_zm_5, tw_fm_0, tw_zfm]
      · rw [if_neg (fun h => hc2 h.2)]
        simp (disch := first | assumption | exact hr _ | exact hr1 _ | exact z_Rm (by omega) (by omega) | omega | exact tw_cls | exact z_k_int | exact z_k_ref | exact (show q_cat _ ≤ 8 from by with_unfolding_all exact Nat.le_of_ble_eq_true rfl) | exact z_01 _ | exact z_R01 _ | exact z_n0 | exact z_n1 | exact z_nb _ | exact z_ne0 (z_Rm (by omega) (by omega)) (by omega) | exact (show (_ ∨ 8 < Int32.toInt _) from Or.inr (by decide)) | (simp (disch := omega) only [tw_ua_s, tw_ua_j, tw_up_s, tw_up_j, tw_up_i, tw_up_x, sp_u_s, sp_u_i, sp_u_x] <;> (first | assumption | exact hr _ | exact z_Rm (by omega) (by omega) | omega)) | fail) only [e152_0, e152_1, e152_3, e152_5, e152_8, e152_8n, e152_9, e152_12, e152_13, e152_14, e152_15, e152_18, e152_21, e152_21n, e152_22, e152_23, e152_26, e152_27, e152_29, e152_29n, e152_30, e152_33, e152_36, e152_36n, e152_37, e152_38, e152_39, e152_42, e152_45, e152_45n, e152_46, e152_49, e152_50, e152_51, e152_52, e152_55, e152_55n, e152_56, e152_57, e152_60, e152_60n, e152_61, e152_62, e152_65, e152_66, e152_67, e152_70, e152_73, e152_76, z_m1, tw_ua_S, tw_ua_J, z_bv_s, z_bi_s, z_bh_s, z_cl_v, z_cl_n, z_add, z_sub, z_mul, z_neg, z_lt, z_eq, z_dv, z_md, z_ifb, z_ifb1, z_lcl, z_lcg, tw_up_s, tw_up_j, tw_up_x, tw_up_i, tw_ua_s, tw_ua_j, tw_up_ua, tw_up_uj, sp_u_s, sp_u_x, sp_u_i, sp_uu, z_if_true, z_if_false, z_if_t, z_if_f, if_pos, if_neg, tw_g0, tw_g1, tw_g2, tw_g3, tw_g4, tw_g5, tw_g6, tw_g7, tw_g8, tw_g9, tw_g10, tw_g11, tw_g12, tw_g13, tw_g14, tw_g15, tw_g16, tw_g17, tw_g18, tw_g19, tw_g20, tw_g21, tw_g22, tw_g23, tw_g24, tw_g25, tw_g26, tw_g27, tw_p0, tw_p1, tw_p5, tw_p10, tw_p13, tw_p14, tw_p16, tw_p17, tw_p18, tw_p19, tw_p20, tw_p21, tw_p22, tw_p23, tw_p24, tw_p25, tw_p27, tw_r1, tw_r2, tw_r3, tw_r4, tw_r5, tw_r6, tw_r7, tw_r8, tw_r9, tw_r10, tw_r11, tw_w1, tw_w2, tw_w3, tw_w4, tw_w5, tw_w6, tw_w7, tw_w8, tw_w9, tw_w10, tw_w11, w179, w146, tw_zm_0, tw_zm_1, tw_zm_2, tw_zm_5]
    · rw [if_neg (fun h => hc h.1)]
      simp (disch := first | assumption | exact hr _ | exact hr1 _ | exact z_Rm (by omega) (by omega) | omega | exact tw_cls | exact z_k_int | exact z_k_ref | exact (show q_cat _ ≤ 8 from by with_unfolding_all exact Nat.le_of_ble_eq_true rfl) | exact z_01 _ | exact z_R01 _ | exact z_n0 | exact z_n1 | exact z_nb _ | exact z_ne0 (z_Rm (by omega) (by omega)) (by omega) | exact (show (_ ∨ 8 < Int32.toInt _) from Or.inr (by decide)) | (simp (disch := omega) only [tw_ua_s, tw_ua_j, tw_up_s, tw_up_j, tw_up_i, tw_up_x, sp_u_s, sp_u_i, sp_u_x] <;> (first | assumption | exact hr _ | exact z_Rm (by omega) (by omega) | omega)) | fail) only [e152_0, e152_1, e152_3, e152_5, e152_8, e152_8n, e152_9, e152_12, e152_13, e152_14, e152_15, e152_18, e152_21, e152_21n, e152_22, e152_23, e152_26, e152_27, e152_29, e152_29n, e152_30, e152_33, e152_36, e152_36n, e152_37, e152_38, e152_39, e152_42, e152_45, e152_45n, e152_46, e152_49, e152_50, e152_51, e152_52, e152_55, e152_55n, e152_56, e152_57, e152_60, e152_60n, e152_61, e152_62, e152_65, e152_66, e152_67, e152_70, e152_73, e152_76, z_m1, tw_ua_S, tw_ua_J, z_bv_s, z_bi_s, z_bh_s, z_cl_v, z_cl_n, z_add, z_sub, z_mul, z_neg, z_lt, z_eq, z_dv, z_md, z_ifb, z_ifb1, z_lcl, z_lcg, tw_up_s, tw_up_j, tw_up_x, tw_up_i, tw_ua_s, tw_ua_j, tw_up_ua, tw_up_uj, sp_u_s, sp_u_x, sp_u_i, sp_uu, z_if_true, z_if_false, z_if_t, z_if_f, if_pos, if_neg, tw_g0, tw_g1, tw_g2, tw_g3, tw_g4, tw_g5, tw_g6, tw_g7, tw_g8, tw_g9, tw_g10, tw_g11, tw_g12, tw_g13, tw_g14, tw_g15, tw_g16, tw_g17, tw_g18, tw_g19, tw_g20, tw_g21, tw_g22, tw_g23, tw_g24, tw_g25, tw_g26, tw_g27, tw_p0, tw_p1, tw_p5, tw_p10, tw_p13, tw_p14, tw_p16, tw_p17, tw_p18, tw_p19, tw_p20, tw_p21, tw_p22, tw_p23, tw_p24, tw_p25, tw_p27, tw_r1, tw_r2, tw_r3, tw_r4, tw_r5, tw_r6, tw_r7, tw_r8, tw_r9, tw_r10, tw_r11, tw_w1, tw_w2, tw_w3, tw_w4, tw_w5, tw_w6, tw_w7, tw_w8, tw_w9, tw_w10, tw_w11, w179, w146, tw_zm_0, tw_zm_1, tw_zm_2, tw_zm_5]
/-- the islands at their start -/
def sp_n1 (k : Int) (f : Int → Int) : Int → Int := fun i => if 0 ≤ i ∧ i < k then -1 else f i
theorem sp_n1_u {k : Int} {f : Int → Int} (hk : 0 ≤ k) : sp_u (sp_n1 k f) k (-1) = sp_n1 (k + 1) f := by
  funext i
  unfold sp_u sp_n1
  by_cases h : i = k
  · rw [if_pos h, if_pos (by omega)]
  · rw [if_neg h]
    by_cases h2 : 0 ≤ i ∧ i < k
    · rw [if_pos h2, if_pos (by omega)]
    · rw [if_neg h2, if_neg (by omega)]
theorem w152f : ∀ (n : Nat) (m : Int), 0 ≤ m → m + n = 64 → q_ev (d + 4, 152, 2, [some (.ref 1005), some (.int (z_i m))], [], q_tu g (tw_ua M 5 (sp_n1 m (M 5)))) = q_ev (d + 4, 152, 28, [some (.ref 1005), some (.int (z_i 0))], [], q_tu g (tw_ua (tw_up M 0 10 0) 5 (sp_n1 64 (M 5)))) := by
  intro n
  induction n with
  | zero =>
    intro m hm0 hm
    have : m = 64 := by omega
    subst this
    simp (disch := first | assumption | exact hr _ | exact hr1 _ | exact z_Rm (by omega) (by omega) | omega | exact tw_cls | exact z_k_int | exact z_k_ref | exact (show q_cat _ ≤ 8 from by with_unfolding_all exact Nat.le_of_ble_eq_true rfl) | exact z_01 _ | exact z_R01 _ | exact z_n0 | exact z_n1 | exact z_nb _ | exact z_ne0 (z_Rm (by omega) (by omega)) (by omega) | exact (show (_ ∨ 8 < Int32.toInt _) from Or.inr (by decide)) | (simp (disch := omega) only [tw_ua_s, tw_ua_j, tw_up_s, tw_up_j, tw_up_i, tw_up_x, sp_u_s, sp_u_i, sp_u_x] <;> (first | assumption | exact hr _ | exact z_Rm (by omega) (by omega) | omega)) | fail) only [e152_0, e152_1, e152_2, e152_3, e152_5, e152_8, e152_8n, e152_9, e152_12, e152_13, e152_14, e152_15, e152_18, e152_21, e152_21n, e152_22, e152_23, e152_26, e152_27, e152_29, e152_29n, e152_30, e152_33, e152_36, e152_36n, e152_37, e152_38, e152_39, e152_42, e152_45, e152_45n, e152_46, e152_49, e152_50, e152_51, e152_52, e152_55, e152_55n, e152_56, e152_57, e152_60, e152_60n, e152_61, e152_62, e152_65, e152_66, e152_67, e152_70, e152_73, e152_76, z_m1, tw_ua_S, tw_ua_J, z_bv_s, z_bi_s, z_bh_s, z_cl_v, z_cl_n, z_add, z_sub, z_mul, z_neg, z_lt, z_eq, z_dv, z_md, z_ifb, z_ifb1, z_lcl, z_lcg, tw_up_s, tw_up_j, tw_up_x, tw_up_i, tw_ua_s, tw_ua_j, tw_up_ua, tw_up_uj, sp_u_s, sp_u_x, sp_u_i, sp_uu, z_if_true, z_if_false, z_if_t, z_if_f, if_pos, if_neg, tw_g0, tw_g1, tw_g2, tw_g3, tw_g4, tw_g5, tw_g6, tw_g7, tw_g8, tw_g9, tw_g10, tw_g11, tw_g12, tw_g13, tw_g14, tw_g15, tw_g16, tw_g17, tw_g18, tw_g19, tw_g20, tw_g21, tw_g22, tw_g23, tw_g24, tw_g25, tw_g26, tw_g27, tw_p0, tw_p1, tw_p5, tw_p10, tw_p13, tw_p14, tw_p16, tw_p17, tw_p18, tw_p19, tw_p20, tw_p21, tw_p22, tw_p23, tw_p24, tw_p25, tw_p27, tw_r1, tw_r2, tw_r3, tw_r4, tw_r5, tw_r6, tw_r7, tw_r8, tw_r9, tw_r10, tw_r11, tw_w1, tw_w2, tw_w3, tw_w4, tw_w5, tw_w6, tw_w7, tw_w8, tw_w9, tw_w10, tw_w11]
  | succ n ih =>
    intro m hm0 hm
    rw [← ih (m + 1) (by omega) (by omega), e152_2]
    simp (disch := first | assumption | exact hr _ | exact hr1 _ | exact z_Rm (by omega) (by omega) | omega | exact tw_cls | exact z_k_int | exact z_k_ref | exact (show q_cat _ ≤ 8 from by with_unfolding_all exact Nat.le_of_ble_eq_true rfl) | exact z_01 _ | exact z_R01 _ | exact z_n0 | exact z_n1 | exact z_nb _ | exact z_ne0 (z_Rm (by omega) (by omega)) (by omega) | exact (show (_ ∨ 8 < Int32.toInt _) from Or.inr (by decide)) | (simp (disch := omega) only [tw_ua_s, tw_ua_j, tw_up_s, tw_up_j, tw_up_i, tw_up_x, sp_u_s, sp_u_i, sp_u_x] <;> (first | assumption | exact hr _ | exact z_Rm (by omega) (by omega) | omega)) | fail) only [e152_0, e152_1, e152_3, e152_5, e152_8, e152_8n, e152_9, e152_12, e152_13, e152_14, e152_15, e152_18, e152_21, e152_21n, e152_22, e152_23, e152_26, e152_27, e152_29, e152_29n, e152_30, e152_33, e152_36, e152_36n, e152_37, e152_38, e152_39, e152_42, e152_45, e152_45n, e152_46, e152_49, e152_50, e152_51, e152_52, e152_55, e152_55n, e152_56, e152_57, e152_60, e152_60n, e152_61, e152_62, e152_65, e152_66, e152_67, e152_70, e152_73, e152_76, z_m1, tw_ua_S, tw_ua_J, z_bv_s, z_bi_s, z_bh_s, z_cl_v, z_cl_n, z_add, z_sub, z_mul, z_neg, z_lt, z_eq, z_dv, z_md, z_ifb, z_ifb1, z_lcl, z_lcg, tw_up_s, tw_up_j, tw_up_x, tw_up_i, tw_ua_s, tw_ua_j, tw_up_ua, tw_up_uj, sp_u_s, sp_u_x, sp_u_i, sp_uu, z_if_true, z_if_false, z_if_t, z_if_f, if_pos, if_neg, tw_g0, tw_g1, tw_g2, tw_g3, tw_g4, tw_g5, tw_g6, tw_g7, tw_g8, tw_g9, tw_g10, tw_g11, tw_g12, tw_g13, tw_g14, tw_g15, tw_g16, tw_g17, tw_g18, tw_g19, tw_g20, tw_g21, tw_g22, tw_g23, tw_g24, tw_g25, tw_g26, tw_g27, tw_p0, tw_p1, tw_p5, tw_p10, tw_p13, tw_p14, tw_p16, tw_p17, tw_p18, tw_p19, tw_p20, tw_p21, tw_p22, tw_p23, tw_p24, tw_p25, tw_p27, tw_r1, tw_r2, tw_r3, tw_r4, tw_r5, tw_r6, tw_r7, tw_r8, tw_r9, tw_r10, tw_r11, tw_w1, tw_w2, tw_w3, tw_w4, tw_w5, tw_w6, tw_w7, tw_w8, tw_w9, tw_w10, tw_w11, sp_n1_u]
/-- the islands of a map -/
def tw_iz (M : tw_M) : sp_Z := sp_is (M 1 0) (M 1 1) (M 2) (M 1 0 * M 1 1).toNat 0 (0, sp_n1 64 (M 5), M 6, M 7)
def tw_il (M : tw_M) : tw_M := tw_zm M (tw_iz M)
theorem sp_um_n1 {f : Int → Int} : ∀ n : Nat, n ≤ 64 → sp_um (sp_n1 64 f) n = n := by
  intro n
  induction n with
  | zero => intro _; rfl
  | succ n ih =>
    intro h
    unfold sp_um
    rw [ih (by omega), if_pos (show sp_n1 64 f n = -1 from if_pos ⟨by omega, by omega⟩)]
theorem tw_iz0 (h0 : 2 ≤ M 1 0 ∧ M 1 0 ≤ 8) (h1 : 2 ≤ M 1 1 ∧ M 1 1 ≤ 8) : sp_iZ (M 1 0 * M 1 1) (M 2) 0 (0, sp_n1 64 (M 5), M 6, M 7) := by
  have hN := sp_N h0 h1
  refine ⟨Int.le_refl _, ?_, ?_, ?_, ?_, ?_⟩
  · show (0 : Int) + (sp_um (sp_n1 64 (M 5)) 64 : Int) ≤ 64
    rw [sp_um_n1 64 (by omega)]
    omega
  · intro c hc0 hc1; exact Or.inl (if_pos ⟨hc0, by omega⟩)
  · intro c hc0 hc1 h; exact absurd (if_pos ⟨hc0, by omega⟩) h
  · intro c hc0 hc1; omega
  · intro i hi0 hi1; have hi2 : i < 0 := hi1; omega
theorem tw_izi (h0 : 2 ≤ M 1 0 ∧ M 1 0 ≤ 8) (h1 : 2 ≤ M 1 1 ∧ M 1 1 ≤ 8) : sp_iZ (M 1 0 * M 1 1) (M 2) (M 1 0 * M 1 1) (tw_iz M) := by
  have hN := sp_N h0 h1
  have h := sp_is_i (R := M 1 0) (C := M 1 1) (by omega) hN.2 (M 1 0 * M 1 1).toNat 0 _ (tw_iz0 h0 h1) (by omega) (by omega)
  rw [show 0 + ((M 1 0 * M 1 1).toNat : Int) = M 1 0 * M 1 1 by omega] at h
  exact h
theorem w152 (hr : ∀ i, z_R (M 2 i)) (h0 : 2 ≤ M 1 0 ∧ M 1 0 ≤ 8) (h1 : 2 ≤ M 1 1 ∧ M 1 1 ≤ 8) : q_ev (d + 4, 152, 0, [some (.ref 1005), none], [], q_tu g M) = some (.inl none, q_tu g (tw_il M)) := by
  have hN := sp_N h0 h1
  have e := w152s (d := d) (g := g) hr h0 h1 (M 1 0 * M 1 1).toNat 0 _ (tw_iz0 h0 h1) (by omega) (by omega)
  unfold tw_il tw_iz
  rw [← e]
  have e2 := w152f (d := d) (g := g) (M := M) 64 0 (by omega) (by omega)
  have e3 : tw_ua M 5 (sp_n1 0 (M 5)) = M := by
    rw [show sp_n1 0 (M 5) = M 5 from funext fun i => if_neg (by omega), tw_ua_id]
  rw [e3] at e2
  have e4 : tw_zm M (0, sp_n1 64 (M 5), M 6, M 7) = tw_ua (tw_up M 0 10 0) 5 (sp_n1 64 (M 5)) := by
    unfold tw_zm
    funext j
    unfold tw_ua tw_up
    by_cases e6 : j = 6
    · simp [e6]
    · by_cases e7 : j = 7
      · simp [e7]
      · simp [e6, e7]
  rw [e4, ← e2]
  simp (disch := first | assumption | exact hr _ | exact hr1 _ | exact z_Rm (by omega) (by omega) | omega | exact tw_cls | exact z_k_int | exact z_k_ref | exact (show q_cat _ ≤ 8 from by with_unfolding_all exact Nat.le_of_ble_eq_true rfl) | exact z_01 _ | exact z_R01 _ | exact z_n0 | exact z_n1 | exact z_nb _ | exact z_ne0 (z_Rm (by omega) (by omega)) (by omega) | exact (show (_ ∨ 8 < Int32.toInt _) from Or.inr (by decide)) | (simp (disch := omega) only [tw_ua_s, tw_ua_j, tw_up_s, tw_up_j, tw_up_i, tw_up_x, sp_u_s, sp_u_i, sp_u_x] <;> (first | assumption | exact hr _ | exact z_Rm (by omega) (by omega) | omega)) | fail) only [e152_0, e152_1, e152_3, e152_5, e152_8, e152_8n, e152_9, e152_12, e152_13, e152_14, e152_15, e152_18, e152_21, e152_21n, e152_22, e152_23, e152_26, e152_27, e152_29, e152_29n, e152_30, e152_33, e152_36, e152_36n, e152_37, e152_38, e152_39, e152_42, e152_45, e152_45n, e152_46, e152_49, e152_50, e152_51, e152_52, e152_55, e152_55n, e152_56, e152_57, e152_60, e152_60n, e152_61, e152_62, e152_65, e152_66, e152_67, e152_70, e152_73, e152_76, z_m1, tw_ua_S, tw_ua_J, z_bv_s, z_bi_s, z_bh_s, z_cl_v, z_cl_n, z_add, z_sub, z_mul, z_neg, z_lt, z_eq, z_dv, z_md, z_ifb, z_ifb1, z_lcl, z_lcg, tw_up_s, tw_up_j, tw_up_x, tw_up_i, tw_ua_s, tw_ua_j, tw_up_ua, tw_up_uj, sp_u_s, sp_u_x, sp_u_i, sp_uu, z_if_true, z_if_false, z_if_t, z_if_f, if_pos, if_neg, tw_g0, tw_g1, tw_g2, tw_g3, tw_g4, tw_g5, tw_g6, tw_g7, tw_g8, tw_g9, tw_g10, tw_g11, tw_g12, tw_g13, tw_g14, tw_g15, tw_g16, tw_g17, tw_g18, tw_g19, tw_g20, tw_g21, tw_g22, tw_g23, tw_g24, tw_g25, tw_g26, tw_g27, tw_p0, tw_p1, tw_p5, tw_p10, tw_p13, tw_p14, tw_p16, tw_p17, tw_p18, tw_p19, tw_p20, tw_p21, tw_p22, tw_p23, tw_p24, tw_p25, tw_p27, tw_r1, tw_r2, tw_r3, tw_r4, tw_r5, tw_r6, tw_r7, tw_r8, tw_r9, tw_r10, tw_r11, tw_w1, tw_w2, tw_w3, tw_w4, tw_w5, tw_w6, tw_w7, tw_w8, tw_w9, tw_w10, tw_w11]
end
