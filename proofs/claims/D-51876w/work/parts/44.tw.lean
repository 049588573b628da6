/-! the reference's search -/
section
variable {d : Nat} {g : q_H} {M : tw_M}
theorem tw_up_sw {j : Nat} {i i' v v' : Int} (h : i ≠ i') : tw_up (tw_up M j i v) j i' v' = tw_up (tw_up M j i' v') j i v := by
  funext j' k
  unfold tw_up
  by_cases h1 : j' = j ∧ k = i'
  · rw [if_pos h1, if_neg (fun h2 => h (h2.2.symm.trans h1.2)), if_pos h1]
  · rw [if_neg h1]
    by_cases h2 : j' = j ∧ k = i
    · rw [if_pos h2, if_pos h2]
    · rw [if_neg h2, if_neg h2, if_neg h1]
theorem tw_up_J {j j' : Nat} {i v : Int} (h : ¬ j' = j) : tw_up M j i v j' = M j' := funext fun k => tw_up_j h
/-- the memory while scenarios are counted -/
def tw_wm (M : tw_M) (W : sp_W) : tw_M := tw_ua (tw_ua (tw_up (tw_up M 0 13 W.2.2.1) 0 14 W.2.2.2) 8 W.1) 9 W.2.1
theorem w285 {c l : Int} {W : sp_W} (hc : 0 ≤ c ∧ c < 64) (hl : 0 ≤ l ∧ l < 16) : q_ev (d + 1, 285, 0, [some (.ref 1005), some (.int (z_i c)), some (.int (z_i l)), none], [], q_tu g (tw_wm M W)) = some (.inl none, q_tu g (tw_wm M (sp_cnt c l W))) := by
  unfold tw_wm
  simp (disch := first | assumption | exact hr _ | exact hr1 _ | exact hr1 _ _ | exact z_Rm (by omega) (by omega) | omega | exact tw_cls | exact z_k_int | exact z_k_ref | exact (show q_cat _ ≤ 8 from by with_unfolding_all exact Nat.le_of_ble_eq_true rfl) | exact z_01 _ | exact z_R01 _ | exact z_n0 | exact z_n1 | exact z_nb _ | exact z_ne0 (z_Rm (by omega) (by omega)) (by omega) | exact (show (_ ∨ 8 < Int32.toInt _) from Or.inr (by decide)) | (simp (disch := omega) only [tw_ua_s, tw_ua_j, tw_up_s, tw_up_j, tw_up_i, tw_up_x, sp_u_s, sp_u_i, sp_u_x] <;> (first | assumption | exact hr _ | exact z_Rm (by omega) (by omega) | omega)) | fail) only [e285_0, e285_0n, e285_1, e285_4, e285_5, e285_6, e285_7, e285_8, e285_9, e285_10, e285_10n, e285_11, e285_12, e285_15, e285_16, e285_17, e285_20, e285_20n, e285_21, e285_22, e285_25, e285_26, e285_29, e285_30, e285_33, e285_34, e285_35, e285_36, e285_37, e285_40, e285_40n, e285_41, e285_44, e285_45, e285_46, e285_47, e285_48, e285_49, e285_50, e285_51, e285_52, e285_53, e285_54, e285_57, e285_60, z_m1, tw_ua_S, tw_ua_J, z_bv_s, z_bi_s, z_bh_s, z_cl_v, z_cl_n, z_add, z_sub, z_mul, z_neg, z_lt, z_eq, z_dv, z_md, z_ifb, z_ifb1, z_lcl, z_lcg, tw_up_s, tw_up_j, tw_up_x, tw_up_i, tw_ua_s, tw_ua_j, tw_up_ua, tw_up_uj, sp_u_s, sp_u_x, sp_u_i, sp_uu, z_if_true, z_if_false, z_if_t, z_if_f, if_pos, if_neg, tw_g0, tw_g1, tw_g2, tw_g3, tw_g4, tw_g5, tw_g6, tw_g7, tw_g8, tw_g9, tw_g10, tw_g11, tw_g12, tw_g13, tw_g14, tw_g15, tw_g16, tw_g17, tw_g18, tw_g19, tw_g20, tw_g21, tw_g22, tw_g23, tw_g24, tw_g25, tw_g26, tw_g27, tw_p0, tw_p1, tw_p5, tw_p10, tw_p13, tw_p14, tw_p16, tw_p17, tw_p18, tw_p19, tw_p20, tw_p21, tw_p22, tw_p23, tw_p24, tw_p25, tw_p27, tw_r1, tw_r2, tw_r3, tw_r4, tw_r5, tw_r6, tw_r7, tw_r8, tw_r9, tw_r10, tw_r11, tw_w1, tw_w2, tw_w3, tw_w4, tw_w5, tw_w6, tw_w7, tw_w8, tw_w9, tw_w10, tw_w11, w358, z_bit]
  unfold sp_cnt
  simp only [Int.zero_add, Int.reduceAdd]
  rw [tw_up_sw (M := tw_up M 0 13 W.2.2.1) (i := 14) (i' := 13) (by decide), tw_up_up]
  rw [tw_up_up]
theorem w174l {c w : Int} (ho : tw_ok M) (hc : 0 ≤ c ∧ c < M 1 0 * M 1 1) (hL : M 2 (33 + c) = 1) (hE : M 2 (97 + c) = 0) (hw : z_R w) : ∀ (n : Nat) (l : Int) (W : sp_W), 0 ≤ l → l + n = sp_p2 (M 2 0) → q_ev (d + 14, 174, 53, [some (.ref 1005), some (.int (z_i w)), some (.int (z_i c)), some (.int (z_i l))], [], q_tu g (tw_wm M W)) = q_ev (d + 14, 174, 116, [some (.ref 1005), some (.int (z_i w)), some (.int (z_i c)), some (.int (z_i (sp_p2 (M 2 0))))], [], q_tu g (tw_wm M (sp_cl (M 1 0) (M 1 1) (M 2) (M 5) (M 6) w c n l W))) := by
  have hN := sp_N ho.1.1 ho.1.2.1
  have hs0 : 0 ≤ M 2 0 ∧ M 2 0 ≤ 4 := by have := ho.1.2.2.1; omega
  have hp := sp_p2b hs0
  intro n
  induction n with
  | zero =>
    intro l W hl0 hl
    have : l = sp_p2 (M 2 0) := by omega
    subst this
    have ho2 := ho.2.1
    clear ho
    have hr1 : ∀ i, z_R (tw_wm M W 2 i) := ho2
    have e1 : tw_wm M W 2 = M 2 := rfl
    simp (disch := first | assumption | exact hr _ | exact hr1 _ | exact hr1 _ _ | exact z_Rm (by omega) (by omega) | omega | exact tw_cls | exact z_k_int | exact z_k_ref | exact (show q_cat _ ≤ 8 from by with_unfolding_all exact Nat.le_of_ble_eq_true rfl) | exact z_01 _ | exact z_R01 _ | exact z_n0 | exact z_n1 | exact z_nb _ | exact z_ne0 (z_Rm (by omega) (by omega)) (by omega) | exact (show (_ ∨ 8 < Int32.toInt _) from Or.inr (by decide)) | (simp (disch := omega) only [tw_ua_s, tw_ua_j, tw_up_s, tw_up_j, tw_up_i, tw_up_x, sp_u_s, sp_u_i, sp_u_x] <;> (first | assumption | exact hr _ | exact z_Rm (by omega) (by omega) | omega)) | fail) only [e174_0, e174_0n, e174_1, e174_4, e174_4n, e174_5, e174_6, e174_9, e174_9n, e174_10, e174_11, e174_14, e174_15, e174_16, e174_17, e174_18, e174_21, e174_21n, e174_22, e174_25, e174_26, e174_27, e174_28, e174_31, e174_34, e174_35, e174_36, e174_37, e174_37n, e174_38, e174_41, e174_44, e174_44n, e174_45, e174_48, e174_49, e174_50, e174_51, e174_52, e174_53, e174_53n, e174_54, e174_55, e174_56, e174_59, e174_62, e174_62n, e174_63, e174_66, e174_68, e174_69, e174_70, e174_71, e174_74, e174_75, e174_76, e174_76n, e174_77, e174_80, e174_81, e174_82, e174_83, e174_86, e174_86n, e174_87, e174_88, e174_91, e174_94, e174_94n, e174_95, e174_96, e174_97, e174_98, e174_101, e174_104, e174_104n, e174_105, e174_106, e174_107, e174_110, e174_113, e174_119, e174_122, z_m1, tw_ua_S, tw_ua_J, z_bv_s, z_bi_s, z_bh_s, z_cl_v, z_cl_n, z_add, z_sub, z_mul, z_neg, z_lt, z_eq, z_dv, z_md, z_ifb, z_ifb1, z_lcl, z_lcg, tw_up_s, tw_up_j, tw_up_x, tw_up_i, tw_ua_s, tw_ua_j, tw_up_ua, tw_up_uj, sp_u_s, sp_u_x, sp_u_i, sp_uu, z_if_true, z_if_false, z_if_t, z_if_f, if_pos, if_neg, tw_g0, tw_g1, tw_g2, tw_g3, tw_g4, tw_g5, tw_g6, tw_g7, tw_g8, tw_g9, tw_g10, tw_g11, tw_g12, tw_g13, tw_g14, tw_g15, tw_g16, tw_g17, tw_g18, tw_g19, tw_g20, tw_g21, tw_g22, tw_g23, tw_g24, tw_g25, tw_g26, tw_g27, tw_p0, tw_p1, tw_p5, tw_p10, tw_p13, tw_p14, tw_p16, tw_p17, tw_p18, tw_p19, tw_p20, tw_p21, tw_p22, tw_p23, tw_p24, tw_p25, tw_p27, tw_r1, tw_r2, tw_r3, tw_r4, tw_r5, tw_r6, tw_r7, tw_r8, tw_r9, tw_r10, tw_r11, tw_w1, tw_w2, tw_w3, tw_w4, tw_w5, tw_w6, tw_w7, tw_w8, tw_w9, tw_w10, tw_w11, w146, e1, hL, hE, z_shl]
    rfl
  | succ n ih =>
    intro l W hl0 hl
    have hl2 : 0 ≤ l ∧ l < 16 := by omega
    have hr1 : ∀ i, z_R (tw_wm M W 2 i) := ho.2.1
    have e1 : tw_wm M W 2 = M 2 := rfl
    have e2 := w283 (d := d + 12) (g := g) (M := tw_wm M W) hr1 hs0 hl2
    have e3 := w284 (d := d) (g := g) (M := tw_wm M W) (c := c) (l := l) (w := w) ho hc hl2 hw
    have e4 := ih (l + 1) (if (sp_set (M 2) l && sp_sc (M 1 0) (M 1 1) (M 2) (M 5) (M 6) c l w) = true then sp_cnt c l W else W) (by omega) (by omega)
    have e5 : tw_wm M W 1 = M 1 := rfl
    have e6 : tw_wm M W 5 = M 5 := rfl
    have e7 : tw_wm M W 6 = M 6 := rfl
    rw [e1] at e2
    rw [e1, e5, e6, e7] at e3
    clear ho ih
    unfold sp_cl
    rw [← e4, e174_53]
    by_cases h1 : sp_set (M 2) l = true
    · rw [if_pos h1] at e2
      by_cases h2 : sp_sc (M 1 0) (M 1 1) (M 2) (M 5) (M 6) c l w = true
      · rw [if_pos h2] at e3
        rw [if_pos (by rw [h1, h2]; rfl)]
        simp (disch := first | assumption | exact hr _ | exact hr1 _ | exact hr1 _ _ | exact z_Rm (by omega) (by omega) | omega | exact tw_cls | exact z_k_int | exact z_k_ref | exact (show q_cat _ ≤ 8 from by with_unfolding_all exact Nat.le_of_ble_eq_true rfl) | exact z_01 _ | exact z_R01 _ | exact z_n0 | exact z_n1 | exact z_nb _ | exact z_ne0 (z_Rm (by omega) (by omega)) (by omega) | exact (show (_ ∨ 8 < Int32.toInt _) from Or.inr (by decide)) | (simp (disch := omega) only [tw_ua_s, tw_ua_j, tw_up_s, tw_up_j, tw_up_i, tw_up_x, sp_u_s, sp_u_i, sp_u_x] <;> (first | assumption | exact hr _ | exact z_Rm (by omega) (by omega) | omega)) | fail) only [e174_0, e174_0n, e174_1, e174_4, e174_4n, e174_5, e174_6, e174_9, e174_9n, e174_10, e174_11, e174_14, e174_15, e174_16, e174_17, e174_18, e174_21, e174_21n, e174_22, e174_25, e174_26, e174_27, e174_28, e174_31, e174_34, e174_35, e174_36, e174_37, e174_37n, e174_38, e174_41, e174_44, e174_44n, e174_45, e174_48, e174_49, e174_50, e174_51, e174_52, e174_54, e174_55, e174_56, e174_59, e174_62, e174_62n, e174_63, e174_66, e174_68, e174_69, e174_70, e174_71, e174_74, e174_75, e174_76, e174_76n, e174_77, e174_80, e174_81, e174_82, e174_83, e174_86, e174_86n, e174_87, e174_88, e174_91, e174_94, e174_94n, e174_95, e174_96, e174_97, e174_98, e174_101, e174_104, e174_104n, e174_105, e174_106, e174_107, e174_110, e174_113, e174_119, e174_122, z_m1, tw_ua_S, tw_ua_J, z_bv_s, z_bi_s, z_bh_s, z_cl_v, z_cl_n, z_add, z_sub, z_mul, z_neg, z_lt, z_eq, z_dv, z_md, z_ifb, z_ifb1, z_lcl, z_lcg, tw_up_s, tw_up_j, tw_up_x, tw_up_i, tw_ua_s, tw_ua_j, tw_up_ua, tw_up_uj, sp_u_s, sp_u_x, sp_u_i, sp_uu, z_if_true, z_if_false, z_if_t, z_if_f, if_pos, if_neg, tw_g0, tw_g1, tw_g2, tw_g3, tw_g4, tw_g5, tw_g6, tw_g7, tw_g8, tw_g9, tw_g10, tw_g11, tw_g12, tw_g13, tw_g14, tw_g15, tw_g16, tw_g17, tw_g18, tw_g19, tw_g20, tw_g21, tw_g22, tw_g23, tw_g24, tw_g25, tw_g26, tw_g27, tw_p0, tw_p1, tw_p5, tw_p10, tw_p13, tw_p14, tw_p16, tw_p17, tw_p18, tw_p19, tw_p20, tw_p21, tw_p22, tw_p23, tw_p24, tw_p25, tw_p27, tw_r1, tw_r2, tw_r3, tw_r4, tw_r5, tw_r6, tw_r7, tw_r8, tw_r9, tw_r10, tw_r11, tw_w1, tw_w2, tw_w3, tw_w4, tw_w5, tw_w6, tw_w7, tw_w8, tw_w9, tw_w10, tw_w11, w146, e1, hL, hE, z_shl, e2, e3, w285]
      · rw [if_neg h2] at e3
        rw [if_neg (by rw [h1, Bool.true_and]; exact h2)]
        simp (disch := first | assumption | exact hr _ | exact hr1 _ | exact hr1 _ _ | exact z_Rm (by omega) (by omega) | omega | exact tw_cls | exact z_k_int | exact z_k_ref | exact (show q_cat _ ≤ 8 from by with_unfolding_all exact Nat.le_of_ble_eq_true rfl) | exact z_01 _ | exact z_R01 _ | exact z_n0 | exact z_n1 | exact z_nb _ | exact z_ne0 (z_Rm (by omega) (by omega)) (by omega) | exact (show (_ ∨ 8 < Int32.toInt _) from Or.inr (by decide)) | (simp (disch := omega) only [tw_ua_s, tw_ua_j, tw_up_s, tw_up_j, tw_up_i, tw_up_x, sp_u_s, sp_u_i, sp_u_x] <;> (first | assumption | exact hr _ | exact z_Rm (by omega) (by omega) | omega)) | fail) only [e174_0, e174_0n, e174_1, e174_4, e174_4n, e174_5, e174_6, e174_9, e174_9n, e174_10, e174_11, e174_14, e174_15, e174_16, e174_17, e174_18, e174_21, e174_21n, e174_22, e174_25, e174_26, e174_27, e174_28, e174_31, e174_34, e174_35, e174_36, e174_37, e174_37n, e174_38, e174_41, e174_44, e174_44n, e174_45, e174_48, e174_49, e174_50, e174_51, e174_52, e174_54, e174_55, e174_56, e174_59, e174_62, e174_62n, e174_63, e174_66, e174_68, e174_69, e174_70, e174_71, e174_74, e174_75, e174_76, e174_76n, e174_77, e174_80, e174_81, e174_82, e174_83, e174_86, e174_86n, e174_87, e174_88, e174_91, e174_94, e174_94n, e174_95, e174_96, e174_97, e174_98, e174_101, e174_104, e174_104n, e174_105, e174_106, e174_107, e174_110, e174_113, e174_119, e174_122, z_m1, tw_ua_S, tw_ua_J, z_bv_s, z_bi_s, z_bh_s, z_cl_v, z_cl_n, z_add, z_sub, z_mul, z_neg, z_lt, z_eq, z_dv, z_md, z_ifb, z_ifb1, z_lcl, z_lcg, tw_up_s, tw_up_j, tw_up_x, tw_up_i, tw_ua_s, tw_ua_j, tw_up_ua, tw_up_uj, sp_u_s, sp_u_x, sp_u_i, sp_uu, z_if_true, z_if_false, z_if_t, z_if_f, if_pos, if_neg, tw_g0, tw_g1, tw_g2, tw_g3, tw_g4, tw_g5, tw_g6, tw_g7, tw_g8, tw_g9, tw_g10, tw_g11, tw_g12, tw_g13, tw_g14, tw_g15, tw_g16, tw_g17, tw_g18, tw_g19, tw_g20, tw_g21, tw_g22, tw_g23, tw_g24, tw_g25, tw_g26, tw_g27, tw_p0, tw_p1, tw_p5, tw_p10, tw_p13, tw_p14, tw_p16, tw_p17, tw_p18, tw_p19, tw_p20, tw_p21, tw_p22, tw_p23, tw_p24, tw_p25, tw_p27, tw_r1, tw_r2, tw_r3, tw_r4, tw_r5, tw_r6, tw_r7, tw_r8, tw_r9, tw_r10, tw_r11, tw_w1, tw_w2, tw_w3, tw_w4, tw_w5, tw_w6, tw_w7, tw_w8, tw_w9, tw_w10, tw_w11, w146, e1, hL, hE, z_shl, e2, e3]
    · rw [if_neg h1] at e2
      rw [if_neg (by intro h; rw [Bool.and_eq_true] at h; exact h1 h.1)]
      simp (disch := first | assumption | exact hr _ | exact hr1 _ | exact hr1 _ _ | exact z_Rm (by omega) (by omega) | omega | exact tw_cls | exact z_k_int | exact z_k_ref | exact (show q_cat _ ≤ 8 from by with_unfolding_all exact Nat.le_of_ble_eq_true rfl) | exact z_01 _ | exact z_R01 _ | exact z_n0 | exact z_n1 | exact z_nb _ | exact z_ne0 (z_Rm (by omega) (by omega)) (by omega) | exact (show (_ ∨ 8 < Int32.toInt _) from Or.inr (by decide)) | (simp (disch := omega) only [tw_ua_s, tw_ua_j, tw_up_s, tw_up_j, tw_up_i, tw_up_x, sp_u_s, sp_u_i, sp_u_x] <;> (first | assumption | exact hr _ | exact z_Rm (by omega) (by omega) | omega)) | fail) only [e174_0, e174_0n, e174_1, e174_4, e174_4n, e174_5, e174_6, e174_9, e174_9n, e174_10, e174_11, e174_14, e174_15, e174_16, e174_17, e174_18, e174_21, e174_21n, e174_22, e174_25, e174_26, e174_27, e174_28, e174_31, e174_34, e174_35, e174_36, e174_37, e174_37n, e174_38, e174_41, e174_44, e174_44n, e174_45, e174_48, e174_49, e174_50, e174_51, e174_52, e174_54, e174_55, e174_56, e174_59, e174_62, e174_62n, e174_63, e174_66, e174_68, e174_69, e174_70, e174_71, e174_74, e174_75, e174_76, e174_76n, e174_77, e174_80, e174_81, e174_82, e174_83, e174_86, e174_86n, e174_87, e174_88, e174_91, e174_94, e174_94n, e174_95, e174_96, e174_97, e174_98, e174_101, e174_104, e174_104n, e174_105, e174_106, e174_107, e174_110, e174_113, e174_119, e174_122, z_m1, tw_ua_S, tw_ua_J, z_bv_s, z_bi_s, z_bh_s, z_cl_v, z_cl_n, z_add, z_sub, z_mul, z_neg, z_lt, z_eq, z_dv, z_md, z_ifb, z_ifb1, z_lcl, z_lcg, tw_up_s, tw_up_j, tw_up_x, tw_up_i, tw_ua_s, tw_ua_j, tw_up_ua, tw_up_uj, sp_u_s, sp_u_x, sp_u_i, sp_uu, z_if_true, z_if_false, z_if_t, z_if_f, if_pos, if_neg, tw_g0, tw_g1, tw_g2, tw_g3, tw_g4, tw_g5, tw_g6, tw_g7, tw_g8, tw_g9, tw_g10, tw_g11, tw_g12, tw_g13, tw_g14, tw_g15, tw_g16, tw_g17, tw_g18, tw_g19, tw_g20, tw_g21, tw_g22, tw_g23, tw_g24, tw_g25, tw_g26, tw_g27, tw_p0, tw_p1, tw_p5, tw_p10, tw_p13, tw_p14, tw_p16, tw_p17, tw_p18, tw_p19, tw_p20, tw_p21, tw_p22, tw_p23, tw_p24, tw_p25, tw_p27, tw_r1, tw_r2, tw_r3, tw_r4, tw_r5, tw_r6, tw_r7, tw_r8, tw_r9, tw_r10, tw_r11, tw_w1, tw_w2, tw_w3, tw_w4, tw_w5, tw_w6, tw_w7, tw_w8, tw_w9, tw_w10, tw_w11, w146, e1, hL, hE, z_shl, e2]
theorem w174s {w : Int} (ho : tw_ok M) (hw : z_R w) : ∀ (n : Nat) (c : Int) (W : sp_W) (l3 : Option Value), 0 ≤ c → c + n = M 1 0 * M 1 1 → q_ev (d + 14, 174, 36, [some (.ref 1005), some (.int (z_i w)), some (.int (z_i c)), l3], [], q_tu g (tw_wm M W)) = some (.inl none, q_tu g (tw_wm M (sp_cs (M 1 0) (M 1 1) (M 2) (M 5) (M 6) w n c W))) := by
  have hN := sp_N ho.1.1 ho.1.2.1
  have hs0 : 0 ≤ M 2 0 ∧ M 2 0 ≤ 4 := by have := ho.1.2.2.1; omega
  have hp := sp_p2b hs0
  intro n
  induction n with
  | zero =>
    intro c W l3 hc0 hc
    clear ho
    have e5 : tw_wm M W 1 = M 1 := rfl
    simp (disch := first | assumption | exact hr _ | exact hr1 _ | exact hr1 _ _ | exact z_Rm (by omega) (by omega) | omega | exact tw_cls | exact z_k_int | exact z_k_ref | exact (show q_cat _ ≤ 8 from by with_unfolding_all exact Nat.le_of_ble_eq_true rfl) | exact z_01 _ | exact z_R01 _ | exact z_n0 | exact z_n1 | exact z_nb _ | exact z_ne0 (z_Rm (by omega) (by omega)) (by omega) | exact (show (_ ∨ 8 < Int32.toInt _) from Or.inr (by decide)) | (simp (disch := omega) only [tw_ua_s, tw_ua_j, tw_up_s, tw_up_j, tw_up_i, tw_up_x, sp_u_s, sp_u_i, sp_u_x] <;> (first | assumption | exact hr _ | exact z_Rm (by omega) (by omega) | omega)) | fail) only [e174_0, e174_0n, e174_1, e174_4, e174_4n, e174_5, e174_6, e174_9, e174_9n, e174_10, e174_11, e174_14, e174_15, e174_16, e174_17, e174_18, e174_21, e174_21n, e174_22, e174_25, e174_26, e174_27, e174_28, e174_31, e174_34, e174_35, e174_36, e174_37, e174_37n, e174_38, e174_41, e174_44, e174_44n, e174_45, e174_48, e174_49, e174_50, e174_51, e174_52, e174_53, e174_53n, e174_54, e174_55, e174_56, e174_59, e174_62, e174_62n, e174_63, e174_66, e174_68, e174_69, e174_70, e174_71, e174_74, e174_75, e174_76, e174_76n, e174_77, e174_80, e174_81, e174_82, e174_83, e174_86, e174_86n, e174_87, e174_88, e174_91, e174_94, e174_94n, e174_95, e174_96, e174_97, e174_98, e174_101, e174_104, e174_104n, e174_105, e174_106, e174_107, e174_110, e174_113, e174_116, e174_119, e174_122, z_m1, tw_ua_S, tw_ua_J, z_bv_s, z_bi_s, z_bh_s, z_cl_v, z_cl_n, z_add, z_sub, z_mul, z_neg, z_lt, z_eq, z_dv, z_md, z_ifb, z_ifb1, z_lcl, z_lcg, tw_up_s, tw_up_j, tw_up_x, tw_up_i, tw_ua_s, tw_ua_j, tw_up_ua, tw_up_uj, sp_u_s, sp_u_x, sp_u_i, sp_uu, z_if_true, z_if_false, z_if_t, z_if_f, if_pos, if_neg, tw_g0, tw_g1, tw_g2, tw_g3, tw_g4, tw_g5, tw_g6, tw_g7, tw_g8, tw_g9, tw_g10, tw_g11, tw_g12, tw_g13, tw_g14, tw_g15, tw_g16, tw_g17, tw_g18, tw_g19, tw_g20, tw_g21, tw_g22, tw_g23, tw_g24, tw_g25, tw_g26, tw_g27, tw_p0, tw_p1, tw_p5, tw_p10, tw_p13, tw_p14, tw_p16, tw_p17, tw_p18, tw_p19, tw_p20, tw_p21, tw_p22, tw_p23, tw_p24, tw_p25, tw_p27, tw_r1, tw_r2, tw_r3, tw_r4, tw_r5, tw_r6, tw_r7, tw_r8, tw_r9, tw_r10, tw_r11, tw_w1, tw_w2, tw_w3, tw_w4, tw_w5, tw_w6, tw_w7, tw_w8, tw_w9, tw_w10, tw_w11, w179, e5]
    rfl
  | succ n ih =>
    intro c W l3 hc0 hc
    have e1 : ∀ W, tw_wm M W 2 = M 2 := fun _ => rfl
    have e5 : ∀ W, tw_wm M W 1 = M 1 := fun _ => rfl
    have e6 : ∀ f, tw_up (tw_wm M W) 8 c f = tw_wm M (sp_u W.1 c f, W.2) := fun f => by
      unfold tw_wm
      simp (disch := omega) only [tw_up_uj, tw_up_ua]
    have hr1 : ∀ i, z_R (tw_wm M (sp_u W.1 c 0, W.2) 2 i) := ho.2.1
    have hcc := ho.1.2.2.2.2.2.2.2.2.1 c hc0 (by omega)
    have eL := fun a b => w174l (d := d) (g := g) (w := w) ho (c := c) ⟨hc0, by omega⟩ a b hw (sp_p2 (M 2 0)).toNat 0 (sp_u W.1 c 0, W.2) (by omega) (by omega)
    have e4 := ih (c + 1) (sp_cc (M 1 0) (M 1 1) (M 2) (M 5) (M 6) w c W) (some (.int (z_i (if M 2 (33 + c) = 1 ∧ M 2 (97 + c) = 0 then sp_p2 (M 2 0) else 0)))) (by omega) (by omega)
    have hr2 := ho.2.1
    clear ho ih
    unfold sp_cs
    rw [← e4, e174_36]
    unfold sp_cc
    by_cases h1 : M 2 (33 + c) = 1
    · by_cases h2 : M 2 (97 + c) = 0
      · have eL := eL h1 h2
        rw [if_pos ⟨h1, h2⟩, if_pos ⟨h1, h2⟩]
        simp (disch := first | assumption | exact hr _ | exact hr1 _ | exact hr1 _ _ | exact z_Rm (by omega) (by omega) | omega | exact tw_cls | exact z_k_int | exact z_k_ref | exact (show q_cat _ ≤ 8 from by with_unfolding_all exact Nat.le_of_ble_eq_true rfl) | exact z_01 _ | exact z_R01 _ | exact z_n0 | exact z_n1 | exact z_nb _ | exact z_ne0 (z_Rm (by omega) (by omega)) (by omega) | exact (show (_ ∨ 8 < Int32.toInt _) from Or.inr (by decide)) | (simp (disch := omega) only [tw_ua_s, tw_ua_j, tw_up_s, tw_up_j, tw_up_i, tw_up_x, sp_u_s, sp_u_i, sp_u_x] <;> (first | assumption | exact hr _ | exact z_Rm (by omega) (by omega) | omega)) | fail) only [e174_0, e174_0n, e174_1, e174_4, e174_4n, e174_5, e174_6, e174_9, e174_9n, e174_10, e174_11, e174_14, e174_15, e174_16, e174_17, e174_18, e174_21, e174_21n, e174_22, e174_25, e174_26, e174_27, e174_28, e174_31, e174_34, e174_35, e174_37, e174_37n, e174_38, e174_41, e174_44, e174_44n, e174_45, e174_48, e174_49, e174_50, e174_51, e174_52, e174_54, e174_55, e174_56, e174_59, e174_62, e174_62n, e174_63, e174_66, e174_68, e174_69, e174_70, e174_71, e174_74, e174_75, e174_76, e174_76n, e174_77, e174_80, e174_81, e174_82, e174_83, e174_86, e174_86n, e174_87, e174_88, e174_91, e174_94, e174_94n, e174_95, e174_96, e174_97, e174_98, e174_101, e174_104, e174_104n, e174_105, e174_106, e174_107, e174_110, e174_113, e174_116, e174_119, e174_122, z_m1, tw_ua_S, tw_ua_J, z_bv_s, z_bi_s, z_bh_s, z_cl_v, z_cl_n, z_add, z_sub, z_mul, z_neg, z_lt, z_eq, z_dv, z_md, z_ifb, z_ifb1, z_lcl, z_lcg, tw_up_s, tw_up_j, tw_up_x, tw_up_i, tw_ua_s, tw_ua_j, tw_up_ua, tw_up_uj, sp_u_s, sp_u_x, sp_u_i, sp_uu, z_if_true, z_if_false, z_if_t, z_if_f, if_pos, if_neg, tw_g0, tw_g1, tw_g2, tw_g3, tw_g4, tw_g5, tw_g6, tw_g7, tw_g8, tw_g9, tw_g10, tw_g11, tw_g12, tw_g13, tw_g14, tw_g15, tw_g16, tw_g17, tw_g18, tw_g19, tw_g20, tw_g21, tw_g22, tw_g23, tw_g24, tw_g25, tw_g26, tw_g27, tw_p0, tw_p1, tw_p5, tw_p10, tw_p13, tw_p14, tw_p16, tw_p17, tw_p18, tw_p19, tw_p20, tw_p21, tw_p22, tw_p23, tw_p24, tw_p25, tw_p27, tw_r1, tw_r2, tw_r3, tw_r4, tw_r5, tw_r6, tw_r7, tw_r8, tw_r9, tw_r10, tw_r11, tw_w1, tw_w2, tw_w3, tw_w4, tw_w5, tw_w6, tw_w7, tw_w8, tw_w9, tw_w10, tw_w11, w179, e5, e6, eL]
      · have hcc := hcc.resolve_left h2
        clear eL
        rw [if_neg (fun h => h2 h.2), if_neg (fun h => h2 h.2)]
        simp (disch := first | assumption | exact hr _ | exact hr1 _ | exact hr1 _ _ | exact z_Rm (by omega) (by omega) | omega | exact tw_cls | exact z_k_int | exact z_k_ref | exact (show q_cat _ ≤ 8 from by with_unfolding_all exact Nat.le_of_ble_eq_true rfl) | exact z_01 _ | exact z_R01 _ | exact z_n0 | exact z_n1 | exact z_nb _ | exact z_ne0 (z_Rm (by omega) (by omega)) (by omega) | exact (show (_ ∨ 8 < Int32.toInt _) from Or.inr (by decide)) | (simp (disch := omega) only [tw_ua_s, tw_ua_j, tw_up_s, tw_up_j, tw_up_i, tw_up_x, sp_u_s, sp_u_i, sp_u_x] <;> (first | assumption | exact hr _ | exact z_Rm (by omega) (by omega) | omega)) | fail) only [e174_0, e174_0n, e174_1, e174_4, e174_4n, e174_5, e174_6, e174_9, e174_9n, e174_10, e174_11, e174_14, e174_15, e174_16, e174_17, e174_18, e174_21, e174_21n, e174_22, e174_25, e174_26, e174_27, e174_28, e174_31, e174_34, e174_35, e174_37, e174_37n, e174_38, e174_41, e174_44, e174_44n, e174_45, e174_48, e174_49, e174_50, e174_51, e174_52, e174_53, e174_53n, e174_54, e174_55, e174_56, e174_59, e174_62, e174_62n, e174_63, e174_66, e174_68, e174_69, e174_70, e174_71, e174_74, e174_75, e174_76, e174_76n, e174_77, e174_80, e174_81, e174_82, e174_83, e174_86, e174_86n, e174_87, e174_88, e174_91, e174_94, e174_94n, e174_95, e174_96, e174_97, e174_98, e174_101, e174_104, e174_104n, e174_105, e174_106, e174_107, e174_110, e174_113, e174_116, e174_119, e174_122, z_m1, tw_ua_S, tw_ua_J, z_bv_s, z_bi_s, z_bh_s, z_cl_v, z_cl_n, z_add, z_sub, z_mul, z_neg, z_lt, z_eq, z_dv, z_md, z_ifb, z_ifb1, z_lcl, z_lcg, tw_up_s, tw_up_j, tw_up_x, tw_up_i, tw_ua_s, tw_ua_j, tw_up_ua, tw_up_uj, sp_u_s, sp_u_x, sp_u_i, sp_uu, z_if_true, z_if_false, z_if_t, z_if_f, if_pos, if_neg, tw_g0, tw_g1, tw_g2, tw_g3, tw_g4, tw_g5, tw_g6, tw_g7, tw_g8, tw_g9, tw_g10, tw_g11, tw_g12, tw_g13, tw_g14, tw_g15, tw_g16, tw_g17, tw_g18, tw_g19, tw_g20, tw_g21, tw_g22, tw_g23, tw_g24, tw_g25, tw_g26, tw_g27, tw_p0, tw_p1, tw_p5, tw_p10, tw_p13, tw_p14, tw_p16, tw_p17, tw_p18, tw_p19, tw_p20, tw_p21, tw_p22, tw_p23, tw_p24, tw_p25, tw_p27, tw_r1, tw_r2, tw_r3, tw_r4, tw_r5, tw_r6, tw_r7, tw_r8, tw_r9, tw_r10, tw_r11, tw_w1, tw_w2, tw_w3, tw_w4, tw_w5, tw_w6, tw_w7, tw_w8, tw_w9, tw_w10, tw_w11, w179, e5, e6, w146, e1, h1, hcc]
    · clear eL
      rw [if_neg (fun h => h1 h.1), if_neg (fun h => h1 h.1)]
      simp (disch := first | assumption | exact hr _ | exact hr1 _ | exact hr1 _ _ | exact z_Rm (by omega) (by omega) | omega | exact tw_cls | exact z_k_int | exact z_k_ref | exact (show q_cat _ ≤ 8 from by with_unfolding_all exact Nat.le_of_ble_eq_true rfl) | exact z_01 _ | exact z_R01 _ | exact z_n0 | exact z_n1 | exact z_nb _ | exact z_ne0 (z_Rm (by omega) (by omega)) (by omega) | exact (show (_ ∨ 8 < Int32.toInt _) from Or.inr (by decide)) | (simp (disch := omega) only [tw_ua_s, tw_ua_j, tw_up_s, tw_up_j, tw_up_i, tw_up_x, sp_u_s, sp_u_i, sp_u_x] <;> (first | assumption | exact hr _ | exact z_Rm (by omega) (by omega) | omega)) | fail) only [e174_0, e174_0n, e174_1, e174_4, e174_4n, e174_5, e174_6, e174_9, e174_9n, e174_10, e174_11, e174_14, e174_15, e174_16, e174_17, e174_18, e174_21, e174_21n, e174_22, e174_25, e174_26, e174_27, e174_28, e174_31, e174_34, e174_35, e174_37, e174_37n, e174_38, e174_41, e174_44, e174_44n, e174_45, e174_48, e174_49, e174_50, e174_51, e174_52, e174_53, e174_53n, e174_54, e174_55, e174_56, e174_59, e174_62, e174_62n, e174_63, e174_66, e174_68, e174_69, e174_70, e174_71, e174_74, e174_75, e174_76, e174_76n, e174_77, e174_80, e174_81, e174_82, e174_83, e174_86, e174_86n, e174_87, e174_88, e174_91, e174_94, e174_94n, e174_95, e174_96, e174_97, e174_98, e174_101, e174_104, e174_104n, e174_105, e174_106, e174_107, e174_110, e174_113, e174_116, e174_119, e174_122, z_m1, tw_ua_S, tw_ua_J, z_bv_s, z_bi_s, z_bh_s, z_cl_v, z_cl_n, z_add, z_sub, z_mul, z_neg, z_lt, z_eq, z_dv, z_md, z_ifb, z_ifb1, z_lcl, z_lcg, tw_up_s, tw_up_j, tw_up_x, tw_up_i, tw_ua_s, tw_ua_j, tw_up_ua, tw_up_uj, sp_u_s, sp_u_x, sp_u_i, sp_uu, z_if_true, z_if_false, z_if_t, z_if_f, if_pos, if_neg, tw_g0, tw_g1, tw_g2, tw_g3, tw_g4, tw_g5, tw_g6, tw_g7, tw_g8, tw_g9, tw_g10, tw_g11, tw_g12, tw_g13, tw_g14, tw_g15, tw_g16, tw_g17, tw_g18, tw_g19, tw_g20, tw_g21, tw_g22, tw_g23, tw_g24, tw_g25, tw_g26, tw_g27, tw_p0, tw_p1, tw_p5, tw_p10, tw_p13, tw_p14, tw_p16, tw_p17, tw_p18, tw_p19, tw_p20, tw_p21, tw_p22, tw_p23, tw_p24, tw_p25, tw_p27, tw_r1, tw_r2, tw_r3, tw_r4, tw_r5, tw_r6, tw_r7, tw_r8, tw_r9, tw_r10, tw_r11, tw_w1, tw_w2, tw_w3, tw_w4, tw_w5, tw_w6, tw_w7, tw_w8, tw_w9, tw_w10, tw_w11, w179, e5, e6, w146, e1]
/-- the scenarios of a search -/
def tw_W0 (M : tw_M) : sp_W := (M 8, sp_u (sp_u (sp_u (sp_u (M 9) 0 0) 1 0) 2 0) 3 0, 0, 0)
def tw_sw (M : tw_M) (w : Int) : sp_W := sp_cs (M 1 0) (M 1 1) (M 2) (M 5) (M 6) w (M 1 0 * M 1 1).toNat 0 (tw_W0 M)
def tw_sr (M : tw_M) (w : Int) : tw_M := tw_wm (tw_il M) (tw_sw (tw_il M) w)
theorem tw_il_ok (hw : sp_w (M 1 0) (M 1 1) (M 2)) (hr : ∀ i, z_R (M 2 i)) : tw_ok (tw_il M) := by
  have h := tw_izi (M := M) hw.1 hw.2.1
  have hN := sp_N hw.1 hw.2.1
  refine ⟨hw, hr, ?_, ?_⟩
  · intro c h0 h1
    have h2 : (tw_iz M).2.1 c = -1 ∨ _ := h.2.2.1 c h0 h1
    have h3 := h.2.1
    show (tw_iz M).2.1 c = -1 ∨ 0 ≤ (tw_iz M).2.1 c ∧ (tw_iz M).2.1 c < 64
    have h4 : (sp_um (tw_iz M).2.1 64 : Int) ≥ 0 := by omega
    by_cases h5 : (tw_iz M).1 = 0
    · omega
    · have h6 := h.1
      omega
  · intro c h0 h1 h2
    have h3 : (tw_iz M).2.1 c ≠ -1 := h2
    have h4 := (h.2.2.1 c h0 h1).resolve_left h3
    have h5 := h.2.2.2.2.2 _ h4.1 h4.2
    exact z_Rm (by show _ ≤ (tw_iz M).2.2.1 ((tw_iz M).2.1 c); omega) (by show (tw_iz M).2.2.1 ((tw_iz M).2.1 c) < _; omega)
theorem w174 {w : Int} (hw : sp_w (M 1 0) (M 1 1) (M 2)) (hr : ∀ i, z_R (M 2 i)) (hw2 : z_R w) : q_ev (d + 14, 174, 0, [some (.ref 1005), some (.int (z_i w)), none, none], [], q_tu g M) = some (.inl none, q_tu g (tw_sr M w)) := by
  have ho := tw_il_ok hw hr
  have hN := sp_N hw.1 hw.2.1
  have e0 := w152 (d := d + 9) (g := g) (M := M) hr hw.1 hw.2.1
  have e := w174s (d := d) (g := g) ho hw2 ((tw_il M) 1 0 * (tw_il M) 1 1).toNat 0 (tw_W0 (tw_il M)) none (by omega) (by have : (tw_il M) 1 = M 1 := rfl; rw [this]; omega)
  unfold tw_sr tw_sw
  rw [← e]
  have e2 : tw_wm (tw_il M) (tw_W0 (tw_il M)) = tw_ua (tw_up (tw_up (tw_il M) 0 13 0) 0 14 0) 9 (tw_W0 (tw_il M)).2.1 := by
    show tw_ua (tw_ua (tw_up (tw_up (tw_il M) 0 13 0) 0 14 0) 8 (tw_up (tw_up (tw_il M) 0 13 0) 0 14 0 8)) 9 (tw_W0 (tw_il M)).2.1 = _
    rw [tw_ua_id]
  rw [e2]
  generalize tw_il M = M1 at *
  clear e ho hw hr
  unfold tw_W0
  dsimp only
  simp (disch := first | assumption | exact hr _ | exact hr1 _ | exact hr1 _ _ | exact z_Rm (by omega) (by omega) | omega | exact tw_cls | exact z_k_int | exact z_k_ref | exact (show q_cat _ ≤ 8 from by with_unfolding_all exact Nat.le_of_ble_eq_true rfl) | exact z_01 _ | exact z_R01 _ | exact z_n0 | exact z_n1 | exact z_nb _ | exact z_ne0 (z_Rm (by omega) (by omega)) (by omega) | exact (show (_ ∨ 8 < Int32.toInt _) from Or.inr (by decide)) | (simp (disch := omega) only [tw_ua_s, tw_ua_j, tw_up_s, tw_up_j, tw_up_i, tw_up_x, sp_u_s, sp_u_i, sp_u_x] <;> (first | assumption | exact hr _ | exact z_Rm (by omega) (by omega) | omega)) | fail) only [e174_0, e174_0n, e174_1, e174_4, e174_4n, e174_5, e174_6, e174_9, e174_9n, e174_10, e174_11, e174_14, e174_15, e174_16, e174_17, e174_18, e174_21, e174_21n, e174_22, e174_25, e174_26, e174_27, e174_28, e174_31, e174_34, e174_35, e174_37, e174_37n, e174_38, e174_41, e174_44, e174_44n, e174_45, e174_48, e174_49, e174_50, e174_51, e174_52, e174_53, e174_53n, e174_54, e174_55, e174_56, e174_59, e174_62, e174_62n, e174_63, e174_66, e174_68, e174_69, e174_70, e174_71, e174_74, e174_75, e174_76, e174_76n, e174_77, e174_80, e174_81, e174_82, e174_83, e174_86, e174_86n, e174_87, e174_88, e174_91, e174_94, e174_94n, e174_95, e174_96, e174_97, e174_98, e174_101, e174_104, e174_104n, e174_105, e174_106, e174_107, e174_110, e174_113, e174_116, e174_119, e174_122, z_m1, tw_ua_S, tw_ua_J, z_bv_s, z_bi_s, z_bh_s, z_cl_v, z_cl_n, z_add, z_sub, z_mul, z_neg, z_lt, z_eq, z_dv, z_md, z_ifb, z_ifb1, z_lcl, z_lcg, tw_up_s, tw_up_j, tw_up_x, tw_up_i, tw_ua_s, tw_ua_j, tw_up_ua, tw_up_uj, sp_u_s, sp_u_x, sp_u_i, sp_uu, z_if_true, z_if_false, z_if_t, z_if_f, if_pos, if_neg, tw_g0, tw_g1, tw_g2, tw_g3, tw_g4, tw_g5, tw_g6, tw_g7, tw_g8, tw_g9, tw_g10, tw_g11, tw_g12, tw_g13, tw_g14, tw_g15, tw_g16, tw_g17, tw_g18, tw_g19, tw_g20, tw_g21, tw_g22, tw_g23, tw_g24, tw_g25, tw_g26, tw_g27, tw_p0, tw_p1, tw_p5, tw_p10, tw_p13, tw_p14, tw_p16, tw_p17, tw_p18, tw_p19, tw_p20, tw_p21, tw_p22, tw_p23, tw_p24, tw_p25, tw_p27, tw_r1, tw_r2, tw_r3, tw_r4, tw_r5, tw_r6, tw_r7, tw_r8, tw_r9, tw_r10, tw_r11, tw_w1, tw_w2, tw_w3, tw_w4, tw_w5, tw_w6, tw_w7, tw_w8, tw_w9, tw_w10, tw_w11, e0, tw_up_eq (j := 9), tw_ua_ua, tw_up_J, Int.zero_add, Int.reduceAdd]
def sp_can (f : Int → Int) : Nat → Int → Int
  | 0, _ => 0
  | n + 1, c => (if 0 < f c then 1 else 0) + sp_can f n (c + 1)
/-- bounds of a search -/
def sp_bW (m : Int) (W : sp_W) : Prop := (∀ c, 0 ≤ c → c < m → 0 ≤ W.1 c ∧ W.1 c ≤ 16) ∧ (0 ≤ W.2.2.1 ∧ W.2.2.1 ≤ 16 * m) ∧ (0 ≤ W.2.2.2 ∧ W.2.2.2 ≤ 64 * m) ∧ (∀ k, 0 ≤ k → k < 4 → 0 ≤ W.2.1 k ∧ W.2.1 k ≤ 16 * m)
theorem sp_cnt_1 {c l : Int} {W : sp_W} {k : Int} : (sp_cnt c l W).1 k = if k = c then W.1 c + 1 else W.1 k := rfl
theorem sp_cnt_2 {c l : Int} {W : sp_W} {k : Int} (hk : 0 ≤ k ∧ k < 4) : (sp_cnt c l W).2.1 k = W.2.1 k + sp_bit l k := by
  rcases (show k = 0 ∨ k = 1 ∨ k = 2 ∨ k = 3 by omega) with h | h | h | h <;> subst h <;> simp [sp_cnt, sp_u]
theorem sp_cl_b {R C : Int} {s isl sz : Int → Int} {w c : Int} : ∀ (n : Nat) (l : Int) (W : sp_W), (∀ k, k ≠ c → (sp_cl R C s isl sz w c n l W).1 k = W.1 k) ∧ (W.1 c ≤ (sp_cl R C s isl sz w c n l W).1 c ∧ (sp_cl R C s isl sz w c n l W).1 c ≤ W.1 c + n) ∧ (W.2.2.1 ≤ (sp_cl R C s isl sz w c n l W).2.2.1 ∧ (sp_cl R C s isl sz w c n l W).2.2.1 ≤ W.2.2.1 + n) ∧ (W.2.2.2 ≤ (sp_cl R C s isl sz w c n l W).2.2.2 ∧ (sp_cl R C s isl sz w c n l W).2.2.2 ≤ W.2.2.2 + 4 * n) ∧ (∀ k, 0 ≤ k → k < 4 → W.2.1 k ≤ (sp_cl R C s isl sz w c n l W).2.1 k ∧ (sp_cl R C s isl sz w c n l W).2.1 k ≤ W.2.1 k + n) := by
  intro n
  induction n with
  | zero => intro l W; exact ⟨fun k _ => rfl, by simp [sp_cl], by simp [sp_cl], by simp [sp_cl], fun k _ _ => by simp [sp_cl]⟩
  | succ n ih =>
    intro l W
    have h := ih (l + 1) (if (sp_set s l && sp_sc R C s isl sz c l w) = true then sp_cnt c l W else W)
    unfold sp_cl
    revert h
    by_cases hc : (sp_set s l && sp_sc R C s isl sz c l w) = true
    · rw [if_pos hc]
      generalize sp_cl R C s isl sz w c n (l + 1) (sp_cnt c l W) = V
      rintro ⟨h1, h2, h3, h4, h5⟩
      have e1 : (sp_cnt c l W).1 c = W.1 c + 1 := by rw [sp_cnt_1, if_pos rfl]
      have e3 : (sp_cnt c l W).2.2.1 = W.2.2.1 + 1 := rfl
      have e4 : (sp_cnt c l W).2.2.2 = W.2.2.2 + sp_bits l := rfl
      have hb : 0 ≤ sp_bits l ∧ sp_bits l ≤ 4 := by
        have b0 := sp_bit01 l 0
        have b1 := sp_bit01 l 1
        have b2 := sp_bit01 l 2
        have b3 := sp_bit01 l 3
        unfold sp_bits
        omega
      refine ⟨fun k hk => ?_, by omega, by omega, by omega, fun k hk0 hk1 => ?_⟩
      · rw [h1 k hk, sp_cnt_1, if_neg hk]
      · have := h5 k hk0 hk1
        have e5 := sp_cnt_2 (c := c) (l := l) (W := W) ⟨hk0, hk1⟩
        have b := sp_bit01 l k
        omega
    · rw [if_neg hc]
      generalize sp_cl R C s isl sz w c n (l + 1) W = V
      rintro ⟨h1, h2, h3, h4, h5⟩
      exact ⟨h1, by omega, by omega, by omega, fun k hk0 hk1 => by have := h5 k hk0 hk1; omega⟩
theorem sp_cc_b {R C : Int} {s isl sz : Int → Int} {w m : Int} {W : sp_W} (hs : 0 ≤ s 0 ∧ s 0 ≤ 4) (h : sp_bW m W) : sp_bW (m + 1) (sp_cc R C s isl sz w m W) := by
  have hp := sp_p2b hs
  obtain ⟨h1, h2, h3, h4⟩ := h
  unfold sp_cc
  split
  · have hb := sp_cl_b (R := R) (C := C) (s := s) (isl := isl) (sz := sz) (w := w) (c := m) (sp_p2 (s 0)).toNat 0 (sp_u W.1 m 0, W.2)
    generalize sp_cl R C s isl sz w m (sp_p2 (s 0)).toNat 0 (sp_u W.1 m 0, W.2) = V at *
    obtain ⟨g1, g2, g3, g4, g5⟩ := hb
    have e0 : (sp_u W.1 m 0, W.2).1 m = 0 := sp_u_s
    have e1 : (sp_u W.1 m 0, W.2).2.2.1 = W.2.2.1 := rfl
    have e2 : (sp_u W.1 m 0, W.2).2.2.2 = W.2.2.2 := rfl
    refine ⟨fun c hc0 hc1 => ?_, by omega, by omega, fun k hk0 hk1 => ?_⟩
    · by_cases hc : c = m
      · subst hc; omega
      · rw [g1 c hc]
        show 0 ≤ sp_u W.1 m 0 c ∧ sp_u W.1 m 0 c ≤ 16
        rw [sp_u_i hc]
        exact h1 c hc0 (by omega)
    · have a1 : W.2.1 k ≤ V.2.1 k ∧ V.2.1 k ≤ W.2.1 k + (sp_p2 (s 0)).toNat := g5 k hk0 hk1
      have a2 := h4 k hk0 hk1
      omega
  · refine ⟨fun c hc0 hc1 => ?_, by show 0 ≤ W.2.2.1 ∧ W.2.2.1 ≤ _; omega, by show 0 ≤ W.2.2.2 ∧ W.2.2.2 ≤ _; omega, fun k hk0 hk1 => ?_⟩
    · show 0 ≤ sp_u W.1 m 0 c ∧ sp_u W.1 m 0 c ≤ 16
      by_cases hc : c = m
      · rw [sp_u_x hc]; omega
      · rw [sp_u_i hc]; exact h1 c hc0 (by omega)
    · show 0 ≤ W.2.1 k ∧ W.2.1 k ≤ _
      have a2 := h4 k hk0 hk1
      omega
theorem sp_cs_b {R C : Int} {s isl sz : Int → Int} {w : Int} (hs : 0 ≤ s 0 ∧ s 0 ≤ 4) : ∀ (n : Nat) (m : Int) (W : sp_W), sp_bW m W → sp_bW (m + n) (sp_cs R C s isl sz w n m W) := by
  intro n
  induction n with
  | zero => intro m W h; rw [show m + ((0 : Nat) : Int) = m by omega]; exact h
  | succ n ih =>
    intro m W h
    have := ih (m + 1) _ (sp_cc_b (R := R) (C := C) (isl := isl) (sz := sz) (w := w) hs h)
    rw [show m + ((n + 1 : Nat) : Int) = m + 1 + n by omega]
    exact this
theorem tw_sw_b {w : Int} (hw : sp_w (M 1 0) (M 1 1) (M 2)) : sp_bW (M 1 0 * M 1 1) (tw_sw M w) := by
  have hN := sp_N hw.1 hw.2.1
  have h := sp_cs_b (R := M 1 0) (C := M 1 1) (s := M 2) (isl := M 5) (sz := M 6) (w := w) (by have := hw.2.2.1; omega) (M 1 0 * M 1 1).toNat 0 (tw_W0 M) ⟨fun c h0 h1 => by omega, by show (0 : Int) ≤ 0 ∧ (0 : Int) ≤ _; omega, by show (0 : Int) ≤ 0 ∧ (0 : Int) ≤ _; omega, fun k h0 h1 => by
    have : (tw_W0 M).2.1 k = 0 := by
      rcases (show k = 0 ∨ k = 1 ∨ k = 2 ∨ k = 3 by omega) with h | h | h | h <;> subst h <;> simp [tw_W0, sp_u]
    omega⟩
  rw [show 0 + ((M 1 0 * M 1 1).toNat : Int) = M 1 0 * M 1 1 by omega] at h
  exact h
end
