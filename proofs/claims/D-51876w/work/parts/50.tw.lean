/-! the reference's digs and what would be -/
section
variable {d : Nat} {g : q_H} {M : tw_M}
def sp_ri (f : Int → Int) : Nat → Int → Int → Int
  | 0, _, b => b
  | n + 1, c, b => sp_ri f n (c + 1) (if 0 < f c ∧ (b = -1 ∨ f b < f c) then c else b)
theorem sp_ri_b {f : Int → Int} : ∀ (n : Nat) (c b : Int), 0 ≤ c → (b = -1 ∨ (0 ≤ b ∧ b < c + n ∧ 0 < f b)) → sp_ri f n c b = -1 ∨ (0 ≤ sp_ri f n c b ∧ sp_ri f n c b < c + n ∧ 0 < f (sp_ri f n c b)) := by
  intro n
  induction n with
  | zero => intro c b _ hb; exact hb
  | succ n ih =>
    intro c b hc hb
    unfold sp_ri
    have e : c + ((n + 1 : Nat) : Int) = c + 1 + n := by omega
    rw [e] at hb ⊢
    apply ih _ _ (by omega)
    split
    · rename_i h
      exact Or.inr ⟨hc, by omega, h.1⟩
    · exact hb
theorem w190l {K : tw_M} {f : Int → Int} (h0 : 2 ≤ K 1 0 ∧ K 1 0 ≤ 8) (h1 : 2 ≤ K 1 1 ∧ K 1 1 ≤ 8) (hf : ∀ c, 0 ≤ c → c < K 1 0 * K 1 1 → K 8 c = f c) (hb : ∀ c, 0 ≤ c → c < K 1 0 * K 1 1 → 0 ≤ f c ∧ f c ≤ 16) : ∀ (n : Nat) (c b : Int) (l3 : Option Value), 0 ≤ c → c + n = K 1 0 * K 1 1 → (b = -1 ∨ (0 ≤ b ∧ b < c)) → q_ev (d + 1, 190, 4, [some (.ref 1005), some (.int (z_i b)), some (.int (z_i c)), l3], [], q_tu g K) = some (.inl (some (.int (z_i (sp_ri f n c b)))), q_tu g K) := by
  have hN := sp_N h0 h1
  intro n
  induction n with
  | zero =>
    intro c b l3 hc0 hc hbb
    clear hf hb
    simp (disch := first | assumption | exact hr _ | exact hr1 _ | exact hr1 _ _ | exact z_Rm (by omega) (by omega) | omega | exact tw_cls | exact z_k_int | exact z_k_ref | exact (show q_cat _ ≤ 8 from by with_unfolding_all exact Nat.le_of_ble_eq_true rfl) | exact z_01 _ | exact z_R01 _ | exact z_n0 | exact z_n1 | exact z_nb _ | exact z_ne0 (z_Rm (by omega) (by omega)) (by omega) | exact (show (_ ∨ 8 < Int32.toInt _) from Or.inr (by decide)) | (simp (disch := omega) only [tw_ua_s, tw_ua_j, tw_up_s, tw_up_j, tw_up_i, tw_up_x, sp_u_s, sp_u_i, sp_u_x] <;> (first | assumption | exact hr _ | exact z_Rm (by omega) (by omega) | omega)) | fail) only [e190_0, e190_1, e190_2, e190_3, e190_4, e190_5, e190_5n, e190_6, e190_9, e190_12, e190_12n, e190_13, e190_16, e190_17, e190_18, e190_21, e190_22, e190_23, e190_26, e190_26n, e190_27, e190_30, e190_31, e190_32, e190_32n, e190_33, e190_36, e190_37, e190_38, e190_41, e190_42, e190_45, e190_46, e190_47, e190_48, e190_51, e190_52, e190_55, e190_56, e190_57, e190_60, e190_63, e190_64, z_m1, tw_ua_S, tw_ua_J, z_bv_s, z_bi_s, z_bh_s, z_cl_v, z_cl_n, z_add, z_sub, z_mul, z_neg, z_lt, z_eq, z_dv, z_md, z_ifb, z_ifb1, z_lcl, z_lcg, tw_up_s, tw_up_j, tw_up_x, tw_up_i, tw_ua_s, tw_ua_j, tw_up_ua, tw_up_uj, sp_u_s, sp_u_x, sp_u_i, sp_uu, z_if_true, z_if_false, z_if_t, z_if_f, if_pos, if_neg, tw_g0, tw_g1, tw_g2, tw_g3, tw_g4, tw_g5, tw_g6, tw_g7, tw_g8, tw_g9, tw_g10, tw_g11, tw_g12, tw_g13, tw_g14, tw_g15, tw_g16, tw_g17, tw_g18, tw_g19, tw_g20, tw_g21, tw_g22, tw_g23, tw_g24, tw_g25, tw_g26, tw_g27, tw_p0, tw_p1, tw_p5, tw_p10, tw_p13, tw_p14, tw_p16, tw_p17, tw_p18, tw_p19, tw_p20, tw_p21, tw_p22, tw_p23, tw_p24, tw_p25, tw_p27, tw_r1, tw_r2, tw_r3, tw_r4, tw_r5, tw_r6, tw_r7, tw_r8, tw_r9, tw_r10, tw_r11, tw_w1, tw_w2, tw_w3, tw_w4, tw_w5, tw_w6, tw_w7, tw_w8, tw_w9, tw_w10, tw_w11, w179]
    rfl
  | succ n ih =>
    intro c b l3 hc0 hc hbb
    have f1 := hf c hc0 (by omega)
    have f2 := hb c hc0 (by omega)
    unfold sp_ri
    rw [e190_4]
    by_cases h : 0 < f c
    · rcases hbb with hbb | hbb
      · clear hf hb
        rw [if_pos ⟨h, Or.inl hbb⟩]
        simp (disch := first | assumption | exact hr _ | exact hr1 _ | exact hr1 _ _ | exact z_Rm (by omega) (by omega) | omega | exact tw_cls | exact z_k_int | exact z_k_ref | exact (show q_cat _ ≤ 8 from by with_unfolding_all exact Nat.le_of_ble_eq_true rfl) | exact z_01 _ | exact z_R01 _ | exact z_n0 | exact z_n1 | exact z_nb _ | exact z_ne0 (z_Rm (by omega) (by omega)) (by omega) | exact (show (_ ∨ 8 < Int32.toInt _) from Or.inr (by decide)) | (simp (disch := omega) only [tw_ua_s, tw_ua_j, tw_up_s, tw_up_j, tw_up_i, tw_up_x, sp_u_s, sp_u_i, sp_u_x] <;> (first | assumption | exact hr _ | exact z_Rm (by omega) (by omega) | omega)) | fail) only [e190_0, e190_1, e190_2, e190_3, e190_5, e190_5n, e190_6, e190_9, e190_12, e190_12n, e190_13, e190_16, e190_17, e190_18, e190_21, e190_22, e190_23, e190_26, e190_26n, e190_27, e190_30, e190_31, e190_32, e190_32n, e190_33, e190_36, e190_37, e190_38, e190_41, e190_42, e190_45, e190_46, e190_47, e190_48, e190_51, e190_52, e190_55, e190_56, e190_57, e190_60, e190_63, e190_64, z_m1, tw_ua_S, tw_ua_J, z_bv_s, z_bi_s, z_bh_s, z_cl_v, z_cl_n, z_add, z_sub, z_mul, z_neg, z_lt, z_eq, z_dv, z_md, z_ifb, z_ifb1, z_lcl, z_lcg, tw_up_s, tw_up_j, tw_up_x, tw_up_i, tw_ua_s, tw_ua_j, tw_up_ua, tw_up_uj, sp_u_s, sp_u_x, sp_u_i, sp_uu, z_if_true, z_if_false, z_if_t, z_if_f, if_pos, if_neg, tw_g0, tw_g1, tw_g2, tw_g3, tw_g4, tw_g5, tw_g6, tw_g7, tw_g8, tw_g9, tw_g10, tw_g11, tw_g12, tw_g13, tw_g14, tw_g15, tw_g16, tw_g17, tw_g18, tw_g19, tw_g20, tw_g21, tw_g22, tw_g23, tw_g24, tw_g25, tw_g26, tw_g27, tw_p0, tw_p1, tw_p5, tw_p10, tw_p13, tw_p14, tw_p16, tw_p17, tw_p18, tw_p19, tw_p20, tw_p21, tw_p22, tw_p23, tw_p24, tw_p25, tw_p27, tw_r1, tw_r2, tw_r3, tw_r4, tw_r5, tw_r6, tw_r7, tw_r8, tw_r9, tw_r10, tw_r11, tw_w1, tw_w2, tw_w3, tw_w4, tw_w5, tw_w6, tw_w7, tw_w8, tw_w9, tw_w10, tw_w11, w179, f1, hbb, ih]
      · have f3 := hf b hbb.1 (by omega)
        have f4 := hb b hbb.1 (by omega)
        clear hf hb
        by_cases h2 : f b < f c
        · rw [if_pos ⟨h, Or.inr h2⟩]
          simp (disch := first | assumption | exact hr _ | exact hr1 _ | exact hr1 _ _ | exact z_Rm (by omega) (by omega) | omega | exact tw_cls | exact z_k_int | exact z_k_ref | exact (show q_cat _ ≤ 8 from by with_unfolding_all exact Nat.le_of_ble_eq_true rfl) | exact z_01 _ | exact z_R01 _ | exact z_n0 | exact z_n1 | exact z_nb _ | exact z_ne0 (z_Rm (by omega) (by omega)) (by omega) | exact (show (_ ∨ 8 < Int32.toInt _) from Or.inr (by decide)) | (simp (disch := omega) only [tw_ua_s, tw_ua_j, tw_up_s, tw_up_j, tw_up_i, tw_up_x, sp_u_s, sp_u_i, sp_u_x] <;> (first | assumption | exact hr _ | exact z_Rm (by omega) (by omega) | omega)) | fail) only [e190_0, e190_1, e190_2, e190_3, e190_5, e190_5n, e190_6, e190_9, e190_12, e190_12n, e190_13, e190_16, e190_17, e190_18, e190_21, e190_22, e190_23, e190_26, e190_26n, e190_27, e190_30, e190_31, e190_32, e190_32n, e190_33, e190_36, e190_37, e190_38, e190_41, e190_42, e190_45, e190_46, e190_47, e190_48, e190_51, e190_52, e190_55, e190_56, e190_57, e190_60, e190_63, e190_64, z_m1, tw_ua_S, tw_ua_J, z_bv_s, z_bi_s, z_bh_s, z_cl_v, z_cl_n, z_add, z_sub, z_mul, z_neg, z_lt, z_eq, z_dv, z_md, z_ifb, z_ifb1, z_lcl, z_lcg, tw_up_s, tw_up_j, tw_up_x, tw_up_i, tw_ua_s, tw_ua_j, tw_up_ua, tw_up_uj, sp_u_s, sp_u_x, sp_u_i, sp_uu, z_if_true, z_if_false, z_if_t, z_if_f, if_pos, if_neg, tw_g0, tw_g1, tw_g2, tw_g3, tw_g4, tw_g5, tw_g6, tw_g7, tw_g8, tw_g9, tw_g10, tw_g11, tw_g12, tw_g13, tw_g14, tw_g15, tw_g16, tw_g17, tw_g18, tw_g19, tw_g20, tw_g21, tw_g22, tw_g23, tw_g24, tw_g25, tw_g26, tw_g27, tw_p0, tw_p1, tw_p5, tw_p10, tw_p13, tw_p14, tw_p16, tw_p17, tw_p18, tw_p19, tw_p20, tw_p21, tw_p22, tw_p23, tw_p24, tw_p25, tw_p27, tw_r1, tw_r2, tw_r3, tw_r4, tw_r5, tw_r6, tw_r7, tw_r8, tw_r9, tw_r10, tw_r11, tw_w1, tw_w2, tw_w3, tw_w4, tw_w5, tw_w6, tw_w7, tw_w8, tw_w9, tw_w10, tw_w11, w179, f1, f3, ih]
        · rw [if_neg (by omega)]
          simp (disch := first | assumption | exact hr _ | exact hr1 _ | exact hr1 _ _ | exact z_Rm (by omega) (by omega) | omega | exact tw_cls | exact z_k_int | exact z_k_ref | exact (show q_cat _ ≤ 8 from by with_unfolding_all exact Nat.le_of_ble_eq_true rfl) | exact z_01 _ | exact z_R01 _ | exact z_n0 | exact z_n1 | exact z_nb _ | exact z_ne0 (z_Rm (by omega) (by omega)) (by omega) | exact (show (_ ∨ 8 < Int32.toInt _) from Or.inr (by decide)) | (simp (disch := omega) only [tw_ua_s, tw_ua_j, tw_up_s, tw_up_j, tw_up_i, tw_up_x, sp_u_s, sp_u_i, sp_u_x] <;> (first | assumption | exact hr _ | exact z_Rm (by omega) (by omega) | omega)) | fail) only [e190_0, e190_1, e190_2, e190_3, e190_5, e190_5n, e190_6, e190_9, e190_12, e190_12n, e190_13, e190_16, e190_17, e190_18, e190_21, e190_22, e190_23, e190_26, e190_26n, e190_27, e190_30, e190_31, e190_32, e190_32n, e190_33, e190_36, e190_37, e190_38, e190_41, e190_42, e190_45, e190_46, e190_47, e190_48, e190_51, e190_52, e190_55, e190_56, e190_57, e190_60, e190_63, e190_64, z_m1, tw_ua_S, tw_ua_J, z_bv_s, z_bi_s, z_bh_s, z_cl_v, z_cl_n, z_add, z_sub, z_mul, z_neg, z_lt, z_eq, z_dv, z_md, z_ifb, z_ifb1, z_lcl, z_lcg, tw_up_s, tw_up_j, tw_up_x, tw_up_i, tw_ua_s, tw_ua_j, tw_up_ua, tw_up_uj, sp_u_s, sp_u_x, sp_u_i, sp_uu, z_if_true, z_if_false, z_if_t, z_if_f, if_pos, if_neg, tw_g0, tw_g1, tw_g2, tw_g3, tw_g4, tw_g5, tw_g6, tw_g7, tw_g8, tw_g9, tw_g10, tw_g11, tw_g12, tw_g13, tw_g14, tw_g15, tw_g16, tw_g17, tw_g18, tw_g19, tw_g20, tw_g21, tw_g22, tw_g23, tw_g24, tw_g25, tw_g26, tw_g27, tw_p0, tw_p1, tw_p5, tw_p10, tw_p13, tw_p14, tw_p16, tw_p17, tw_p18, tw_p19, tw_p20, tw_p21, tw_p22, tw_p23, tw_p24, tw_p25, tw_p27, tw_r1, tw_r2, tw_r3, tw_r4, tw_r5, tw_r6, tw_r7, tw_r8, tw_r9, tw_r10, tw_r11, tw_w1, tw_w2, tw_w3, tw_w4, tw_w5, tw_w6, tw_w7, tw_w8, tw_w9, tw_w10, tw_w11, w179, f1, f3, ih]
    · clear hf hb
      rw [if_neg (fun h' => h h'.1)]
      simp (disch := first | assumption | exact hr _ | exact hr1 _ | exact hr1 _ _ | exact z_Rm (by omega) (by omega) | omega | exact tw_cls | exact z_k_int | exact z_k_ref | exact (show q_cat _ ≤ 8 from by with_unfolding_all exact Nat.le_of_ble_eq_true rfl) | exact z_01 _ | exact z_R01 _ | exact z_n0 | exact z_n1 | exact z_nb _ | exact z_ne0 (z_Rm (by omega) (by omega)) (by omega) | exact (show (_ ∨ 8 < Int32.toInt _) from Or.inr (by decide)) | (simp (disch := omega) only [tw_ua_s, tw_ua_j, tw_up_s, tw_up_j, tw_up_i, tw_up_x, sp_u_s, sp_u_i, sp_u_x] <;> (first | assumption | exact hr _ | exact z_Rm (by omega) (by omega) | omega)) | fail) only [e190_0, e190_1, e190_2, e190_3, e190_5, e190_5n, e190_6, e190_9, e190_12, e190_12n, e190_13, e190_16, e190_17, e190_18, e190_21, e190_22, e190_23, e190_26, e190_26n, e190_27, e190_30, e190_31, e190_32, e190_32n, e190_33, e190_36, e190_37, e190_38, e190_41, e190_42, e190_45, e190_46, e190_47, e190_48, e190_51, e190_52, e190_55, e190_56, e190_57, e190_60, e190_63, e190_64, z_m1, tw_ua_S, tw_ua_J, z_bv_s, z_bi_s, z_bh_s, z_cl_v, z_cl_n, z_add, z_sub, z_mul, z_neg, z_lt, z_eq, z_dv, z_md, z_ifb, z_ifb1, z_lcl, z_lcg, tw_up_s, tw_up_j, tw_up_x, tw_up_i, tw_ua_s, tw_ua_j, tw_up_ua, tw_up_uj, sp_u_s, sp_u_x, sp_u_i, sp_uu, z_if_true, z_if_false, z_if_t, z_if_f, if_pos, if_neg, tw_g0, tw_g1, tw_g2, tw_g3, tw_g4, tw_g5, tw_g6, tw_g7, tw_g8, tw_g9, tw_g10, tw_g11, tw_g12, tw_g13, tw_g14, tw_g15, tw_g16, tw_g17, tw_g18, tw_g19, tw_g20, tw_g21, tw_g22, tw_g23, tw_g24, tw_g25, tw_g26, tw_g27, tw_p0, tw_p1, tw_p5, tw_p10, tw_p13, tw_p14, tw_p16, tw_p17, tw_p18, tw_p19, tw_p20, tw_p21, tw_p22, tw_p23, tw_p24, tw_p25, tw_p27, tw_r1, tw_r2, tw_r3, tw_r4, tw_r5, tw_r6, tw_r7, tw_r8, tw_r9, tw_r10, tw_r11, tw_w1, tw_w2, tw_w3, tw_w4, tw_w5, tw_w6, tw_w7, tw_w8, tw_w9, tw_w10, tw_w11, w179, f1, ih]
theorem w190 {K : tw_M} {f : Int → Int} (h0 : 2 ≤ K 1 0 ∧ K 1 0 ≤ 8) (h1 : 2 ≤ K 1 1 ∧ K 1 1 ≤ 8) (hf : ∀ c, 0 ≤ c → c < K 1 0 * K 1 1 → K 8 c = f c) (hb : ∀ c, 0 ≤ c → c < K 1 0 * K 1 1 → 0 ≤ f c ∧ f c ≤ 16) : q_ev (d + 1, 190, 0, [some (.ref 1005), none, none, none], [], q_tu g K) = some (.inl (some (.int (z_i (sp_ri f (K 1 0 * K 1 1).toNat 0 (-1))))), q_tu g K) := by
  have hN := sp_N h0 h1
  have e := w190l (d := d) (g := g) h0 h1 hf hb (K 1 0 * K 1 1).toNat 0 (-1) none (by omega) (by omega) (Or.inl rfl)
  clear hf hb
  simp (disch := first | assumption | exact hr _ | exact hr1 _ | exact hr1 _ _ | exact z_Rm (by omega) (by omega) | omega | exact tw_cls | exact z_k_int | exact z_k_ref | exact (show q_cat _ ≤ 8 from by with_unfolding_all exact Nat.le_of_ble_eq_true rfl) | exact z_01 _ | exact z_R01 _ | exact z_n0 | exact z_n1 | exact z_nb _ | exact z_ne0 (z_Rm (by omega) (by omega)) (by omega) | exact (show (_ ∨ 8 < Int32.toInt _) from Or.inr (by decide)) | (simp (disch := omega) only [tw_ua_s, tw_ua_j, tw_up_s, tw_up_j, tw_up_i, tw_up_x, sp_u_s, sp_u_i, sp_u_x] <;> (first | assumption | exact hr _ | exact z_Rm (by omega) (by omega) | omega)) | fail) only [e190_0, e190_1, e190_2, e190_3, e190_5, e190_5n, e190_6, e190_9, e190_12, e190_12n, e190_13, e190_16, e190_17, e190_18, e190_21, e190_22, e190_23, e190_26, e190_26n, e190_27, e190_30, e190_31, e190_32, e190_32n, e190_33, e190_36, e190_37, e190_38, e190_41, e190_42, e190_45, e190_46, e190_47, e190_48, e190_51, e190_52, e190_55, e190_56, e190_57, e190_60, e190_63, e190_64, z_m1, tw_ua_S, tw_ua_J, z_bv_s, z_bi_s, z_bh_s, z_cl_v, z_cl_n, z_add, z_sub, z_mul, z_neg, z_lt, z_eq, z_dv, z_md, z_ifb, z_ifb1, z_lcl, z_lcg, tw_up_s, tw_up_j, tw_up_x, tw_up_i, tw_ua_s, tw_ua_j, tw_up_ua, tw_up_uj, sp_u_s, sp_u_x, sp_u_i, sp_uu, z_if_true, z_if_false, z_if_t, z_if_f, if_pos, if_neg, tw_g0, tw_g1, tw_g2, tw_g3, tw_g4, tw_g5, tw_g6, tw_g7, tw_g8, tw_g9, tw_g10, tw_g11, tw_g12, tw_g13, tw_g14, tw_g15, tw_g16, tw_g17, tw_g18, tw_g19, tw_g20, tw_g21, tw_g22, tw_g23, tw_g24, tw_g25, tw_g26, tw_g27, tw_p0, tw_p1, tw_p5, tw_p10, tw_p13, tw_p14, tw_p16, tw_p17, tw_p18, tw_p19, tw_p20, tw_p21, tw_p22, tw_p23, tw_p24, tw_p25, tw_p27, tw_r1, tw_r2, tw_r3, tw_r4, tw_r5, tw_r6, tw_r7, tw_r8, tw_r9, tw_r10, tw_r11, tw_w1, tw_w2, tw_w3, tw_w4, tw_w5, tw_w6, tw_w7, tw_w8, tw_w9, tw_w10, tw_w11, e]
theorem w79U (hU : M 0 1 = 0) : q_ev (d + 15, 79, 0, [some (.ref 1005)], [], q_tu g M) = some (.inl (some (.int (z_i (0)))), q_tu g (tw_up M 0 0 1)) := by
  simp (disch := first | assumption | exact hr _ | exact hr1 _ | exact hr1 _ _ | exact z_Rm (by omega) (by omega) | omega | exact tw_cls | exact z_k_int | exact z_k_ref | exact (show q_cat _ ≤ 8 from by with_unfolding_all exact Nat.le_of_ble_eq_true rfl) | exact z_01 _ | exact z_R01 _ | exact z_n0 | exact z_n1 | exact z_nb _ | exact z_ne0 (z_Rm (by omega) (by omega)) (by omega) | exact (show (_ ∨ 8 < Int32.toInt _) from Or.inr (by decide)) | (simp (disch := omega) only [tw_ua_s, tw_ua_j, tw_up_s, tw_up_j, tw_up_i, tw_up_x, sp_u_s, sp_u_i, sp_u_x] <;> (first | assumption | exact hr _ | exact z_Rm (by omega) (by omega) | omega)) | fail) only [e79_0, e79_0n, e79_1, e79_4, e79_7, e79_8, e79_9, e79_9n, e79_10, e79_11, e79_14, e79_14n, e79_15, e79_18, z_m1, tw_ua_S, tw_ua_J, z_bv_s, z_bi_s, z_bh_s, z_cl_v, z_cl_n, z_add, z_sub, z_mul, z_neg, z_lt, z_eq, z_dv, z_md, z_ifb, z_ifb1, z_lcl, z_lcg, tw_up_s, tw_up_j, tw_up_x, tw_up_i, tw_ua_s, tw_ua_j, tw_up_ua, tw_up_uj, sp_u_s, sp_u_x, sp_u_i, sp_uu, z_if_true, z_if_false, z_if_t, z_if_f, if_pos, if_neg, tw_g0, tw_g1, tw_g2, tw_g3, tw_g4, tw_g5, tw_g6, tw_g7, tw_g8, tw_g9, tw_g10, tw_g11, tw_g12, tw_g13, tw_g14, tw_g15, tw_g16, tw_g17, tw_g18, tw_g19, tw_g20, tw_g21, tw_g22, tw_g23, tw_g24, tw_g25, tw_g26, tw_g27, tw_p0, tw_p1, tw_p5, tw_p10, tw_p13, tw_p14, tw_p16, tw_p17, tw_p18, tw_p19, tw_p20, tw_p21, tw_p22, tw_p23, tw_p24, tw_p25, tw_p27, tw_r1, tw_r2, tw_r3, tw_r4, tw_r5, tw_r6, tw_r7, tw_r8, tw_r9, tw_r10, tw_r11, tw_w1, tw_w2, tw_w3, tw_w4, tw_w5, tw_w6, tw_w7, tw_w8, tw_w9, tw_w10, tw_w11, w151U]
theorem w79 (hL : M 0 1 = 1) (hw : sp_w (M 1 0) (M 1 1) (M 2)) (hr : ∀ i, z_R (M 2 i)) : q_ev (d + 15, 79, 0, [some (.ref 1005)], [], q_tu g M) = some (.inl (some (.int (z_i (sp_ri (sp_S (M 1 0) (M 1 1) (M 2) (-1)).1 (M 1 0 * M 1 1).toNat 0 (-1))))), q_tu g (tw_sr (tw_up M 0 0 0) (-1))) := by
  have hh0 := hw.1
  have hh1 := hw.2.1
  have e := w174 (d := d) (g := g) (M := tw_up M 0 0 0) (w := (-1)) hw hr (z_Rm (by omega) (by omega))
  obtain ⟨f1, f2, f3, f4, f5, f6, f7, f8⟩ := tw_src (M := tw_up M 0 0 0) (w := (-1)) hw
  have hb := sp_S_b (w := (-1)) hw
  obtain ⟨b1, b2, b3, b4⟩ := hb
  have hN := sp_N hw.1 hw.2.1
  simp only [tw_up_J (show ¬ (1 : Nat) = 0 by decide), tw_up_J (show ¬ (2 : Nat) = 0 by decide)] at f1 f2 f5 f6 f7 f8
  rw [tw_up_s] at f3
  rw [tw_up_i (by decide)] at f4
  clear hw hr b4
  generalize tw_sr (tw_up M 0 0 0) (-1) = K at *
  generalize sp_S (M 1 0) (M 1 1) (M 2) (-1) = S at *
  have e2 := w190 (d := d + 13) (g := g) (K := K) (f := S.1) (by rw [f1]; exact hh0) (by rw [f1]; exact hh1) (by rw [f1]; exact f7) (by rw [f1]; exact b1)
  rw [f1] at e2
  clear b1 f7 f8
  simp (disch := first | assumption | exact hr _ | exact hr1 _ | exact hr1 _ _ | exact z_Rm (by omega) (by omega) | omega | exact tw_cls | exact z_k_int | exact z_k_ref | exact (show q_cat _ ≤ 8 from by with_unfolding_all exact Nat.le_of_ble_eq_true rfl) | exact z_01 _ | exact z_R01 _ | exact z_n0 | exact z_n1 | exact z_nb _ | exact z_ne0 (z_Rm (by omega) (by omega)) (by omega) | exact (show (_ ∨ 8 < Int32.toInt _) from Or.inr (by decide)) | (simp (disch := omega) only [tw_ua_s, tw_ua_j, tw_up_s, tw_up_j, tw_up_i, tw_up_x, sp_u_s, sp_u_i, sp_u_x] <;> (first | assumption | exact hr _ | exact z_Rm (by omega) (by omega) | omega)) | fail) only [e79_0, e79_0n, e79_1, e79_4, e79_7, e79_8, e79_9, e79_9n, e79_10, e79_11, e79_14, e79_14n, e79_15, e79_18, z_m1, tw_ua_S, tw_ua_J, z_bv_s, z_bi_s, z_bh_s, z_cl_v, z_cl_n, z_add, z_sub, z_mul, z_neg, z_lt, z_eq, z_dv, z_md, z_ifb, z_ifb1, z_lcl, z_lcg, tw_up_s, tw_up_j, tw_up_x, tw_up_i, tw_ua_s, tw_ua_j, tw_up_ua, tw_up_uj, sp_u_s, sp_u_x, sp_u_i, sp_uu, z_if_true, z_if_false, z_if_t, z_if_f, if_pos, if_neg, tw_g0, tw_g1, tw_g2, tw_g3, tw_g4, tw_g5, tw_g6, tw_g7, tw_g8, tw_g9, tw_g10, tw_g11, tw_g12, tw_g13, tw_g14, tw_g15, tw_g16, tw_g17, tw_g18, tw_g19, tw_g20, tw_g21, tw_g22, tw_g23, tw_g24, tw_g25, tw_g26, tw_g27, tw_p0, tw_p1, tw_p5, tw_p10, tw_p13, tw_p14, tw_p16, tw_p17, tw_p18, tw_p19, tw_p20, tw_p21, tw_p22, tw_p23, tw_p24, tw_p25, tw_p27, tw_r1, tw_r2, tw_r3, tw_r4, tw_r5, tw_r6, tw_r7, tw_r8, tw_r9, tw_r10, tw_r11, tw_w1, tw_w2, tw_w3, tw_w4, tw_w5, tw_w6, tw_w7, tw_w8, tw_w9, tw_w10, tw_w11, w151L, e, e2]
/-- digs: the richest cell is taken first -/
def sp_xd (N : Int) : Nat → (Int → Int) → Int → Int → Int
  | 0, _, u, _ => u
  | n + 1, f, u, p => if sp_ri f N.toNat 0 (-1) = -1 then u else sp_xd N n (sp_u f (sp_ri f N.toNat 0 (-1)) 0) (u + f (sp_ri f N.toNat 0 (-1)) * p) (p + 1)
/-- how many of the first n are positive -/
def sp_ps (f : Int → Int) : Nat → Nat
  | 0 => 0
  | n + 1 => sp_ps f n + (if 0 < f n then 1 else 0)
theorem sp_ps_o {f : Int → Int} {c v : Int} : ∀ n : Nat, ¬ (0 ≤ c ∧ c < n) → sp_ps (sp_u f c v) n = sp_ps f n := by
  intro n
  induction n with
  | zero => intro _; rfl
  | succ n ih =>
    intro h
    unfold sp_ps
    rw [ih (by omega), sp_u_i (by omega)]
theorem sp_ps_u {f : Int → Int} {c : Int} (hf : 0 < f c) : ∀ n : Nat, 0 ≤ c → c < n → sp_ps (sp_u f c 0) n + 1 = sp_ps f n := by
  intro n
  induction n with
  | zero => intro h1 h2; omega
  | succ n ih =>
    intro h1 h2
    unfold sp_ps
    by_cases h3 : c = n
    · subst h3
      rw [sp_ps_o n (by omega), sp_u_s, if_neg (by omega), if_pos hf]
    · rw [← ih h1 (by omega), sp_u_i (by omega)]
      omega
theorem sp_ps_le (f : Int → Int) : ∀ n : Nat, sp_ps f n ≤ n := by
  intro n
  induction n with
  | zero => exact Nat.le_refl _
  | succ n ih => unfold sp_ps; split <;> omega
theorem sp_ps_0 {f : Int → Int} {c : Int} (hf : 0 < f c) : ∀ n : Nat, 0 ≤ c → c < n → 0 < sp_ps f n := by
  intro n h1 h2
  have := sp_ps_u hf n h1 h2
  omega
theorem sp_ri_u {f : Int → Int} {N : Int} (hN : 0 ≤ N) : sp_ri f N.toNat 0 (-1) = -1 ∨ (0 ≤ sp_ri f N.toNat 0 (-1) ∧ sp_ri f N.toNat 0 (-1) < N ∧ 0 < f (sp_ri f N.toNat 0 (-1))) := by
  have h := sp_ri_b (f := f) N.toNat 0 (-1) (by omega) (Or.inl rfl)
  omega
/-- quotients of ints are numbers -/
def fp_d : Prop := ∀ a b : Int32, b ≠ 0 → vf_n64 (FP.ddiv (FP.i2d a) (FP.i2d b))
def fp_f : Prop := ∀ a b : Int32, b ≠ 0 → vf_n32 (FP.fdiv (FP.i2f a) (FP.i2f b)) ∧ vf_n64 (FP.f2d (FP.fdiv (FP.i2f a) (FP.i2f b)))
def sp_dv (a b : Int) : UInt64 := if b = 0 then FP.dconst0 else FP.ddiv (FP.i2d (z_i a)) (FP.i2d (z_i b))
theorem w81l {K : tw_M} {f : Int → Int} (hfp : fp_d) (h0 : 2 ≤ K 1 0 ∧ K 1 0 ≤ 8) (h1 : 2 ≤ K 1 1 ∧ K 1 1 ≤ 8) (hA : z_R (K 0 13)) : ∀ (n : Nat) (f : Int → Int) (u p : Int), sp_ps f (K 1 0 * K 1 1).toNat ≤ n → (∀ c, 0 ≤ c → c < K 1 0 * K 1 1 → 0 ≤ f c ∧ f c ≤ 16) → ∃ f' : Int → Int, q_ev (d + 15, 81, 23, [some (.ref 1005), some (.int (z_i u)), some (.int (z_i p)), some (.int (z_i (sp_ri f (K 1 0 * K 1 1).toNat 0 (-1))))], [], q_tu g (tw_ua K 8 f)) = some (.inl (some (.double (sp_dv (sp_xd (K 1 0 * K 1 1) n f u p) (K 0 13)))), q_tu g (tw_ua K 8 f')) := by
  have hN := sp_N h0 h1
  intro n
  induction n with
  | zero =>
    intro f u p hn hb
    have hri := sp_ri_u (f := f) (N := K 1 0 * K 1 1) (by omega)
    have hm : sp_ri f (K 1 0 * K 1 1).toNat 0 (-1) = -1 := hri.resolve_right fun h => by
      have := sp_ps_0 h.2.2 (K 1 0 * K 1 1).toNat h.1 (by omega)
      omega
    clear hb
    refine ⟨f, ?_⟩
    rw [hm]
    unfold sp_dv sp_xd
    by_cases hz : K 0 13 = 0
    · simp (disch := first | assumption | exact hr _ | exact hr1 _ | exact hr1 _ _ | exact z_Rm (by omega) (by omega) | omega | exact tw_cls | exact z_k_int | exact z_k_ref | exact (show q_cat _ ≤ 8 from by with_unfolding_all exact Nat.le_of_ble_eq_true rfl) | exact z_01 _ | exact z_R01 _ | exact z_n0 | exact z_n1 | exact z_nb _ | exact z_ne0 (z_Rm (by omega) (by omega)) (by omega) | exact (show (_ ∨ 8 < Int32.toInt _) from Or.inr (by decide)) | (simp (disch := omega) only [tw_ua_s, tw_ua_j, tw_up_s, tw_up_j, tw_up_i, tw_up_x, sp_u_s, sp_u_i, sp_u_x] <;> (first | assumption | exact hr _ | exact z_Rm (by omega) (by omega) | omega)) | fail) only [e81_0, e81_0n, e81_1, e81_4, e81_7, e81_8, e81_9, e81_9n, e81_10, e81_11, e81_14, e81_15, e81_16, e81_17, e81_18, e81_18n, e81_19, e81_22, e81_23, e81_24, e81_25, e81_28, e81_29, e81_29n, e81_30, e81_33, e81_34, e81_35, e81_36, e81_37, e81_38, e81_39, e81_39n, e81_40, e81_43, e81_44, e81_45, e81_46, e81_49, e81_49n, e81_50, e81_53, e81_54, e81_57, e81_57n, e81_58, e81_61, e81_64, e81_65, e81_68, e81_69, e81_70, e81_70n, e81_71, e81_74, e81_75, e81_76, z_m1, tw_ua_S, tw_ua_J, z_bv_s, z_bi_s, z_bh_s, z_cl_v, z_cl_n, z_add, z_sub, z_mul, z_neg, z_lt, z_eq, z_dv, z_md, z_ifb, z_ifb1, z_lcl, z_lcg, tw_up_s, tw_up_j, tw_up_x, tw_up_i, tw_ua_s, tw_ua_j, tw_up_ua, tw_up_uj, sp_u_s, sp_u_x, sp_u_i, sp_uu, z_if_true, z_if_false, z_if_t, z_if_f, if_pos, if_neg, tw_g0, tw_g1, tw_g2, tw_g3, tw_g4, tw_g5, tw_g6, tw_g7, tw_g8, tw_g9, tw_g10, tw_g11, tw_g12, tw_g13, tw_g14, tw_g15, tw_g16, tw_g17, tw_g18, tw_g19, tw_g20, tw_g21, tw_g22, tw_g23, tw_g24, tw_g25, tw_g26, tw_g27, tw_p0, tw_p1, tw_p5, tw_p10, tw_p13, tw_p14, tw_p16, tw_p17, tw_p18, tw_p19, tw_p20, tw_p21, tw_p22, tw_p23, tw_p24, tw_p25, tw_p27, tw_r1, tw_r2, tw_r3, tw_r4, tw_r5, tw_r6, tw_r7, tw_r8, tw_r9, tw_r10, tw_r11, tw_w1, tw_w2, tw_w3, tw_w4, tw_w5, tw_w6, tw_w7, tw_w8, tw_w9, tw_w10, tw_w11]
    · have hz2 := hfp (z_i u) (z_i (K 0 13)) (z_ne0 hA hz)
      rw [if_neg hz]
      simp (disch := first | assumption | exact hr _ | exact hr1 _ | exact hr1 _ _ | exact z_Rm (by omega) (by omega) | omega | exact tw_cls | exact z_k_int | exact z_k_ref | exact (show q_cat _ ≤ 8 from by with_unfolding_all exact Nat.le_of_ble_eq_true rfl) | exact z_01 _ | exact z_R01 _ | exact z_n0 | exact z_n1 | exact z_nb _ | exact z_ne0 (z_Rm (by omega) (by omega)) (by omega) | exact (show (_ ∨ 8 < Int32.toInt _) from Or.inr (by decide)) | (simp (disch := omega) only [tw_ua_s, tw_ua_j, tw_up_s, tw_up_j, tw_up_i, tw_up_x, sp_u_s, sp_u_i, sp_u_x] <;> (first | assumption | exact hr _ | exact z_Rm (by omega) (by omega) | omega)) | fail) only [e81_0, e81_0n, e81_1, e81_4, e81_7, e81_8, e81_9, e81_9n, e81_10, e81_11, e81_14, e81_15, e81_16, e81_17, e81_18, e81_18n, e81_19, e81_22, e81_23, e81_24, e81_25, e81_28, e81_29, e81_29n, e81_30, e81_33, e81_34, e81_35, e81_36, e81_37, e81_38, e81_39, e81_39n, e81_40, e81_43, e81_44, e81_45, e81_46, e81_49, e81_49n, e81_50, e81_53, e81_54, e81_57, e81_57n, e81_58, e81_61, e81_64, e81_65, e81_68, e81_69, e81_70, e81_70n, e81_71, e81_74, e81_75, e81_76, z_m1, tw_ua_S, tw_ua_J, z_bv_s, z_bi_s, z_bh_s, z_cl_v, z_cl_n, z_add, z_sub, z_mul, z_neg, z_lt, z_eq, z_dv, z_md, z_ifb, z_ifb1, z_lcl, z_lcg, tw_up_s, tw_up_j, tw_up_x, tw_up_i, tw_ua_s, tw_ua_j, tw_up_ua, tw_up_uj, sp_u_s, sp_u_x, sp_u_i, sp_uu, z_if_true, z_if_false, z_if_t, z_if_f, if_pos, if_neg, tw_g0, tw_g1, tw_g2, tw_g3, tw_g4, tw_g5, tw_g6, tw_g7, tw_g8, tw_g9, tw_g10, tw_g11, tw_g12, tw_g13, tw_g14, tw_g15, tw_g16, tw_g17, tw_g18, tw_g19, tw_g20, tw_g21, tw_g22, tw_g23, tw_g24, tw_g25, tw_g26, tw_g27, tw_p0, tw_p1, tw_p5, tw_p10, tw_p13, tw_p14, tw_p16, tw_p17, tw_p18, tw_p19, tw_p20, tw_p21, tw_p22, tw_p23, tw_p24, tw_p25, tw_p27, tw_r1, tw_r2, tw_r3, tw_r4, tw_r5, tw_r6, tw_r7, tw_r8, tw_r9, tw_r10, tw_r11, tw_w1, tw_w2, tw_w3, tw_w4, tw_w5, tw_w6, tw_w7, tw_w8, tw_w9, tw_w10, tw_w11]
  | succ n ih =>
    intro f u p hn hb
    have hri := sp_ri_u (f := f) (N := K 1 0 * K 1 1) (by omega)
    unfold sp_xd
    by_cases hm : sp_ri f (K 1 0 * K 1 1).toNat 0 (-1) = -1
    · clear hb
      refine ⟨f, ?_⟩
      rw [if_pos hm, hm]
      unfold sp_dv
      by_cases hz : K 0 13 = 0
      · simp (disch := first | assumption | exact hr _ | exact hr1 _ | exact hr1 _ _ | exact z_Rm (by omega) (by omega) | omega | exact tw_cls | exact z_k_int | exact z_k_ref | exact (show q_cat _ ≤ 8 from by with_unfolding_all exact Nat.le_of_ble_eq_true rfl) | exact z_01 _ | exact z_R01 _ | exact z_n0 | exact z_n1 | exact z_nb _ | exact z_ne0 (z_Rm (by omega) (by omega)) (by omega) | exact (show (_ ∨ 8 < Int32.toInt _) from Or.inr (by decide)) | (simp (disch := omega) only [tw_ua_s, tw_ua_j, tw_up_s, tw_up_j, tw_up_i, tw_up_x, sp_u_s, sp_u_i, sp_u_x] <;> (first | assumption | exact hr _ | exact z_Rm (by omega) (by omega) | omega)) | fail) only [e81_0, e81_0n, e81_1, e81_4, e81_7, e81_8, e81_9, e81_9n, e81_10, e81_11, e81_14, e81_15, e81_16, e81_17, e81_18, e81_18n, e81_19, e81_22, e81_23, e81_24, e81_25, e81_28, e81_29, e81_29n, e81_30, e81_33, e81_34, e81_35, e81_36, e81_37, e81_38, e81_39, e81_39n, e81_40, e81_43, e81_44, e81_45, e81_46, e81_49, e81_49n, e81_50, e81_53, e81_54, e81_57, e81_57n, e81_58, e81_61, e81_64, e81_65, e81_68, e81_69, e81_70, e81_70n, e81_71, e81_74, e81_75, e81_76, z_m1, tw_ua_S, tw_ua_J, z_bv_s, z_bi_s, z_bh_s, z_cl_v, z_cl_n, z_add, z_sub, z_mul, z_neg, z_lt, z_eq, z_dv, z_md, z_ifb, z_ifb1, z_lcl, z_lcg, tw_up_s, tw_up_j, tw_up_x, tw_up_i, tw_ua_s, tw_ua_j, tw_up_ua, tw_up_uj, sp_u_s, sp_u_x, sp_u_i, sp_uu, z_if_true, z_if_false, z_if_t, z_if_f, if_pos, if_neg, tw_g0, tw_g1, tw_g2, tw_g3, tw_g4, tw_g5, tw_g6, tw_g7, tw_g8, tw_g9, tw_g10, tw_g11, tw_g12, tw_g13, tw_g14, tw_g15, tw_g16, tw_g17, tw_g18, tw_g19, tw_g20, tw_g21, tw_g22, tw_g23, tw_g24, tw_g25, tw_g26, tw_g27, tw_p0, tw_p1, tw_p5, tw_p10, tw_p13, tw_p14, tw_p16, tw_p17, tw_p18, tw_p19, tw_p20, tw_p21, tw_p22, tw_p23, tw_p24, tw_p25, tw_p27, tw_r1, tw_r2, tw_r3, tw_r4, tw_r5, tw_r6, tw_r7, tw_r8, tw_r9, tw_r10, tw_r11, tw_w1, tw_w2, tw_w3, tw_w4, tw_w5, tw_w6, tw_w7, tw_w8, tw_w9, tw_w10, tw_w11]
      · have hz2 := hfp (z_i u) (z_i (K 0 13)) (z_ne0 hA hz)
        rw [if_neg hz]
        simp (disch := first | assumption | exact hr _ | exact hr1 _ | exact hr1 _ _ | exact z_Rm (by omega) (by omega) | omega | exact tw_cls | exact z_k_int | exact z_k_ref | exact (show q_cat _ ≤ 8 from by with_unfolding_all exact Nat.le_of_ble_eq_true rfl) | exact z_01 _ | exact z_R01 _ | exact z_n0 | exact z_n1 | exact z_nb _ | exact z_ne0 (z_Rm (by omega) (by omega)) (by omega) | exact (show (_ ∨ 8 < Int32.toInt _) from Or.inr (by decide)) | (simp (disch := omega) only [tw_ua_s, tw_ua_j, tw_up_s, tw_up_j, tw_up_i, tw_up_x, sp_u_s, sp_u_i, sp_u_x] <;> (first | assumption | exact hr _ | exact z_Rm (by omega) (by omega) | omega)) | fail) only [e81_0, e81_0n, e81_1, e81_4, e81_7, e81_8, e81_9, e81_9n, e81_10, e81_11, e81_14, e81_15, e81_16, e81_17, e81_18, e81_18n, e81_19, e81_22, e81_23, e81_24, e81_25, e81_28, e81_29, e81_29n, e81_30, e81_33, e81_34, e81_35, e81_36, e81_37, e81_38, e81_39, e81_39n, e81_40, e81_43, e81_44, e81_45, e81_46, e81_49, e81_49n, e81_50, e81_53, e81_54, e81_57, e81_57n, e81_58, e81_61, e81_64, e81_65, e81_68, e81_69, e81_70, e81_70n, e81_71, e81_74, e81_75, e81_76, z_m1, tw_ua_S, tw_ua_J, z_bv_s, z_bi_s, z_bh_s, z_cl_v, z_cl_n, z_add, z_sub, z_mul, z_neg, z_lt, z_eq, z_dv, z_md, z_ifb, z_ifb1, z_lcl, z_lcg, tw_up_s, tw_up_j, tw_up_x, tw_up_i, tw_ua_s, tw_ua_j, tw_up_ua, tw_up_uj, sp_u_s, sp_u_x, sp_u_i, sp_uu, z_if_true, z_if_false, z_if_t, z_if_f, if_pos, if_neg, tw_g0, tw_g1, tw_g2, tw_g3, tw_g4, tw_g5, tw_g6, tw_g7, tw_g8, tw_g9, tw_g10, tw_g11, tw_g12, tw_g13, tw_g14, tw_g15, tw_g16, tw_g17, tw_g18, tw_g19, tw_g20, tw_g21, tw_g22, tw_g23, tw_g24, tw_g25, tw_g26, tw_g27, tw_p0, tw_p1, tw_p5, tw_p10, tw_p13, tw_p14, tw_p16, tw_p17, tw_p18, tw_p19, tw_p20, tw_p21, tw_p22, tw_p23, tw_p24, tw_p25, tw_p27, tw_r1, tw_r2, tw_r3, tw_r4, tw_r5, tw_r6, tw_r7, tw_r8, tw_r9, tw_r10, tw_r11, tw_w1, tw_w2, tw_w3, tw_w4, tw_w5, tw_w6, tw_w7, tw_w8, tw_w9, tw_w10, tw_w11]
    · have hri := hri.resolve_left hm
      rw [if_neg hm]
      have hu := sp_ps_u hri.2.2 (K 1 0 * K 1 1).toNat hri.1 (by omega)
      have hb' : ∀ c, 0 ≤ c → c < K 1 0 * K 1 1 → 0 ≤ sp_u f (sp_ri f (K 1 0 * K 1 1).toNat 0 (-1)) 0 c ∧ sp_u f (sp_ri f (K 1 0 * K 1 1).toNat 0 (-1)) 0 c ≤ 16 := by
        intro c hc0 hc1
        unfold sp_u
        split
        · omega
        · exact hb c hc0 hc1
      obtain ⟨f', e⟩ := ih _ (u + f (sp_ri f (K 1 0 * K 1 1).toNat 0 (-1)) * p) (p + 1) (by omega) hb'
      have e2 := w190 (d := d + 13) (g := g) (K := tw_ua K 8 (sp_u f (sp_ri f (K 1 0 * K 1 1).toNat 0 (-1)) 0)) (f := sp_u f (sp_ri f (K 1 0 * K 1 1).toNat 0 (-1)) 0) h0 h1 (fun c _ _ => rfl) hb'
      have e3 : tw_ua K 8 (sp_u f (sp_ri f (K 1 0 * K 1 1).toNat 0 (-1)) 0) 1 = K 1 := rfl
      rw [e3] at e2
      clear hb hb' ih
      refine ⟨f', ?_⟩
      rw [← e]
      clear e
      generalize sp_ri f (K 1 0 * K 1 1).toNat 0 (-1) = b at *
      simp (disch := first | assumption | exact hr _ | exact hr1 _ | exact hr1 _ _ | exact z_Rm (by omega) (by omega) | omega | exact tw_cls | exact z_k_int | exact z_k_ref | exact (show q_cat _ ≤ 8 from by with_unfolding_all exact Nat.le_of_ble_eq_true rfl) | exact z_01 _ | exact z_R01 _ | exact z_n0 | exact z_n1 | exact z_nb _ | exact z_ne0 (z_Rm (by omega) (by omega)) (by omega) | exact (show (_ ∨ 8 < Int32.toInt _) from Or.inr (by decide)) | (simp (disch := omega) only [tw_ua_s, tw_ua_j, tw_up_s, tw_up_j, tw_up_i, tw_up_x, sp_u_s, sp_u_i, sp_u_x] <;> (first | assumption | exact hr _ | exact z_Rm (by omega) (by omega) | omega)) | fail) only [e81_0, e81_0n, e81_1, e81_4, e81_7, e81_8, e81_9, e81_9n, e81_10, e81_11, e81_14, e81_15, e81_16, e81_17, e81_18, e81_18n, e81_19, e81_22, e81_23, e81_24, e81_25, e81_28, e81_29, e81_29n, e81_30, e81_33, e81_34, e81_35, e81_36, e81_37, e81_38, e81_39, e81_39n, e81_40, e81_43, e81_44, e81_45, e81_46, e81_49, e81_49n, e81_50, e81_53, e81_54, e81_58, e81_61, e81_64, e81_65, e81_68, e81_69, e81_70, e81_70n, e81_71, e81_74, e81_75, e81_76, z_m1, tw_ua_S, tw_ua_J, z_bv_s, z_bi_s, z_bh_s, z_cl_v, z_cl_n, z_add, z_sub, z_mul, z_neg, z_lt, z_eq, z_dv, z_md, z_ifb, z_ifb1, z_lcl, z_lcg, tw_up_s, tw_up_j, tw_up_x, tw_up_i, tw_ua_s, tw_ua_j, tw_up_ua, tw_up_uj, sp_u_s, sp_u_x, sp_u_i, sp_uu, z_if_true, z_if_false, z_if_t, z_if_f, if_pos, if_neg, tw_g0, tw_g1, tw_g2, tw_g3, tw_g4, tw_g5, tw_g6, tw_g7, tw_g8, tw_g9, tw_g10, tw_g11, tw_g12, tw_g13, tw_g14, tw_g15, tw_g16, tw_g17, tw_g18, tw_g19, tw_g20, tw_g21, tw_g22, tw_g23, tw_g24, tw_g25, tw_g26, tw_g27, tw_p0, tw_p1, tw_p5, tw_p10, tw_p13, tw_p14, tw_p16, tw_p17, tw_p18, tw_p19, tw_p20, tw_p21, tw_p22, tw_p23, tw_p24, tw_p25, tw_p27, tw_r1, tw_r2, tw_r3, tw_r4, tw_r5, tw_r6, tw_r7, tw_r8, tw_r9, tw_r10, tw_r11, tw_w1, tw_w2, tw_w3, tw_w4, tw_w5, tw_w6, tw_w7, tw_w8, tw_w9, tw_w10, tw_w11, e2]
end
