/-! the reference's memory: one function of place and number (printed by gen/pmem.py) -/
theorem z_add {a b : Int} : z_i a + z_i b = z_i (a + b) := by unfold z_i; rw [Int32.ofInt_add]
theorem z_sub {a b : Int} : z_i a - z_i b = z_i (a - b) := by unfold z_i; rw [Int32.ofInt_sub]
theorem z_mul {a b : Int} : z_i a * z_i b = z_i (a * b) := by unfold z_i; rw [Int32.ofInt_mul]
theorem z_neg {a : Int} : -(z_i a) = z_i (-a) := by unfold z_i; rw [Int32.ofInt_neg]
theorem z_toI {a : Int} (h : -2147483648 ≤ a ∧ a < 2147483648) : (z_i a).toInt = a := Int32.toInt_ofInt_of_le h.1 h.2
theorem z_toN {a : Int} (h : -2147483648 ≤ a ∧ a < 2147483648) : (z_i a).toNatClampNeg = a.toNat := Int32.toNatClampNeg_ofInt_of_le h.1 h.2
def z_R (a : Int) : Prop := -2147483648 ≤ a ∧ a < 2147483648
theorem z_Rm {a : Int} (h : -2147483648 ≤ a) (h' : a < 2147483648) : z_R a := ⟨h, h'⟩
theorem z_lt {a b : Int} (h : z_R a) (h' : z_R b) : (z_i a < z_i b) = (a < b) := by
  rw [Int32.lt_iff_toInt_lt, z_toI h, z_toI h']
theorem z_eq {a b : Int} (h : z_R a) (h' : z_R b) : (z_i a = z_i b) = (a = b) := by
  rw [← Int32.toInt_inj, z_toI h, z_toI h']
theorem z_ite {c : Prop} {a b : q_C} : z_if c a b = @ite _ c (Classical.propDecidable c) (q_ev a) (q_ev b) := rfl
theorem z_if_c {c c' : Prop} {a b : q_C} (h : c ↔ c') : z_if c a b = z_if c' a b := by rw [propext h]
theorem z_ifb {c : Prop} [Decidable c] {a b : q_C} : z_if (z_i (if c then 1 else 0) = z_i 0) a b = z_if c b a := by
  by_cases hc : c
  · rw [if_pos hc, z_if_t hc, z_if_f (by decide)]
  · rw [if_neg hc, z_if_f hc, z_if_t rfl]
theorem z_ifb1 {c : Prop} [Decidable c] {a b : q_C} : z_if ((if c then (1 : Int) else 0) = 0) a b = z_if c b a := by
  by_cases hc : c
  · rw [if_pos hc, z_if_t hc, z_if_f (by decide)]
  · rw [if_neg hc, z_if_f hc, z_if_t rfl]
theorem z_01 (c : Prop) [Decidable c] : (if c then (1 : Int) else 0) = 0 ∨ (if c then (1 : Int) else 0) = 1 := by by_cases hc : c <;> simp [hc]
theorem z_R01 (c : Prop) [Decidable c] : z_R (if c then (1 : Int) else 0) := by by_cases hc : c <;> simp [hc, z_R]
theorem z_lcl {a b : Int} (h : z_R a) (h' : z_R b) : (lg_cmp (z_i a).toInt64 (z_i b).toInt64 < z_i 0) = (a < b) := by
  rw [z_i0, propext (lg_cmp_lt _ _), Int64.lt_iff_toInt_lt, Int32.toInt_toInt64, Int32.toInt_toInt64, z_toI h, z_toI h']
theorem z_lcg {a b : Int} (h : z_R a) (h' : z_R b) : (z_i 0 < lg_cmp (z_i a).toInt64 (z_i b).toInt64) = (b < a) := by
  rw [z_i0, propext (lg_cmp_gt _ _), Int64.lt_iff_toInt_lt, Int32.toInt_toInt64, Int32.toInt_toInt64, z_toI h, z_toI h']
theorem z_dv {a b : Int} (h : 0 ≤ a ∧ a < 2147483648 ∧ 0 < b ∧ b < 2147483648) : z_i a / z_i b = z_i (a / b) := by
  apply Int32.toInt_inj.mp
  have h1 : 0 ≤ a / b := Int.ediv_nonneg h.1 (by omega)
  have h2 : a / b ≤ a := Int.ediv_le_self _ h.1
  have e2 : z_i b ≠ -1 := by
    intro h'
    have h3 := congrArg Int32.toInt h'
    rw [z_toI ⟨by omega, h.2.2.2⟩] at h3
    have h4 : (-1 : Int32).toInt = -1 := by decide
    omega
  rw [Int32.toInt_div_of_ne_right _ _ e2, z_toI ⟨by omega, h.2.1⟩, z_toI ⟨by omega, h.2.2.2⟩, z_toI ⟨by omega, by omega⟩, Int.tdiv_eq_ediv_of_nonneg h.1]
theorem z_m1 {a : Int} : a + -1 = a - 1 := rfl
theorem z_md {a b : Int} : a - a / b * b = a % b := by rw [Int.emod_def, Int.mul_comm]
theorem z_n0 : narrow .boolean (.int (z_i 0)) = .int (z_i 0) := by decide
theorem z_n1 : narrow .boolean (.int (z_i 1)) = .int (z_i 1) := by decide
theorem z_self (x : Int32) : z_i x.toInt = x := Int32.ofInt_toInt x
theorem z_nb (c : Prop) [Decidable c] : narrow .boolean (.int (z_i (if c then 1 else 0))) = .int (z_i (if c then 1 else 0)) := by
  by_cases hc : c
  · rw [if_pos hc]; exact z_n1
  · rw [if_neg hc]; exact z_n0
theorem z_ne0 {a : Int} (h : z_R a) (h' : a ≠ 0) : ¬ z_i a = 0 := by
  rw [← z_i0, z_eq h ⟨by decide, by decide⟩]
  exact h'
theorem z_rng (x : Int32) : z_R x.toInt := ⟨x.le_toInt, x.toInt_lt⟩
abbrev tw_M : Type := Nat → Int → Int
def tw_up (M : tw_M) (j : Nat) (i v : Int) : tw_M := fun j' i' => if j' = j ∧ i' = i then v else M j' i'
theorem tw_up_s {M : tw_M} {j : Nat} {i v : Int} : tw_up M j i v j i = v := if_pos ⟨rfl, rfl⟩
theorem tw_up_j {M : tw_M} {j j' : Nat} {i i' v : Int} (h : ¬ j' = j) : tw_up M j i v j' i' = M j' i' := if_neg fun h' => h h'.1
theorem tw_up_i {M : tw_M} {j j' : Nat} {i i' v : Int} (h : ¬ i' = i) : tw_up M j i v j' i' = M j' i' := if_neg fun h' => h h'.2
theorem tw_up_x {M : tw_M} {j : Nat} {i i' v : Int} (h : i' = i) : tw_up M j i v j i' = v := if_pos ⟨rfl, h⟩
def sp_u (f : Int → Int) (i v : Int) : Int → Int := fun j => if j = i then v else f j
theorem sp_u_s {f : Int → Int} {i v : Int} : sp_u f i v i = v := if_pos rfl
theorem sp_u_x {f : Int → Int} {i j v : Int} (h : j = i) : sp_u f i v j = v := if_pos h
theorem sp_u_i {f : Int → Int} {i j v : Int} (h : ¬ j = i) : sp_u f i v j = f j := if_neg h
theorem sp_uu {f : Int → Int} {i v w : Int} : sp_u (sp_u f i v) i w = sp_u f i w := by funext j; unfold sp_u; split <;> rfl
/-- a whole row put in place -/
def tw_ua (M : tw_M) (j : Nat) (f : Int → Int) : tw_M := fun j' => if j' = j then f else M j'
theorem tw_ua_s {M : tw_M} {j : Nat} {f : Int → Int} {i : Int} : tw_ua M j f j i = f i := congrFun (if_pos rfl) i
theorem tw_ua_j {M : tw_M} {j j' : Nat} {f : Int → Int} {i : Int} (h : ¬ j' = j) : tw_ua M j f j' i = M j' i := congrFun (if_neg h) i
theorem tw_ua_S {M : tw_M} {j : Nat} {f : Int → Int} : tw_ua M j f j = f := if_pos rfl
theorem tw_ua_J {M : tw_M} {j j' : Nat} {f : Int → Int} (h : ¬ j' = j) : tw_ua M j f j' = M j' := if_neg h
theorem tw_ua_ua {M : tw_M} {j : Nat} {f f' : Int → Int} : tw_ua (tw_ua M j f) j f' = tw_ua M j f' := by
  funext j'; unfold tw_ua; split <;> rfl
theorem tw_ua_id {M : tw_M} {j : Nat} : tw_ua M j (M j) = M := by
  funext j'; unfold tw_ua; split
  · rename_i h; rw [h]
  · rfl
theorem tw_up_ua {M : tw_M} {j : Nat} {f : Int → Int} {i v : Int} : tw_up (tw_ua M j f) j i v = tw_ua M j (sp_u f i v) := by
  funext j' i'
  unfold tw_up tw_ua sp_u
  by_cases h1 : j' = j <;> by_cases h2 : i' = i <;> simp [h1, h2]
theorem tw_up_uj {M : tw_M} {j k : Nat} {f : Int → Int} {i v : Int} (h : ¬ k = j) : tw_up (tw_ua M j f) k i v = tw_ua (tw_up M k i v) j f := by
  funext j' i'
  unfold tw_up tw_ua
  by_cases h1 : j' = k
  · subst h1; by_cases h2 : i' = i <;> simp [h, h2]
  · by_cases h2 : j' = j
    · have h3 : ¬ j = k := fun h3 => h1 (h2.trans h3)
      simp [h2, h3]
    · simp [h1, h2]
theorem tw_up_eq {M : tw_M} {j : Nat} {i v : Int} : tw_up M j i v = tw_ua M j (sp_u (M j) i v) := by
  funext j' i'
  unfold tw_up tw_ua sp_u
  by_cases h1 : j' = j
  · subst h1; by_cases h2 : i' = i <;> simp [h2]
  · simp [h1]
theorem tw_ua_cm {M : tw_M} {j k : Nat} {f f' : Int → Int} (h : ¬ k = j) : tw_ua (tw_ua M j f) k f' = tw_ua (tw_ua M k f') j f := by
  funext j'
  unfold tw_ua
  by_cases h1 : j' = k
  · subst h1; simp [h]
  · by_cases h2 : j' = j
    · have h3 : ¬ j = k := fun h3 => h1 (h2.trans h3)
      simp [h2, h3]
    · simp [h1, h2]
/-- key 0: its numbers; keys 1 .. 11: its rows -/
def tw_len (j : Nat) : Nat := [0, 2, 581, 6391, 2, 64, 64, 64, 64, 4, 600, 300].getD j 0
def tw_ob (M : tw_M) : List Value := [.int (z_i (M 0 0)), .int (z_i (M 0 1)), .ref 1006, .ref 1007, .ref 1008, .int (z_i (M 0 5)), .ref 1009, .ref 1010, .ref 1011, .ref 1012, .int (z_i (M 0 10)), .ref 1013, .ref 1014, .int (z_i (M 0 13)), .int (z_i (M 0 14)), .ref 1015, .int (z_i (M 0 16)), .int (z_i (M 0 17)), .int (z_i (M 0 18)), .int (z_i (M 0 19)), .int (z_i (M 0 20)), .int (z_i (M 0 21)), .int (z_i (M 0 22)), .int (z_i (M 0 23)), .int (z_i (M 0 24)), .int (z_i (M 0 25)), .ref 1016, .int (z_i (M 0 27))]
def q_tu (g : q_H) (M : tw_M) : q_H := (fun a => if a = 1005 then some (true, .inr (25, tw_ob M)) else if 1006 ≤ a ∧ a ≤ 1016 then some (true, .inl (if a = 1009 then 2 else 0, tw_len (a - 1005), .inl fun i => z_i (M (a - 1005) i))) else g.1 a, g.2)
theorem tw_set1 {g : q_H} {M M' : tw_M} (h : ∀ j, j ≠ 0 → M' j = M j) : q_set (q_tu g M) 1005 (true, .inr (25, tw_ob M')) = q_tu g M' := by
  unfold q_set q_tu
  refine Prod.ext (funext fun a => ?_) rfl
  dsimp only
  by_cases ha : a = 1005
  · rw [if_pos ha, if_pos ha]
  · rw [if_neg ha, if_neg ha, if_neg ha]
    by_cases hb : 1006 ≤ a ∧ a ≤ 1016
    · rw [if_pos hb, if_pos hb, h (a - 1005) (by omega)]
    · rw [if_neg hb, if_neg hb]
theorem tw_up_0 {M : tw_M} {i v : Int} : ∀ j, j ≠ 0 → tw_up M 0 i v j = M j := fun j hj => funext fun i' => tw_up_j hj
theorem tw_obj_at {g : q_H} {M : tw_M} : (q_tu g M).1 1005 = some (true, .inr (25, tw_ob M)) := rfl
theorem tw_arr_at {g : q_H} {M : tw_M} {a : Nat} (h : 1006 ≤ a ∧ a ≤ 1016) : (q_tu g M).1 a = some (true, .inl (if a = 1009 then 2 else 0, tw_len (a - 1005), .inl fun i => z_i (M (a - 1005) i))) := by
  unfold q_tu
  dsimp only
  rw [if_neg (by omega), if_pos h]
theorem tw_lenb (j : Nat) : tw_len j ≤ 6391 := by
  unfold tw_len
  match j with
  | 0 | 1 | 2 | 3 | 4 | 5 | 6 | 7 | 8 | 9 | 10 | 11 => decide
  | n + 12 => exact Nat.zero_le _
theorem tw_rdI {g : q_H} {M : tw_M} {a : Nat} {i : Int} (h : 1006 ≤ a ∧ a ≤ 1016) (hi : 0 ≤ i ∧ i < tw_len (a - 1005)) : q_rdI (q_tu g M) a (z_i i) = some (if a = 1009 then 2 else 0, z_i (M (a - 1005) i)) := by
  have hb := tw_lenb (a - 1005)
  have hr : (z_i i).toNatClampNeg = i.toNat := z_toN ⟨by omega, by omega⟩
  have hn : ¬ z_i i < 0 := by
    rw [← z_i0, z_lt ⟨by omega, by omega⟩ ⟨by omega, by omega⟩]
    omega
  unfold q_rdI
  rw [tw_arr_at h]
  dsimp only
  rw [hr, if_neg (fun h' => h'.elim hn (by omega)), Int.toNat_of_nonneg hi.1]
theorem tw_cls {g : q_H} {M : tw_M} : q_cls (q_tu g M) 1005 = some 25 := rfl
theorem tw_som {g : q_H} {M : tw_M} : ((q_tu g M).1 1005).isSome = true := rfl
theorem tw_g0 {g : q_H} {M : tw_M} : q_gf (q_tu g M) 1005 78 = some (.int (z_i (M 0 0))) := rfl
theorem tw_g1 {g : q_H} {M : tw_M} : q_gf (q_tu g M) 1005 79 = some (.int (z_i (M 0 1))) := rfl
theorem tw_g2 {g : q_H} {M : tw_M} : q_gf (q_tu g M) 1005 80 = some (.ref 1006) := rfl
theorem tw_g3 {g : q_H} {M : tw_M} : q_gf (q_tu g M) 1005 81 = some (.ref 1007) := rfl
theorem tw_g4 {g : q_H} {M : tw_M} : q_gf (q_tu g M) 1005 82 = some (.ref 1008) := rfl
theorem tw_g5 {g : q_H} {M : tw_M} : q_gf (q_tu g M) 1005 83 = some (.int (z_i (M 0 5))) := rfl
theorem tw_g6 {g : q_H} {M : tw_M} : q_gf (q_tu g M) 1005 84 = some (.ref 1009) := rfl
theorem tw_g7 {g : q_H} {M : tw_M} : q_gf (q_tu g M) 1005 85 = some (.ref 1010) := rfl
theorem tw_g8 {g : q_H} {M : tw_M} : q_gf (q_tu g M) 1005 86 = some (.ref 1011) := rfl
theorem tw_g9 {g : q_H} {M : tw_M} : q_gf (q_tu g M) 1005 87 = some (.ref 1012) := rfl
theorem tw_g10 {g : q_H} {M : tw_M} : q_gf (q_tu g M) 1005 88 = some (.int (z_i (M 0 10))) := rfl
theorem tw_g11 {g : q_H} {M : tw_M} : q_gf (q_tu g M) 1005 89 = some (.ref 1013) := rfl
theorem tw_g12 {g : q_H} {M : tw_M} : q_gf (q_tu g M) 1005 90 = some (.ref 1014) := rfl
theorem tw_g13 {g : q_H} {M : tw_M} : q_gf (q_tu g M) 1005 91 = some (.int (z_i (M 0 13))) := rfl
theorem tw_g14 {g : q_H} {M : tw_M} : q_gf (q_tu g M) 1005 92 = some (.int (z_i (M 0 14))) := rfl
theorem tw_g15 {g : q_H} {M : tw_M} : q_gf (q_tu g M) 1005 93 = some (.ref 1015) := rfl
theorem tw_g16 {g : q_H} {M : tw_M} : q_gf (q_tu g M) 1005 94 = some (.int (z_i (M 0 16))) := rfl
theorem tw_g17 {g : q_H} {M : tw_M} : q_gf (q_tu g M) 1005 95 = some (.int (z_i (M 0 17))) := rfl
theorem tw_g18 {g : q_H} {M : tw_M} : q_gf (q_tu g M) 1005 96 = some (.int (z_i (M 0 18))) := rfl
theorem tw_g19 {g : q_H} {M : tw_M} : q_gf (q_tu g M) 1005 97 = some (.int (z_i (M 0 19))) := rfl
theorem tw_g20 {g : q_H} {M : tw_M} : q_gf (q_tu g M) 1005 98 = some (.int (z_i (M 0 20))) := rfl
theorem tw_g21 {g : q_H} {M : tw_M} : q_gf (q_tu g M) 1005 99 = some (.int (z_i (M 0 21))) := rfl
theorem tw_g22 {g : q_H} {M : tw_M} : q_gf (q_tu g M) 1005 100 = some (.int (z_i (M 0 22))) := rfl
theorem tw_g23 {g : q_H} {M : tw_M} : q_gf (q_tu g M) 1005 101 = some (.int (z_i (M 0 23))) := rfl
theorem tw_g24 {g : q_H} {M : tw_M} : q_gf (q_tu g M) 1005 102 = some (.int (z_i (M 0 24))) := rfl
theorem tw_g25 {g : q_H} {M : tw_M} : q_gf (q_tu g M) 1005 103 = some (.int (z_i (M 0 25))) := rfl
theorem tw_g26 {g : q_H} {M : tw_M} : q_gf (q_tu g M) 1005 104 = some (.ref 1016) := rfl
theorem tw_g27 {g : q_H} {M : tw_M} : q_gf (q_tu g M) 1005 105 = some (.int (z_i (M 0 27))) := rfl
theorem tw_pf {g : q_H} {M : tw_M} {F k : Nat} {v : Int} (hk : q_ix 25 F = some k) (hl : k < (tw_ob M).length) (hv : ∃ x : String × String × String × Bool × FieldType, q_fd[F]? = some x ∧ q_okv x.2.2.2.2 (.int (z_i v)) = true) (hs : (tw_ob M).set k (.int (z_i v)) = tw_ob (tw_up M 0 k v)) : q_pf (q_tu g M) 1005 F (.int (z_i v)) = some (q_tu g (tw_up M 0 k v)) := by
  obtain ⟨x, hx, hv⟩ := hv
  unfold q_pf
  rw [tw_obj_at]
  dsimp only
  rw [hk, Option.bind_some, hx]
  dsimp only
  rw [if_pos ⟨hl, hv⟩, hs, tw_set1 tw_up_0]
theorem tw_p0 {g : q_H} {M : tw_M} {v : Int} : q_pf (q_tu g M) 1005 78 (.int (z_i v)) = some (q_tu g (tw_up M 0 0 v)) := tw_pf (by decide +kernel) (show 0 < 28 by decide) ⟨_, rfl, rfl⟩ rfl
theorem tw_p1 {g : q_H} {M : tw_M} {v : Int} (h : v = 0 ∨ v = 1) : q_pf (q_tu g M) 1005 79 (.int (z_i v)) = some (q_tu g (tw_up M 0 1 v)) := tw_pf (by decide +kernel) (show 1 < 28 by decide) ⟨_, rfl, by rcases h with h | h <;> subst h <;> decide⟩ rfl
theorem tw_p5 {g : q_H} {M : tw_M} {v : Int} : q_pf (q_tu g M) 1005 83 (.int (z_i v)) = some (q_tu g (tw_up M 0 5 v)) := tw_pf (by decide +kernel) (show 5 < 28 by decide) ⟨_, rfl, rfl⟩ rfl
theorem tw_p10 {g : q_H} {M : tw_M} {v : Int} : q_pf (q_tu g M) 1005 88 (.int (z_i v)) = some (q_tu g (tw_up M 0 10 v)) := tw_pf (by decide +kernel) (show 10 < 28 by decide) ⟨_, rfl, rfl⟩ rfl
theorem tw_p13 {g : q_H} {M : tw_M} {v : Int} : q_pf (q_tu g M) 1005 91 (.int (z_i v)) = some (q_tu g (tw_up M 0 13 v)) := tw_pf (by decide +kernel) (show 13 < 28 by decide) ⟨_, rfl, rfl⟩ rfl
theorem tw_p14 {g : q_H} {M : tw_M} {v : Int} : q_pf (q_tu g M) 1005 92 (.int (z_i v)) = some (q_tu g (tw_up M 0 14 v)) := tw_pf (by decide +kernel) (show 14 < 28 by decide) ⟨_, rfl, rfl⟩ rfl
theorem tw_p16 {g : q_H} {M : tw_M} {v : Int} : q_pf (q_tu g M) 1005 94 (.int (z_i v)) = some (q_tu g (tw_up M 0 16 v)) := tw_pf (by decide +kernel) (show 16 < 28 by decide) ⟨_, rfl, rfl⟩ rfl
theorem tw_p17 {g : q_H} {M : tw_M} {v : Int} : q_pf (q_tu g M) 1005 95 (.int (z_i v)) = some (q_tu g (tw_up M 0 17 v)) := tw_pf (by decide +kernel) (show 17 < 28 by decide) ⟨_, rfl, rfl⟩ rfl
theorem tw_p18 {g : q_H} {M : tw_M} {v : Int} : q_pf (q_tu g M) 1005 96 (.int (z_i v)) = some (q_tu g (tw_up M 0 18 v)) := tw_pf (by decide +kernel) (show 18 < 28 by decide) ⟨_, rfl, rfl⟩ rfl
theorem tw_p19 {g : q_H} {M : tw_M} {v : Int} : q_pf (q_tu g M) 1005 97 (.int (z_i v)) = some (q_tu g (tw_up M 0 19 v)) := tw_pf (by decide +kernel) (show 19 < 28 by decide) ⟨_, rfl, rfl⟩ rfl
theorem tw_p20 {g : q_H} {M : tw_M} {v : Int} : q_pf (q_tu g M) 1005 98 (.int (z_i v)) = some (q_tu g (tw_up M 0 20 v)) := tw_pf (by decide +kernel) (show 20 < 28 by decide) ⟨_, rfl, rfl⟩ rfl
theorem tw_p21 {g : q_H} {M : tw_M} {v : Int} : q_pf (q_tu g M) 1005 99 (.int (z_i v)) = some (q_tu g (tw_up M 0 21 v)) := tw_pf (by decide +kernel) (show 21 < 28 by decide) ⟨_, rfl, rfl⟩ rfl
theorem tw_p22 {g : q_H} {M : tw_M} {v : Int} : q_pf (q_tu g M) 1005 100 (.int (z_i v)) = some (q_tu g (tw_up M 0 22 v)) := tw_pf (by decide +kernel) (show 22 < 28 by decide) ⟨_, rfl, rfl⟩ rfl
theorem tw_p23 {g : q_H} {M : tw_M} {v : Int} : q_pf (q_tu g M) 1005 101 (.int (z_i v)) = some (q_tu g (tw_up M 0 23 v)) := tw_pf (by decide +kernel) (show 23 < 28 by decide) ⟨_, rfl, rfl⟩ rfl
theorem tw_p24 {g : q_H} {M : tw_M} {v : Int} : q_pf (q_tu g M) 1005 102 (.int (z_i v)) = some (q_tu g (tw_up M 0 24 v)) := tw_pf (by decide +kernel) (show 24 < 28 by decide) ⟨_, rfl, rfl⟩ rfl
theorem tw_p25 {g : q_H} {M : tw_M} {v : Int} : q_pf (q_tu g M) 1005 103 (.int (z_i v)) = some (q_tu g (tw_up M 0 25 v)) := tw_pf (by decide +kernel) (show 25 < 28 by decide) ⟨_, rfl, rfl⟩ rfl
theorem tw_p27 {g : q_H} {M : tw_M} {v : Int} : q_pf (q_tu g M) 1005 105 (.int (z_i v)) = some (q_tu g (tw_up M 0 27 v)) := tw_pf (by decide +kernel) (show 27 < 28 by decide) ⟨_, rfl, rfl⟩ rfl
theorem tw_r1 {g : q_H} {M : tw_M} {i : Int} (h : 0 ≤ i ∧ i < 2) : z_ri (q_tu g M) 1006 (z_i i) = some (z_i (M 1 i)) := by
  unfold z_ri
  rw [tw_rdI (by omega) ⟨h.1, by show i < ((2 : Nat) : Int); omega⟩]
  rfl
theorem tw_r2 {g : q_H} {M : tw_M} {i : Int} (h : 0 ≤ i ∧ i < 581) : z_ri (q_tu g M) 1007 (z_i i) = some (z_i (M 2 i)) := by
  unfold z_ri
  rw [tw_rdI (by omega) ⟨h.1, by show i < ((581 : Nat) : Int); omega⟩]
  rfl
theorem tw_r3 {g : q_H} {M : tw_M} {i : Int} (h : 0 ≤ i ∧ i < 6391) : z_ri (q_tu g M) 1008 (z_i i) = some (z_i (M 3 i)) := by
  unfold z_ri
  rw [tw_rdI (by omega) ⟨h.1, by show i < ((6391 : Nat) : Int); omega⟩]
  rfl
theorem tw_r4 {g : q_H} {M : tw_M} {i : Int} (h : 0 ≤ i ∧ i < 2) : z_rb (q_tu g M) 1009 (z_i i) = some (z_i (M 4 i)) := by
  unfold z_rb
  rw [tw_rdI (by omega) ⟨h.1, by show i < ((2 : Nat) : Int); omega⟩]
  rfl
theorem tw_r5 {g : q_H} {M : tw_M} {i : Int} (h : 0 ≤ i ∧ i < 64) : z_ri (q_tu g M) 1010 (z_i i) = some (z_i (M 5 i)) := by
  unfold z_ri
  rw [tw_rdI (by omega) ⟨h.1, by show i < ((64 : Nat) : Int); omega⟩]
  rfl
theorem tw_r6 {g : q_H} {M : tw_M} {i : Int} (h : 0 ≤ i ∧ i < 64) : z_ri (q_tu g M) 1011 (z_i i) = some (z_i (M 6 i)) := by
  unfold z_ri
  rw [tw_rdI (by omega) ⟨h.1, by show i < ((64 : Nat) : Int); omega⟩]
  rfl
theorem tw_r7 {g : q_H} {M : tw_M} {i : Int} (h : 0 ≤ i ∧ i < 64) : z_ri (q_tu g M) 1012 (z_i i) = some (z_i (M 7 i)) := by
  unfold z_ri
  rw [tw_rdI (by omega) ⟨h.1, by show i < ((64 : Nat) : Int); omega⟩]
  rfl
theorem tw_r8 {g : q_H} {M : tw_M} {i : Int} (h : 0 ≤ i ∧ i < 64) : z_ri (q_tu g M) 1013 (z_i i) = some (z_i (M 8 i)) := by
  unfold z_ri
  rw [tw_rdI (by omega) ⟨h.1, by show i < ((64 : Nat) : Int); omega⟩]
  rfl
theorem tw_r9 {g : q_H} {M : tw_M} {i : Int} (h : 0 ≤ i ∧ i < 4) : z_ri (q_tu g M) 1014 (z_i i) = some (z_i (M 9 i)) := by
  unfold z_ri
  rw [tw_rdI (by omega) ⟨h.1, by show i < ((4 : Nat) : Int); omega⟩]
  rfl
theorem tw_r10 {g : q_H} {M : tw_M} {i : Int} (h : 0 ≤ i ∧ i < 600) : z_ri (q_tu g M) 1015 (z_i i) = some (z_i (M 10 i)) := by
  unfold z_ri
  rw [tw_rdI (by omega) ⟨h.1, by show i < ((600 : Nat) : Int); omega⟩]
  rfl
theorem tw_r11 {g : q_H} {M : tw_M} {i : Int} (h : 0 ≤ i ∧ i < 300) : z_ri (q_tu g M) 1016 (z_i i) = some (z_i (M 11 i)) := by
  unfold z_ri
  rw [tw_rdI (by omega) ⟨h.1, by show i < ((300 : Nat) : Int); omega⟩]
  rfl
theorem tw_wrI {g : q_H} {M : tw_M} {a t : Nat} {i v : Int} (h : 1006 ≤ a ∧ a ≤ 1016) (hi : 0 ≤ i ∧ i < tw_len (a - 1005)) (ht : t = if a = 1009 then 2 else 0) : q_wrI (q_tu g M) a (z_i i) (z_i v) t = some (q_tu g (tw_up M (a - 1005) i v)) := by
  have hb := tw_lenb (a - 1005)
  have hr : (z_i i).toNatClampNeg = i.toNat := z_toN ⟨by omega, by omega⟩
  have hn : ¬ z_i i < 0 := by
    rw [← z_i0, z_lt ⟨by omega, by omega⟩ ⟨by omega, by omega⟩]
    omega
  unfold q_wrI
  rw [tw_arr_at h]
  dsimp only
  rw [hr, if_neg (fun h' => h'.elim hn fun h' => h'.elim (by omega) fun h' => h' ht.symm)]
  refine congrArg some (Prod.ext (funext fun b => ?_) rfl)
  unfold q_set q_tu
  dsimp only
  by_cases hb1 : b = a
  · subst hb1
    have hf : upd (fun n : Nat => z_i (M (b - 1005) n)) i.toNat (z_i v) = fun n : Nat => z_i (tw_up M (b - 1005) i v (b - 1005) n) := by
      funext n
      unfold upd tw_up
      by_cases hn1 : n = i.toNat
      · rw [if_pos hn1, if_pos ⟨rfl, by omega⟩]
      · rw [if_neg hn1, if_neg (by omega)]
    rw [if_pos rfl, if_neg (show ¬ b = 1005 by omega), if_pos h, hf]
  · rw [if_neg hb1]
    by_cases hb2 : b = 1005
    · rw [if_pos hb2, if_pos hb2]
      have hf : tw_up M (a - 1005) i v 0 = M 0 := funext fun i' => tw_up_j (by omega)
      unfold tw_ob
      rw [hf]
    · rw [if_neg hb2, if_neg hb2]
      by_cases hb3 : 1006 ≤ b ∧ b ≤ 1016
      · rw [if_pos hb3, if_pos hb3, show tw_up M (a - 1005) i v (b - 1005) = M (b - 1005) from funext fun i' => tw_up_j (by omega)]
      · rw [if_neg hb3, if_neg hb3]
theorem tw_w1 {g : q_H} {M : tw_M} {i v : Int} (h : 0 ≤ i ∧ i < 2) : q_wrI (q_tu g M) 1006 (z_i i) (z_i v) 0 = some (q_tu g (tw_up M 1 i v)) := tw_wrI (by omega) ⟨h.1, by show i < ((2 : Nat) : Int); omega⟩ rfl
theorem tw_w2 {g : q_H} {M : tw_M} {i v : Int} (h : 0 ≤ i ∧ i < 581) : q_wrI (q_tu g M) 1007 (z_i i) (z_i v) 0 = some (q_tu g (tw_up M 2 i v)) := tw_wrI (by omega) ⟨h.1, by show i < ((581 : Nat) : Int); omega⟩ rfl
theorem tw_w3 {g : q_H} {M : tw_M} {i v : Int} (h : 0 ≤ i ∧ i < 6391) : q_wrI (q_tu g M) 1008 (z_i i) (z_i v) 0 = some (q_tu g (tw_up M 3 i v)) := tw_wrI (by omega) ⟨h.1, by show i < ((6391 : Nat) : Int); omega⟩ rfl
theorem tw_w4 {g : q_H} {M : tw_M} {i v : Int} (h : 0 ≤ i ∧ i < 2) (hv : v = 0 ∨ v = 1) : q_wrB (q_tu g M) 1009 (z_i i) (z_i v) = some (q_tu g (tw_up M 4 i v)) := by
  have h1 : q_wrB (q_tu g M) 1009 (z_i i) (z_i v) = q_wrI (q_tu g M) 1009 (z_i i) (vp_nar .boolean (z_i v)) 2 := rfl
  rw [h1, show vp_nar .boolean (z_i v) = z_i v by rcases hv with h | h <;> subst h <;> decide]
  exact tw_wrI (by omega) ⟨h.1, by show i < ((2 : Nat) : Int); omega⟩ rfl
theorem tw_w5 {g : q_H} {M : tw_M} {i v : Int} (h : 0 ≤ i ∧ i < 64) : q_wrI (q_tu g M) 1010 (z_i i) (z_i v) 0 = some (q_tu g (tw_up M 5 i v)) := tw_wrI (by omega) ⟨h.1, by show i < ((64 : Nat) : Int); omega⟩ rfl
theorem tw_w6 {g : q_H} {M : tw_M} {i v : Int} (h : 0 ≤ i ∧ i < 64) : q_wrI (q_tu g M) 1011 (z_i i) (z_i v) 0 = some (q_tu g (tw_up M 6 i v)) := tw_wrI (by omega) ⟨h.1, by show i < ((64 : Nat) : Int); omega⟩ rfl
theorem tw_w7 {g : q_H} {M : tw_M} {i v : Int} (h : 0 ≤ i ∧ i < 64) : q_wrI (q_tu g M) 1012 (z_i i) (z_i v) 0 = some (q_tu g (tw_up M 7 i v)) := tw_wrI (by omega) ⟨h.1, by show i < ((64 : Nat) : Int); omega⟩ rfl
theorem tw_w8 {g : q_H} {M : tw_M} {i v : Int} (h : 0 ≤ i ∧ i < 64) : q_wrI (q_tu g M) 1013 (z_i i) (z_i v) 0 = some (q_tu g (tw_up M 8 i v)) := tw_wrI (by omega) ⟨h.1, by show i < ((64 : Nat) : Int); omega⟩ rfl
theorem tw_w9 {g : q_H} {M : tw_M} {i v : Int} (h : 0 ≤ i ∧ i < 4) : q_wrI (q_tu g M) 1014 (z_i i) (z_i v) 0 = some (q_tu g (tw_up M 9 i v)) := tw_wrI (by omega) ⟨h.1, by show i < ((4 : Nat) : Int); omega⟩ rfl
theorem tw_w10 {g : q_H} {M : tw_M} {i v : Int} (h : 0 ≤ i ∧ i < 600) : q_wrI (q_tu g M) 1015 (z_i i) (z_i v) 0 = some (q_tu g (tw_up M 10 i v)) := tw_wrI (by omega) ⟨h.1, by show i < ((600 : Nat) : Int); omega⟩ rfl
theorem tw_w11 {g : q_H} {M : tw_M} {i v : Int} (h : 0 ≤ i ∧ i < 300) : q_wrI (q_tu g M) 1016 (z_i i) (z_i v) 0 = some (q_tu g (tw_up M 11 i v)) := tw_wrI (by omega) ⟨h.1, by show i < ((300 : Nat) : Int); omega⟩ rfl
