/-! plain law: what lies beyond the map does not matter -/
def sp_eX (N : Int) (X Y : sp_X) : Prop := X.2.2 = Y.2.2 ∧ (∀ i, 0 ≤ i → i < X.2.2 → X.2.1 i = Y.2.1 i) ∧ (∀ c, 0 ≤ c → c < N → X.1 c = Y.1 c)
theorem sp_fd_e {R C k : Int} {s : Int → Int} {cell dir : Int} {X Y : sp_X} (hC : 0 < C) (hX : 0 ≤ X.2.2) (h : sp_eX (R * C) X Y) : sp_eX (R * C) (sp_fd R C k s cell dir X) (sp_fd R C k s cell dir Y) ∧ 0 ≤ (sp_fd R C k s cell dir X).2.2 := by
  obtain ⟨h1, h2, h3⟩ := h
  have hb := sp_bes_in (R := R) (C := C) (cell := cell) (dir := dir) hC
  unfold sp_fd
  generalize sp_bes R C cell dir = b at *
  by_cases hc : b ≠ -1 ∧ s (33 + b) = 1 ∧ X.1 b = -1
  · have hb2 := hb.resolve_left hc.1
    rw [if_pos hc, if_pos ⟨hc.1, hc.2.1, by rw [← h3 b hb2.1 hb2.2]; exact hc.2.2⟩]
    refine ⟨⟨by show X.2.2 + 1 = Y.2.2 + 1; omega, ?_, ?_⟩, by show 0 ≤ X.2.2 + 1; omega⟩
    · intro i hi0 hi1
      have hi2 : i < X.2.2 + 1 := hi1
      show sp_u X.2.1 X.2.2 b i = sp_u Y.2.1 Y.2.2 b i
      rw [← h1]
      by_cases he : i = X.2.2
      · rw [sp_u_x he, sp_u_x he]
      · rw [sp_u_i he, sp_u_i he]; exact h2 i hi0 (by omega)
    · intro c hc0 hc1
      show sp_u X.1 b k c = sp_u Y.1 b k c
      by_cases he : c = b
      · rw [sp_u_x he, sp_u_x he]
      · rw [sp_u_i he, sp_u_i he]; exact h3 c hc0 hc1
  · rw [if_neg hc, if_neg]
    · exact ⟨⟨h1, h2, h3⟩, hX⟩
    · rintro ⟨g1, g2, g3⟩
      have hb2 := hb.resolve_left g1
      exact hc ⟨g1, g2, by rw [h3 b hb2.1 hb2.2]; exact g3⟩
theorem sp_fds_e {R C k : Int} {s : Int → Int} {cell : Int} (hC : 0 < C) : ∀ (n : Nat) (dir : Int) (X Y : sp_X), 0 ≤ X.2.2 → sp_eX (R * C) X Y → sp_eX (R * C) (sp_fds R C k s cell n dir X) (sp_fds R C k s cell n dir Y) ∧ 0 ≤ (sp_fds R C k s cell n dir X).2.2 := by
  intro n
  induction n with
  | zero => intro dir X Y hX h; exact ⟨h, hX⟩
  | succ n ih =>
    intro dir X Y hX h
    have h1 := sp_fd_e (k := k) (s := s) (cell := cell) (dir := dir) hC hX h
    exact ih _ _ _ h1.2 h1.1
theorem sp_fw_e {R C k : Int} {s : Int → Int} (hC : 0 < C) : ∀ (n : Nat) (z : Int) (X Y : sp_X), 0 ≤ X.2.2 → sp_eX (R * C) X Y → (sp_fw R C k s n z X).1 = (sp_fw R C k s n z Y).1 ∧ sp_eX (R * C) (sp_fw R C k s n z X).2 (sp_fw R C k s n z Y).2 := by
  intro n
  induction n with
  | zero => intro z X Y hX h; exact ⟨rfl, h⟩
  | succ n ih =>
    intro z X Y hX h
    unfold sp_fw
    by_cases hw : 0 < X.2.2
    · have hw' : 0 < Y.2.2 := by rw [← h.1]; exact hw
      rw [if_pos hw, if_pos hw']
      have e : X.2.1 (X.2.2 - 1) = Y.2.1 (Y.2.2 - 1) := by rw [← h.1]; exact h.2.1 _ (by omega) (by omega)
      rw [← e]
      have h1 := sp_fds_e (k := k) (s := s) (cell := X.2.1 (X.2.2 - 1)) hC 4 0 (X.1, X.2.1, X.2.2 - 1) (Y.1, Y.2.1, Y.2.2 - 1) (by show 0 ≤ X.2.2 - 1; omega) ⟨by show X.2.2 - 1 = Y.2.2 - 1; rw [h.1], fun i hi0 hi1 => h.2.1 i hi0 (by have hi2 : i < X.2.2 - 1 := hi1; omega), h.2.2⟩
      exact ih _ _ _ h1.2 h1.1
    · have hw' : ¬ 0 < Y.2.2 := by rw [← h.1]; exact hw
      rw [if_neg hw, if_neg hw']
      exact ⟨rfl, h⟩
def sp_eZ (N : Int) (Z V : sp_Z) : Prop := Z.1 = V.1 ∧ (∀ c, 0 ≤ c → c < N → Z.2.1 c = V.2.1 c) ∧ (∀ i, 0 ≤ i → i < Z.1 → Z.2.2.1 i = V.2.2.1 i)
theorem sp_ic_e {R C : Int} {s : Int → Int} {m : Int} {Z V : sp_Z} (hC : 0 < C) (hm : 0 ≤ m ∧ m < R * C) (h : sp_eZ (R * C) Z V) : sp_eZ (R * C) (sp_ic R C s m Z) (sp_ic R C s m V) := by
  obtain ⟨h1, h2, h3⟩ := h
  unfold sp_ic
  by_cases hc : s (33 + m) = 1 ∧ Z.2.1 m = -1
  · rw [if_pos hc, if_pos ⟨hc.1, by rw [← h2 m hm.1 hm.2]; exact hc.2⟩]
    rw [← h1]
    have hf := sp_fw_e (k := Z.1) (s := s) hC 65 0 (sp_u Z.2.1 m Z.1, sp_u Z.2.2.2 0 m, 1) (sp_u V.2.1 m Z.1, sp_u V.2.2.2 0 m, 1) (by show (0 : Int) ≤ 1; omega) ⟨rfl, fun i hi0 hi1 => by
      have hi2 : i < 1 := hi1
      show sp_u Z.2.2.2 0 m i = sp_u V.2.2.2 0 m i
      rw [sp_u_x (by omega), sp_u_x (by omega)], fun c hc0 hc1 => by
      show sp_u Z.2.1 m Z.1 c = sp_u V.2.1 m Z.1 c
      by_cases he : c = m
      · rw [sp_u_x he, sp_u_x he]
      · rw [sp_u_i he, sp_u_i he]; exact h2 c hc0 hc1⟩
    refine ⟨rfl, hf.2.2.2, fun i hi0 hi1 => ?_⟩
    have hi2 : i < Z.1 + 1 := hi1
    show sp_u Z.2.2.1 Z.1 _ i = sp_u V.2.2.1 Z.1 _ i
    by_cases he : i = Z.1
    · rw [sp_u_x he, sp_u_x he, hf.1]
    · rw [sp_u_i he, sp_u_i he]; exact h3 i hi0 (by omega)
  · rw [if_neg hc, if_neg (fun h => hc ⟨h.1, by rw [h2 m hm.1 hm.2]; exact h.2⟩)]
    exact ⟨h1, h2, h3⟩
theorem sp_is_e {R C : Int} {s : Int → Int} (hC : 0 < C) : ∀ (n : Nat) (m : Int) (Z V : sp_Z), 0 ≤ m → m + n ≤ R * C → sp_eZ (R * C) Z V → sp_eZ (R * C) (sp_is R C s n m Z) (sp_is R C s n m V) := by
  intro n
  induction n with
  | zero => intro m Z V _ _ h; exact h
  | succ n ih => intro m Z V h0 h1 h; exact ih _ _ _ (by omega) (by omega) (sp_ic_e hC ⟨h0, by omega⟩ h)
/-- the islands of a map, plainly -/
def sp_I (R C : Int) (s : Int → Int) : sp_Z := sp_is R C s (R * C).toNat 0 (0, fun _ => -1, fun _ => 0, fun _ => 0)
theorem sp_I_i {R C : Int} {s : Int → Int} (h0 : 2 ≤ R ∧ R ≤ 8) (h1 : 2 ≤ C ∧ C ≤ 8) : sp_iZ (R * C) s (R * C) (sp_I R C s) := by
  have hN := sp_N h0 h1
  have hum : ∀ n : Nat, sp_um (fun _ => (-1 : Int)) n = n := by
    intro n
    induction n with
    | zero => rfl
    | succ n ih => unfold sp_um; rw [ih, if_pos rfl]
  have h := sp_is_i (R := R) (C := C) (s := s) (by omega) hN.2 (R * C).toNat 0 (0, fun _ => -1, fun _ => 0, fun _ => 0) ⟨Int.le_refl _, by show (0 : Int) + (sp_um (fun _ => (-1 : Int)) 64 : Int) ≤ 64; rw [hum]; omega, fun c _ _ => Or.inl rfl, fun c _ _ h => absurd rfl h, fun c hc0 hc1 => by omega, fun i hi0 hi1 => by have hi2 : i < 0 := hi1; omega⟩ (by omega) (by omega)
  rw [show 0 + ((R * C).toNat : Int) = R * C by omega] at h
  exact h
theorem tw_iz_c {M : tw_M} (h0 : 2 ≤ M 1 0 ∧ M 1 0 ≤ 8) (h1 : 2 ≤ M 1 1 ∧ M 1 1 ≤ 8) : sp_eZ (M 1 0 * M 1 1) (tw_iz M) (sp_I (M 1 0) (M 1 1) (M 2)) := by
  have hN := sp_N h0 h1
  refine sp_is_e (by omega) _ 0 _ _ (by omega) (by omega) ⟨rfl, fun c hc0 hc1 => if_pos ⟨hc0, by omega⟩, fun i hi0 hi1 => ?_⟩
  have hi2 : i < 0 := hi1
  omega
/-- islands that agree on the map, and their sizes -/
def sp_eI (N : Int) (isl sz isl' sz' : Int → Int) : Prop := ∀ c, 0 ≤ c → c < N → isl c = isl' c ∧ (isl c ≠ -1 → sz (isl c) = sz' (isl c))
theorem sp_h_e {R C : Int} {s isl sz isl' sz' : Int → Int} {t c l m : Int} (hC : 0 < C) (he : sp_eI (R * C) isl sz isl' sz') (hc : 0 ≤ c ∧ c < R * C) (hw : ∀ n, 0 ≤ n → n < m → sp_wn R C s t m n) : ∀ (f : Nat) (n : Int), 0 ≤ n → n < m → sp_h R C s isl sz t c l f n = sp_h R C s isl' sz' t c l f n := by
  intro f
  induction f with
  | zero => intro n _ _; rfl
  | succ f ih =>
    intro n hn0 hn1
    obtain ⟨w1, w2, w3, w4, w5, w6, w7, w8, w9, w10, w11, w12, w13, w14⟩ := hw n hn0 hn1
    have ec := he c hc.1 hc.2
    unfold sp_h
    by_cases h3 : sp_nd s t n 0 = 3
    · simp only [h3, Int.reduceEq, ↓reduceIte]
      rw [← ec.1]
      by_cases hi : isl c = -1
      · simp [hi]
      · rw [ec.2 hi]
    · by_cases h5 : sp_nd s t n 0 = 5
      · have wa := w8 (Or.inr h5)
        have hn5 := sp_inN (R := R) (C := C) (r := sp_nd s t n 1) (c := sp_nd s t n 2) (by omega) (by omega) (by omega)
        simp only [h5, Int.reduceEq, ↓reduceIte]
        rw [ec.1, (he _ hn5.1 hn5.2).1]
      · by_cases h7 : 7 ≤ sp_nd s t n 0
        · have wa := w12 h7
          by_cases h8 : 8 ≤ sp_nd s t n 0
          · have wb := w14 h8
            rw [ih (n + 1) (by omega) (by omega), ih (sp_nd s t (n + 1) 4) (by omega) (by omega)]
            simp only [h3, h5, ↓reduceIte]
          · have h7' : sp_nd s t n 0 = 7 := by omega
            simp only [h7', Int.reduceEq, ↓reduceIte]
            rw [ih (n + 1) (by omega) (by omega)]
        · simp only [h3, h5, ↓reduceIte]
          rcases (show sp_nd s t n 0 = 0 ∨ sp_nd s t n 0 = 1 ∨ sp_nd s t n 0 = 2 ∨ sp_nd s t n 0 = 4 ∨ sp_nd s t n 0 = 6 by omega) with h | h | h | h | h <;> simp only [h, Int.reduceEq, ↓reduceIte]
theorem sp_scs_e {R C : Int} {s isl sz isl' sz' : Int → Int} {c l w : Int} (hC : 0 < C) (he : sp_eI (R * C) isl sz isl' sz') (hc : 0 ≤ c ∧ c < R * C) (hw : ∀ t, 0 ≤ t → t < s 4 → sp_ws R C s t) : ∀ (n : Nat) (t : Int), 0 ≤ t → t + n ≤ s 4 → sp_scs R C s isl sz c l w n t = sp_scs R C s isl' sz' c l w n t := by
  intro n
  induction n with
  | zero => intro t _ _; rfl
  | succ n ih =>
    intro t ht0 ht1
    have h1 := hw t ht0 (by omega)
    unfold sp_scs
    rw [sp_h_e hC he hc h1.2.2.2.2.2 8 0 (by omega) (by have := h1.2.2.1; omega), ih (t + 1) (by omega) (by omega)]
theorem sp_sc_e {R C : Int} {s isl sz isl' sz' : Int → Int} {c l w : Int} (hw : sp_w R C s) (he : sp_eI (R * C) isl sz isl' sz') (hc : 0 ≤ c ∧ c < R * C) : sp_sc R C s isl sz c l w = sp_sc R C s isl' sz' c l w := by
  have h4 := hw.2.2.2.2.2.1
  exact sp_scs_e (by have := hw.2.1; omega) he hc hw.2.2.2.2.2.2.2.2.2 (s 4).toNat 0 (by omega) (by omega)
def sp_eW (N : Int) (W V : sp_W) : Prop := (∀ c, 0 ≤ c → c < N → W.1 c = V.1 c) ∧ (∀ k, 0 ≤ k → k < 4 → W.2.1 k = V.2.1 k) ∧ W.2.2 = V.2.2
theorem sp_cnt_e {m c l : Int} {W V : sp_W} (h : sp_eW m W V) (hc : 0 ≤ c ∧ c < m) : sp_eW m (sp_cnt c l W) (sp_cnt c l V) := by
  obtain ⟨h1, h2, h3⟩ := h
  refine ⟨fun k hk0 hk1 => ?_, fun k hk0 hk1 => ?_, ?_⟩
  · rw [sp_cnt_1, sp_cnt_1, h1 k hk0 hk1, h1 c hc.1 hc.2]
  · rw [sp_cnt_2 ⟨hk0, hk1⟩, sp_cnt_2 ⟨hk0, hk1⟩, h2 k hk0 hk1]
  · show (W.2.2.1 + 1, W.2.2.2 + sp_bits l) = (V.2.2.1 + 1, V.2.2.2 + sp_bits l)
    rw [h3]
theorem sp_cl_e {R C : Int} {s isl sz isl' sz' : Int → Int} {m w c : Int} (hw : sp_w R C s) (he : sp_eI (R * C) isl sz isl' sz') (hc : 0 ≤ c ∧ c < R * C) (hm : c < m) : ∀ (n : Nat) (l : Int) (W V : sp_W), sp_eW m W V → sp_eW m (sp_cl R C s isl sz w c n l W) (sp_cl R C s isl' sz' w c n l V) := by
  intro n
  induction n with
  | zero => intro l W V h; exact h
  | succ n ih =>
    intro l W V h
    unfold sp_cl
    rw [sp_sc_e hw he hc]
    split
    · exact ih _ _ _ (sp_cnt_e h ⟨hc.1, hm⟩)
    · exact ih _ _ _ h
theorem sp_cc_e {R C : Int} {s isl sz isl' sz' : Int → Int} {m w : Int} {W V : sp_W} (hw : sp_w R C s) (he : sp_eI (R * C) isl sz isl' sz') (hm : 0 ≤ m ∧ m < R * C) (h : sp_eW m W V) : sp_eW (m + 1) (sp_cc R C s isl sz w m W) (sp_cc R C s isl' sz' w m V) := by
  have h1 : sp_eW (m + 1) (sp_u W.1 m 0, W.2) (sp_u V.1 m 0, V.2) := by
    refine ⟨fun c hc0 hc1 => ?_, h.2.1, h.2.2⟩
    show sp_u W.1 m 0 c = sp_u V.1 m 0 c
    by_cases hc : c = m
    · rw [sp_u_x hc, sp_u_x hc]
    · rw [sp_u_i hc, sp_u_i hc]; exact h.1 c hc0 (by omega)
  unfold sp_cc
  split
  · exact sp_cl_e hw he hm (by omega) _ _ _ _ h1
  · exact h1
theorem sp_cs_e {R C : Int} {s isl sz isl' sz' : Int → Int} {w : Int} (hw : sp_w R C s) (he : sp_eI (R * C) isl sz isl' sz') : ∀ (n : Nat) (m : Int) (W V : sp_W), 0 ≤ m → m + n ≤ R * C → sp_eW m W V → sp_eW (m + n) (sp_cs R C s isl sz w n m W) (sp_cs R C s isl' sz' w n m V) := by
  intro n
  induction n with
  | zero => intro m W V _ _ h; rw [show m + ((0 : Nat) : Int) = m by omega]; exact h
  | succ n ih =>
    intro m W V h0 h1 h
    have := ih (m + 1) _ _ (by omega) (by omega) (sp_cc_e (w := w) hw he ⟨h0, by omega⟩ h)
    rw [show m + ((n + 1 : Nat) : Int) = m + 1 + n by omega]
    exact this
/-- the scenarios, plainly -/
def sp_S (R C : Int) (s : Int → Int) (w : Int) : sp_W := sp_cs R C s (sp_I R C s).2.1 (sp_I R C s).2.2.1 w (R * C).toNat 0 (fun _ => 0, fun _ => 0, 0, 0)
theorem sp_eI_of {N m : Int} {s : Int → Int} {Z V : sp_Z} (h : sp_eZ N Z V) (hi : sp_iZ N s m Z) : sp_eI N Z.2.1 Z.2.2.1 V.2.1 V.2.2.1 := by
  intro c hc0 hc1
  refine ⟨h.2.1 c hc0 hc1, fun hn => ?_⟩
  have h2 := (hi.2.2.1 c hc0 hc1).resolve_left hn
  exact h.2.2 _ h2.1 h2.2
theorem tw_sw_c {M : tw_M} {w : Int} (hw : sp_w (M 1 0) (M 1 1) (M 2)) : sp_eW (M 1 0 * M 1 1) (tw_sw (tw_il M) w) (sp_S (M 1 0) (M 1 1) (M 2) w) := by
  have hN := sp_N hw.1 hw.2.1
  have h := sp_cs_e (w := w) hw (sp_eI_of (tw_iz_c hw.1 hw.2.1) (tw_izi hw.1 hw.2.1)) (M 1 0 * M 1 1).toNat 0 (tw_W0 (tw_il M)) (fun _ => 0, fun _ => 0, 0, 0) (by omega) (by omega) ⟨fun c h0 h1 => by omega, fun k h0 h1 => ?_, rfl⟩
  · rw [show 0 + ((M 1 0 * M 1 1).toNat : Int) = M 1 0 * M 1 1 by omega] at h
    exact h
  · rcases (show k = 0 ∨ k = 1 ∨ k = 2 ∨ k = 3 by omega) with h | h | h | h <;> subst h <;> simp [tw_W0, sp_u]
