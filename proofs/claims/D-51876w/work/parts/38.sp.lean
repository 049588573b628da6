/-! plain law: cells, coasts, islands; shared by both programs -/
def sp_row (C cell dir : Int) : Int := cell / C + (if dir = 0 then -1 else if dir = 1 then 1 else 0)
def sp_col (C cell dir : Int) : Int := cell % C + (if dir = 2 then -1 else if dir = 3 then 1 else 0)
def sp_bes (R C cell dir : Int) : Int := if (0 ≤ sp_row C cell dir ∧ sp_row C cell dir ≤ R - 1) ∧ 0 ≤ sp_col C cell dir ∧ sp_col C cell dir ≤ C - 1 then sp_row C cell dir * C + sp_col C cell dir else -1
theorem sp_inN {R C r c : Int} (hC : 0 < C) (hr : 0 ≤ r ∧ r ≤ R - 1) (hc : 0 ≤ c ∧ c ≤ C - 1) : 0 ≤ r * C + c ∧ r * C + c < R * C := by
  have h1 : 0 ≤ r * C := Int.mul_nonneg hr.1 (by omega)
  have h2 : (r + 1) * C ≤ R * C := Int.mul_le_mul_of_nonneg_right (by omega) (by omega)
  rw [Int.add_mul] at h2
  omega
theorem sp_bes_in {R C cell dir : Int} (hC : 0 < C) : sp_bes R C cell dir = -1 ∨ (0 ≤ sp_bes R C cell dir ∧ sp_bes R C cell dir < R * C) := by
  unfold sp_bes
  split
  · rename_i h
    exact Or.inr (sp_inN hC h.1 h.2)
  · exact Or.inl rfl
theorem sp_N {R C : Int} (hR : 2 ≤ R ∧ R ≤ 8) (hC : 2 ≤ C ∧ C ≤ 8) : 4 ≤ R * C ∧ R * C ≤ 64 := by
  have h1 : 2 * 2 ≤ R * C := Int.mul_le_mul hR.1 hC.1 (by omega) (by omega)
  have h2 : R * C ≤ 8 * 8 := Int.mul_le_mul hR.2 hC.2 (by omega) (by omega)
  omega
theorem sp_dm {C cell : Int} (hC : 2 ≤ C ∧ C ≤ 8) (hc : 0 ≤ cell ∧ cell < 64) : 0 ≤ cell / C ∧ cell / C < 64 ∧ 0 ≤ cell % C ∧ cell % C < C := by
  have h1 := Int.ediv_nonneg (b := C) hc.1 (by omega)
  have h2 : cell / C ≤ cell := Int.ediv_le_self _ hc.1
  have h3 := Int.emod_nonneg cell (b := C) (by omega)
  have h4 := Int.emod_lt_of_pos cell (b := C) (by omega)
  omega
def sp_onc (R C : Int) (s : Int → Int) (cell : Int) : Nat → Int → Bool
  | 0, _ => false
  | n + 1, dir => decide (s (33 + cell) = 1) && (decide (sp_bes R C cell dir ≠ -1 ∧ s (33 + sp_bes R C cell dir) = 2) || sp_onc R C s cell n (dir + 1))
abbrev sp_X : Type := (Int → Int) × (Int → Int) × Int
def sp_fd (R C k : Int) (s : Int → Int) (cell dir : Int) (X : sp_X) : sp_X := if sp_bes R C cell dir ≠ -1 ∧ s (33 + sp_bes R C cell dir) = 1 ∧ X.1 (sp_bes R C cell dir) = -1 then (sp_u X.1 (sp_bes R C cell dir) k, sp_u X.2.1 X.2.2 (sp_bes R C cell dir), X.2.2 + 1) else X
def sp_fds (R C k : Int) (s : Int → Int) (cell : Int) : Nat → Int → sp_X → sp_X
  | 0, _, X => X
  | n + 1, dir, X => sp_fds R C k s cell n (dir + 1) (sp_fd R C k s cell dir X)
def sp_fw (R C k : Int) (s : Int → Int) : Nat → Int → sp_X → Int × sp_X
  | 0, z, X => (z, X)
  | n + 1, z, X => if 0 < X.2.2 then sp_fw R C k s n (z + 1) (sp_fds R C k s (X.2.1 (X.2.2 - 1)) 4 0 (X.1, X.2.1, X.2.2 - 1)) else (z, X)
/-- number of islands, island of each cell, sizes, cells to be looked at -/
abbrev sp_Z : Type := Int × (Int → Int) × (Int → Int) × (Int → Int)
def sp_ic (R C : Int) (s : Int → Int) (cell : Int) (Z : sp_Z) : sp_Z := if s (33 + cell) = 1 ∧ Z.2.1 cell = -1 then (Z.1 + 1, (sp_fw R C Z.1 s 65 0 (sp_u Z.2.1 cell Z.1, sp_u Z.2.2.2 0 cell, 1)).2.1, sp_u Z.2.2.1 Z.1 (sp_fw R C Z.1 s 65 0 (sp_u Z.2.1 cell Z.1, sp_u Z.2.2.2 0 cell, 1)).1, (sp_fw R C Z.1 s 65 0 (sp_u Z.2.1 cell Z.1, sp_u Z.2.2.2 0 cell, 1)).2.2.1) else Z
def sp_is (R C : Int) (s : Int → Int) : Nat → Int → sp_Z → sp_Z
  | 0, _, Z => Z
  | n + 1, m, Z => sp_is R C s n (m + 1) (sp_ic R C s m Z)
/-- how many of the first n are not numbered yet -/
def sp_um (f : Int → Int) : Nat → Nat
  | 0 => 0
  | n + 1 => sp_um f n + (if f n = -1 then 1 else 0)
theorem sp_um_o {f : Int → Int} {c v : Int} : ∀ n : Nat, ¬ (0 ≤ c ∧ c < n) → sp_um (sp_u f c v) n = sp_um f n := by
  intro n
  induction n with
  | zero => intro _; rfl
  | succ n ih =>
    intro h
    unfold sp_um
    rw [ih (by omega), sp_u_i (by omega)]
theorem sp_um_u {f : Int → Int} {c v : Int} (hf : f c = -1) (hv : v ≠ -1) : ∀ n : Nat, 0 ≤ c → c < n → sp_um (sp_u f c v) n + 1 = sp_um f n := by
  intro n
  induction n with
  | zero => intro h1 h2; omega
  | succ n ih =>
    intro h1 h2
    unfold sp_um
    by_cases h3 : c = n
    · subst h3
      rw [sp_um_o n (by omega), sp_u_s, if_neg hv, if_pos hf]
    · rw [← ih h1 (by omega), sp_u_i (by omega)]
      omega
theorem sp_um_le (f : Int → Int) : ∀ n : Nat, sp_um f n ≤ n := by
  intro n
  induction n with
  | zero => exact Nat.le_refl _
  | succ n ih => unfold sp_um; split <;> omega
theorem sp_um_pos {f : Int → Int} {c : Int} (hf : f c = -1) : ∀ n : Nat, 0 ≤ c → c < n → 1 ≤ sp_um f n := by
  intro n h1 h2
  have := sp_um_u (v := 0) hf (by decide) n h1 h2
  omega
/-- what holds while an island is filled: at most T cells are yet to be taken -/
def sp_iX (N k : Int) (s : Int → Int) (T : Int) (X : sp_X) : Prop := 0 ≤ X.2.2 ∧ (∀ i, 0 ≤ i → i < X.2.2 → 0 ≤ X.2.1 i ∧ X.2.1 i < N) ∧ X.2.2 + sp_um X.1 64 ≤ T ∧ (∀ c, 0 ≤ c → c < N → X.1 c = -1 ∨ (0 ≤ X.1 c ∧ X.1 c ≤ k)) ∧ (∀ c, 0 ≤ c → c < N → X.1 c ≠ -1 → s (33 + c) = 1)
theorem sp_fd_i {R C k : Int} {s : Int → Int} {cell dir T : Int} {X : sp_X} (hC : 0 < C) (hN : R * C ≤ 64) (hk : 0 ≤ k) (h : sp_iX (R * C) k s T X) : sp_iX (R * C) k s T (sp_fd R C k s cell dir X) := by
  unfold sp_fd
  split
  · rename_i hc
    obtain ⟨h1, h2, h3, h4, h5⟩ := h
    have hb : 0 ≤ sp_bes R C cell dir ∧ sp_bes R C cell dir < R * C := (sp_bes_in hC).resolve_left hc.1
    have hu := sp_um_u (v := k) hc.2.2 (by omega) 64 hb.1 (by omega)
    refine ⟨?_, ?_, ?_, ?_, ?_⟩
    · show 0 ≤ X.2.2 + 1; omega
    · intro i hi hi2
      show 0 ≤ sp_u X.2.1 X.2.2 _ i ∧ sp_u X.2.1 X.2.2 _ i < _
      have hi3 : i < X.2.2 + 1 := hi2
      by_cases he : i = X.2.2
      · rw [sp_u_x he]; exact hb
      · rw [sp_u_i he]; exact h2 i hi (by omega)
    · show X.2.2 + 1 + (sp_um (sp_u X.1 _ k) 64 : Int) ≤ T; omega
    · intro c hc0 hcN
      show sp_u X.1 _ k c = -1 ∨ 0 ≤ sp_u X.1 _ k c ∧ sp_u X.1 _ k c ≤ k
      by_cases he : c = sp_bes R C cell dir
      · rw [sp_u_x he]; omega
      · rw [sp_u_i he]; exact h4 c hc0 hcN
    · intro c hc0 hcN
      show sp_u X.1 _ k c ≠ -1 → _
      by_cases he : c = sp_bes R C cell dir
      · rw [sp_u_x he, he]; exact fun _ => hc.2.1
      · rw [sp_u_i he]; exact h5 c hc0 hcN
  · exact h
theorem sp_fds_i {R C k : Int} {s : Int → Int} {cell T : Int} (hC : 0 < C) (hN : R * C ≤ 64) (hk : 0 ≤ k) : ∀ (n : Nat) (dir : Int) (X : sp_X), sp_iX (R * C) k s T X → sp_iX (R * C) k s T (sp_fds R C k s cell n dir X) := by
  intro n
  induction n with
  | zero => intro dir X h; exact h
  | succ n ih => intro dir X h; exact ih _ _ (sp_fd_i hC hN hk h)
theorem sp_pop_i {N k : Int} {s : Int → Int} {T : Int} {X : sp_X} (h : sp_iX N k s T X) (hw : 0 < X.2.2) : sp_iX N k s (T - 1) (X.1, X.2.1, X.2.2 - 1) := by
  obtain ⟨h1, h2, h3, h4, h5⟩ := h
  refine ⟨?_, ?_, ?_, h4, h5⟩
  · show 0 ≤ X.2.2 - 1; omega
  · intro i hi hi2
    have hi3 : i < X.2.2 - 1 := hi2
    exact h2 i hi (by omega)
  · show X.2.2 - 1 + (sp_um X.1 64 : Int) ≤ T - 1; omega
/-- what holds at the end: nothing is waiting, and the size is bounded -/
theorem sp_fw_i {R C k : Int} {s : Int → Int} (hC : 0 < C) (hN : R * C ≤ 64) (hk : 0 ≤ k) : ∀ (n : Nat) (T z : Int) (X : sp_X), sp_iX (R * C) k s T X → T ≤ n → sp_iX (R * C) k s T (sp_fw R C k s n z X).2 ∧ (sp_fw R C k s n z X).2.2.2 = 0 ∧ z ≤ (sp_fw R C k s n z X).1 ∧ (sp_fw R C k s n z X).1 + sp_um (sp_fw R C k s n z X).2.1 64 ≤ z + T := by
  intro n
  induction n with
  | zero =>
    intro T z X h hT
    have h1 := h.1
    have h3 := h.2.2.1
    refine ⟨h, ?_, Int.le_refl _, ?_⟩
    · show X.2.2 = 0; omega
    · show z + (sp_um X.1 64 : Int) ≤ z + T; omega
  | succ n ih =>
    intro T z X h hT
    unfold sp_fw
    split
    · rename_i hw
      obtain ⟨g1, g2, g3, g4⟩ := ih (T - 1) (z + 1) _ (sp_fds_i (cell := X.2.1 (X.2.2 - 1)) hC hN hk 4 0 _ (sp_pop_i h hw)) (by omega)
      refine ⟨?_, g2, by omega, by omega⟩
      exact ⟨g1.1, g1.2.1, by have := g1.2.2.1; omega, g1.2.2.2⟩
    · have h1 := h.1
      have h3 := h.2.2.1
      refine ⟨h, ?_, Int.le_refl _, ?_⟩
      · show X.2.2 = 0; omega
      · show z + (sp_um X.1 64 : Int) ≤ z + T; omega
/-- what holds while islands are sought: the first m cells are done -/
def sp_iZ (N : Int) (s : Int → Int) (m : Int) (Z : sp_Z) : Prop := 0 ≤ Z.1 ∧ Z.1 + sp_um Z.2.1 64 ≤ 64 ∧ (∀ c, 0 ≤ c → c < N → Z.2.1 c = -1 ∨ (0 ≤ Z.2.1 c ∧ Z.2.1 c < Z.1)) ∧ (∀ c, 0 ≤ c → c < N → Z.2.1 c ≠ -1 → s (33 + c) = 1) ∧ (∀ c, 0 ≤ c → c < m → s (33 + c) = 1 → Z.2.1 c ≠ -1) ∧ (∀ i, 0 ≤ i → i < Z.1 → 0 ≤ Z.2.2.1 i ∧ Z.2.2.1 i ≤ 64)
theorem sp_fd_k {R C k : Int} {s : Int → Int} {cell dir : Int} {X : sp_X} {c : Int} (hk : k ≠ -1) (h : X.1 c ≠ -1) : (sp_fd R C k s cell dir X).1 c ≠ -1 := by
  unfold sp_fd
  split
  · show sp_u X.1 _ k c ≠ -1
    unfold sp_u
    split
    · exact hk
    · exact h
  · exact h
theorem sp_fds_k {R C k : Int} {s : Int → Int} {cell : Int} {c : Int} (hk : k ≠ -1) : ∀ (n : Nat) (dir : Int) (X : sp_X), X.1 c ≠ -1 → (sp_fds R C k s cell n dir X).1 c ≠ -1 := by
  intro n
  induction n with
  | zero => intro dir X h; exact h
  | succ n ih => intro dir X h; exact ih _ _ (sp_fd_k hk h)
theorem sp_fw_k {R C k : Int} {s : Int → Int} {c : Int} (hk : k ≠ -1) : ∀ (n : Nat) (z : Int) (X : sp_X), X.1 c ≠ -1 → (sp_fw R C k s n z X).2.1 c ≠ -1 := by
  intro n
  induction n with
  | zero => intro z X h; exact h
  | succ n ih =>
    intro z X h
    unfold sp_fw
    split
    · exact ih _ _ (sp_fds_k hk _ _ _ h)
    · exact h
theorem sp_st {R C : Int} {s : Int → Int} {m : Int} {Z : sp_Z} (hN : R * C ≤ 64) (h : sp_iZ (R * C) s m Z) (hm : 0 ≤ m ∧ m < R * C) (hc : s (33 + m) = 1 ∧ Z.2.1 m = -1) : Z.1 ≤ 63 ∧ sp_iX (R * C) Z.1 s (64 - Z.1) (sp_u Z.2.1 m Z.1, sp_u Z.2.2.2 0 m, 1) := by
  obtain ⟨h1, h2, h3, h4, h5, h6⟩ := h
  have hu := sp_um_u (v := Z.1) hc.2 (by omega) 64 hm.1 (by omega)
  refine ⟨by omega, by show (0 : Int) ≤ 1; omega, ?_, by show (1 : Int) + (sp_um (sp_u Z.2.1 m Z.1) 64 : Int) ≤ _; omega, ?_, ?_⟩
  · intro i hi hi2
    have hi3 : i < 1 := hi2
    show 0 ≤ sp_u Z.2.2.2 0 m i ∧ sp_u Z.2.2.2 0 m i < _
    rw [sp_u_x (by omega)]; exact hm
  · intro c hc0 hcN
    show sp_u Z.2.1 m Z.1 c = -1 ∨ 0 ≤ sp_u Z.2.1 m Z.1 c ∧ sp_u Z.2.1 m Z.1 c ≤ Z.1
    by_cases he : c = m
    · rw [sp_u_x he]; omega
    · rw [sp_u_i he]; have := h3 c hc0 hcN; omega
  · intro c hc0 hcN
    show sp_u Z.2.1 m Z.1 c ≠ -1 → _
    by_cases he : c = m
    · rw [sp_u_x he, he]; exact fun _ => hc.1
    · rw [sp_u_i he]; exact h4 c hc0 hcN
theorem sp_ic_i {R C : Int} {s : Int → Int} {m : Int} {Z : sp_Z} (hC : 0 < C) (hN : R * C ≤ 64) (h : sp_iZ (R * C) s m Z) (hm : 0 ≤ m ∧ m < R * C) : sp_iZ (R * C) s (m + 1) (sp_ic R C s m Z) := by
  unfold sp_ic
  split
  · rename_i hc
    obtain ⟨hk, hX⟩ := sp_st hN h hm hc
    obtain ⟨h1, h2, h3, h4, h5, h6⟩ := h
    have hu := sp_um_pos hc.2 64 hm.1 (by omega)
    have hf := sp_fw_i hC hN h1 65 (64 - Z.1) 0 _ hX (by omega)
    have hkk : ∀ c, sp_u Z.2.1 m Z.1 c ≠ -1 → (sp_fw R C Z.1 s 65 0 (sp_u Z.2.1 m Z.1, sp_u Z.2.2.2 0 m, 1)).2.1 c ≠ -1 := fun c hcc => sp_fw_k (c := c) (show Z.1 ≠ -1 by omega) 65 0 (sp_u Z.2.1 m Z.1, sp_u Z.2.2.2 0 m, 1) hcc
    have hpos : 1 ≤ (sp_fw R C Z.1 s 65 0 (sp_u Z.2.1 m Z.1, sp_u Z.2.2.2 0 m, 1)).1 := by
      have := (sp_fw_i hC hN h1 64 (64 - Z.1 - 1) (0 + 1) _ (sp_fds_i (cell := sp_u Z.2.2.2 0 m 0) hC hN h1 4 0 _ (sp_pop_i hX (by show (0 : Int) < 1; omega))) (by omega)).2.2.1
      exact this
    generalize sp_fw R C Z.1 s 65 0 (sp_u Z.2.1 m Z.1, sp_u Z.2.2.2 0 m, 1) = Y at *
    obtain ⟨g1, g2, g3, g4⟩ := hf
    obtain ⟨i1, i2, i3, i4, i5⟩ := g1
    refine ⟨by show 0 ≤ Z.1 + 1; omega, by show Z.1 + 1 + (sp_um Y.2.1 64 : Int) ≤ 64; omega, ?_, i5, ?_, ?_⟩
    · intro c hc0 hcN
      show Y.2.1 c = -1 ∨ 0 ≤ Y.2.1 c ∧ Y.2.1 c < Z.1 + 1
      have := i4 c hc0 hcN
      omega
    · intro c hc0 hcm hs
      show Y.2.1 c ≠ -1
      apply hkk
      by_cases he : c = m
      · rw [sp_u_x he]; omega
      · rw [sp_u_i he]; exact h5 c hc0 (by omega) hs
    · intro i hi hi2
      have hi3 : i < Z.1 + 1 := hi2
      show 0 ≤ sp_u Z.2.2.1 Z.1 Y.1 i ∧ sp_u Z.2.2.1 Z.1 Y.1 i ≤ 64
      by_cases he : i = Z.1
      · rw [sp_u_x he]; omega
      · rw [sp_u_i he]; exact h6 i hi (by omega)
  · rename_i hc
    obtain ⟨h1, h2, h3, h4, h5, h6⟩ := h
    refine ⟨h1, h2, h3, h4, ?_, h6⟩
    intro c hc0 hcm hs
    by_cases he : c = m
    · subst he
      exact fun h' => hc ⟨hs, h'⟩
    · exact h5 c hc0 (by omega) hs
theorem sp_is_i {R C : Int} {s : Int → Int} (hC : 0 < C) (hN : R * C ≤ 64) : ∀ (n : Nat) (m : Int) (Z : sp_Z), sp_iZ (R * C) s m Z → 0 ≤ m → m + n ≤ R * C → sp_iZ (R * C) s (m + n) (sp_is R C s n m Z) := by
  intro n
  induction n with
  | zero => intro m Z h _ _; show sp_iZ (R * C) s (m + ((0 : Nat) : Int)) Z; rw [show m + ((0 : Nat) : Int) = m by omega]; exact h
  | succ n ih =>
    intro m Z h h0 h1
    have := ih (m + 1) (sp_ic R C s m Z) (sp_ic_i hC hN h ⟨h0, by omega⟩) (by omega) (by omega)
    rw [show m + ((n + 1 : Nat) : Int) = m + 1 + n by omega]
    exact this
