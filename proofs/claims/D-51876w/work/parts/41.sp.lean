/-! plain law: claims and scenarios -/
def sp_bit (l k : Int) : Int := l / 2 ^ k.toNat % 2
theorem sp_bit01 (l k : Int) : sp_bit l k = 0 ∨ sp_bit l k = 1 := by unfold sp_bit; omega
theorem z_bit {l k : Int} (h : 0 ≤ l ∧ l < 16) (hk : 0 ≤ k ∧ k < 4) : z_i l >>> (z_i k &&& 31) &&& z_i 1 = z_i (sp_bit l k) := by
  have h1 : ∀ a : Fin 16, ∀ b : Fin 4, z_i (a.val : Int) >>> (z_i (b.val : Int) &&& 31) &&& z_i 1 = z_i (sp_bit a.val b.val) := by decide
  have := h1 ⟨l.toNat, by omega⟩ ⟨k.toNat, by omega⟩
  dsimp only at this
  rw [Int.toNat_of_nonneg h.1, Int.toNat_of_nonneg hk.1] at this
  exact this
def sp_p2 (k : Int) : Int := 2 ^ k.toNat
theorem z_shl {k : Int} (hk : 0 ≤ k ∧ k ≤ 4) : z_i 1 <<< (z_i k &&& 31) = z_i (sp_p2 k) := by
  have h1 : ∀ b : Fin 5, z_i 1 <<< (z_i (b.val : Int) &&& 31) = z_i (sp_p2 b.val) := by decide
  have := h1 ⟨k.toNat, by omega⟩
  dsimp only at this
  rw [Int.toNat_of_nonneg hk.1] at this
  exact this
theorem sp_p2b {k : Int} (hk : 0 ≤ k ∧ k ≤ 4) : 1 ≤ sp_p2 k ∧ sp_p2 k ≤ 16 := by
  have h1 : ∀ b : Fin 5, 1 ≤ sp_p2 (b.val : Int) ∧ sp_p2 (b.val : Int) ≤ 16 := by decide
  have := h1 ⟨k.toNat, by omega⟩
  dsimp only at this
  rw [Int.toNat_of_nonneg hk.1] at this
  exact this
def sp_bits (l : Int) : Int := sp_bit l 0 + sp_bit l 1 + sp_bit l 2 + sp_bit l 3
def sp_nd (s : Int → Int) (t n w : Int) : Int := s (161 + 42 * t + (2 + 5 * n + w))
def sp_of (s : Int → Int) (t w : Int) : Int := s (161 + 42 * t + w)
def sp_abs (x : Int) : Int := if x < 0 then -x else x
/-- whether node n of claim t holds for a cell and a set of liars -/
def sp_h (R C : Int) (s isl sz : Int → Int) (t c l : Int) : Nat → Int → Bool
  | 0, _ => false
  | f + 1, n =>
    if sp_nd s t n 0 = 0 then decide (sp_nd s t n 1 ≤ c / C ∧ c / C ≤ sp_nd s t n 2)
    else if sp_nd s t n 0 = 1 then decide (sp_nd s t n 1 ≤ c % C ∧ c % C ≤ sp_nd s t n 2)
    else if sp_nd s t n 0 = 2 then decide (sp_abs (c / C - sp_nd s t n 1) + sp_abs (c % C - sp_nd s t n 2) ≤ sp_nd s t n 3)
    else if sp_nd s t n 0 = 3 then decide (isl c ≠ -1 ∧ sp_nd s t n 1 ≤ sz (isl c) ∧ sz (isl c) ≤ sp_nd s t n 2)
    else if sp_nd s t n 0 = 4 then sp_onc R C s c 4 0
    else if sp_nd s t n 0 = 5 then decide (isl c ≠ -1 ∧ isl c = isl (sp_nd s t n 1 * C + sp_nd s t n 2))
    else if sp_nd s t n 0 = 6 then decide (sp_bit l (sp_nd s t n 1) = 0)
    else if sp_nd s t n 0 = 7 then !(sp_h R C s isl sz t c l f (n + 1))
    else if sp_nd s t n 0 = 8 then sp_h R C s isl sz t c l f (n + 1) && sp_h R C s isl sz t c l f (sp_nd s t (n + 1) 4)
    else sp_h R C s isl sz t c l f (n + 1) || sp_h R C s isl sz t c l f (sp_nd s t (n + 1) 4)
/-- a node in order: m the number of nodes -/
def sp_wn (R C : Int) (s : Int → Int) (t m n : Int) : Prop :=
  n < sp_nd s t n 4 ∧ sp_nd s t n 4 ≤ m ∧ 0 ≤ sp_nd s t n 0 ∧ sp_nd s t n 0 ≤ 9 ∧
  (sp_nd s t n 0 = 0 → 0 ≤ sp_nd s t n 1 ∧ sp_nd s t n 1 ≤ sp_nd s t n 2 ∧ sp_nd s t n 2 < R) ∧
  (sp_nd s t n 0 = 1 → 0 ≤ sp_nd s t n 1 ∧ sp_nd s t n 1 ≤ sp_nd s t n 2 ∧ sp_nd s t n 2 < C) ∧
  (sp_nd s t n 0 = 3 → 0 ≤ sp_nd s t n 1 ∧ sp_nd s t n 1 ≤ sp_nd s t n 2 ∧ sp_nd s t n 2 ≤ 64) ∧
  (sp_nd s t n 0 = 2 ∨ sp_nd s t n 0 = 5 → 0 ≤ sp_nd s t n 1 ∧ sp_nd s t n 1 < R ∧ 0 ≤ sp_nd s t n 2 ∧ sp_nd s t n 2 < C) ∧
  (sp_nd s t n 0 = 2 → 0 ≤ sp_nd s t n 3 ∧ sp_nd s t n 3 ≤ 14) ∧
  (sp_nd s t n 0 = 6 → 0 ≤ sp_nd s t n 1 ∧ sp_nd s t n 1 < s 0) ∧
  (sp_nd s t n 0 ≤ 6 → sp_nd s t n 4 = n + 1) ∧
  (7 ≤ sp_nd s t n 0 → n + 1 < m ∧ n + 1 < sp_nd s t (n + 1) 4) ∧
  (sp_nd s t n 0 = 7 → sp_nd s t (n + 1) 4 = sp_nd s t n 4) ∧
  (8 ≤ sp_nd s t n 0 → sp_nd s t (n + 1) 4 < m ∧ sp_nd s t (sp_nd s t (n + 1) 4) 4 = sp_nd s t n 4)
/-- a statement in order -/
def sp_ws (R C : Int) (s : Int → Int) (t : Int) : Prop := 0 ≤ sp_of s t 0 ∧ sp_of s t 0 < s 0 ∧ 1 ≤ sp_of s t 1 ∧ sp_of s t 1 ≤ 8 ∧ sp_nd s t 0 4 = sp_of s t 1 ∧ ∀ n, 0 ≤ n → n < sp_of s t 1 → sp_wn R C s t (sp_of s t 1) n
/-- the numbers behind a load, in order -/
def sp_w (R C : Int) (s : Int → Int) : Prop :=
  (2 ≤ R ∧ R ≤ 8) ∧ (2 ≤ C ∧ C ≤ 8) ∧ (1 ≤ s 0 ∧ s 0 ≤ 4) ∧ (0 ≤ s 1 ∧ s 1 ≤ s 2 ∧ s 2 ≤ 4) ∧ (0 ≤ s 3 ∧ s 3 ≤ 1000) ∧ (0 ≤ s 4 ∧ s 4 ≤ 10) ∧
  (∀ k, 0 ≤ k → k < s 0 → 0 ≤ s (5 + k) ∧ s (5 + k) ≤ 2) ∧
  (∀ c, 0 ≤ c → c < 64 → 0 ≤ s (33 + c) ∧ s (33 + c) ≤ 2) ∧
  (∀ c, 0 ≤ c → c < 64 → s (97 + c) = 0 ∨ s (97 + c) = 1) ∧
  (∀ t, 0 ≤ t → t < s 4 → sp_ws R C s t)
def sp_sets (s : Int → Int) (l : Int) : Nat → Int → Bool
  | 0, _ => true
  | n + 1, k => if s (5 + k) = (if sp_bit l k = 1 then 1 else 2) then false else sp_sets s l n (k + 1)
def sp_set (s : Int → Int) (l : Int) : Bool := sp_sets s l (s 0).toNat 0 && decide (s 1 ≤ sp_bits l ∧ sp_bits l ≤ s 2)
def sp_scs (R C : Int) (s isl sz : Int → Int) (c l w : Int) : Nat → Int → Bool
  | 0, _ => true
  | n + 1, t => if t ≠ w ∧ sp_h R C s isl sz t c l 8 0 = decide (sp_bit l (sp_of s t 0) = 1) then false else sp_scs R C s isl sz c l w n (t + 1)
def sp_sc (R C : Int) (s isl sz : Int → Int) (c l w : Int) : Bool := sp_scs R C s isl sz c l w (s 4).toNat 0
/-- scenarios by cell, by liar, all, all liars -/
abbrev sp_W : Type := (Int → Int) × (Int → Int) × Int × Int
def sp_cnt (c l : Int) (W : sp_W) : sp_W := (sp_u W.1 c (W.1 c + 1), sp_u (sp_u (sp_u (sp_u W.2.1 0 (W.2.1 0 + sp_bit l 0)) 1 (W.2.1 1 + sp_bit l 1)) 2 (W.2.1 2 + sp_bit l 2)) 3 (W.2.1 3 + sp_bit l 3), W.2.2.1 + 1, W.2.2.2 + sp_bits l)
def sp_cl (R C : Int) (s isl sz : Int → Int) (w c : Int) : Nat → Int → sp_W → sp_W
  | 0, _, W => W
  | n + 1, l, W => sp_cl R C s isl sz w c n (l + 1) (if (sp_set s l && sp_sc R C s isl sz c l w) = true then sp_cnt c l W else W)
def sp_cc (R C : Int) (s isl sz : Int → Int) (w c : Int) (W : sp_W) : sp_W := if s (33 + c) = 1 ∧ s (97 + c) = 0 then sp_cl R C s isl sz w c (sp_p2 (s 0)).toNat 0 (sp_u W.1 c 0, W.2) else (sp_u W.1 c 0, W.2)
def sp_cs (R C : Int) (s isl sz : Int → Int) (w : Int) : Nat → Int → sp_W → sp_W
  | 0, _, W => W
  | n + 1, c, W => sp_cs R C s isl sz w n (c + 1) (sp_cc R C s isl sz w c W)
