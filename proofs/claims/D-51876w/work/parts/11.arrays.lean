/-! the q-machine is sound: arrays -/
def q_eST : Prop := ∀ t c : Nat, q_sto t c = true → ∃ C E : String, q_nm[c]? = some C ∧ q_tag[t]? = some (.object E) ∧ (Cond.castable C E ∈ lw_tbl ∨ C = E)
def q_eAT : Prop := ∀ (ty : ArrayType) (t : Nat) (x : vp_A), q_at ty = some (t, x) → Cond.arrayClass (newarray.typeOf ty) ∈ lw_all ∧ q_tag.getD t .int = newarray.typeOf ty
def q_eAN : Prop := ∀ (cn i t : Nat) (own : String), q_own[cn]? = some own → q_an cn i = some t → ∃ C : String, Cond.classLink own i C ∈ lw_all ∧ Cond.arrayOver (.object C) ∈ lw_tbl ∧ q_tag[t]? = some (.object C) ∧ 5 ≤ t ∧ t < 9
theorem q_vm_rf (F : Nat → Option Nat) (r : Option Nat) : q_vm F (va_rf r) = va_rf (r.bind F) := by
  cases r <;> rfl
theorem q_tag_ref : ∀ t : Nat, t < 10 → 5 ≤ t → (q_tag.getD t .int).isReference = true := by decide +kernel
theorem q_wty_at (w : q_Wd) {t : Nat} (ht : t < 9) : (q_wty w)[t]? = some (w.2.2.2.2 t, q_tag.getD t .int) := by
  unfold q_wty
  rw [List.getElem?_map, List.getElem?_range ht]
  rfl
theorem q_el_updI (F : Nat → Option Nat) (n : Nat) (f : Nat → Int32) (j : Nat) (x : Int32) (i : Nat) : q_el F (n, .inl (upd f j x)) i = updV (q_el F (n, .inl f)) j (.int x) i := by
  unfold q_el updV upd
  dsimp only
  split <;> rfl
theorem q_el_updL (F : Nat → Option Nat) (n : Nat) (f : Nat → Int64) (j : Nat) (x : Int64) (i : Nat) : q_el F (n, .inr (.inl (vp_updL f j x))) i = updV (q_el F (n, .inr (.inl f))) j (.long x) i := by
  unfold q_el updV vp_updL
  dsimp only
  split <;> rfl
theorem q_el_updD (F : Nat → Option Nat) (n : Nat) (f : Nat → UInt64) (j : Nat) (x : UInt64) (i : Nat) : q_el F (n, .inr (.inr (.inr (.inl (fun k => if k = j then x else f k))))) i = updV (q_el F (n, .inr (.inr (.inr (.inl f))))) j (.double x) i := by
  unfold q_el updV
  dsimp only
  split <;> rfl
theorem q_el_updQ (F : Nat → Option Nat) (n : Nat) (f : Nat → Option Nat) (j : Nat) (x : Option Nat) (i : Nat) : q_el F (n, .inr (.inr (.inr (.inr (va_up f j x))))) i = updV (q_el F (n, .inr (.inr (.inr (.inr f))))) j (va_rf (x.bind F)) i := by
  unfold q_el updV va_up
  dsimp only
  split <;> rfl
theorem q_fit_z (x : Int32) : fits .boolean (.int (x &&& 1)) = true := by
  show ((x &&& 1) == 0 || (x &&& 1) == 1) = true
  rw [Bool.or_eq_true, beq_iff_eq, beq_iff_eq]
  rw [pk_and x (m := 1) 1 (by decide)]
  rcases Nat.mod_two_eq_zero_or_one x.toBitVec.toNat with q | q
  · exact Or.inl (by rw [show (2 : Nat) ^ 1 = 2 from rfl, q]; decide)
  · exact Or.inr (by rw [show (2 : Nat) ^ 1 = 2 from rfl, q]; decide)
section
variable {w : q_Wd} {z : q_Fr} {Q : State → Prop} {L n0 s0 : Nat} {cn : Nat} {y : MethodName} {code : ByteArray} {rt : Option FieldType} {hs : List (Nat × Nat × Nat × Nat)}
variable {d mu pc : Nat} {ls : q_L} {st : List Value} {h : q_H} {c1 : q_C}
theorem q_rdI_at {a t : Nat} {i x : Int32} (e : q_rdI h a i = some (t, x)) : ∃ (b : Bool) (n : Nat) (f : Nat → Int32), h.1 a = some (b, .inl (t, n, .inl f)) ∧ ¬ (i < 0 ∨ n ≤ i.toNatClampNeg) ∧ x = f i.toNatClampNeg := by
  unfold q_rdI at e
  split at e
  · rename_i b t' n f ha
    split at e
    · cases e
    · rename_i hn
      cases e
      exact ⟨b, n, f, ha, hn, rfl⟩
  · cases e
/-- the place of a known array on the stack -/
theorem q_vm_ref {a r : Nat} (hF : q_F w a = some r) : q_vm (q_F w) (.ref a) = .ref r := by
  show va_rf (q_F w a) = _
  rw [hF]; rfl
theorem q_inb {i : Int32} {n m : Nat} (h : ¬ (i < 0 ∨ n ≤ i.toNatClampNeg)) (hm : n ≤ m) : ¬ (i < 0 ∨ m ≤ i.toNatClampNeg) := fun q => h (q.elim Or.inl fun g => Or.inr (Nat.le_trans hm g))
theorem q_inl {i : Int32} {n : Nat} (h : ¬ (i < 0 ∨ n ≤ i.toNatClampNeg)) : i.toNatClampNeg < n := Nat.not_le.mp fun q => h (Or.inr q)
theorem q_s_iaload (X : q_X w z d cn y code L rt hs) (hd : decode code pc = .ok (.iaload, 1)) (e : q_do (d, mu, pc, ls, st, h) cn y code rt .iaload = some (.inr (.inl c1))) (k : q_G w z Q L n0 s0 c1) : q_G w z Q L n0 s0 (d, mu, pc, ls, st, h) := by
  obtain ⟨⟨hx, hb, hml, -, -, hown, -⟩, hw, hW, -⟩ := X
  simp only [q_do] at e
  split at e
  · rename_i i a r
    split at e
    · rename_i x hrd
      obtain rfl := q_pu_eq e
      intro H locs cells slots as hC hl hL hc hs'
      obtain ⟨b, n, f, ha, hn, rfl⟩ := q_rdI_at hrd
      obtain ⟨r0, cell, hF, hcell, hof, hun, hst, hle, hsz, hel, hkd⟩ := q_arr hw hC hW ha
      show q_W z H locs cells slots Q (F0 _ pc as (.int i :: q_vm (q_F w) (.ref a) :: r.map (q_vm (q_F w))))
      rw [q_vm_ref hF]
      exact W.iald hx hb hcell hof hun (q_inb hn hle) (hel _ (q_inl hn)) rfl rfl hd (k H locs cells slots as hC hl hL hc hs')
    · cases e
  · cases e
theorem q_s_baload (X : q_X w z d cn y code L rt hs) (hd : decode code pc = .ok (.baload, 1)) (e : q_do (d, mu, pc, ls, st, h) cn y code rt .baload = some (.inr (.inl c1))) (k : q_G w z Q L n0 s0 c1) : q_G w z Q L n0 s0 (d, mu, pc, ls, st, h) := by
  obtain ⟨⟨hx, hb, hml, -, -, hown, -⟩, hw, hW, -⟩ := X
  simp only [q_do] at e
  split at e
  · rename_i i a r
    split at e
    · rename_i x hrd
      obtain rfl := q_pu_eq e
      intro H locs cells slots as hC hl hL hc hs'
      obtain ⟨b, n, f, ha, hn, rfl⟩ := q_rdI_at hrd
      obtain ⟨r0, cell, hF, hcell, hof, hun, hst, hle, hsz, hel, hkd⟩ := q_arr hw hC hW ha
      show q_W z H locs cells slots Q (F0 _ pc as (.int i :: q_vm (q_F w) (.ref a) :: r.map (q_vm (q_F w))))
      rw [q_vm_ref hF]
      exact W.bald hx hb hcell hof hun (q_inb hn hle) (hel _ (q_inl hn)) rfl rfl hd (k H locs cells slots as hC hl hL hc hs')
    · rename_i x hrd
      obtain rfl := q_pu_eq e
      intro H locs cells slots as hC hl hL hc hs'
      obtain ⟨b, n, f, ha, hn, rfl⟩ := q_rdI_at hrd
      obtain ⟨r0, cell, hF, hcell, hof, hun, hst, hle, hsz, hel, hkd⟩ := q_arr hw hC hW ha
      show q_W z H locs cells slots Q (F0 _ pc as (.int i :: q_vm (q_F w) (.ref a) :: r.map (q_vm (q_F w))))
      rw [q_vm_ref hF]
      exact W.zald hx hb hcell hof hun (q_inb hn hle) (hel _ (q_inl hn)) rfl rfl hd (k H locs cells slots as hC hl hL hc hs')
    · cases e
  · cases e
theorem q_s_laload (X : q_X w z d cn y code L rt hs) (hd : decode code pc = .ok (.laload, 1)) (e : q_do (d, mu, pc, ls, st, h) cn y code rt .laload = some (.inr (.inl c1))) (k : q_G w z Q L n0 s0 c1) : q_G w z Q L n0 s0 (d, mu, pc, ls, st, h) := by
  obtain ⟨⟨hx, hb, hml, -, -, hown, -⟩, hw, hW, -⟩ := X
  simp only [q_do] at e
  split at e
  · rename_i i a r
    split at e
    · rename_i x hrd
      obtain rfl := q_pu_eq e
      intro H locs cells slots as hC hl hL hc hs'
      unfold q_rdL at hrd
      split at hrd
      · rename_i b n f ha
        split at hrd
        · cases hrd
        · rename_i hn
          cases hrd
          obtain ⟨r0, cell, hF, hcell, hof, hun, hst, hle, hsz, hel, hkd⟩ := q_arr hw hC hW ha
          show q_W z H locs cells slots Q (F0 _ pc as (.int i :: q_vm (q_F w) (.ref a) :: r.map (q_vm (q_F w))))
          rw [q_vm_ref hF]
          exact W.lald hx hb hcell hof hun (q_inb hn hle) (hel _ (q_inl hn)) rfl rfl hd (k H locs cells slots as hC hl hL hc hs')
      · cases hrd
    · cases e
  · cases e
theorem q_s_daload (X : q_X w z d cn y code L rt hs) (hd : decode code pc = .ok (.daload, 1)) (e : q_do (d, mu, pc, ls, st, h) cn y code rt .daload = some (.inr (.inl c1))) (k : q_G w z Q L n0 s0 c1) : q_G w z Q L n0 s0 (d, mu, pc, ls, st, h) := by
  obtain ⟨⟨hx, hb, hml, -, -, hown, -⟩, hw, hW, -⟩ := X
  simp only [q_do] at e
  split at e
  · rename_i i a r
    split at e
    · rename_i x hrd
      obtain rfl := q_pu_eq e
      intro H locs cells slots as hC hl hL hc hs'
      unfold q_rdD at hrd
      split at hrd
      · rename_i b n f ha
        split at hrd
        · cases hrd
        · rename_i hn
          cases hrd
          obtain ⟨r0, cell, hF, hcell, hof, hun, hst, hle, hsz, hel, hkd⟩ := q_arr hw hC hW ha
          show q_W z H locs cells slots Q (F0 _ pc as (.int i :: q_vm (q_F w) (.ref a) :: r.map (q_vm (q_F w))))
          rw [q_vm_ref hF]
          exact W.dald hx hb hcell hof hun (q_inb hn hle) (hel _ (q_inl hn)) rfl rfl hd (k H locs cells slots as hC hl hL hc hs')
      · cases hrd
    · cases e
  · cases e
theorem q_s_aaload (X : q_X w z d cn y code L rt hs) (hd : decode code pc = .ok (.aaload, 1)) (e : q_do (d, mu, pc, ls, st, h) cn y code rt .aaload = some (.inr (.inl c1))) (k : q_G w z Q L n0 s0 c1) : q_G w z Q L n0 s0 (d, mu, pc, ls, st, h) := by
  obtain ⟨⟨hx, hb, hml, -, -, hown, -⟩, hw, hW, -⟩ := X
  simp only [q_do] at e
  split at e
  · rename_i i a r
    split at e
    · rename_i x hrd
      obtain rfl := q_pu_eq e
      intro H locs cells slots as hC hl hL hc hs'
      unfold q_rdQ at hrd
      split at hrd
      · rename_i b t n f ha
        split at hrd
        · cases hrd
        · rename_i hn
          cases hrd
          have hn' : ¬ (i < 0 ∨ n ≤ i.toNatClampNeg) := fun q => hn (q.elim Or.inl fun g => Or.inr (Or.inl g))
          obtain ⟨r0, cell, hF, hcell, hof, hun, hst, hle, hsz, hel, hkd⟩ := q_arr hw hC hW ha
          have k2 : q_W z H locs cells slots Q (F0 _ (pc + 1) as (q_vm (q_F w) (va_rf (f i.toNatClampNeg)) :: r.map (q_vm (q_F w)))) := k H locs cells slots as hC hl hL hc hs'
          show q_W z H locs cells slots Q (F0 _ pc as (.int i :: q_vm (q_F w) (.ref a) :: r.map (q_vm (q_F w))))
          rw [q_vm_ref hF]
          rw [q_vm_rf] at k2
          exact W.aald hx hb hcell hof (q_tag_ref t hkd.2 hkd.1) hun (q_inb hn' hle) (hel _ (q_inl hn')) rfl rfl hd k2
      · cases hrd
    · cases e
  · cases e
theorem q_s_arraylength (X : q_X w z d cn y code L rt hs) (hd : decode code pc = .ok (.arraylength, 1)) (e : q_do (d, mu, pc, ls, st, h) cn y code rt .arraylength = some (.inr (.inl c1))) (k : q_G w z Q L n0 s0 c1) : q_G w z Q L n0 s0 (d, mu, pc, ls, st, h) := by
  obtain ⟨⟨hx, hb, hml, -, -, hown, -⟩, hw, hW, -⟩ := X
  simp only [q_do] at e
  split at e
  · rename_i a r
    split at e
    · rename_i n hrd
      obtain rfl := q_pu_eq e
      intro H locs cells slots as hC hl hL hc hs'
      unfold q_len at hrd
      split at hrd
      · rename_i b t n' x ha
        cases hrd
        obtain ⟨r0, cell, hF, hcell, hof, hun, hst, hle, hsz, hel, hkd⟩ := q_arr hw hC hW ha
        show q_W z H locs cells slots Q (F0 _ pc as (q_vm (q_F w) (.ref a) :: r.map (q_vm (q_F w))))
        rw [q_vm_ref hF]
        exact W.alen (n := Int32.ofNat n) hx hb hcell hof hsz rfl rfl hd (k H locs cells slots as hC hl hL hc hs')
      · cases hrd
    · cases e
  · cases e
theorem q_wrI_s {locs : List Loc} {H : Heap} {cells slots : Nat} {as : Array Slot} {a t n : Nat} {f : Nat → Int32} {i x : Int32} {r : List Value} {h' : q_H} (hw : q_WD w) (hC : q_Cor w h H)
    (hl : ∀ q ∈ locs, w.1.heap.size ≤ q.base) (hL : q_Lc (q_F w) L ls as) (hc : n0 + cells = h.2.1) (hs' : s0 + slots = h.2.2) (ha : h.1 a = some (true, .inl (t, n, .inl f))) (hn : ¬ (i < 0 ∨ n ≤ i.toNatClampNeg))
    (he : h' = q_set h a (true, .inl (t, n, .inl (upd f i.toNatClampNeg x)))) (hfit : fits (q_tag.getD t .int) (.int x) = true) (k : q_G w z Q L n0 s0 (d, mu, pc + 1, ls, r, h')) :
    ∃ cell : Cell, q_F w a = some (w.1.heap.size + (a - 1000)) ∧ H[w.1.heap.size + (a - 1000)]? = some cell ∧ cell.vm ≠ .unknown ∧ ¬ (i < 0 ∨ cell.slots.size ≤ i.toNatClampNeg) ∧ cell = arrV (w.2.2.2.2 t) n (q_el (q_F w) (n, .inl f)) ∧ t < 3 ∧
      ∀ H' : Heap, H'[w.1.heap.size + (a - 1000)]? = some (cell.setSlot i.toNatClampNeg (.int x)) → H'.size = H.size → (∀ q, q ≠ w.1.heap.size + (a - 1000) → H'[q]? = H[q]?) → q_W z H' (locs ++ [⟨w.1.heap.size + (a - 1000), i.toNatClampNeg⟩]) cells slots Q (F0 z.2.2.1 (pc + 1) as (r.map (q_vm (q_F w)))) := by
  subst he
  obtain ⟨ha1, ha2, hsg⟩ := (hC.2.2.2 a true _ ha).1 rfl
  obtain ⟨cell, hcell, hvm, rfl, hkd, ht9⟩ := id hsg
  refine ⟨_, q_F_new w ha1, hcell, (by rw [hvm]; exact fun q => by cases q), by rw [arrV_size]; exact hn, rfl, hkd.1, fun H' e1 e2 e3 => ?_⟩
  refine k H' _ cells slots as (hC.set ha ?_ e2 e3) (q_locs hl) hL hc hs'
  refine q_sg_arr hsg rfl (fun i' => q_el_updI _ _ _ _ _ i') ⟨hkd.1, fun j hj => ?_⟩ (fun c hc2 => by cases hcell.symm.trans hc2; exact e1)
  show fits _ (.int (upd f i.toNatClampNeg x j)) = true
  unfold upd
  split
  · exact hfit
  · exact hkd.2 j hj
theorem q_s_iastore (X : q_X w z d cn y code L rt hs) (hd : decode code pc = .ok (.iastore, 1)) (e : q_do (d, mu, pc, ls, st, h) cn y code rt .iastore = some (.inr (.inl c1))) (k : q_G w z Q L n0 s0 c1) : q_G w z Q L n0 s0 (d, mu, pc, ls, st, h) := by
  obtain ⟨⟨hx, hb, hml, -, -, hown, -⟩, hw, hW, -⟩ := X
  simp only [q_do] at e
  split at e
  · rename_i x i a r
    split at e
    · rename_i h' hwr
      simp only [q_ph] at e
      obtain rfl := q_nx_eq e
      intro H locs cells slots as hC hl hL hc hs'
      unfold q_wrI at hwr
      split at hwr
      · rename_i t n f ha
        split at hwr
        · cases hwr
        · rename_i hn
          have ht : t = 0 := Classical.byContradiction fun q => hn (Or.inr (Or.inr q))
          subst ht
          obtain ⟨cell, hF, hcell, hun, hin, hcv, -, kk⟩ := q_wrI_s hw hC hl hL hc hs' ha (fun q => hn (q.elim Or.inl fun g => Or.inr (Or.inl g))) (Option.some.inj hwr).symm rfl k
          show q_W z H locs cells slots Q (F0 _ pc as (.int x :: .int i :: q_vm (q_F w) (.ref a) :: r.map (q_vm (q_F w))))
          rw [q_vm_ref hF]
          have hA := arrOfT_moved (E := z.2.1) hW.alike (hw.2.1.2 0 _ (q_wty_at w (by decide))).1
          exact W.iast hx hb hcell (by rw [hcv]; exact hA _ _) hun hin rfl rfl hd kk
      · cases hwr
    · cases e
  · cases e
theorem q_s_bastore (X : q_X w z d cn y code L rt hs) (hd : decode code pc = .ok (.bastore, 1)) (e : q_do (d, mu, pc, ls, st, h) cn y code rt .bastore = some (.inr (.inl c1))) (k : q_G w z Q L n0 s0 c1) : q_G w z Q L n0 s0 (d, mu, pc, ls, st, h) := by
  obtain ⟨⟨hx, hb, hml, -, -, hown, -⟩, hw, hW, -⟩ := X
  simp only [q_do] at e
  split at e
  · rename_i x i a r
    split at e
    · rename_i h' hwr
      simp only [q_ph] at e
      obtain rfl := q_nx_eq e
      intro H locs cells slots as hC hl hL hc hs'
      unfold q_wrB at hwr
      split at hwr
      · rename_i b n f ha0
        unfold q_wrI at hwr
        split at hwr
        · rename_i t n f ha
          split at hwr
          · cases hwr
          · rename_i hn
            have ht : t = 1 := Classical.byContradiction fun q => hn (Or.inr (Or.inr q))
            subst ht
            obtain ⟨cell, hF, hcell, hun, hin, hcv, -, kk⟩ := q_wrI_s hw hC hl hL hc hs' ha (fun q => hn (q.elim Or.inl fun g => Or.inr (Or.inl g))) (Option.some.inj hwr).symm (by rw [vp_nar_byte]; exact pk_fb x) k
            show q_W z H locs cells slots Q (F0 _ pc as (.int x :: .int i :: q_vm (q_F w) (.ref a) :: r.map (q_vm (q_F w))))
            rw [q_vm_ref hF]
            have hA := arrOfT_moved (E := z.2.1) hW.alike (hw.2.1.2 1 _ (q_wty_at w (by decide))).1
            exact W.bast hx hb hcell (by rw [hcv]; exact hA _ _) hun hin rfl rfl hd kk
        · cases hwr
      · rename_i b n f ha0
        unfold q_wrI at hwr
        split at hwr
        · rename_i t n f ha
          split at hwr
          · cases hwr
          · rename_i hn
            have ht : t = 2 := Classical.byContradiction fun q => hn (Or.inr (Or.inr q))
            subst ht
            obtain ⟨cell, hF, hcell, hun, hin, hcv, -, kk⟩ := q_wrI_s hw hC hl hL hc hs' ha (fun q => hn (q.elim Or.inl fun g => Or.inr (Or.inl g))) (Option.some.inj hwr).symm (q_fit_z x) k
            show q_W z H locs cells slots Q (F0 _ pc as (.int x :: .int i :: q_vm (q_F w) (.ref a) :: r.map (q_vm (q_F w))))
            rw [q_vm_ref hF]
            have hA := arrOfT_moved (E := z.2.1) hW.alike (hw.2.1.2 2 _ (q_wty_at w (by decide))).1
            exact W.zast hx hb hcell (by rw [hcv]; exact hA _ _) hun hin rfl rfl hd kk
        · cases hwr
      · cases hwr
    · cases e
  · cases e
theorem q_s_lastore (X : q_X w z d cn y code L rt hs) (hd : decode code pc = .ok (.lastore, 1)) (e : q_do (d, mu, pc, ls, st, h) cn y code rt .lastore = some (.inr (.inl c1))) (k : q_G w z Q L n0 s0 c1) : q_G w z Q L n0 s0 (d, mu, pc, ls, st, h) := by
  obtain ⟨⟨hx, hb, hml, -, -, hown, -⟩, hw, hW, -⟩ := X
  simp only [q_do] at e
  split at e
  · rename_i x i a r
    split at e
    · rename_i h' hwr
      simp only [q_ph] at e
      obtain rfl := q_nx_eq e
      intro H locs cells slots as hC hl hL hc hs'
      unfold q_wrL at hwr
      split at hwr
      · rename_i n f ha
        split at hwr
        · cases hwr
        · rename_i hn
          cases hwr
          obtain ⟨ha1, ha2, hsg⟩ := (hC.2.2.2 a true _ ha).1 rfl
          obtain ⟨cell, hcell, hvm, rfl, hkd, ht9⟩ := id hsg
          show q_W z H locs cells slots Q (F0 _ pc as (.long x :: .int i :: q_vm (q_F w) (.ref a) :: r.map (q_vm (q_F w))))
          rw [q_vm_ref (q_F_new w ha1)]
          have hA := arrOfT_moved (E := z.2.1) hW.alike (hw.2.1.2 3 _ (q_wty_at w (by decide))).1
          refine W.last hx hb hcell (hA _ _) (fun q => by cases q) (by rw [arrV_size]; exact hn) rfl rfl hd fun H' e1 e2 e3 => ?_
          refine k H' _ cells slots as (hC.set ha ?_ e2 e3) (q_locs hl) hL hc hs'
          exact q_sg_arr hsg rfl (fun i' => q_el_updL _ _ _ _ _ i') hkd (fun c hc2 => by cases hcell.symm.trans hc2; exact e1)
      · cases hwr
    · cases e
  · cases e
theorem q_s_dastore (X : q_X w z d cn y code L rt hs) (hd : decode code pc = .ok (.dastore, 1)) (e : q_do (d, mu, pc, ls, st, h) cn y code rt .dastore = some (.inr (.inl c1))) (k : q_G w z Q L n0 s0 c1) : q_G w z Q L n0 s0 (d, mu, pc, ls, st, h) := by
  obtain ⟨⟨hx, hb, hml, -, -, hown, -⟩, hw, hW, -⟩ := X
  simp only [q_do] at e
  split at e
  · rename_i x i a r
    split at e
    · rename_i h' hwr
      simp only [q_ph] at e
      obtain rfl := q_nx_eq e
      intro H locs cells slots as hC hl hL hc hs'
      unfold q_wrD at hwr
      split at hwr
      · rename_i n f ha
        split at hwr
        · cases hwr
        · rename_i hn
          cases hwr
          obtain ⟨ha1, ha2, hsg⟩ := (hC.2.2.2 a true _ ha).1 rfl
          obtain ⟨cell, hcell, hvm, rfl, hkd, ht9⟩ := id hsg
          show q_W z H locs cells slots Q (F0 _ pc as (.double x :: .int i :: q_vm (q_F w) (.ref a) :: r.map (q_vm (q_F w))))
          rw [q_vm_ref (q_F_new w ha1)]
          have hA := arrOfT_moved (E := z.2.1) hW.alike (hw.2.1.2 4 _ (q_wty_at w (by decide))).1
          refine W.dast hx hb hcell (hA _ _) (fun q => by cases q) (by rw [arrV_size]; exact hn) rfl rfl hd fun H' e1 e2 e3 => ?_
          refine k H' _ cells slots as (hC.set ha ?_ e2 e3) (q_locs hl) hL hc hs'
          exact q_sg_arr hsg rfl (fun i' => q_el_updD _ _ _ _ _ i') hkd (fun c hc2 => by cases hcell.symm.trans hc2; exact e1)
      · cases hwr
    · cases e
  · cases e
theorem q_s_aastore (hlo : q_laysOk) (hst : q_eST) (X : q_X w z d cn y code L rt hs) (hd : decode code pc = .ok (.aastore, 1)) (e : q_do (d, mu, pc, ls, st, h) cn y code rt .aastore = some (.inr (.inl c1))) (k : q_G w z Q L n0 s0 c1) : q_G w z Q L n0 s0 (d, mu, pc, ls, st, h) := by
  obtain ⟨⟨hx, hb, hml, -, -, hown, -⟩, hw, hW, -⟩ := X
  simp only [q_do] at e
  split at e
  · rename_i v i a r
    split at e
    · rename_i h' hwr
      simp only [q_ph] at e
      obtain rfl := q_nx_eq e
      intro H locs cells slots as hC hl hL hc hs'
      unfold q_wrQ at hwr
      split at hwr
      · rename_i t n f ha
        split at hwr
        · cases hwr
        · rename_i hn
          have hn' : ¬ (i < 0 ∨ n ≤ i.toNatClampNeg) := fun q => hn (q.elim Or.inl fun g => Or.inr (Or.inl g))
          obtain ⟨ha1, ha2, hsg⟩ := (hC.2.2.2 a true _ ha).1 rfl
          obtain ⟨cell, hcell, hvm, rfl, hkd, ht9⟩ := id hsg
          have hK := (va_K.moved hW.alike hw.2.1).2 t _ (q_wty_at w ht9)
          have hA := hK.1
          split at hwr
          · cases hwr
            show q_W z H locs cells slots Q (F0 _ pc as (.null :: .int i :: q_vm (q_F w) (.ref a) :: r.map (q_vm (q_F w))))
            rw [q_vm_ref (q_F_new w ha1)]
            have hob : ∃ C, q_tag.getD t .int = .object C := by
              have : ∀ t, t < 10 → 5 ≤ t → (match q_tag.getD t .int with | .object _ => true | _ => false) = true := by decide +kernel
              have h9 := this t hkd.2 hkd.1
              split at h9
              · exact ⟨_, by assumption⟩
              · cases h9
            obtain ⟨C, hC9⟩ := hob
            refine va_WaastN (C := C) hx hb hcell (by have := hA n (q_el (q_F w) (n, .inr (.inr (.inr (.inr f))))); rw [hC9] at this; exact this) (fun q => by cases q) (by rw [arrV_size]; exact hn') rfl rfl hd fun H' e1 e2 e3 => ?_
            refine k H' _ cells slots as (hC.set ha ?_ e2 e3) (q_locs hl) hL hc hs'
            exact q_sg_arr hsg rfl (fun i' => q_el_updQ _ _ _ _ _ i') hkd (fun c hc2 => by cases hcell.symm.trans hc2; exact e1)
          · rename_i b
            split at hwr
            · rename_i bb c fs hb2
              split at hwr
              · rename_i hsto
                cases hwr
                obtain ⟨C, E, hCn, hE, hca⟩ := hst t c hsto
                obtain ⟨rb, cellV, nm, hFb, hcellV, hstV, hunV, hnm, hclsV, -⟩ := q_obj hw hlo hC hW hb2
                cases hnm.symm.trans hCn
                have hEd : q_tag.getD t .int = .object E := by rw [List.getD_eq_getElem?_getD, hE]; rfl
                have hRA := hK.2
                rw [hEd] at hRA
                obtain ⟨kA, comp, k1, k2, k3, -⟩ := hRA
                obtain ⟨kE, hkE, -⟩ := Vm.findClass_spec k3
                obtain ⟨kC, hkC, -⟩ := Vm.findClass_spec hclsV
                have hasg : z.2.1.vm.assignable cellV.cls comp = true := by
                  rcases hca with hca | rfl
                  · exact vb_asgC (q_castL hw hW hca) comp _ k3 hclsV
                  · exact vb_asgS comp _ k3 hclsV
                show q_W z H locs cells slots Q (F0 _ pc as (q_vm (q_F w) (.ref b) :: .int i :: q_vm (q_F w) (.ref a) :: r.map (q_vm (q_F w))))
                rw [q_vm_ref (q_F_new w ha1), q_vm_ref hFb]
                refine W.aast hx hb hcell (fun q h9 => by cases h9) (fun q => by cases q) k1 k2 rfl hkE ⟨fun q => hn' (Or.inl q), by rw [arrV_size]; exact q_inl hn'⟩ hcellV (fun q h9 => by rw [h9] at hstV; cases hstV) hkC hasg rfl rfl hd fun H' e1 e2 e3 => ?_
                refine k H' _ cells slots as (hC.set ha ?_ e2 e3) (q_locs hl) hL hc hs'
                refine q_sg_arr hsg rfl (fun i' => q_el_updQ _ _ _ _ _ i') hkd (fun c hc2 => ?_)
                cases hcell.symm.trans hc2
                rw [e1]
                show _ = some (_ : Cell)
                rw [show ((some b).bind (q_F w)) = some rb from hFb]
                rfl
              · cases hwr
            · cases hwr
          · cases hwr
      · cases hwr
    · cases e
  · cases e
end
