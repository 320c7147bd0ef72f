/-! BYTES THAT GO OUT: what becomes of the row -/
section AOU
variable {A : AM} {k j b m : Nat}
theorem pos_nd : (pos A k j).Nodup := List.Nodup.sublist List.filter_sublist List.nodup_range'
theorem pos_inj {o o' : Nat} (h : o < wl A k j) (h' : o' < wl A k j) (e : (pos A k j).getD o 0 = (pos A k j).getD o' 0) : o = o' := by
  rw [List.getD_eq_getElem?_getD, List.getD_eq_getElem?_getD, List.getElem?_eq_getElem h, List.getElem?_eq_getElem h'] at e
  have nd := List.pairwise_iff_getElem.1 (pos_nd (A := A) (k := k) (j := j))
  have e' : (pos A k j)[o]'h = (pos A k j)[o']'h' := e
  by_cases q : o < o'
  · exact absurd e' (nd o o' h h' q)
  · by_cases q2 : o' < o
    · exact absurd e'.symm (nd o' o h' h q2)
    · omega
theorem pos_of {i o : Nat} (h : o < wl A k i) : A M_of (65536 * k + (pos A k i).getD o 0) = (i : Int) := (pos_mem (List.mem_of_getElem? (pos_get h))).2
theorem pos_ne {i o o' : Nat} (hi : i ≠ j) (h : o < wl A k i) (h' : o' < wl A k j) : (pos A k i).getD o 0 ≠ (pos A k j).getD o' 0 := by
  intro e
  have e1 := pos_of h
  rw [e, pos_of h'] at e1
  omega
theorem aOut_posi (i : Nat) : pos (aOut A k j b m) k i = pos A k i := pos_cg (aOut_o _ _ (by decide) (by decide)) (fun i _ => aOut_o _ _ (by decide) (by decide))
theorem aOut_wl (i : Nat) : wl (aOut A k j b m) k i = wl A k i := by unfold wl; rw [aOut_posi]
theorem aOut_mkj (hb : b + m ≤ wl A k j) {o : Nat} (ho : o < wl A k j) : mkA (aOut A k j b m) k j o = if b ≤ o ∧ o < b + m then 1 else mkA A k j o := by
  unfold mkA
  rw [aOut_posi, aOut_mk]
  by_cases q : b ≤ o ∧ o < b + m
  · rw [if_pos ⟨o - b, by omega, by rw [show b + (o - b) = o by omega]⟩, if_pos q]
  · rw [if_neg q, if_neg]
    rintro ⟨i, h1, h2⟩
    have := pos_inj ho (show b + i < wl A k j by omega) (by omega)
    omega
theorem aOut_mki (hb : b + m ≤ wl A k j) {i o : Nat} (hi : i ≠ j) (ho : o < wl A k i) : mkA (aOut A k j b m) k i o = mkA A k i o := by
  unfold mkA
  rw [aOut_posi, aOut_mk, if_neg]
  rintro ⟨t, h1, h2⟩
  exact pos_ne hi ho (show b + t < wl A k j by omega) (by omega)
theorem aOut_cni (hb : b + m ≤ wl A k j) {i : Nat} (hi : i ≠ j) (st : Int) : cn (aOut A k j b m) k i st = cn A k i st := by
  rw [cn_rng, cn_rng, aOut_wl]
  apply countP_ext
  intro o ho
  rw [List.mem_range'_1] at ho
  rw [aOut_mki hb hi (by omega)]
theorem aOut_sni (hb : b + m ≤ wl A k j) {i : Nat} (hi : i ≠ j) : sn (aOut A k j b m) k i = sn A k i := by
  rw [sn_rng, sn_rng, aOut_wl]
  apply countP_ext
  intro o ho
  rw [List.mem_range'_1] at ho
  rw [aOut_mki hb hi (by omega)]
theorem aOut_cn (hb : b + m ≤ wl A k j) {st : Int} (h1 : st ≠ 1) (hs : ∀ o, b ≤ o → o < b + m → mkA A k j o ≠ st) : cn (aOut A k j b m) k j st = cn A k j st := by
  rw [cn_rng, cn_rng, aOut_wl]
  apply countP_ext
  intro o ho
  rw [List.mem_range'_1] at ho
  rw [aOut_mkj hb (by omega)]
  split
  · rename_i q
    rw [decide_eq_false (fun z => h1 z.symm), decide_eq_false (hs o q.1 q.2)]
  · rfl
theorem aOut_sn0 (hb : b + m ≤ wl A k j) (hs : ∀ o, b ≤ o → o < b + m → mkA A k j o = 0) : sn (aOut A k j b m) k j = sn A k j + m := by
  rw [sn_rng, sn_rng, aOut_wl]
  have e := countP_seg (wl A k j) b (b + m) (by omega) hb
  rw [show b + m - b = m by omega] at e
  conv => rhs; rw [← e]
  rw [← countP_or]
  · apply countP_ext
    intro o ho
    rw [List.mem_range'_1] at ho
    rw [aOut_mkj hb (by omega)]
    by_cases q : b ≤ o ∧ o < b + m
    · rw [if_pos q, decide_eq_true q]; simp
    · rw [if_neg q, decide_eq_false q]; simp
  · intro o _ z
    have z2 := of_decide_eq_true z.2
    have z1 := of_decide_eq_true z.1
    exact z1 (hs o z2.1 z2.2)
theorem aOut_sn2 (hb : b + m ≤ wl A k j) (hs : ∀ o, b ≤ o → o < b + m → mkA A k j o ≠ 0) : sn (aOut A k j b m) k j = sn A k j := by
  rw [sn_rng, sn_rng, aOut_wl]
  apply countP_ext
  intro o ho
  rw [List.mem_range'_1] at ho
  rw [aOut_mkj hb (by omega)]
  split
  · rename_i q
    rw [decide_eq_true (hs o q.1 q.2)]; rfl
  · rfl
theorem aOut_succ : aOut A k j b (m + 1) M_mark = fun x => if x = 65536 * k + (pos A k j).getD (b + m) 0 then 1 else aOut A k j b m M_mark x := by
  funext x
  rw [aOut_mk, aOut_mk]
  by_cases q : x = 65536 * k + (pos A k j).getD (b + m) 0
  · rw [if_pos q, if_pos ⟨m, by omega, q⟩]
  · rw [if_neg q]
    by_cases q2 : ∃ i, i < m ∧ x = 65536 * k + (pos A k j).getD (b + i) 0
    · obtain ⟨i, h1, h2⟩ := q2
      rw [if_pos ⟨i, by omega, h2⟩, if_pos ⟨i, h1, h2⟩]
    · rw [if_neg q2, if_neg]
      rintro ⟨i, h1, h2⟩
      by_cases z : i = m
      · subst z; exact q h2
      · exact q2 ⟨i, by omega, h2⟩
theorem aOut_sa0 (hb : b + m ≤ wl A k j) (hs : ∀ o, b ≤ o → o < b + m → mkA A k j o = 0) : sa (aOut A k j b m) k = sa A k + m := by
  induction m with
  | zero =>
    refine sa_cg (aOut_o _ _ (by decide) (by decide)) (fun i _ => ?_)
    rw [aOut_mk, if_neg (fun z => by obtain ⟨i, h1, _⟩ := z; omega)]
  | succ m ih =>
    have i := ih (by omega) (fun o h1 h2 => hs o h1 (by omega))
    have hx : (pos A k j).getD (b + m) 0 < (A M_total k).toNat := pos_lt (by omega)
    have hz : aOut A k j b m M_mark (65536 * k + (pos A k j).getD (b + m) 0) = 0 := by
      have e := aOut_mkj (A := A) (k := k) (j := j) (b := b) (m := m) (by omega) (o := b + m) (by omega)
      rw [if_neg (by omega), hs (b + m) (by omega) (by omega)] at e
      unfold mkA at e
      rw [aOut_posi] at e
      exact e
    have et : ∀ m, (aOut A k j b m M_total k).toNat = (A M_total k).toNat := fun m => by rw [aOut_o _ _ (by decide) (by decide)]
    unfold sa at i ⊢
    rw [et] at i ⊢
    rw [← Nat.add_assoc, ← i]
    have e := countP_seg (A M_total k).toNat ((pos A k j).getD (b + m) 0) ((pos A k j).getD (b + m) 0 + 1) (by omega) (by omega)
    rw [Nat.add_sub_cancel_left] at e
    have key := countP_or (l := List.range' 0 (A M_total k).toNat) (p := fun i => decide (aOut A k j b m M_mark (65536 * k + i) ≠ 0)) (q := fun o => decide ((pos A k j).getD (b + m) 0 ≤ o ∧ o < (pos A k j).getD (b + m) 0 + 1)) ?_
    · rw [e] at key
      rw [← key]
      apply countP_ext
      intro o _
      have e1 : aOut A k j b (m + 1) M_mark (65536 * k + o) = if 65536 * k + o = 65536 * k + (pos A k j).getD (b + m) 0 then 1 else aOut A k j b m M_mark (65536 * k + o) := by rw [aOut_succ]
      by_cases q : o = (pos A k j).getD (b + m) 0
      · rw [if_pos (by omega)] at e1
        rw [e1, decide_eq_true (show (pos A k j).getD (b + m) 0 ≤ o ∧ o < (pos A k j).getD (b + m) 0 + 1 by omega)]; simp
      · rw [if_neg (by omega)] at e1
        rw [e1, decide_eq_false (show ¬ ((pos A k j).getD (b + m) 0 ≤ o ∧ o < (pos A k j).getD (b + m) 0 + 1) by omega)]; simp
    · intro o _ z
      have z2 := of_decide_eq_true z.2
      have z1 := of_decide_eq_true z.1
      have : o = (pos A k j).getD (b + m) 0 := by omega
      rw [this] at z1
      exact z1 hz
theorem aOut_sa2 (hb : b + m ≤ wl A k j) (hs : ∀ o, b ≤ o → o < b + m → mkA A k j o ≠ 0) : sa (aOut A k j b m) k = sa A k := by
  unfold sa
  rw [aOut_o _ _ (by decide) (by decide)]
  apply countP_ext
  intro o _
  rw [aOut_mk]
  split
  · rename_i q
    obtain ⟨i, h1, h2⟩ := q
    have := hs (b + i) (by omega) (by omega)
    unfold mkA at this
    rw [← h2] at this
    rw [decide_eq_true this]; rfl
  · rfl
/-- the longest run, told -/
theorem rl_is {st most room : Int} {R : Nat} (hr : room ≤ 1200) (h1 : ∀ i, i < R → Gd A k j b st most room i = true) (h2 : Gd A k j b st most room R = false) : rl A k j b st most room = R := by
  have l := rl_lt (A := A) (k := k) (j := j) (b := b) (st := st) (most := most) hr
  have o := rl_out (A := A) (k := k) (j := j) (b := b) (st := st) (most := most) hr
  by_cases q : rl A k j b st most room < R
  · rw [h1 _ q] at o; cases o
  · by_cases q2 : R < rl A k j b st most room
    · rw [rl_in hr q2] at h2; cases h2
    · omega
/-- how many bytes fit -/
def mst (left : Int) : Int := if 66 ≤ left then left - 2 else mnZ (left - 1) 63
theorem mst_ok {left : Int} {i : Nat} (hl : left ≤ 1200) : sz ((i : Int) + 1) + ((i : Int) + 1) ≤ left ↔ (i : Int) + 1 ≤ mst left := by
  unfold mst sz mnZ
  by_cases q : 66 ≤ left
  · rw [if_pos q]
    split
    · split
      · split <;> omega
      · omega
    · omega
  · rw [if_neg q]
    split
    · split
      · split <;> split <;> omega
      · split <;> omega
    · split <;> omega
end AOU
