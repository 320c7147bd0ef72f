/-! THE STORE: what is written -/
section STO
variable {A A' B B' : AM} {E : L3 → Bool} {k j n : Nat}
theorem aWrite_row {m : Nat} (h0 : 0 ≤ A M_total k) : (∀ f, aWrite A k j m M_of f = if 65536 * k + (A M_total k).toNat ≤ f ∧ f < 65536 * k + (A M_total k).toNat + m then (j : Int) else A M_of f) ∧ (∀ f, aWrite A k j m M_value f = if 65536 * k + (A M_total k).toNat ≤ f ∧ f < 65536 * k + (A M_total k).toNat + m then b8 (A M_tape (f - (65536 * k + (A M_total k).toNat))) else A M_value f) ∧ (∀ f, aWrite A k j m M_mark f = if 65536 * k + (A M_total k).toNat ≤ f ∧ f < 65536 * k + (A M_total k).toNat + m then 0 else A M_mark f) ∧ (∀ f, aWrite A k j m M_total f = if f = k then A M_total k + m else A M_total f) := by
  induction m with
  | zero =>
    refine ⟨fun f => ?_, fun f => ?_, fun f => ?_, fun f => ?_⟩
    · rw [if_neg (by omega)]; rfl
    · rw [if_neg (by omega)]; rfl
    · rw [if_neg (by omega)]; rfl
    · split
      · rename_i q; rw [q]; show A M_total k = A M_total k + 0; omega
      · rfl
  | succ m ih =>
    obtain ⟨i1, i2', i3, i4⟩ := ih
    have ht : aWrite A k j m M_total k = A M_total k + m := aWrite_tot
    have et : (aWrite A k j m M_total k).toNat = (A M_total k).toNat + m := by rw [ht]; omega
    have e : aWrite A k j (m + 1) = aW1 (aWrite A k j m) k j (b8 (A M_tape m)) := rfl
    rw [e]
    unfold aW1
    rw [et]
    refine ⟨fun f => ?_, fun f => ?_, fun f => ?_, fun f => ?_⟩
    · rw [uA_tag (by decide), uA_tag (by decide), uA_tag (by decide), uA_at, i1]
      by_cases q : f = 65536 * k + ((A M_total k).toNat + m)
      · rw [if_pos ⟨rfl, q⟩, if_pos (by omega)]
      · rw [if_neg (fun z => q z.2)]
        by_cases q2 : 65536 * k + (A M_total k).toNat ≤ f ∧ f < 65536 * k + (A M_total k).toNat + m
        · rw [if_pos q2, if_pos (by omega)]
        · rw [if_neg q2, if_neg (by omega)]
    · rw [uA_tag (by decide), uA_tag (by decide), uA_at]
      by_cases q : f = 65536 * k + ((A M_total k).toNat + m)
      · rw [if_pos ⟨rfl, q⟩, if_pos (by omega), show f - (65536 * k + (A M_total k).toNat) = m by omega]
      · rw [if_neg (fun z => q z.2), uA_tag (by decide), i2']
        by_cases q2 : 65536 * k + (A M_total k).toNat ≤ f ∧ f < 65536 * k + (A M_total k).toNat + m
        · rw [if_pos q2, if_pos (by omega)]
        · rw [if_neg q2, if_neg (by omega)]
    · rw [uA_tag (by decide), uA_at]
      by_cases q : f = 65536 * k + ((A M_total k).toNat + m)
      · rw [if_pos ⟨rfl, q⟩, if_pos (by omega)]
      · rw [if_neg (fun z => q z.2), uA_tag (by decide), uA_tag (by decide), i3]
        by_cases q2 : 65536 * k + (A M_total k).toNat ≤ f ∧ f < 65536 * k + (A M_total k).toNat + m
        · rw [if_pos q2, if_pos (by omega)]
        · rw [if_neg q2, if_neg (by omega)]
    · rw [uA_at]
      by_cases q : f = k
      · rw [if_pos ⟨rfl, q⟩, if_pos q, ht]; omega
      · rw [if_neg (fun z => q z.2), if_neg q, uA_tag (by decide), uA_tag (by decide), uA_tag (by decide), i4, if_neg q]
theorem aWrite_pos {m : Nat} (h0 : 0 ≤ A M_total k) (i : Nat) : pos (aWrite A k j m) k i = if i = j then pos A k j ++ List.range' (A M_total k).toNat m else pos A k i := by
  obtain ⟨r1, r2, r3, r4⟩ := aWrite_row (A := A) (k := k) (j := j) (m := m) h0
  have e : (aWrite A k j m M_total k).toNat = (A M_total k).toNat + m := by rw [r4, if_pos rfl]; omega
  unfold pos
  rw [e, ← List.range'_append_1, List.filter_append, Nat.zero_add]
  have e1 : (List.range' 0 (A M_total k).toNat).filter (fun x => decide (aWrite A k j m M_of (65536 * k + x) = (i : Int))) = (List.range' 0 (A M_total k).toNat).filter (fun x => decide (A M_of (65536 * k + x) = (i : Int))) := by
    apply List.filter_congr
    intro x hx
    rw [List.mem_range'_1] at hx
    rw [r1, if_neg (by omega)]
  rw [e1]
  by_cases q : i = j
  · subst q
    rw [if_pos rfl]
    congr 1
    rw [List.filter_eq_self]
    intro x hx
    rw [List.mem_range'_1] at hx
    rw [r1, if_pos (by omega)]
    exact decide_eq_true rfl
  · rw [if_neg q]
    have e2 : (List.range' (A M_total k).toNat m).filter (fun x => decide (aWrite A k j m M_of (65536 * k + x) = (i : Int))) = [] := by
      rw [List.filter_eq_nil_iff]
      intro x hx
      rw [List.mem_range'_1] at hx
      rw [r1, if_pos (by omega)]
      simp
      omega
    rw [e2, List.append_nil]
theorem posm_lt (i x : Nat) (h : x ∈ pos A k i) : x < (A M_total k).toNat := (pos_mem h).1
theorem aWrite_wl {m : Nat} (h0 : 0 ≤ A M_total k) (i : Nat) : wl (aWrite A k j m) k i = wl A k i + (if i = j then m else 0) := by
  unfold wl
  rw [aWrite_pos h0]
  split
  · rename_i q; rw [q]; simp
  · rfl
theorem aWrite_cnt {m : Nat} (h0 : 0 ≤ A M_total k) (i : Nat) (p : Int → Bool) (hp : p 0 = false) : (pos (aWrite A k j m) k i).countP (fun x => p (aWrite A k j m M_mark (65536 * k + x))) = (pos A k i).countP (fun x => p (A M_mark (65536 * k + x))) := by
  obtain ⟨r1, r2, r3, r4⟩ := aWrite_row (A := A) (k := k) (j := j) (m := m) h0
  have e1 : (pos A k i).countP (fun x => p (aWrite A k j m M_mark (65536 * k + x))) = (pos A k i).countP (fun x => p (A M_mark (65536 * k + x))) := by
    apply countP_ext
    intro x hx
    have := posm_lt i x hx
    rw [r3, if_neg (by omega)]
  rw [aWrite_pos h0]
  split
  · rename_i q
    subst q
    rw [List.countP_append, e1]
    have e2 : (List.range' (A M_total k).toNat m).countP (fun x => p (aWrite A k i m M_mark (65536 * k + x))) = 0 := by
      rw [List.countP_eq_zero]
      intro x hx
      rw [List.mem_range'_1] at hx
      rw [r3, if_pos (by omega), hp]
      decide
    rw [e2, Nat.add_zero]
  · exact e1
theorem aWrite_sn {m : Nat} (h0 : 0 ≤ A M_total k) (i : Nat) : sn (aWrite A k j m) k i = sn A k i := aWrite_cnt h0 i (fun x => decide (x ≠ 0)) rfl
theorem aWrite_cn {m : Nat} (h0 : 0 ≤ A M_total k) (i : Nat) {st : Int} (hs : st ≠ 0) : cn (aWrite A k j m) k i st = cn A k i st := aWrite_cnt h0 i (fun x => decide (x = st)) (decide_eq_false (fun z => hs z.symm))
theorem aWrite_sa {m : Nat} (h0 : 0 ≤ A M_total k) : sa (aWrite A k j m) k = sa A k := by
  obtain ⟨r1, r2, r3, r4⟩ := aWrite_row (A := A) (k := k) (j := j) (m := m) h0
  have e : (aWrite A k j m M_total k).toNat = (A M_total k).toNat + m := by rw [r4, if_pos rfl]; omega
  unfold sa
  rw [e, ← List.range'_append_1, List.countP_append, Nat.zero_add]
  have e2 : (List.range' (A M_total k).toNat m).countP (fun x => decide (aWrite A k j m M_mark (65536 * k + x) ≠ 0)) = 0 := by
    rw [List.countP_eq_zero]
    intro x hx
    rw [List.mem_range'_1] at hx
    rw [r3, if_pos (by omega)]
    simp
  rw [e2, Nat.add_zero]
  apply countP_ext
  intro x hx
  rw [List.mem_range'_1] at hx
  rw [r3, if_neg (by omega)]
theorem aWrite_mkA {m : Nat} (h0 : 0 ≤ A M_total k) (i o : Nat) (ho : o < wl (aWrite A k j m) k i) : mkA (aWrite A k j m) k i o = if o < wl A k i then mkA A k i o else 0 := by
  obtain ⟨r1, r2, r3, r4⟩ := aWrite_row (A := A) (k := k) (j := j) (m := m) h0
  rw [aWrite_wl h0] at ho
  unfold mkA
  rw [aWrite_pos h0]
  by_cases q : o < wl A k i
  · have hl : o < (pos A k i).length := q
    rw [if_pos q]
    have e : (if i = j then pos A k j ++ List.range' (A M_total k).toNat m else pos A k i).getD o 0 = (pos A k i).getD o 0 := by
      split
      · rename_i z; subst z
        rw [List.getD_eq_getElem?_getD, List.getD_eq_getElem?_getD, List.getElem?_append_left hl]
      · rfl
    rw [e]
    have hm : (pos A k i).getD o 0 ∈ pos A k i := by
      rw [List.getD_eq_getElem?_getD, List.getElem?_eq_getElem hl]
      exact List.getElem_mem hl
    have := posm_lt i _ hm
    rw [r3, if_neg (by omega)]
  · rw [if_neg q]
    by_cases z : i = j
    · subst z
      rw [if_pos rfl] at ho
      have hl : (pos A k i).length ≤ o := by unfold wl at q; omega
      rw [if_pos rfl, List.getD_eq_getElem?_getD, List.getElem?_append_right hl, List.getElem?_range' (by unfold wl at ho; omega)]
      rw [r3, if_pos (by simp only [Option.getD_some]; unfold wl at ho; omega)]
    · rw [if_neg z] at ho; omega
/-! a new piece -/
theorem Lk_snoc {nx nx' : Nat → Int} {N : Nat} : ∀ {l : List Nat} {a : Int} {x : Nat}, Lk nx a l → l.Nodup → l.getLast? = some x → (∀ p ∈ l, p ≠ x → nx' p = nx p) → nx' x = (N : Int) → nx' N = -1 → Lk nx' a (l ++ [N]) := by
  intro l
  induction l with
  | nil => intro a x _ _ h; cases h
  | cons p l ih =>
    intro a x hl hn hx hc h1 h2
    obtain ⟨ha, hl⟩ := hl
    rw [List.nodup_cons] at hn
    cases l with
    | nil =>
      have : p = x := by simpa using hx
      subst this
      exact ⟨ha, h1, h2⟩
    | cons q l =>
      rw [List.getLast?_cons_cons] at hx
      have hxm : x ∈ q :: l := List.mem_of_getLast? hx
      refine ⟨ha, ?_⟩
      have hp : nx' p = nx p := hc p List.mem_cons_self (fun z => hn.1 (z ▸ hxm))
      rw [hp]
      exact ih hl hn.2 hx (fun r hr => hc r (List.mem_cons_of_mem _ hr)) h1 h2
def cPc (B : AM) (k j N : Nat) : AM := uA (uA (uA (uA B (T_at k) N (B (T_o k) 1)) (T_size k) N 0) (T_next k) N (-1)) (T_o k) 5 ((N : Int) + 1)
def cPc2 (B : AM) (k j N : Nat) : AM := uA (if B (S_o k j) 5 = -1 then uA (cPc B k j N) (S_o k j) 4 N else uA (cPc B k j N) (T_next k) (B (S_o k j) 5).toNat N) (S_o k j) 5 N
theorem c_piece {N : Nat} (hN : B (T_o k) 5 = N) (h64 : N < 64) : g_X5_piece k B = some (cPc B k j N, (N : Int)) := by
  unfold g_X5_piece g_X5_piece_63
  have e1 : (uA B (T_at k) N (B (T_o k) 1)) (T_o k) 5 = N := hN
  have e2 : (uA (uA B (T_at k) N (B (T_o k) 1)) (T_size k) N 0) (T_o k) 5 = N := hN
  have e3 : (uA (uA (uA B (T_at k) N (B (T_o k) 1)) (T_size k) N 0) (T_next k) N (-1)) (T_o k) 5 = N := hN
  rw [if_pos (by omega), hN, hA_ok (by omega) (by omega), gS_v, tkN, e1, hA_ok (by omega) (by omega), gS_v, tkN, e2, hA_ok (by omega) (by omega), gS_v, tkN, e3, c32_ok (by omega) (by omega), gS_v]
  rfl
theorem cPc_o {N : Nat} (r : L3) (f : Nat) (h1 : r.1 ≠ 17) (h2 : r.1 ≠ 19) (h3 : r.1 ≠ 20) (h4 : r.1 ≠ 21) : cPc B k j N r f = B r f := by
  unfold cPc
  rw [uA_tag h1, uA_tag h4, uA_tag h3, uA_tag h2]
theorem cPc2_o {N : Nat} (r : L3) (f : Nat) (h1 : r.1 ≠ 17) (h2 : r.1 ≠ 19) (h3 : r.1 ≠ 20) (h4 : r.1 ≠ 21) (h5 : r = S_o k j → f ≠ 4 ∧ f ≠ 5) : cPc2 B k j N r f = B r f := by
  unfold cPc2
  by_cases q : r = S_o k j
  · have := h5 q
    rw [uA_idx _ _ _ _ this.2]
    split
    · rw [uA_idx _ _ _ _ this.1, cPc_o r f h1 h2 h3 h4]
    · rw [uA_tag h4, cPc_o r f h1 h2 h3 h4]
  · rw [uA_role _ _ _ _ q]
    split
    · rw [uA_role _ _ _ _ q, cPc_o r f h1 h2 h3 h4]
    · rw [uA_tag h4, cPc_o r f h1 h2 h3 h4]
theorem cPc2_T {N : Nat} (t f : Nat) (h : t = 17 ∨ t = 18 ∨ t = 19 ∨ t = 20) : cPc2 B k j N (t, k, 0) f = cPc B k j N (t, k, 0) f := by
  unfold cPc2
  rw [uA_tag (by show t ≠ 29; omega)]
  split
  · rw [uA_tag (by show t ≠ 29; omega)]
  · rw [uA_tag (by show t ≠ 21; omega)]
theorem CSt.piece {ch : Nat → List Nat} (h : CSt E A B k ch) {N : Nat} (hN : B (T_o k) 5 = N) (h64 : N < 64) (hj : j < 256) (hE : E (S_o k j) = true) (h0 : 0 ≤ A M_total k) : CSt E A (cPc2 B k j N) k (fun i => if i = j then ch j ++ [N] else ch i) := by
  have lt : ∀ i, ∀ p ∈ ch i, p < N := fun i p hp => by have := (h.mem i p hp).1; omega
  have to1 : cPc2 B k j N (T_o k) 1 = B (T_o k) 1 := by
    rw [cPc2_T 17 1 (by omega)]; unfold cPc; rw [uA_idx _ _ _ _ (by decide), uA_tag (by show 17 ≠ 21; decide), uA_tag (by show 17 ≠ 20; decide), uA_tag (by show 17 ≠ 19; decide)]
  have to5 : cPc2 B k j N (T_o k) 5 = (N : Int) + 1 := by
    rw [cPc2_T 17 5 (by omega)]; unfold cPc; rw [uA_self]
  have at_ : ∀ p, cPc2 B k j N (T_at k) p = if p = N then B (T_o k) 1 else B (T_at k) p := by
    intro p
    rw [cPc2_T 19 p (by omega)]; unfold cPc
    rw [uA_tag (by show 19 ≠ 17; decide), uA_tag (by show 19 ≠ 21; decide), uA_tag (by show 19 ≠ 20; decide), uA_at]
    by_cases q : p = N
    · rw [if_pos ⟨rfl, q⟩, if_pos q]
    · rw [if_neg (fun z => q z.2), if_neg q]
  have sz_ : ∀ p, cPc2 B k j N (T_size k) p = if p = N then 0 else B (T_size k) p := by
    intro p
    rw [cPc2_T 20 p (by omega)]; unfold cPc
    rw [uA_tag (by show 20 ≠ 17; decide), uA_tag (by show 20 ≠ 21; decide), uA_at]
    by_cases q : p = N
    · rw [if_pos ⟨rfl, q⟩, if_pos q]
    · rw [if_neg (fun z => q z.2), if_neg q, uA_tag (by show 20 ≠ 19; decide)]
  have nxN : cPc B k j N (T_next k) N = -1 := by unfold cPc; rw [uA_tag (by show 21 ≠ 17; decide), uA_self]
  have nxo : ∀ p, p ≠ N → cPc B k j N (T_next k) p = B (T_next k) p := by
    intro p hp
    unfold cPc; rw [uA_tag (by show 21 ≠ 17; decide), uA_idx _ _ _ _ hp, uA_tag (by show 21 ≠ 20; decide), uA_tag (by show 21 ≠ 19; decide)]
  have nx : ∀ p, cPc2 B k j N (T_next k) p = if B (S_o k j) 5 ≠ -1 ∧ p = (B (S_o k j) 5).toNat then (N : Int) else cPc B k j N (T_next k) p := by
    intro p
    unfold cPc2
    rw [uA_tag (by show 21 ≠ 29; decide)]
    by_cases q : B (S_o k j) 5 = -1
    · rw [if_pos q, uA_tag (by show 21 ≠ 29; decide), if_neg (fun z => z.1 q)]
    · rw [if_neg q, uA_at]
      by_cases q2 : p = (B (S_o k j) 5).toNat
      · rw [if_pos ⟨rfl, q2⟩, if_pos ⟨q, q2⟩]
      · rw [if_neg (fun z => q2 z.2), if_neg (fun z => q2 z.2)]
  have la := h.las j hj hE
  have seg_eq : ∀ l : List Nat, (∀ p ∈ l, p < N) → Seg (cPc2 B k j N (T_at k)) (cPc2 B k j N (T_size k)) l = Seg (B (T_at k)) (B (T_size k)) l := by
    intro l
    induction l with
    | nil => intro _; rfl
    | cons p l ih =>
      intro hl
      have hp := hl p List.mem_cons_self
      unfold Seg at ih ⊢
      rw [List.flatMap_cons, List.flatMap_cons, ih (fun q hq => hl q (List.mem_cons_of_mem _ hq)), at_, sz_, if_neg (by omega), if_neg (by omega)]
  have so4 : ∀ i, i ≠ j → cPc2 B k j N (S_o k i) 4 = B (S_o k i) 4 ∧ cPc2 B k j N (S_o k i) 5 = B (S_o k i) 5 := by
    intro i hi
    have ne : S_o k i = S_o k j → False := fun z => hi (by injection z with _ z; injection z)
    exact ⟨cPc2_o _ _ (by show 29 ≠ 17; decide) (by show 29 ≠ 19; decide) (by show 29 ≠ 20; decide) (by show 29 ≠ 21; decide) (fun z => absurd z ne), cPc2_o _ _ (by show 29 ≠ 17; decide) (by show 29 ≠ 19; decide) (by show 29 ≠ 20; decide) (by show 29 ≠ 21; decide) (fun z => absurd z ne)⟩
  refine CSt.make ?_ ?_ ?_ ?_ ?_ ?_ ?_ ?_ ?_ ?_
  · rw [to1]; exact h.use
  · intro i hi; rw [cPc2_T 18 i (by omega), cPc_o _ _ (by show 18 ≠ 17; decide) (by show 18 ≠ 19; decide) (by show 18 ≠ 20; decide) (by show 18 ≠ 21; decide)]; exact h.byt i hi
  · rw [to5]; omega
  · intro i hi hEi
    by_cases q : i = j
    · subst q
      rw [if_pos rfl]
      cases hl : (ch i).getLast? with
      | none =>
        have hn : ch i = [] := List.getLast?_eq_none_iff.1 hl
        rw [hl] at la
        have h4 : cPc2 B k i N (S_o k i) 4 = N := by
          unfold cPc2; rw [uA_idx _ _ _ _ (by decide), if_pos la, uA_self]
        rw [hn, h4]
        refine ⟨rfl, ?_⟩
        show cPc2 B k i N (T_next k) N = -1
        rw [nx, if_neg (fun z => z.1 la), nxN]
      | some x =>
        rw [hl] at la
        have hxm : x ∈ ch i := List.mem_of_getLast? hl
        have hx := lt i x hxm
        have la' : B (S_o k i) 5 = (x : Int) := la
        have ln : B (S_o k i) 5 ≠ -1 := by omega
        have h4 : cPc2 B k i N (S_o k i) 4 = B (S_o k i) 4 := by
          unfold cPc2; rw [uA_idx _ _ _ _ (by decide), if_neg ln, uA_tag (by show 29 ≠ 21; decide), cPc_o _ _ (by show 29 ≠ 17; decide) (by show 29 ≠ 19; decide) (by show 29 ≠ 20; decide) (by show 29 ≠ 21; decide)]
        rw [h4]
        refine Lk_snoc (h.lnk i hi hEi) (h.ndp i) hl ?_ ?_ ?_
        · intro p hp hne
          have := lt i p hp
          rw [nx, if_neg (by omega), nxo p (by omega)]
        · rw [nx, if_pos ⟨ln, by omega⟩]
        · rw [nx, if_neg (by omega), nxN]
    · rw [if_neg q, (so4 i q).1]
      refine Lk_cg ?_ (h.lnk i hi hEi)
      intro p hp
      have := lt i p hp
      rw [nx, if_neg, nxo p (by omega)]
      rintro ⟨z1, z2⟩
      cases hl : (ch j).getLast? with
      | none => rw [hl] at la; exact z1 la
      | some x =>
        rw [hl] at la
        have la' : B (S_o k j) 5 = (x : Int) := la
        have hxm : x ∈ ch j := List.mem_of_getLast? hl
        have : p = x := by omega
        exact h.dis i j q p hp (this ▸ hxm)
  · intro i hi hEi
    by_cases q : i = j
    · subst q
      rw [if_pos rfl, List.getLast?_append]
      unfold cPc2; rw [uA_self]
      rfl
    · rw [if_neg q, (so4 i q).2]; exact h.las i hi hEi
  · intro i hi
    by_cases q : i = j
    · subst q; exact absurd ⟨hj, hE⟩ hi
    · rw [if_neg q]; exact h.emp i hi
  · intro i p hp
    rw [to5, at_, sz_]
    have hu := h.use
    have base : ∀ i, ∀ p ∈ ch i, (p : Int) < (N : Int) + 1 ∧ 0 ≤ (if p = N then B (T_o k) 1 else B (T_at k) p) ∧ 0 ≤ (if p = N then 0 else B (T_size k) p) ∧ (if p = N then B (T_o k) 1 else B (T_at k) p) + (if p = N then 0 else B (T_size k) p) ≤ A M_total k := by
      intro i p hp
      have m := h.mem i p hp
      have := lt i p hp
      rw [if_neg (by omega), if_neg (by omega)]
      exact ⟨by omega, m.2⟩
    by_cases q : i = j
    · subst q
      rw [if_pos rfl, List.mem_append] at hp
      rcases hp with hp | hp
      · exact base i p hp
      · rw [List.mem_singleton] at hp
        rw [if_pos hp, if_pos hp]
        omega
    · rw [if_neg q] at hp; exact base i p hp
  · intro i
    by_cases q : i = j
    · subst q
      rw [if_pos rfl, List.nodup_append]
      refine ⟨h.ndp i, by simp, ?_⟩
      intro a ha b hb
      rw [List.mem_singleton] at hb
      have := lt i a ha
      omega
    · rw [if_neg q]; exact h.ndp i
  · intro i i' hne p hp
    by_cases q : i = j
    · subst q
      rw [if_pos rfl, List.mem_append] at hp
      rw [if_neg (fun z => hne z.symm)]
      rcases hp with hp | hp
      · exact h.dis i i' hne p hp
      · rw [List.mem_singleton] at hp
        intro z
        have := lt i' p z
        omega
    · rw [if_neg q] at hp
      by_cases q2 : i' = j
      · subst q2
        rw [if_pos rfl, List.mem_append]
        rintro (z | z)
        · exact h.dis i i' hne p hp z
        · rw [List.mem_singleton] at z
          have := lt i p hp
          omega
      · rw [if_neg q2]; exact h.dis i i' hne p hp
  · intro i hi hEi
    by_cases q : i = j
    · subst q
      rw [if_pos rfl]
      have e : Seg (cPc2 B k i N (T_at k)) (cPc2 B k i N (T_size k)) (ch i ++ [N]) = Seg (cPc2 B k i N (T_at k)) (cPc2 B k i N (T_size k)) (ch i) := by
        unfold Seg
        rw [List.flatMap_append, List.flatMap_singleton, sz_, if_pos rfl]
        simp
      rw [e, seg_eq _ (lt i)]
      exact h.seg i hi hEi
    · rw [if_neg q, seg_eq _ (lt i)]; exact h.seg i hi hEi
end STO
