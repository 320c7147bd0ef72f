/-! THE TWIN: what became of frames -/
section TWN
variable {A : AM} {k j : Nat}
def aGn (A : AM) (k j b : Nat) (st : Int) : Nat → AM
  | 0 => A
  | m + 1 => if aGn A k j b st m M_mark (65536 * k + (pos A k j).getD (b + m) 0) = 3 then aGn A k j b st m else uA (aGn A k j b st m) M_mark (65536 * k + (pos A k j).getD (b + m) 0) st
theorem aGn_o {b m : Nat} {st : Int} (r : L3) (f : Nat) (h2 : r ≠ M_mark) : aGn A k j b st m r f = A r f := by
  induction m with
  | zero => rfl
  | succ m ih =>
    show (if _ then _ else _ : AM) r f = _
    split
    · exact ih
    · rw [uA_role _ _ _ _ h2, ih]
theorem aGn_mk {b m : Nat} {st : Int} {x : Nat} : aGn A k j b st m M_mark x = if (∃ i, i < m ∧ x = 65536 * k + (pos A k j).getD (b + i) 0) ∧ A M_mark x ≠ 3 then st else A M_mark x := by
  induction m with
  | zero =>
    rw [if_neg (fun ⟨⟨i, h, _⟩, _⟩ => by omega)]
    rfl
  | succ m ih =>
    show (if aGn A k j b st m M_mark (65536 * k + (pos A k j).getD (b + m) 0) = 3 then aGn A k j b st m else uA (aGn A k j b st m) M_mark (65536 * k + (pos A k j).getD (b + m) 0) st : AM) M_mark x = _
    by_cases e : x = 65536 * k + (pos A k j).getD (b + m) 0
    · rw [← e]
      by_cases q : aGn A k j b st m M_mark x = 3
      · rw [if_pos q, q]
        rw [ih] at q
        by_cases z : A M_mark x = 3
        · rw [if_neg (fun w => w.2 z), z]
        · rw [if_pos ⟨⟨m, by omega, e⟩, z⟩]
          by_cases w : (∃ i, i < m ∧ x = 65536 * k + (pos A k j).getD (b + i) 0) ∧ A M_mark x ≠ 3
          · rw [if_pos w] at q; exact q.symm
          · rw [if_neg w] at q; exact absurd q z
      · rw [if_neg q, uA_self]
        by_cases z : A M_mark x = 3
        · rw [ih, if_neg (fun w => w.2 z)] at q; exact absurd z q
        · rw [if_pos ⟨⟨m, by omega, e⟩, z⟩]
    · have e2 : (if aGn A k j b st m M_mark (65536 * k + (pos A k j).getD (b + m) 0) = 3 then aGn A k j b st m else uA (aGn A k j b st m) M_mark (65536 * k + (pos A k j).getD (b + m) 0) st : AM) M_mark x = aGn A k j b st m M_mark x := by
        split
        · rfl
        · rw [uA_idx _ _ _ _ e]
      rw [e2, ih]
      by_cases z : A M_mark x = 3
      · rw [if_neg (fun w => w.2 z), if_neg (fun w => w.2 z)]
      · by_cases w : ∃ i, i < m ∧ x = 65536 * k + (pos A k j).getD (b + i) 0
        · obtain ⟨i, w1, w2⟩ := w
          rw [if_pos ⟨⟨i, w1, w2⟩, z⟩, if_pos ⟨⟨i, by omega, w2⟩, z⟩]
        · rw [if_neg (fun y => w y.1), if_neg]
          rintro ⟨⟨i, w1, w2⟩, -⟩
          by_cases y : i = m
          · exact e (by rw [w2, y])
          · exact w ⟨i, by omega, w2⟩
theorem aGn_pos {b m : Nat} {st : Int} : pos (aGn A k j b st m) k j = pos A k j := pos_cg (aGn_o _ _ (by decide)) (fun i _ => aGn_o _ _ (by decide))
theorem TB.gn (h : TB A) {b m : Nat} {st : Int} (hs : 0 ≤ st ∧ st ≤ 3) : TB (aGn A k j b st m) := by
  have r : ∀ (r : L3) (f : Nat), r ≠ M_mark → aGn A k j b st m r f = A r f := fun r f h => aGn_o r f h
  refine TB.make ?_ ?_ ?_ ?_ ?_ ?_ ?_ ?_ ?_ ?_ ?_ ?_ ?_ ?_ ?_ ?_ ?_ ?_ ?_ ?_ ?_ ?_ ?_ ?_ ?_ ?_
  · rw [r _ _ (by decide)]; exact h.jnd
  · rw [r _ _ (by decide)]; exact h.tap
  · intro i; rw [r _ _ (by decide)]; exact h.tpv i
  · rw [r _ _ (by decide)]; exact h.out
  · intro q hq; rw [r _ _ (by decide)]; exact h.tot q hq
  · intro i
    rw [aGn_mk]
    split
    · exact hs
    · exact h.mrk i
  · intro i; rw [r _ _ (by decide)]; exact h.val i
  · intro q hq; rw [r _ _ (by decide)]; exact h.pcs q hq
  · intro i; rw [r _ _ (by decide)]; exact h.cam i
  · intro q i o hq hi ho
    rw [hasB_cg (A := A) (r _ _ (by decide)) (fun i _ => r _ _ (by decide)) (fun i _ => r _ _ (by decide)) (fun i => r _ _ (by decide))] at ho
    exact h.hsb q i o hq hi ho
  · intro q i hq hi; rw [r _ _ (by decide)]; exact h.rds q i hq hi
  · intro q i hq hi; rw [r _ _ (by decide)]; exact h.res q i hq hi
  · intro q i hq hi; rw [r _ _ (by decide)]; exact h.hig q i hq hi
  · intro q i hq hi; rw [r _ _ (by decide)]; exact h.siz q i hq hi
  · intro q i hq hi; rw [r _ _ (by decide), r _ _ (by decide)]; exact h.wrs q i hq hi
  · intro q i hq hi hi2; rw [r _ _ (by decide)]; exact h.gra q i hq hi hi2
  · intro q hq; rw [r _ _ (by decide)]; exact h.grt q hq
  · intro q hq; rw [r _ _ (by decide)]; exact h.opn q hq
  · intro q hq; rw [r _ _ (by decide)]; exact h.thr q hq
  · intro q hq; rw [r _ _ (by decide)]; exact h.dgr q hq
  · intro q i hq hi; rw [r _ _ (by decide)]; exact h.grs q i hq hi
  · intro q i hq hi; rw [r _ _ (by decide)]; exact h.lim q i hq hi
  · intro q hq; rw [r _ _ (by decide)]; exact h.lms q hq
  · intro q hq; rw [r _ _ (by decide)]; exact h.lst q hq
  · intro q i hq hi; rw [r _ _ (by decide)]; exact h.stc q i hq hi
  · intro q i hq hi; rw [r _ _ (by decide)]; exact h.cod q i hq hi
/-- lost or here, by a flag -/
def lh (arr : Int) : Int := if arr = 0 then 2 else 3
def aG8 (A : AM) (k j b n : Nat) (c arr : Int) : AM := if c = 1 ∧ A M_end (256 * k + j) ≠ 3 then uA (aGn A k j b (lh arr) n) M_end (256 * k + j) (lh arr) else aGn A k j b (lh arr) n
theorem TB.en (h : TB A) {v : Int} : TB (uA A M_end (256 * k + j) v) := (TB.make h.jnd h.tap h.tpv h.out h.tot h.mrk h.val h.pcs h.cam h.hsb h.rds h.res h.hig h.siz h.wrs h.gra h.grt h.opn h.thr h.dgr h.grs h.lim h.lms h.lst h.stc h.cod)
theorem lh_le (arr : Int) : 0 ≤ lh arr ∧ lh arr ≤ 3 := by unfold lh; split <;> omega
theorem t_gS20_z (h : TB A) (hk : k < 2) (hj : j < 256) {p b n : Nat} {c arr : Int} (hp : p < 64) (hN : A M_lineSize p = n) (hC : A M_lineC p = c) (f : Nat) :
    g_X8_goneStream_20 (f + 1) (aGn A k j b (lh arr) n) k p arr j (256 * (k : Int) + j) n = some (aOver (aG8 A k j b n c arr) k j) := by
  have hT := h.gn (k := k) (j := j) (b := b) (m := n) (lh_le arr)
  have hT2 := hT.en (k := k) (j := j) (v := lh arr)
  have eN : aGn A k j b (lh arr) n M_lineSize p = n := by rw [aGn_o _ _ (by decide)]; exact hN
  have eC : aGn A k j b (lh arr) n M_lineC p = c := by rw [aGn_o _ _ (by decide)]; exact hC
  have eE : aGn A k j b (lh arr) n M_end (256 * k + j) = A M_end (256 * k + j) := aGn_o _ _ (by decide)
  unfold aG8
  generalize aGn A k j b (lh arr) n = S at hT hT2 eN eC eE ⊢
  unfold g_X8_goneStream_20 g_X8_goneStream_20_b g_X8_goneStream_122 g_X8_goneStream_121 g_X8_goneStream_122
  rw [hA_ok (by omega) (by omega), tkN, eN, if_pos (by omega), hA_ok (by omega) (by omega), eC, t_looksOver hT hk hj, bd_v, hA_ok (by omega) (by omega), tk_at, eE, hA_ok (by omega) (by omega), hA_ok (by omega) (by omega), gS_v, gS_v]
  by_cases q1 : c = 1
  · rw [if_neg (fun z => z q1)]
    by_cases q2 : A M_end (256 * k + j) = 3
    · rw [if_pos q2, if_neg (fun z => z.2 q2)]
    · rw [if_neg q2, if_pos (show c = 1 ∧ A M_end (256 * k + j) ≠ 3 from ⟨q1, q2⟩)]
      by_cases q3 : arr = 0
      · rw [show lh arr = 2 by unfold lh; rw [if_pos q3]] at hT2 ⊢
        rw [if_pos q3, t_looksOver hT2 hk hj, bd_v]
      · rw [show lh arr = 3 by unfold lh; rw [if_neg q3]] at hT2 ⊢
        rw [if_neg q3, t_looksOver hT2 hk hj, bd_v]
  · rw [if_pos q1, if_neg (fun z => q1 z.1)]
theorem t_gS20_s (h : TB A) (hk : k < 2) (hj : j < 256) {p b n i : Nat} {c arr : Int} (hp : p < 64) (hB : A M_lineB p = b) (hN : A M_lineSize p = n) (hbn : b + n ≤ wl A k j) (hi : i < n) (f : Nat) :
    g_X8_goneStream_20 (f + 1) (aGn A k j b (lh arr) i) k p arr j (256 * (k : Int) + j) i = g_X8_goneStream_20 f (aGn A k j b (lh arr) (i + 1)) k p arr j (256 * (k : Int) + j) ((i + 1 : Nat) : Int) := by
  have hwl := wl_le (A := A) (k := k) (j := j) (h.tot k hk)
  have hpp := pos_lt (A := A) (k := k) (j := j) (o := b + i) (by omega)
  have ht := h.tot k hk
  have es : aGn A k j b (lh arr) (i + 1) = if aGn A k j b (lh arr) i M_mark (65536 * k + (pos A k j).getD (b + i) 0) = 3 then aGn A k j b (lh arr) i else uA (aGn A k j b (lh arr) i) M_mark (65536 * k + (pos A k j).getD (b + i) 0) (lh arr) := rfl
  have e1 : g_X8_placeOf (aGn A k j b (lh arr) i) k j ((b : Int) + i) = some (65536 * (k : Int) + (pos A k j).getD (b + i) 0) := by
    rw [show (b : Int) + (i : Int) = ((b + i : Nat) : Int) by omega]
    refine t_placeOf hk (by rw [aGn_o _ _ (by decide)]; exact h.tot k hk) (by omega) ?_
    rw [aGn_pos]
    exact pos_get (by omega)
  have eN : aGn A k j b (lh arr) i M_lineSize p = n := by rw [aGn_o _ _ (by decide)]; exact hN
  have eB : aGn A k j b (lh arr) i M_lineB p = b := by rw [aGn_o _ _ (by decide)]; exact hB
  rw [es]
  generalize aGn A k j b (lh arr) i = S at e1 eN eB ⊢
  generalize (pos A k j).getD (b + i) 0 = x at hpp e1 ⊢
  rw [show g_X8_goneStream_20 (f + 1) S k p arr j (256 * (k : Int) + j) i = g_X8_goneStream_20_b (g_X8_goneStream_20 f) S k p arr j (256 * (k : Int) + j) i from rfl]
  unfold g_X8_goneStream_20_b g_X8_goneStream_76 g_X8_goneStream_78
  rw [hA_ok (by omega) (by omega), tkN, eN, if_neg (by omega), hA_ok (by omega) (by omega), eB, c32_ok (by omega) (by omega), e1, bd_v, hA_ok (by omega) (by omega), c32_ok (by omega) (by omega), hA_ok (by omega) (by omega), hA_ok (by omega) (by omega), gS_v, gS_v, c32_ok (by omega) (by omega), c32_ok (by omega) (by omega)]
  rw [show (65536 * (k : Int) + (x : Int)).toNat = 65536 * k + x by omega, show (i : Int) + 1 = ((i + 1 : Nat) : Int) by omega]
  by_cases q : S M_mark (65536 * k + x) = 3
  · rw [if_pos q, if_pos q]
  · rw [if_neg q, if_neg q]
    by_cases q3 : arr = 0
    · rw [if_pos q3, show b8 (b8 2) = 2 from rfl, show lh arr = 2 by unfold lh; rw [if_pos q3]]
    · rw [if_neg q3, show b8 (b8 3) = 3 from rfl, show lh arr = 3 by unfold lh; rw [if_neg q3]]
theorem t_gS20 (h : TB A) (hk : k < 2) (hj : j < 256) {p b n : Nat} {c arr : Int} (hp : p < 64) (hB : A M_lineB p = b) (hN : A M_lineSize p = n) (hC : A M_lineC p = c) (hbn : b + n ≤ wl A k j) : ∀ (m i f : Nat), i + m = n → m < f →
    g_X8_goneStream_20 f (aGn A k j b (lh arr) i) k p arr j (256 * (k : Int) + j) i = some (aOver (aG8 A k j b n c arr) k j) := by
  intro m
  induction m with
  | zero =>
    intro i f h1 h2
    obtain ⟨f, rfl⟩ : ∃ f', f = f' + 1 := ⟨f - 1, by omega⟩
    rw [show i = n by omega]
    exact t_gS20_z h hk hj hp hN hC f
  | succ m ih =>
    intro i f h1 h2
    obtain ⟨f, rfl⟩ : ∃ f', f = f' + 1 := ⟨f - 1, by omega⟩
    rw [t_gS20_s (c := c) h hk hj hp hB hN hbn (by omega) f]
    exact ih (i + 1) f (by omega) (by omega)
theorem t_goneStream (h : TB A) (hk : k < 2) {p a b n : Nat} {c arr : Int} (ha : a < 256) (hp : p < 64) (hA : A M_lineA p = a) (hB : A M_lineB p = b) (hN : A M_lineSize p = n) (hC : A M_lineC p = c) (hbn : b + n ≤ wl A k a) : g_X8_goneStream A k p arr = some (aOver (aG8 A k a b n c arr) k a) := by
  unfold g_X8_goneStream
  have hwl := wl_le (A := A) (k := k) (j := a) (h.tot k hk)
  rw [hA_ok (by omega) (by omega), tkN, hA, c32_ok (by omega) (by omega), t_at hk ha, bd_v]
  exact t_gS20 h hk ha hp hB hN hC hbn n 0 FU (by omega) (by unfold FU; omega)
/-- what became of a frame of another kind -/
def aGo (A : AM) (k kind a : Nat) (b arr : Int) : AM :=
  if kind = 4 then aOver (if A M_resets (256 * k + a) = 1 then (if arr = 0 then uA A M_tellReset (256 * k + a) 1 else uA A M_resets (256 * k + a) 2) else A) k a
  else if arr ≠ 0 then A
  else if kind = 5 then uA A M_tellStop (256 * k + a) 1
  else if kind = 16 then (if (a : Int) = A M_dataGrant k then uA A M_tellData k 1 else A)
  else if kind = 17 then (if b = A M_grant (256 * k + a) then uA A M_tellGrant (256 * k + a) 1 else A)
  else if kind = 18 ∨ kind = 19 then (if (a : Int) = A M_granted (2 * k + kind - 18) then uA A M_tellStreams (2 * k + kind - 18) 1 else A)
  else if kind = 20 then (if A M_toldBlocked (3 * k) = a then uA A M_toldBlocked (3 * k) (-1) else A)
  else if kind = 21 then (if A M_toldLimit (256 * k + a) = b then uA A M_toldLimit (256 * k + a) (-1) else A)
  else (if A M_toldBlocked (3 * k + 1 + kind - 22) = a then uA A M_toldBlocked (3 * k + 1 + kind - 22) (-1) else A)
end TWN
