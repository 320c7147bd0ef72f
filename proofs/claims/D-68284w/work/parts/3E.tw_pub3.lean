/-! THE TWIN: filling, looks, whole -/
section TWE
variable {A : AM} {k j : Nat}
theorem t_fill_bad {x1 x2 : Int} (h : ¬ (0 ≤ x1 ∧ x1 ≤ 1 ∧ 1 ≤ x2 ∧ x2 ≤ 1200)) : g_X8_fill A x1 x2 = some (uA A M_o 0 1, 0) := by
  have e : g_X8_fill_25 A x1 x2 1 = some (uA A M_o 0 1, 0) := by
    unfold g_X8_fill_25
    rw [t_fails (Or.inr rfl), gB2_v, if_pos (by decide), if_neg (by decide)]
  unfold g_X8_fill g_X8_fill_20
  rw [e]
  by_cases h1 : 0 ≤ x1 ∧ x1 ≤ 1
  · rw [t_noSide_ok h1, bd_v, if_neg (by decide)]
    by_cases h2 : x2 < 1
    · rw [if_pos h2]
    · rw [if_neg h2, if_neg (by omega)]
  · rw [t_noSide_bad h1, bd_v, if_pos (by decide)]
theorem t_fill_25 (hk : k < 2) {room : Int} (h1 : 1 ≤ room) (h2 : room ≤ 1200) : g_X8_fill A k room = g_X8_fill_25 A k room 0 := by
  unfold g_X8_fill
  rw [t_noSide_ok (by omega), bd_v, if_neg (by decide), if_neg (by omega), if_pos (by omega)]
theorem t_fill_busy (hk : k < 2) {room : Int} (h1 : 1 ≤ room) (h2 : room ≤ 1200) (hb : ¬ (fp A < 64 ∧ A M_o 1 ≠ 0)) : g_X8_fill A k room = some (uA (uA A M_o 0 0) M_o 0 2, 0) := by
  rw [t_fill_25 hk h1 h2]
  have e47 : g_X8_fill_47 (uA A M_o 0 0) k room = some (uA (uA A M_o 0 0) M_o 0 2, 0) := by
    unfold g_X8_fill_47 g_X8_fill_52
    rw [t_fails (Or.inr rfl), gB2_v, if_neg (by decide), if_neg (by decide)]
  unfold g_X8_fill_25
  have e1 : fp (uA A M_o 0 0) = fp A := rfl
  have e2 : (uA A M_o 0 0) M_o 1 = A M_o 1 := rfl
  rw [t_fails (Or.inl rfl), gB2_v, if_neg (by decide), if_pos rfl, t_freePlace, bd_v, e1, e2, e47]
  by_cases q : fp A < 64
  · rw [if_pos q, if_neg (by omega), if_neg (fun z => hb ⟨q, z⟩)]
  · rw [if_neg q, if_pos (by decide)]
theorem t_fill_ok (h : TB A) (hk : k < 2) {room : Int} (h1 : 1 ≤ room) (h2 : room ≤ 1200) (hf : fp A < 64) (hj : A M_o 1 ≠ 0) : (match xF (uA (uA A M_o 0 0) M_o 0 0) k room with
    | none => ∃ S, Scr (uA (uA A M_o 0 0) M_o 0 0) S ∧ g_X8_fill A k room = some (S, -1)
    | some A' => g_X8_fill A k room = some (aLn (aLine A' (fp A) k) (fp A) (A' M_o 49).toNat, (fp A : Int))) := by
  rw [t_fill_25 hk h1 h2]
  have e1 : fp (uA A M_o 0 0) = fp A := rfl
  have e2 : (uA A M_o 0 0) M_o 1 = A M_o 1 := rfl
  have e : g_X8_fill_25 A k room 0 = g_X8_fill_52 (uA A M_o 0 0) k room 0 := by
    unfold g_X8_fill_25
    rw [t_fails (Or.inl rfl), gB2_v, if_neg (by decide), if_pos rfl, t_freePlace, bd_v, e1, e2, if_pos hf, if_neg (by omega), if_pos hj]
  rw [e]
  have := t_fill_52 (A := uA A M_o 0 0) (k := k) h.o0 hk (room := room) h2 hf
  exact this
/-! looks -/
def lnv (A : AM) (p : Nat) (w : Int) : Int := if w = 0 then A M_lineSide p else if w = 1 then A M_lineKind p else if w = 2 then A M_lineA p else if w = 3 then A M_lineB p else if w = 4 then A M_lineC p else if w = 5 then A M_lineSize p else A M_lineBytes p
theorem t_line_bad {x1 x2 : Int} (h : ¬ (isP A x1 ∧ 0 ≤ x2 ∧ x2 ≤ 6)) : g_X8_line A x1 x2 = some (uA A M_o 0 1, 0) := by
  have e : g_X8_line_24 A x1 x2 1 = some (uA A M_o 0 1, 0) := by
    unfold g_X8_line_24
    rw [t_fails (Or.inr rfl), gB2_v, if_neg (by decide), if_neg (by decide)]
  unfold g_X8_line g_X8_line_19
  rw [e]
  by_cases h1 : isP A x1
  · rw [t_nP h1, bd_v, if_neg (by decide)]
    by_cases h2 : x2 < 0
    · rw [if_pos h2]
    · rw [if_neg h2, if_neg (fun z => h ⟨h1, by omega, z⟩)]
  · rw [t_nPn h1, bd_v, if_pos (by decide)]
theorem t_line_ok {p : Nat} {w : Int} (h : isP A p) (h1 : 0 ≤ w) (h2 : w ≤ 6) : g_X8_line A p w = some (uA A M_o 0 0, lnv A p w) := by
  have hp := h
  unfold isP at hp
  unfold g_X8_line g_X8_line_24 lnv
  rw [t_nP h, bd_v, if_neg (by decide), if_neg (by omega), if_pos (by omega), t_fails (Or.inl rfl), gB2_v, if_pos rfl, if_pos rfl]
  simp (disch := omega) only [hA_ok, tkN]
  split
  · rfl
  · split
    · rfl
    · split
      · rfl
      · split
        · rfl
        · split
          · rfl
          · split <;> rfl
theorem t_data_bad {x1 x2 : Int} (h : ¬ isP A x1) : g_X8_data A x1 x2 = some (uA A M_o 0 1, 0) := by
  unfold g_X8_data
  rw [t_nPn h, bd_v, t_fails (Or.inr rfl), gB2_v, if_pos (by decide), if_neg (by decide)]
theorem t_data_out {p : Nat} {x2 : Int} (h : isP A p) (h2 : ¬ (0 ≤ x2 ∧ x2 < A M_lineSize p)) : g_X8_data A p x2 = some (uA (uA A M_o 0 0) M_o 0 1, 0) := by
  have hp := h
  unfold isP at hp
  have e : g_X8_data_33 (uA A M_o 0 0) p x2 1 = some (uA (uA A M_o 0 0) M_o 0 1, 0) := by
    unfold g_X8_data_33
    rw [t_fails (Or.inr rfl), gB2_v, if_neg (by decide), if_neg (by decide)]
  have e2 : (uA A M_o 0 0) M_lineSize p = A M_lineSize p := rfl
  unfold g_X8_data g_X8_data_28
  rw [t_nP h, bd_v, t_fails (Or.inl rfl), gB2_v, if_neg (by decide), if_pos rfl, e]
  by_cases q : x2 < 0
  · rw [if_pos q]
  · rw [if_neg q, hA_ok (by omega) (by omega), tkN, e2, if_neg (by omega)]
theorem t_data_ok {p : Nat} {i : Nat} (h : isP A p) (hi : (i : Int) < A M_lineSize p) (hs : A M_lineSize p ≤ 1200) : g_X8_data A p i = some (uA (uA A M_o 0 0) M_o 0 0, A M_lineData (1200 * p + i) % 256) := by
  have hp := h
  unfold isP at hp
  have e2 : (uA A M_o 0 0) M_lineSize p = A M_lineSize p := rfl
  unfold g_X8_data g_X8_data_33
  rw [t_nP h, bd_v, t_fails (Or.inl rfl), gB2_v, if_neg (by decide), if_pos rfl, if_neg (by omega), hA_ok (by omega) (by omega), tkN, e2, if_pos hi, t_fails (Or.inl rfl), gB2_v, if_pos rfl, if_pos rfl, hA_ok (by omega) (by omega), c32_ok (by omega) (by omega), show (1200 * (p : Int) + (i : Int)).toNat = 1200 * p + i by omega]
  rfl
/-- what a sending part shows -/
def slk (A : AM) (k j : Nat) (w : Int) : Int := if w = 0 then sst A k j else if w = 1 then wl A k j else if w = 2 then sn A k j else if w = 3 then A M_limit (256 * k + j) else if w = 4 then (if A M_resets (256 * k + j) ≤ 0 then 0 else A M_code (256 * k + j)) else if w = 5 then cn A k j 2 else if w = 6 then cn A k j 3 else if A M_finished (256 * k + j) ≠ 0 then 1 + A M_end (256 * k + j) else 0
def rlk (A : AM) (k j : Nat) (w : Int) : Int := if w = 8 then rst A k j else if w = 9 then A M_read (256 * k + j) else if w = 10 then rd A k j else if w = 11 then A M_highest (256 * k + j) else if w = 12 then A M_size (256 * k + j) else if w = 13 then A M_grant (256 * k + j) else if A M_wasReset (256 * k + j) = 0 then 0 else A M_theirCode (256 * k + j)
theorem t_sendingLook (h : TB A) (hk : k < 2) (hj : j < 256) {w : Int} (he : 0 ≤ A M_end (256 * k + j) ∧ A M_end (256 * k + j) ≤ 3) : g_X8_sendingLook A k j w = some (slk A k j w) := by
  unfold g_X8_sendingLook g_X8_endOf slk
  rw [t_at hk hj, bd_v, h.snd hk hj, bd_v, h.wrt hk, bd_v, h.snt hk, bd_v, t_cn hk (h.tot k hk) j (by decide), bd_v, t_cn hk (h.tot k hk) j (by decide), bd_v]
  simp (disch := omega) only [hA_ok, tk_at, c32_ok]
  split
  · rfl
  · split
    · rfl
    · split
      · rfl
      · split
        · rfl
        · split
          · split <;> rfl
          · split
            · rfl
            · split
              · rfl
              · split <;> rfl
theorem t_receivingLook (h : TB A) (hk : k < 2) (hj : j < 256) {w : Int} : g_X8_receivingLook A k j w = some (rlk A k j w) := by
  unfold g_X8_receivingLook rlk
  rw [t_at hk hj, bd_v, h.rcv hk hj, bd_v, h.rdy hk hj, bd_v]
  simp (disch := omega) only [hA_ok, tk_at]
  split
  · rfl
  · split
    · rfl
    · split
      · rfl
      · split
        · rfl
        · split
          · rfl
          · split
            · rfl
            · split <;> rfl
theorem t_stream_bad {x1 x2 x3 : Int} (h : ¬ (0 ≤ x1 ∧ x1 ≤ 1 ∧ 0 ≤ x3 ∧ x3 ≤ 14)) : g_X8_stream A x1 x2 x3 = some (uA A M_o 0 1, 0) := by
  have e : g_X8_stream_23 A x1 x2 x3 1 = some (uA A M_o 0 1, 0) := by
    unfold g_X8_stream_23
    rw [t_fails (Or.inr rfl), gB2_v, if_neg (by decide), if_neg (by decide)]
  unfold g_X8_stream g_X8_stream_18
  rw [e]
  by_cases h1 : 0 ≤ x1 ∧ x1 ≤ 1
  · rw [t_noSide_ok h1, bd_v, if_neg (by decide)]
    by_cases h2 : x3 < 0
    · rw [if_pos h2]
    · rw [if_neg h2, if_neg (by omega)]
  · rw [t_noSide_bad h1, bd_v, if_pos (by decide)]
theorem t_stream_23 (hk : k < 2) {z w : Int} (h1 : 0 ≤ w) (h2 : w ≤ 14) : g_X8_stream A k z w = g_X8_stream_23 A k z w 0 := by
  unfold g_X8_stream
  rw [t_noSide_ok (by omega), bd_v, if_neg (by decide), if_neg (by omega), if_pos (by omega)]
theorem t_stream_no (hk : k < 2) {z w : Int} (h1 : 0 ≤ w) (h2 : w ≤ 14) (h3 : if 8 ≤ w then ¬ isR A k z else ¬ isS A k z) : g_X8_stream A k z w = some (uA A M_o 0 0, -1) := by
  rw [t_stream_23 hk h1 h2]
  unfold g_X8_stream_23
  rw [t_fails (Or.inl rfl), gB2_v, if_pos rfl, if_pos rfl]
  by_cases q : 8 ≤ w
  · rw [if_pos q] at h3
    have h4 : ¬ isR (uA A M_o 0 0) k z := h3
    rw [if_pos q, t_hRn hk h4, bd_v, if_pos rfl]
  · rw [if_neg q] at h3
    have h4 : ¬ isS (uA A M_o 0 0) k z := h3
    rw [if_neg q, t_hSn hk h4, bd_v, if_pos rfl]
theorem t_stream_S (h : TB A) (hk : k < 2) (hj : j < 256) {w : Int} (h1 : 0 ≤ w) (h2 : w < 8) (hs : isS A k j) (he : 0 ≤ A M_end (256 * k + j) ∧ A M_end (256 * k + j) ≤ 3) : g_X8_stream A k j w = some (uA A M_o 0 0, slk A k j w) := by
  rw [t_stream_23 hk h1 (by omega)]
  unfold g_X8_stream_23
  have h4 : isS (uA A M_o 0 0) k j := hs
  rw [t_fails (Or.inl rfl), gB2_v, if_pos rfl, if_pos rfl, if_neg (by omega), t_hS hk h4, bd_v, if_neg (by decide), t_sendingLook (A := uA A M_o 0 0) h.o0 hk hj he, bd_v]
  rfl
theorem t_stream_R (h : TB A) (hk : k < 2) (hj : j < 256) {w : Int} (h1 : 8 ≤ w) (h2 : w ≤ 14) (hs : isR A k j) : g_X8_stream A k j w = some (uA A M_o 0 0, rlk A k j w) := by
  rw [t_stream_23 hk (by omega) h2]
  unfold g_X8_stream_23
  have h4 : isR (uA A M_o 0 0) k j := hs
  rw [t_fails (Or.inl rfl), gB2_v, if_pos rfl, if_pos rfl, if_pos (by omega), t_hR hk h4, bd_v, if_neg (by decide), t_receivingLook (A := uA A M_o 0 0) h.o0 hk hj, bd_v]
  rfl
def sdv (A : AM) (k : Nat) (w : Int) : Int := if w = 0 then sa A k else if w = 1 then A M_limits (3 * k) else if w = 2 then shi A k else if w = 3 then sco A k else if w = 4 then A M_dataGrant k else if w = 5 then A M_opened (2 * k) else if w = 6 then A M_opened (2 * k + 1) else if w = 7 then A M_limits (3 * k + 1) else if w = 8 then A M_limits (3 * k + 2) else if w = 9 then A M_theirs (2 * k) else if w = 10 then A M_theirs (2 * k + 1) else if w = 11 then A M_granted (2 * k) else if w = 12 then A M_granted (2 * k + 1) else A M_total k
theorem t_side_bad {x1 x2 : Int} (h : ¬ (0 ≤ x1 ∧ x1 ≤ 1 ∧ 0 ≤ x2 ∧ x2 ≤ 13)) : g_X8_side A x1 x2 = some (uA A M_o 0 1, 0) := by
  have e : g_X8_side_23 A x1 x2 1 = some (uA A M_o 0 1, 0) := by
    unfold g_X8_side_23
    rw [t_fails (Or.inr rfl), gB2_v, if_neg (by decide), if_neg (by decide)]
  unfold g_X8_side g_X8_side_18
  rw [e]
  by_cases h1 : 0 ≤ x1 ∧ x1 ≤ 1
  · rw [t_noSide_ok h1, bd_v, if_neg (by decide)]
    by_cases h2 : x2 < 0
    · rw [if_pos h2]
    · rw [if_neg h2, if_neg (by omega)]
  · rw [t_noSide_bad h1, bd_v, if_pos (by decide)]
theorem t_side_ok (h : TB A) (hk : k < 2) {w : Nat} (h2 : w ≤ 13) : g_X8_side A k w = some (uA A M_o 0 0, sdv A k w) := by
  unfold g_X8_side
  rw [t_noSide_ok (by omega), bd_v, if_neg (by decide), if_neg (by omega), if_pos (by omega)]
  unfold g_X8_side_23
  rw [t_fails (Or.inl rfl), gB2_v, if_pos rfl, if_pos rfl]
  have hT := h.o0 (v := 0)
  have hw : w = 0 ∨ w = 1 ∨ w = 2 ∨ w = 3 ∨ w = 4 ∨ w = 5 ∨ w = 6 ∨ w = 7 ∨ w = 8 ∨ w = 9 ∨ w = 10 ∨ w = 11 ∨ w = 12 ∨ w = 13 := by omega
  have s2 : ∀ x : Int, (2 * (k : Int) + x - x).toNat = 2 * k := fun x => by omega
  rcases hw with rfl | rfl | rfl | rfl | rfl | rfl | rfl | rfl | rfl | rfl | rfl | rfl | rfl | rfl
  · rw [if_pos (by rfl), t_allSent hk (hT.tot k hk), bd_v]; rfl
  · show hA _ _ _ = _
    rw [hA_ok (by omega) (by omega), tk_3]; rfl
  · rw [if_neg (by decide), if_neg (by decide), if_pos (by rfl), hT.rcd hk, bd_v]; rfl
  · rw [if_neg (by decide), if_neg (by decide), if_neg (by decide), if_pos (by rfl), hT.cns hk, bd_v]; rfl
  · show hA _ _ _ = _
    rw [hA_ok (by omega) (by omega), tkN]; rfl
  · show hA (2 * (k : Int) + 5 - 5) 4 (some (uA A M_o 0 0, (uA A M_o 0 0) M_opened (2 * (k : Int) + 5 - 5).toNat)) = _
    rw [hA_ok (by omega) (by omega), show (2 * (k : Int) + 5 - 5).toNat = 2 * k by omega]; rfl
  · show hA (2 * (k : Int) + 6 - 5) 4 (some (uA A M_o 0 0, (uA A M_o 0 0) M_opened (2 * (k : Int) + 6 - 5).toNat)) = _
    rw [hA_ok (by omega) (by omega), show (2 * (k : Int) + 6 - 5).toNat = 2 * k + 1 by omega]; rfl
  · show hA (3 * (k : Int) + 7 - 6) 6 (some (uA A M_o 0 0, (uA A M_o 0 0) M_limits (3 * (k : Int) + 7 - 6).toNat)) = _
    rw [hA_ok (by omega) (by omega), show (3 * (k : Int) + 7 - 6).toNat = 3 * k + 1 by omega]; rfl
  · show hA (3 * (k : Int) + 8 - 6) 6 (some (uA A M_o 0 0, (uA A M_o 0 0) M_limits (3 * (k : Int) + 8 - 6).toNat)) = _
    rw [hA_ok (by omega) (by omega), show (3 * (k : Int) + 8 - 6).toNat = 3 * k + 2 by omega]; rfl
  · show hA (2 * (k : Int) + 9 - 9) 4 (some (uA A M_o 0 0, (uA A M_o 0 0) M_theirs (2 * (k : Int) + 9 - 9).toNat)) = _
    rw [hA_ok (by omega) (by omega), show (2 * (k : Int) + 9 - 9).toNat = 2 * k by omega]; rfl
  · show hA (2 * (k : Int) + 10 - 9) 4 (some (uA A M_o 0 0, (uA A M_o 0 0) M_theirs (2 * (k : Int) + 10 - 9).toNat)) = _
    rw [hA_ok (by omega) (by omega), show (2 * (k : Int) + 10 - 9).toNat = 2 * k + 1 by omega]; rfl
  · show hA (2 * (k : Int) + 11 - 11) 4 (some (uA A M_o 0 0, (uA A M_o 0 0) M_granted (2 * (k : Int) + 11 - 11).toNat)) = _
    rw [hA_ok (by omega) (by omega), show (2 * (k : Int) + 11 - 11).toNat = 2 * k by omega]; rfl
  · show hA (2 * (k : Int) + 12 - 11) 4 (some (uA A M_o 0 0, (uA A M_o 0 0) M_granted (2 * (k : Int) + 12 - 11).toNat)) = _
    rw [hA_ok (by omega) (by omega), show (2 * (k : Int) + 12 - 11).toNat = 2 * k + 1 by omega]; rfl
  · show hA (k : Int) 2 (some (uA A M_o 0 0, (uA A M_o 0 0) M_total (k : Int).toNat)) = _
    rw [hA_ok (by omega) (by omega), tkN]; rfl
end TWE
