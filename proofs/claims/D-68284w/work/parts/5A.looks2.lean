/-! CALLS: looks -/
section LK2
variable {A A' B B' : AM} {E : L3 → Bool} {k j n n' : Nat} {P P' : Nat → Nat → Prop}
theorem CSp.cnt5 {ch : Nat → List Nat} {fl : List Nat} (s : CSp E A B k ch fl) (h : TB A) (hk : k < 2) (hj : j < 256) (hE : E (S_o k j) = true) : g_X4_count k B (B (S_o k j) 6) = some (cn A k j 2 : Int) :=
  c_count h hk (s.lnl j hj hE) (fun p hp => by have := s.mem _ p hp; have := s.mad; omega) (s.ndc _) (s.rng _) (s.los j hj hE)
theorem CSp.cnt6 {ch : Nat → List Nat} {fl : List Nat} (s : CSp E A B k ch fl) (h : TB A) (hk : k < 2) (hj : j < 256) (hE : E (S_o k j) = true) : g_X4_count k B (B (S_o k j) 7) = some (cn A k j 3 : Int) :=
  c_count h hk (s.lnh j hj hE) (fun p hp => by have := s.mem _ p hp; have := s.mad; omega) (s.ndc _) (s.rng _) (s.her j hj hE)
theorem c_look35 (h : Rel Any n E A B) (hk : k < 2) (hj : j < 256) {w : Int} (h1 : 0 ≤ w) (h2 : w < 8) (hE : E (S_o k j) = true) (o : Option Nat) : g_X2_look_35 E k B w (some j) o = some (slk A k j w) := by
  have s := h.sd k j hk hj hE
  obtain ⟨ch, fl, sp⟩ := h.sp k hk
  have c5 := sp.cnt5 h.tb hk hj hE
  have c6 := sp.cnt6 h.tb hk hj hE
  have hw : w = 0 ∨ w = 1 ∨ w = 2 ∨ w = 3 ∨ w = 4 ∨ w = 5 ∨ w = 6 ∨ w = 7 := by omega
  unfold g_X2_look_35
  cases o with
  | none =>
    rw [gM_s, gM_n, c5, c6, s.sta, s.wri, s.sen, s.lim, s.cod, s.ende]
    rcases hw with rfl | rfl | rfl | rfl | rfl | rfl | rfl | rfl <;> rfl
  | some i =>
    rw [gM_s, gM_s, c5, c6, s.sta, s.wri, s.sen, s.lim, s.cod, s.ende]
    rcases hw with rfl | rfl | rfl | rfl | rfl | rfl | rfl | rfl <;> rfl
theorem c_look35R (h : Rel Any n E A B) (hk : k < 2) (hj : j < 256) {w : Int} (h1 : 8 ≤ w) (h2 : w ≤ 14) (hE : E (R_o k j) = true) (o : Option Nat) : g_X2_look_35 E k B w o (some j) = some (rlk A k j w) := by
  have s := h.rv k j hk hj hE
  have hw : w = 8 ∨ w = 9 ∨ w = 10 ∨ w = 11 ∨ w = 12 ∨ w = 13 ∨ w = 14 := by omega
  unfold g_X2_look_35
  cases o with
  | none =>
    rw [gM_n, gM_s, s.sta, s.rea, s.rdy, s.hig, s.siz, s.grt, s.cod]
    rcases hw with rfl | rfl | rfl | rfl | rfl | rfl | rfl <;> rfl
  | some i =>
    rw [gM_s, gM_s, s.sta, s.rea, s.rdy, s.hig, s.siz, s.grt, s.cod]
    rcases hw with rfl | rfl | rfl | rfl | rfl | rfl | rfl <;> rfl
theorem call_stream (h : Rel Any n E A B) (x1 x2 x3 : Int) : ∃ A' v w, g_X8_stream A x1 x2 x3 = some (A', v) ∧ g_X1_stream E B x1 x2 x3 = some w ∧ Rel Any (n + 1) E A' B ∧ Ans wI A' v w := by
  unfold g_X1_stream
  by_cases q : 0 ≤ x1 ∧ x1 ≤ 1
  · obtain ⟨k, rfl⟩ := Int.eq_ofNat_of_zero_le q.1
    have hk : k < 2 := by omega
    rw [c_hallN hk, bd_v, gX_r]
    by_cases qc : 0 ≤ x3 ∧ x3 ≤ 14
    · rw [c_in1 qc, bd_v, c_need1, bd_v, gX_r]
      have sn : ∀ o, g_X2_sending E k B x2 = some o → (o = none ∧ ¬ isS A k x2) ∨ (∃ j, o = some j ∧ x2 = (j : Int) ∧ j < 256 ∧ E (S_o k j) = true ∧ isS A k x2) := by
        intro o ho
        by_cases hz : isS A k x2
        · have hz' := (h.ex.s hk).1 hz
          obtain ⟨j, rfl⟩ := Int.eq_ofNat_of_zero_le hz'.1
          rw [tkN] at hz'
          rw [c_sendingN (by omega) hz'.2.2] at ho
          injection ho with ho
          exact Or.inr ⟨j, ho.symm, rfl, by omega, hz'.2.2, hz⟩
        · rw [c_sending_no (fun z => hz ((h.ex.s hk).2 z))] at ho
          injection ho with ho
          exact Or.inl ⟨ho.symm, hz⟩
      have rn : ∀ o, g_X2_receiving E k B x2 = some o → (o = none ∧ ¬ isR A k x2) ∨ (∃ j, o = some j ∧ x2 = (j : Int) ∧ j < 256 ∧ E (R_o k j) = true ∧ isR A k x2) := by
        intro o ho
        by_cases hz : isR A k x2
        · have hz' := (h.ex.r hk).1 hz
          obtain ⟨j, rfl⟩ := Int.eq_ofNat_of_zero_le hz'.1
          rw [tkN] at hz'
          rw [c_receivingN (by omega) hz'.2.2] at ho
          injection ho with ho
          exact Or.inr ⟨j, ho.symm, rfl, by omega, hz'.2.2, hz⟩
        · rw [c_receiving_no (fun z => hz ((h.ex.r hk).2 z))] at ho
          injection ho with ho
          exact Or.inl ⟨ho.symm, hz⟩
      obtain ⟨os, es⟩ : ∃ o, g_X2_sending E k B x2 = some o := by
        by_cases hz : 0 ≤ x2 ∧ x2 < 256 ∧ E (S_o k x2.toNat) = true
        · obtain ⟨j, rfl⟩ := Int.eq_ofNat_of_zero_le hz.1
          rw [tkN] at hz
          exact ⟨_, c_sendingN (by omega) hz.2.2⟩
        · exact ⟨_, c_sending_no hz⟩
      obtain ⟨or, er⟩ : ∃ o, g_X2_receiving E k B x2 = some o := by
        by_cases hz : 0 ≤ x2 ∧ x2 < 256 ∧ E (R_o k x2.toNat) = true
        · obtain ⟨j, rfl⟩ := Int.eq_ofNat_of_zero_le hz.1
          rw [tkN] at hz
          exact ⟨_, c_receivingN (by omega) hz.2.2⟩
        · exact ⟨_, c_receiving_no hz⟩
      unfold g_X2_look
      rw [es, bd_v, er, bd_v]
      by_cases w8 : 8 ≤ x3
      · rcases rn or er with ⟨rfl, hn⟩ | ⟨j, rfl, rfl, hj, hE, hz⟩
        · refine ⟨_, _, _, t_stream_no hk qc.1 qc.2 (by rw [if_pos w8]; exact hn), ?_, h.o0 (v := 0) (by omega), ans_r rfl⟩
          cases os with
          | none => rw [gM_n, gM_n, if_pos w8]; rfl
          | some i => rw [gM_s, bd_v, gM_n, if_pos w8]; rfl
        · refine ⟨_, _, _, t_stream_R h.tb hk hj w8 qc.2 hz, ?_, h.o0 (v := 0) (by omega), ans_r rfl⟩
          cases os with
          | none => rw [gM_n, gM_s, if_pos w8, c_look35R h hk hj w8 qc.2 hE, bd_v]
          | some i => rw [gM_s, bd_v, gM_s, if_pos w8, c_look35R h hk hj w8 qc.2 hE, bd_v]
      · rcases sn os es with ⟨rfl, hn⟩ | ⟨j, rfl, rfl, hj, hE, hz⟩
        · refine ⟨_, _, _, t_stream_no hk qc.1 qc.2 (by rw [if_neg w8]; exact hn), ?_, h.o0 (v := 0) (by omega), ans_r rfl⟩
          rw [gM_n]
          cases or with
          | none => rw [gM_n, if_neg w8]; rfl
          | some i => rw [gM_s, if_neg w8]; rfl
        · refine ⟨_, _, _, t_stream_S h.tb hk hj qc.1 (by omega) hz (h.ts k j hk hj).e03, ?_, h.o0 (v := 0) (by omega), ans_r rfl⟩
          rw [gM_s, bd_v]
          cases or with
          | none => rw [gM_n, if_neg w8, c_look35 h hk hj qc.1 (by omega) hE, bd_v]
          | some i => rw [gM_s, if_neg w8, c_look35 h hk hj qc.1 (by omega) hE, bd_v]
    · rw [c_in0 qc, bd_v, c_need0, bd_v, gX_l]
      exact ⟨_, _, _, t_stream_bad (fun z => qc z.2.2), rfl, h.o0 (v := 1) (by omega), ans_l rfl⟩
  · rw [c_hall_bad q, bd_v, gX_l]
    exact ⟨_, _, _, t_stream_bad (fun z => q ⟨z.1, z.2.1⟩), rfl, h.o0 (v := 1) (by omega), ans_l rfl⟩
theorem call_side (h : Rel Any n E A B) (x1 x2 : Int) : ∃ A' v w, g_X8_side A x1 x2 = some (A', v) ∧ g_X1_side B x1 x2 = some w ∧ Rel Any (n + 1) E A' B ∧ Ans wI A' v w := by
  unfold g_X1_side
  by_cases q : 0 ≤ x1 ∧ x1 ≤ 1
  · obtain ⟨k, rfl⟩ := Int.eq_ofNat_of_zero_le q.1
    have hk : k < 2 := by omega
    rw [c_hallN hk, bd_v, gX_r]
    by_cases qc : 0 ≤ x2 ∧ x2 ≤ 13
    · rw [c_in1 qc, bd_v, c_need1, bd_v, gX_r]
      obtain ⟨w, rfl⟩ := Int.eq_ofNat_of_zero_le qc.1
      refine ⟨_, _, _, t_side_ok h.tb hk (by omega), ?_, h.o0 (v := 0) (by omega), ans_r rfl⟩
      have hl := h.hl k hk
      have w0 := h.wys k 0 hk (by decide)
      have w1 := h.wys k 1 hk (by decide)
      obtain ⟨ch, st⟩ := h.st k hk
      have hw : w = 0 ∨ w = 1 ∨ w = 2 ∨ w = 3 ∨ w = 4 ∨ w = 5 ∨ w = 6 ∨ w = 7 ∨ w = 8 ∨ w = 9 ∨ w = 10 ∨ w = 11 ∨ w = 12 ∨ w = 13 := by omega
      unfold g_X2_look_2
      rw [hl.sal, hl.lal, hl.ral, hl.cal, hl.gal, st.use]
      rcases hw with rfl | rfl | rfl | rfl | rfl | rfl | rfl | rfl | rfl | rfl | rfl | rfl | rfl | rfl
      · rfl
      · rfl
      · rfl
      · rfl
      · rfl
      · show some (Sum.inr (B (W_o k 0) 0)) = _; rw [w0.opn]; rfl
      · show some (Sum.inr (B (W_o k 1) 0)) = _; rw [w1.opn]; rfl
      · show some (Sum.inr (B (W_o k 0) 3)) = _; rw [w0.lim]; rfl
      · show some (Sum.inr (B (W_o k 1) 3)) = _; rw [w1.lim]; rfl
      · show some (Sum.inr (B (W_o k 0) 1)) = _; rw [w0.thr]; rfl
      · show some (Sum.inr (B (W_o k 1) 1)) = _; rw [w1.thr]; rfl
      · show some (Sum.inr (B (W_o k 0) 2)) = _; rw [w0.grt]; rfl
      · show some (Sum.inr (B (W_o k 1) 2)) = _; rw [w1.grt]; rfl
      · rfl
    · rw [c_in0 qc, bd_v, c_need0, bd_v, gX_l]
      exact ⟨_, _, _, t_side_bad (fun z => qc z.2.2), rfl, h.o0 (v := 1) (by omega), ans_l rfl⟩
  · rw [c_hall_bad q, bd_v, gX_l]
    exact ⟨_, _, _, t_side_bad (fun z => q ⟨z.1, z.2.1⟩), rfl, h.o0 (v := 1) (by omega), ans_l rfl⟩
theorem Rel.pP (h : Rel P n E A B) {z : Int} : isP A z ↔ 0 ≤ z ∧ z ≤ 63 ∧ B (L_o z.toNat) 0 ≠ 0 := by
  unfold isP
  constructor
  · rintro ⟨h1, h2, h3⟩
    refine ⟨h1, h2, ?_⟩
    rw [(h.ln z.toNat (by omega)).tak]; exact h3
  · rintro ⟨h1, h2, h3⟩
    refine ⟨h1, h2, ?_⟩
    rw [(h.ln z.toNat (by omega)).tak] at h3; exact h3
theorem call_line (h : Rel Any n E A B) (x1 x2 : Int) : ∃ A' v w, g_X8_line A x1 x2 = some (A', v) ∧ g_X1_line B x1 x2 = some w ∧ Rel Any (n + 1) E A' B ∧ Ans wN A' v w := by
  unfold g_X1_line
  by_cases q : isP A x1
  · have q' := h.pP.1 q
    obtain ⟨p, rfl⟩ := Int.eq_ofNat_of_zero_le q'.1
    rw [tkN] at q'
    have hp : p < 64 := by omega
    have l := h.ln p hp
    rw [c_at hp q'.2.2, bd_v, gX_r]
    by_cases qc : 0 ≤ x2 ∧ x2 ≤ 6
    · rw [c_in1 qc, bd_v, c_there1, bd_v, gX_r]
      refine ⟨_, _, _, t_line_ok q qc.1 qc.2, ?_, h.o0 (v := 0) (by omega), ans_r rfl⟩
      rw [l.sid, l.knd, l.la, l.lb, l.lc, l.siz, l.byt]
      have hw : x2 = 0 ∨ x2 = 1 ∨ x2 = 2 ∨ x2 = 3 ∨ x2 = 4 ∨ x2 = 5 ∨ x2 = 6 := by omega
      rcases hw with rfl | rfl | rfl | rfl | rfl | rfl | rfl <;> rfl
    · rw [c_in0 qc, bd_v, c_there0, bd_v, gX_l]
      exact ⟨_, _, _, t_line_bad (fun z => qc z.2), rfl, h.o0 (v := 1) (by omega), ans_l rfl⟩
  · rw [c_at_bad (fun z => q (h.pP.2 z)), bd_v, gX_l]
    exact ⟨_, _, _, t_line_bad (fun z => q z.1), rfl, h.o0 (v := 1) (by omega), ans_l rfl⟩
theorem call_data (h : Rel Any n E A B) (x1 x2 : Int) : ∃ A' v w, g_X8_data A x1 x2 = some (A', v) ∧ g_X1_data B x1 x2 = some w ∧ Rel Any (n + 1) E A' B ∧ Ans wN A' v w := by
  unfold g_X1_data
  by_cases q : isP A x1
  · have q' := h.pP.1 q
    obtain ⟨p, rfl⟩ := Int.eq_ofNat_of_zero_le q'.1
    rw [tkN] at q'
    have hp : p < 64 := by omega
    have l := h.ln p hp
    obtain ⟨kk, kind, a, b, m, c, L⟩ := (h.tl p hp).frm (by rw [← l.tak]; exact q'.2.2)
    obtain ⟨h1, h2, h3, h4, h5, h6, h7, h8, h9, h10, h11, h12, _⟩ := L
    rw [c_at hp q'.2.2, bd_v, gX_r, l.siz, c64_ok (by omega) (by omega)]
    by_cases qc : 0 ≤ x2 ∧ x2 ≤ A M_lineSize p - 1
    · rw [c_in1 qc, bd_v, c_there1, bd_v, gX_r]
      obtain ⟨i, rfl⟩ := Int.eq_ofNat_of_zero_le qc.1
      refine ⟨_, _, _, t_data_ok q (by omega) (by omega), ?_, (h.o0 (v := 0) (Nat.le_refl _)).o0 (v := 0) (by omega), ans_r rfl⟩
      rw [hA_ok (by omega) (by omega), tkN, l.row i (by omega), c32_ok (by omega) (by omega)]
    · rw [c_in0 qc, bd_v, c_there0, bd_v, gX_l]
      exact ⟨_, _, _, t_data_out q (fun z => qc (by omega)), rfl, (h.o0 (v := 0) (Nat.le_refl _)).o0 (v := 1) (by omega), ans_l rfl⟩
  · rw [c_at_bad (fun z => q (h.pP.2 z)), bd_v, gX_l]
    exact ⟨_, _, _, t_data_bad q, rfl, h.o0 (v := 1) (by omega), ans_l rfl⟩
end LK2
