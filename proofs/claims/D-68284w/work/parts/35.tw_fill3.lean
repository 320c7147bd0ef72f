/-! THE TWIN: frames of grants -/
section TWG3
variable {A S : AM} {k j : Nat}
def P17 (A : AM) (k : Nat) (room : Int) (j : Nat) : Bool := decide (A M_tellGrant (256 * k + j) ≠ 0) && decide (rst A k j = 0) && decide (fsz 17 j (A M_grant (256 * k + j)) 0 ≤ room)
def P18 (A : AM) (k : Nat) (room : Int) (w : Nat) : Bool := decide (A M_tellStreams (2 * k + w) ≠ 0) && decide (fsz (18 + w) (A M_granted (2 * k + w)) 0 0 ≤ room)
def E16 (A : AM) (k : Nat) : AM := uA (fr A 16 (A M_dataGrant k) 0 0) M_tellData k 0
def E17 (A : AM) (k j : Nat) : AM := uA (fr A 17 j (A M_grant (256 * k + j)) 0) M_tellGrant (256 * k + j) 0
def E18 (A : AM) (k w : Nat) : AM := uA (fr A (18 + w) (A M_granted (2 * k + w)) 0 0) M_tellStreams (2 * k + w) 0
def x18 (A : AM) (k : Nat) (room : Int) : Option AM := if fst (P18 A k room) 2 < 2 then some (E18 A k (fst (P18 A k room) 2)) else none
def x17 (A : AM) (k : Nat) (room : Int) : Option AM := if fst (P17 A k room) 256 < 256 then some (E17 A k (fst (P17 A k room) 256)) else x18 A k room
def x16 (A : AM) (k : Nat) (room : Int) : Option AM := if A M_tellData k ≠ 0 ∧ fsz 16 (A M_dataGrant k) 0 0 ≤ room then some (E16 A k) else x17 A k room
theorem FO.tr {o : Option (AM × Int)} {x : Option AM} (g : Scr A S) (h : FO S o x) : FO A o x := by
  cases x with
  | some A' => exact h
  | none =>
    obtain ⟨T, h1, h2⟩ := h
    exact ⟨T, fun r f q => (h1 r f q).trans (g r f q), h2⟩
theorem t_fG109 (h : TB A) (hk : k < 2) {room : Int} (g : Scr A S) : FO A (g_X8_fillsGrants_109 FU S k room 0) (x18 A k room) := by
  obtain ⟨S1, f1, g1, e1⟩ := scan (Scr A) (P18 A k room) (fun f S j => g_X8_fillsGrants_109 f S k room (j : Nat)) 2 (by
    intro f S j g hj hp
    show ∃ s', Scr A s' ∧ g_X8_fillsGrants_109 (f + 1) S k room (j : Int) = g_X8_fillsGrants_109 f s' k room ((j + 1 : Nat) : Int)
    rw [show g_X8_fillsGrants_109 (f + 1) S k room (j : Int) = g_X8_fillsGrants_109_b (g_X8_fillsGrants_109 f) S k room j from rfl]
    unfold g_X8_fillsGrants_109_b g_X8_fillsGrants_165
    have el := tw_lays (A := S) (kind := 18 + j) (by omega) (a := S M_granted (2 * k + j)) (b := 0) (c := 0) (room := room)
    rw [show ((18 + j : Nat) : Int) = 18 + (j : Int) by omega] at el
    rw [if_neg (by omega)]
    simp (disch := omega) only [bd_v, hA_ok, tk_2, c32_ok, el, gB2_v]
    rw [show (j : Int) + 1 = ((j + 1 : Nat) : Int) by omega]
    unfold P18 at hp
    rw [g.rl _ _ (by decide), g.rl _ _ (by decide)]
    by_cases q1 : A M_tellStreams (2 * k + j) = 0
    · rw [if_pos q1]; exact ⟨S, g, rfl⟩
    rw [if_neg q1]
    have q3 : ¬ fsz (18 + j) (A M_granted (2 * k + j)) 0 0 ≤ room := by
      intro q
      simp [q1, q] at hp
    rw [if_neg q3, if_pos rfl]
    exact ⟨_, g.frm, rfl⟩) 2 0 FU S g rfl (by unfold FU; omega)
  have e2 : g_X8_fillsGrants_109 FU S k room 0 = g_X8_fillsGrants_109 (f1 + 1) S1 k room ((fst (P18 A k room) 2 : Nat) : Int) := e1
  rw [e2]
  unfold x18
  by_cases q : fst (P18 A k room) 2 < 2
  · obtain ⟨hp, -⟩ := fst_lt q
    rw [if_pos q]
    generalize fst (P18 A k room) 2 = j at q hp ⊢
    show g_X8_fillsGrants_109 (f1 + 1) S1 k room j = some (E18 A k j, 1)
    unfold g_X8_fillsGrants_109 g_X8_fillsGrants_109_b g_X8_fillsGrants_165
    have el := tw_lays (A := S1) (kind := 18 + j) (by omega) (a := S1 M_granted (2 * k + j)) (b := 0) (c := 0) (room := room)
    rw [show ((18 + j : Nat) : Int) = 18 + (j : Int) by omega] at el
    rw [if_neg (by omega)]
    simp (disch := omega) only [bd_v, hA_ok, tk_2, c32_ok, el, gB2_v]
    unfold P18 at hp
    simp only [Bool.and_eq_true, decide_eq_true_eq] at hp
    rw [g1.rl _ _ (by decide), g1.rl _ _ (by decide), if_neg hp.1, if_pos hp.2, if_neg (by decide), gS_v, fr_scr g1]
    rfl
  · rw [if_neg q]
    have e3 : fst (P18 A k room) 2 = 2 := by have := fst_le (P := P18 A k room) (N := 2); omega
    rw [e3]
    unfold g_X8_fillsGrants_109 g_X8_fillsGrants_109_b
    rw [if_pos (by decide)]
    exact ⟨S1, g1, rfl⟩
theorem t_fG36 (h : TB A) (hk : k < 2) {room : Int} (g : Scr A S) : FO A (g_X8_fillsGrants_36 S k room) (x17 A k room) := by
  unfold g_X8_fillsGrants_36
  obtain ⟨S1, f1, g1, e1⟩ := scan (Scr A) (P17 A k room) (fun f S j => g_X8_fillsGrants_38 f S k room (j : Nat)) 256 (by
    intro f S j g hj hp
    have hT := h.scr g
    show ∃ s', Scr A s' ∧ g_X8_fillsGrants_38 (f + 1) S k room (j : Int) = g_X8_fillsGrants_38 f s' k room ((j + 1 : Nat) : Int)
    rw [show g_X8_fillsGrants_38 (f + 1) S k room (j : Int) = g_X8_fillsGrants_38_b (g_X8_fillsGrants_38 f) S k room j from rfl]
    unfold g_X8_fillsGrants_38_b g_X8_fillsGrants_101
    have el := tw_lays (A := S) (kind := 17) (by decide) (a := j) (b := S M_grant (256 * k + j)) (c := 0) (room := room)
    rw [show ((17 : Nat) : Int) = 17 from rfl] at el
    rw [if_neg (by omega)]
    simp (disch := omega) only [t_at, bd_v, hA_ok, tk_at, c32_ok, hT.rcv hk hj, el, gB2_v]
    rw [show (j : Int) + 1 = ((j + 1 : Nat) : Int) by omega]
    unfold P17 at hp
    rw [g.rl _ _ (by decide), g.rl _ _ (by decide), g.rst]
    by_cases q1 : A M_tellGrant (256 * k + j) = 0
    · rw [if_pos q1]; exact ⟨S, g, rfl⟩
    rw [if_neg q1]
    by_cases q2 : rst A k j = 0
    · rw [if_neg (fun z => z q2)]
      have q3 : ¬ fsz 17 j (A M_grant (256 * k + j)) 0 ≤ room := by
        intro q
        simp [q1, q2, q] at hp
      rw [if_neg q3, if_pos rfl]
      exact ⟨_, g.frm, rfl⟩
    · rw [if_pos q2]; exact ⟨S, g, rfl⟩) 256 0 FU S g rfl (by unfold FU; omega)
  have e2 : g_X8_fillsGrants_38 FU S k room 0 = g_X8_fillsGrants_38 (f1 + 1) S1 k room ((fst (P17 A k room) 256 : Nat) : Int) := e1
  rw [e2]
  unfold x17
  have hT := h.scr g1
  by_cases q : fst (P17 A k room) 256 < 256
  · obtain ⟨hp, -⟩ := fst_lt q
    rw [if_pos q]
    generalize fst (P17 A k room) 256 = j at q hp ⊢
    show g_X8_fillsGrants_38 (f1 + 1) S1 k room j = some (E17 A k j, 1)
    unfold g_X8_fillsGrants_38 g_X8_fillsGrants_38_b g_X8_fillsGrants_101
    have el := tw_lays (A := S1) (kind := 17) (by decide) (a := j) (b := S1 M_grant (256 * k + j)) (c := 0) (room := room)
    rw [show ((17 : Nat) : Int) = 17 from rfl] at el
    rw [if_neg (by omega)]
    simp (disch := omega) only [t_at, bd_v, hA_ok, tk_at, c32_ok, hT.rcv hk q, el, gB2_v]
    unfold P17 at hp
    simp only [Bool.and_eq_true, decide_eq_true_eq] at hp
    rw [g1.rl _ _ (by decide), g1.rl _ _ (by decide), g1.rst, if_neg hp.1.1, if_neg (fun z => z hp.1.2), if_pos hp.2, if_neg (by decide), gS_v, fr_scr g1]
    rfl
  · rw [if_neg q]
    have e3 : fst (P17 A k room) 256 = 256 := by have := fst_le (P := P17 A k room) (N := 256); omega
    rw [e3]
    unfold g_X8_fillsGrants_38 g_X8_fillsGrants_38_b
    rw [if_pos (by decide)]
    exact t_fG109 h hk g1
theorem t_fillsGrants (h : TB A) (hk : k < 2) {room : Int} (g : Scr A S) : FO A (g_X8_fillsGrants S k room) (x16 A k room) := by
  unfold g_X8_fillsGrants x16
  have el := tw_lays (A := S) (kind := 16) (by decide) (a := S M_dataGrant k) (b := 0) (c := 0) (room := room)
  rw [show ((16 : Nat) : Int) = 16 from rfl] at el
  simp (disch := omega) only [hA_ok, tkN, el, gB2_v]
  rw [g.rl _ _ (by decide), g.rl _ _ (by decide)]
  by_cases q1 : A M_tellData k = 0
  · rw [if_pos q1, if_neg (fun z => z.1 q1)]
    exact t_fG36 h hk g
  rw [if_neg q1]
  by_cases q2 : fsz 16 (A M_dataGrant k) 0 0 ≤ room
  · rw [if_pos q2, if_neg (by decide), if_pos ⟨q1, q2⟩, gS_v, fr_scr g]
    rfl
  · rw [if_neg q2, if_pos rfl, if_neg (fun z => q2 z.2)]
    exact t_fG36 h hk g.frm
/-! frames that tell of limits -/
def Wt (A : AM) (k j : Nat) : Bool := decide (A M_there (256 * k + j) ≠ 0) && hs k j && decide (sst A k j < 2) && decide (sn A k j < wl A k j)
theorem Scr.wt (h : Scr A S) : Wt S k j = Wt A k j := by unfold Wt; rw [h.rl _ _ (by decide), h.sst, h.sn, h.wl]
theorem t_waits (h : TB A) (hk : k < 2) (hj : j < 256) : g_X8_waits A k j = some (b2i (Wt A k j)) := by
  unfold g_X8_waits Wt
  rw [t_isOpenSending h hk hj, bd_v, h.snt hk, bd_v, h.wrt hk, bd_v]
  by_cases q : A M_there (256 * k + j) ≠ 0 ∧ hs k j = true ∧ sst A k j < 2
  · rw [if_pos q, if_neg (by decide)]
    by_cases q2 : sn A k j < wl A k j
    · rw [if_neg (by omega)]; simp [q, q2, b2i]
    · rw [if_pos (by omega)]; simp [q2, b2i]
  · rw [if_neg q, if_pos rfl]
    have : (decide (A M_there (256 * k + j) ≠ 0) && hs k j && decide (sst A k j < 2)) = false := by
      cases hq : (decide (A M_there (256 * k + j) ≠ 0) && hs k j && decide (sst A k j < 2)) with
      | false => rfl
      | true =>
        simp only [Bool.and_eq_true, decide_eq_true_eq] at hq
        exact absurd ⟨hq.1.1, hq.1.2, hq.2⟩ q
    rw [this]; rfl
def P21 (A : AM) (k : Nat) (room : Int) (j : Nat) : Bool := Wt A k j && decide ((sn A k j : Int) = A M_limit (256 * k + j)) && decide (A M_toldLimit (256 * k + j) ≠ A M_limit (256 * k + j)) && decide (fsz 21 j (A M_limit (256 * k + j)) 0 ≤ room)
def P22 (A : AM) (k : Nat) (room : Int) (w : Nat) : Bool := decide (A M_refused (2 * k + w) ≠ 0) && decide (A M_limits (3 * k + 1 + w) ≤ A M_opened (2 * k + w)) && decide (A M_toldBlocked (3 * k + 1 + w) ≠ A M_limits (3 * k + 1 + w)) && decide (fsz (22 + w) (A M_limits (3 * k + 1 + w)) 0 0 ≤ room)
def E20 (A : AM) (k : Nat) : AM := uA (fr A 20 (A M_limits (3 * k)) 0 0) M_toldBlocked (3 * k) (A M_limits (3 * k))
def E21 (A : AM) (k j : Nat) : AM := uA (fr A 21 j (A M_limit (256 * k + j)) 0) M_toldLimit (256 * k + j) (A M_limit (256 * k + j))
def E22 (A : AM) (k w : Nat) : AM := uA (fr A (22 + w) (A M_limits (3 * k + 1 + w)) 0 0) M_toldBlocked (3 * k + 1 + w) (A M_limits (3 * k + 1 + w))
def x22 (A : AM) (k : Nat) (room : Int) : Option AM := if fst (P22 A k room) 2 < 2 then some (E22 A k (fst (P22 A k room) 2)) else none
def x21 (A : AM) (k : Nat) (room : Int) : Option AM := if fst (P21 A k room) 256 < 256 then some (E21 A k (fst (P21 A k room) 256)) else x22 A k room
def x20 (A : AM) (k : Nat) (room : Int) : Option AM := if fst (Wt A k) 256 < 256 ∧ (sa A k : Int) = A M_limits (3 * k) ∧ A M_toldBlocked (3 * k) ≠ A M_limits (3 * k) ∧ fsz 20 (A M_limits (3 * k)) 0 0 ≤ room then some (E20 A k) else x21 A k room
theorem t_fB223 (h : TB A) (hk : k < 2) {room : Int} (g : Scr A S) : FO A (g_X8_fillsBlocked_223 FU S k room 0) (x22 A k room) := by
  obtain ⟨S1, f1, g1, e1⟩ := scan (Scr A) (P22 A k room) (fun f S j => g_X8_fillsBlocked_223 f S k room (j : Nat)) 2 (by
    intro f S j g hj hp
    show ∃ s', Scr A s' ∧ g_X8_fillsBlocked_223 (f + 1) S k room (j : Int) = g_X8_fillsBlocked_223 f s' k room ((j + 1 : Nat) : Int)
    rw [show g_X8_fillsBlocked_223 (f + 1) S k room (j : Int) = g_X8_fillsBlocked_223_b (g_X8_fillsBlocked_223 f) S k room j from rfl]
    unfold g_X8_fillsBlocked_223_b g_X8_fillsBlocked_332
    have el := tw_lays (A := S) (kind := 22 + j) (by omega) (a := S M_limits (3 * k + 1 + j)) (b := 0) (c := 0) (room := room)
    rw [show ((22 + j : Nat) : Int) = 22 + (j : Int) by omega] at el
    rw [if_neg (by omega)]
    simp (disch := omega) only [bd_v, hA_ok, tk_2, tk_31, c32_ok, el, gB2_v]
    rw [show (j : Int) + 1 = ((j + 1 : Nat) : Int) by omega]
    unfold P22 at hp
    rw [g.rl _ _ (by decide), g.rl M_opened _ (by decide), g.rl M_limits _ (by decide), g.rl M_toldBlocked _ (by decide)]
    by_cases q1 : A M_refused (2 * k + j) = 0
    · rw [if_pos q1]; exact ⟨S, g, rfl⟩
    rw [if_neg q1]
    by_cases q2 : A M_opened (2 * k + j) < A M_limits (3 * k + 1 + j)
    · rw [if_pos q2]; exact ⟨S, g, rfl⟩
    rw [if_neg q2]
    by_cases q3 : A M_toldBlocked (3 * k + 1 + j) = A M_limits (3 * k + 1 + j)
    · rw [if_pos q3]; exact ⟨S, g, rfl⟩
    rw [if_neg q3]
    have q4 : ¬ fsz (22 + j) (A M_limits (3 * k + 1 + j)) 0 0 ≤ room := by
      intro q
      have q5 : A M_limits (3 * k + 1 + j) ≤ A M_opened (2 * k + j) := by omega
      simp [q1, q5, q3, q] at hp
    rw [if_neg q4, if_pos rfl]
    exact ⟨_, g.frm, rfl⟩) 2 0 FU S g rfl (by unfold FU; omega)
  have e2 : g_X8_fillsBlocked_223 FU S k room 0 = g_X8_fillsBlocked_223 (f1 + 1) S1 k room ((fst (P22 A k room) 2 : Nat) : Int) := e1
  rw [e2]
  unfold x22
  by_cases q : fst (P22 A k room) 2 < 2
  · obtain ⟨hp, -⟩ := fst_lt q
    rw [if_pos q]
    generalize fst (P22 A k room) 2 = j at q hp ⊢
    show g_X8_fillsBlocked_223 (f1 + 1) S1 k room j = some (E22 A k j, 1)
    unfold g_X8_fillsBlocked_223 g_X8_fillsBlocked_223_b g_X8_fillsBlocked_332
    have el := tw_lays (A := S1) (kind := 22 + j) (by omega) (a := S1 M_limits (3 * k + 1 + j)) (b := 0) (c := 0) (room := room)
    rw [show ((22 + j : Nat) : Int) = 22 + (j : Int) by omega] at el
    rw [if_neg (by omega)]
    simp (disch := omega) only [bd_v, hA_ok, tk_2, tk_31, c32_ok, el, gB2_v]
    unfold P22 at hp
    simp only [Bool.and_eq_true, decide_eq_true_eq] at hp
    rw [g1.rl _ _ (by decide), g1.rl M_opened _ (by decide), g1.rl M_limits _ (by decide), g1.rl M_toldBlocked _ (by decide), if_neg hp.1.1.1, if_neg (by omega), if_neg hp.1.2, if_pos hp.2, if_neg (by decide), gS_v, fr_scr g1]
    rfl
  · rw [if_neg q]
    have e3 : fst (P22 A k room) 2 = 2 := by have := fst_le (P := P22 A k room) (N := 2); omega
    rw [e3]
    unfold g_X8_fillsBlocked_223 g_X8_fillsBlocked_223_b
    rw [if_pos (by decide)]
    exact ⟨S1, g1, rfl⟩
theorem t_fB111 (h : TB A) (hk : k < 2) {room : Int} (g : Scr A S) : FO A (g_X8_fillsBlocked_111 S k room) (x21 A k room) := by
  unfold g_X8_fillsBlocked_111
  obtain ⟨S1, f1, g1, e1⟩ := scan (Scr A) (P21 A k room) (fun f S j => g_X8_fillsBlocked_114 f S k room (j : Nat)) 256 (by
    intro f S j g hj hp
    have hT := h.scr g
    show ∃ s', Scr A s' ∧ g_X8_fillsBlocked_114 (f + 1) S k room (j : Int) = g_X8_fillsBlocked_114 f s' k room ((j + 1 : Nat) : Int)
    rw [show g_X8_fillsBlocked_114 (f + 1) S k room (j : Int) = g_X8_fillsBlocked_114_b (g_X8_fillsBlocked_114 f) S k room j from rfl]
    unfold g_X8_fillsBlocked_114_b g_X8_fillsBlocked_214
    have el := tw_lays (A := S) (kind := 21) (by decide) (a := j) (b := S M_limit (256 * k + j)) (c := 0) (room := room)
    rw [show ((21 : Nat) : Int) = 21 from rfl] at el
    rw [if_neg (by omega)]
    simp (disch := omega) only [t_at, bd_v, hA_ok, tk_at, c32_ok, t_waits hT hk hj, hT.snt hk, el, gB2_v]
    rw [show (j : Int) + 1 = ((j + 1 : Nat) : Int) by omega]
    unfold P21 at hp
    rw [g.wt, g.sn, g.rl M_limit _ (by decide), g.rl M_toldLimit _ (by decide)]
    by_cases q1 : Wt A k j = false
    · rw [if_pos (by rw [q1]; rfl)]; exact ⟨S, g, rfl⟩
    have q1' : Wt A k j = true := by simpa using q1
    rw [if_neg (by rw [q1']; decide)]
    by_cases q2 : (sn A k j : Int) = A M_limit (256 * k + j)
    · rw [if_neg (fun z => z q2)]
      by_cases q3 : A M_toldLimit (256 * k + j) = A M_limit (256 * k + j)
      · rw [if_pos q3]; exact ⟨S, g, rfl⟩
      rw [if_neg q3]
      have q4 : ¬ fsz 21 j (A M_limit (256 * k + j)) 0 ≤ room := by
        intro q
        simp [q1', q2, q3, q] at hp
      rw [if_neg q4, if_pos rfl]
      exact ⟨_, g.frm, rfl⟩
    · rw [if_pos q2]; exact ⟨S, g, rfl⟩) 256 0 FU S g rfl (by unfold FU; omega)
  have e2 : g_X8_fillsBlocked_114 FU S k room 0 = g_X8_fillsBlocked_114 (f1 + 1) S1 k room ((fst (P21 A k room) 256 : Nat) : Int) := e1
  rw [e2]
  unfold x21
  have hT := h.scr g1
  by_cases q : fst (P21 A k room) 256 < 256
  · obtain ⟨hp, -⟩ := fst_lt q
    rw [if_pos q]
    generalize fst (P21 A k room) 256 = j at q hp ⊢
    show g_X8_fillsBlocked_114 (f1 + 1) S1 k room j = some (E21 A k j, 1)
    unfold g_X8_fillsBlocked_114 g_X8_fillsBlocked_114_b g_X8_fillsBlocked_214
    have el := tw_lays (A := S1) (kind := 21) (by decide) (a := j) (b := S1 M_limit (256 * k + j)) (c := 0) (room := room)
    rw [show ((21 : Nat) : Int) = 21 from rfl] at el
    rw [if_neg (by omega)]
    simp (disch := omega) only [t_at, bd_v, hA_ok, tk_at, c32_ok, t_waits hT hk q, hT.snt hk, el, gB2_v]
    unfold P21 at hp
    simp only [Bool.and_eq_true, decide_eq_true_eq] at hp
    rw [g1.wt, g1.sn, g1.rl M_limit _ (by decide), g1.rl M_toldLimit _ (by decide), if_neg (by rw [hp.1.1.1]; decide), if_neg (fun z => z hp.1.1.2), if_neg hp.1.2, if_pos hp.2, if_neg (by decide), gS_v, fr_scr g1]
    rfl
  · rw [if_neg q]
    have e3 : fst (P21 A k room) 256 = 256 := by have := fst_le (P := P21 A k room) (N := 256); omega
    rw [e3]
    unfold g_X8_fillsBlocked_114 g_X8_fillsBlocked_114_b
    rw [if_pos (by decide)]
    exact t_fB223 h hk g1
theorem t_fB5 (h : TB A) (hk : k < 2) {room : Int} : ∀ (m i f : Nat), i + m = 256 → m < f → (∀ j, j < i → Wt A k j = false) → g_X8_fillsBlocked_5 f A k room 0 i = g_X8_fillsBlocked_31 A k room (b2i (decide (fst (Wt A k) 256 < 256))) := by
  intro m
  induction m with
  | zero =>
    intro i f h1 h2 h3
    obtain ⟨f, rfl⟩ : ∃ f', f = f' + 1 := ⟨f - 1, by omega⟩
    unfold g_X8_fillsBlocked_5 g_X8_fillsBlocked_5_b
    rw [if_pos (by omega)]
    have : ¬ fst (Wt A k) 256 < 256 := by
      intro q
      obtain ⟨hp, -⟩ := fst_lt q
      rw [h3 _ (by omega)] at hp; cases hp
    simp [this, b2i]
  | succ m ih =>
    intro i f h1 h2 h3
    obtain ⟨f, rfl⟩ : ∃ f', f = f' + 1 := ⟨f - 1, by omega⟩
    rw [show g_X8_fillsBlocked_5 (f + 1) A k room 0 (i : Int) = g_X8_fillsBlocked_5_b (g_X8_fillsBlocked_5 f) A k room 0 i from rfl]
    unfold g_X8_fillsBlocked_5_b
    rw [if_neg (by omega), if_neg (by decide), t_waits h hk (by omega), bd_v, c32_ok (by omega) (by omega), show (i : Int) + 1 = ((i + 1 : Nat) : Int) by omega]
    cases hw : Wt A k i with
    | false => exact ih (i + 1) f (by omega) (by omega) (fun j hj => by
        by_cases e : j = i
        · rw [e]; exact hw
        · exact h3 j (by omega))
    | true =>
      obtain ⟨f, rfl⟩ : ∃ f', f = f' + 1 := ⟨f - 1, by omega⟩
      unfold g_X8_fillsBlocked_5 g_X8_fillsBlocked_5_b
      have q : fst (Wt A k) 256 < 256 := by
        by_cases q : fst (Wt A k) 256 < 256
        · exact q
        · have := fst_none q i (by omega); rw [hw] at this; cases this
      rw [if_pos (show b2i true ≠ 0 by decide)]
      simp [q, b2i]
theorem t_fillsBlocked (h : TB A) (hk : k < 2) {room : Int} (g : Scr A S) : FO A (g_X8_fillsBlocked S k room) (x20 A k room) := by
  have hT := h.scr g
  unfold g_X8_fillsBlocked x20
  have e := t_fB5 hT hk (room := room) 256 0 FU (by omega) (by unfold FU; omega) (fun j hj => by omega)
  rw [show ((0 : Nat) : Int) = 0 from rfl] at e
  rw [e, show Wt S k = Wt A k from funext fun _ => g.wt]
  unfold g_X8_fillsBlocked_31
  have el := tw_lays (A := S) (kind := 20) (by decide) (a := S M_limits (3 * k)) (b := 0) (c := 0) (room := room)
  rw [show ((20 : Nat) : Int) = 20 from rfl] at el
  rw [t_allSent hk (hT.tot k hk), bd_v]
  simp (disch := omega) only [hA_ok, tk_3, el, gB2_v]
  rw [g.sa, g.rl M_limits _ (by decide), g.rl M_toldBlocked _ (by decide)]
  by_cases q1 : fst (Wt A k) 256 < 256
  · rw [if_neg (by simp [q1, b2i])]
    by_cases q2 : (sa A k : Int) = A M_limits (3 * k)
    · rw [if_neg (fun z => z q2)]
      by_cases q3 : A M_toldBlocked (3 * k) = A M_limits (3 * k)
      · rw [if_pos q3, if_neg (fun z => z.2.2.1 q3)]
        exact t_fB111 h hk g
      rw [if_neg q3]
      by_cases q4 : fsz 20 (A M_limits (3 * k)) 0 0 ≤ room
      · rw [if_pos q4, if_neg (by decide), if_pos ⟨q1, q2, q3, q4⟩, gS_v, fr_scr g]
        rfl
      · rw [if_neg q4, if_pos rfl, if_neg (fun z => q4 z.2.2.2)]
        exact t_fB111 h hk g.frm
    · rw [if_pos q2, if_neg (fun z => q2 z.2.1)]
      exact t_fB111 h hk g
  · rw [if_pos (by simp [q1, b2i]), if_neg (fun z => q1 z.1)]
    exact t_fB111 h hk g
end TWG3
