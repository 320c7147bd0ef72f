/-! what the derived numbers depend on -/
section CGR
variable {A A' : AM} {k j : Nat}
theorem pos_cg (h1 : A' M_total k = A M_total k) (h2 : ∀ i, i < (A M_total k).toNat → A' M_of (65536 * k + i) = A M_of (65536 * k + i)) : pos A' k j = pos A k j := by
  unfold pos
  rw [h1]
  apply List.filter_congr
  intro i hi
  simp at hi
  rw [h2 i (by omega)]
theorem wl_cg (h1 : A' M_total k = A M_total k) (h2 : ∀ i, i < (A M_total k).toNat → A' M_of (65536 * k + i) = A M_of (65536 * k + i)) : wl A' k j = wl A k j := by unfold wl; rw [pos_cg h1 h2]
theorem pos_mem {i : Nat} (h : i ∈ pos A k j) : i < (A M_total k).toNat ∧ A M_of (65536 * k + i) = (j : Int) := by
  unfold pos at h
  simp at h
  exact ⟨by omega, h.2⟩
theorem cn_cg {st : Int} (h1 : A' M_total k = A M_total k) (h2 : ∀ i, i < (A M_total k).toNat → A' M_of (65536 * k + i) = A M_of (65536 * k + i)) (h3 : ∀ i, i < (A M_total k).toNat → A' M_mark (65536 * k + i) = A M_mark (65536 * k + i)) : cn A' k j st = cn A k j st := by
  unfold cn
  rw [pos_cg h1 h2]
  apply List.countP_congr
  intro i hi
  rw [h3 i (pos_mem hi).1]
theorem sn_cg (h1 : A' M_total k = A M_total k) (h2 : ∀ i, i < (A M_total k).toNat → A' M_of (65536 * k + i) = A M_of (65536 * k + i)) (h3 : ∀ i, i < (A M_total k).toNat → A' M_mark (65536 * k + i) = A M_mark (65536 * k + i)) : sn A' k j = sn A k j := by
  unfold sn
  rw [pos_cg h1 h2]
  apply List.countP_congr
  intro i hi
  rw [h3 i (pos_mem hi).1]
theorem sa_cg (h1 : A' M_total k = A M_total k) (h3 : ∀ i, i < (A M_total k).toNat → A' M_mark (65536 * k + i) = A M_mark (65536 * k + i)) : sa A' k = sa A k := by
  unfold sa
  rw [h1]
  apply List.countP_congr
  intro i hi
  simp at hi
  rw [h3 i (by omega)]
theorem sst_cg (h1 : A' M_total k = A M_total k) (h2 : ∀ i, i < (A M_total k).toNat → A' M_of (65536 * k + i) = A M_of (65536 * k + i)) (h3 : ∀ i, i < (A M_total k).toNat → A' M_mark (65536 * k + i) = A M_mark (65536 * k + i)) (h4 : A' M_resets (256 * k + j) = A M_resets (256 * k + j)) (h5 : A' M_finished (256 * k + j) = A M_finished (256 * k + j)) (h6 : A' M_end (256 * k + j) = A M_end (256 * k + j)) : sst A' k j = sst A k j := by
  unfold sst
  rw [h4, h5, h6, cn_cg h1 h2 h3, wl_cg h1 h2]
theorem pa_cg {num : Int} (h1 : A' M_pieces k = A M_pieces k) (h2 : ∀ p, p < (A M_pieces k).toNat → A' M_pieceOf (1408 * k + p) = A M_pieceOf (1408 * k + p)) (h3 : ∀ p, p < (A M_pieces k).toNat → A' M_pieceNumber (1408 * k + p) = A M_pieceNumber (1408 * k + p)) : pa A' k j num = pa A k j num := by
  unfold pa
  rw [h1]
  apply find?_congr'
  intro p hp
  simp at hp
  rw [h2 p (by omega), h3 p (by omega)]
theorem hasB_cg {o : Nat} (h1 : A' M_pieces k = A M_pieces k) (h2 : ∀ p, p < (A M_pieces k).toNat → A' M_pieceOf (1408 * k + p) = A M_pieceOf (1408 * k + p)) (h3 : ∀ p, p < (A M_pieces k).toNat → A' M_pieceNumber (1408 * k + p) = A M_pieceNumber (1408 * k + p)) (h4 : ∀ i, A' M_has i = A M_has i) : hasB A' k j o = hasB A k j o := by
  unfold hasB
  rw [pa_cg h1 h2 h3]
  cases pa A k j ((o / 64 : Nat) : Int) with
  | none => rfl
  | some p => simp only [h4]
theorem rd_cg (h0 : A' M_read (256 * k + j) = A M_read (256 * k + j)) (h : ∀ o, hasB A' k j o = hasB A k j o) : rd A' k j = rd A k j := by
  unfold rd
  rw [h0, show hasB A' k j = hasB A k j from funext h]
theorem rst_cg (h0 : A' M_read (256 * k + j) = A M_read (256 * k + j)) (h : ∀ o, hasB A' k j o = hasB A k j o) (h1 : A' M_wasReset (256 * k + j) = A M_wasReset (256 * k + j)) (h2 : A' M_size (256 * k + j) = A M_size (256 * k + j)) : rst A' k j = rst A k j := by
  unfold rst
  rw [h0, h1, h2, rd_cg h0 h]
end CGR
/-! THE TWIN: resets, stops, grants -/
section TWG2
variable {A S : AM} {k j : Nat}
theorem Scr.sn (h : Scr A S) : sn S k j = sn A k j := sn_cg (h.rl _ _ (by decide)) (fun i _ => h.rl _ _ (by decide)) (fun i _ => h.rl _ _ (by decide))
theorem Scr.wl (h : Scr A S) : wl S k j = wl A k j := wl_cg (h.rl _ _ (by decide)) (fun i _ => h.rl _ _ (by decide))
theorem Scr.sa (h : Scr A S) : sa S k = sa A k := sa_cg (h.rl _ _ (by decide)) (fun i _ => h.rl _ _ (by decide))
theorem Scr.sst (h : Scr A S) : sst S k j = sst A k j := sst_cg (h.rl _ _ (by decide)) (fun i _ => h.rl _ _ (by decide)) (fun i _ => h.rl _ _ (by decide)) (h.rl _ _ (by decide)) (h.rl _ _ (by decide)) (h.rl _ _ (by decide))
theorem Scr.hasB (h : Scr A S) {o : Nat} : hasB S k j o = hasB A k j o := hasB_cg (h.rl _ _ (by decide)) (fun i _ => h.rl _ _ (by decide)) (fun i _ => h.rl _ _ (by decide)) (fun i => h.rl _ _ (by decide))
theorem Scr.rst (h : Scr A S) : rst S k j = rst A k j := rst_cg (h.rl _ _ (by decide)) (fun _ => h.hasB) (h.rl _ _ (by decide)) (h.rl _ _ (by decide))
theorem TB.scr (h : TB A) (g : Scr A S) : TB S := by
  have r : ∀ (r : L3) (f : Nat), r ≠ M_o → S r f = A r f := g.rl
  refine TB.make ?_ ?_ ?_ ?_ ?_ ?_ ?_ ?_ ?_ ?_ ?_ ?_ ?_ ?_ ?_ ?_ ?_ ?_ ?_ ?_ ?_ ?_ ?_ ?_ ?_ ?_
  · rw [g M_o 1 (by decide)]; exact h.jnd
  · rw [g M_o 3 (by decide)]; exact h.tap
  · intro i; rw [r _ _ (by decide)]; exact h.tpv i
  · rw [g M_o 5 (by decide)]; exact h.out
  · intro q hq; rw [r _ _ (by decide)]; exact h.tot q hq
  · intro i; rw [r _ _ (by decide)]; exact h.mrk i
  · intro i; rw [r _ _ (by decide)]; exact h.val i
  · intro q hq; rw [r _ _ (by decide)]; exact h.pcs q hq
  · intro i; rw [r _ _ (by decide)]; exact h.cam i
  · intro q i o hq hi ho; rw [g.hasB] at ho; exact h.hsb q i o hq hi ho
  · intro q i hq hi; rw [r _ _ (by decide)]; exact h.rds q i hq hi
  · intro q i hq hi; rw [r _ _ (by decide)]; exact h.res q i hq hi
  · intro q i hq hi; rw [r _ _ (by decide)]; exact h.hig q i hq hi
  · intro q i hq hi; rw [r _ _ (by decide)]; exact h.siz q i hq hi
  · intro q i hq hi; rw [r _ _ (by decide), r _ _ (by decide)]; exact h.wrs q i hq hi
  · intro q i hq hi hi2; rw [r _ _ (by decide)]; exact h.gra q i hq hi hi2
  · intro q hq; rw [r _ _ (by decide)]; exact h.grt q hq
  · intro q hq; rw [r _ _ (by decide)]; exact h.opn q hq
  · intro q hq; rw [r _ _ (by decide)]; exact h.thr q hq
  · intro q hq; rw [r _ _ (by decide)]; exact h.dgr q hq
  · intro q i hq hi; rw [r _ _ (by decide)]; exact h.grs q i hq hi
  · intro q i hq hi; rw [r _ _ (by decide)]; exact h.lim q i hq hi
  · intro q hq; rw [r _ _ (by decide)]; exact h.lms q hq
  · intro q hq; rw [r _ _ (by decide)]; exact h.lst q hq
  · intro q i hq hi; rw [r _ _ (by decide)]; exact h.stc q i hq hi
  · intro q i hq hi; rw [r _ _ (by decide)]; exact h.cod q i hq hi
theorem fr_scr (h : Scr A S) {kd a b c : Int} : fr S kd a b c = fr A kd a b c := by
  funext r f
  unfold fr
  simp only [uA_at]
  by_cases e : r = M_o ∧ 45 ≤ f ∧ f ≤ 49
  · obtain ⟨rfl, e1, e2⟩ := e
    have : f = 45 ∨ f = 46 ∨ f = 47 ∨ f = 48 ∨ f = 49 := by omega
    rcases this with rfl | rfl | rfl | rfl | rfl <;> rfl
  · rw [h r f e]
def P4 (A : AM) (k : Nat) (room : Int) (j : Nat) : Bool := decide (A M_tellReset (256 * k + j) ≠ 0) && decide (A M_resets (256 * k + j) = 1) && decide (fsz 4 j (A M_code (256 * k + j)) (sn A k j) ≤ room)
def P5 (A : AM) (k : Nat) (room : Int) (j : Nat) : Bool := decide (A M_tellStop (256 * k + j) ≠ 0) && decide (rst A k j < 2) && decide (fsz 5 j (A M_stopCode (256 * k + j)) 0 ≤ room)
def E4 (A : AM) (k j : Nat) : AM := uA (fr A 4 j (A M_code (256 * k + j)) (sn A k j)) M_tellReset (256 * k + j) 0
def E5 (A : AM) (k j : Nat) : AM := uA (fr A 5 j (A M_stopCode (256 * k + j)) 0) M_tellStop (256 * k + j) 0
/-- what a step of filling answers: a frame, or the memory but for the frame -/
def FO (A : AM) (o : Option (AM × Int)) (x : Option AM) : Prop := match x with
  | some A' => o = some (A', 1)
  | none => ∃ S, Scr A S ∧ o = some (S, 0)
def x45 (A : AM) (k : Nat) (room : Int) : Option AM := if fst (P4 A k room) 256 < 256 then some (E4 A k (fst (P4 A k room) 256)) else if fst (P5 A k room) 256 < 256 then some (E5 A k (fst (P5 A k room) 256)) else none
theorem t_fR80 (h : TB A) (hk : k < 2) {room : Int} (g : Scr A S) : FO A (g_X8_fillsResets_80 FU S k room 0) (if fst (P5 A k room) 256 < 256 then some (E5 A k (fst (P5 A k room) 256)) else none) := by
  obtain ⟨S1, f1, g1, e1⟩ := scan (Scr A) (P5 A k room) (fun f S j => g_X8_fillsResets_80 f S k room (j : Nat)) 256 (by
    intro f S j g hj hp
    have hT := h.scr g
    show ∃ s', Scr A s' ∧ g_X8_fillsResets_80 (f + 1) S k room (j : Int) = g_X8_fillsResets_80 f s' k room ((j + 1 : Nat) : Int)
    rw [show g_X8_fillsResets_80 (f + 1) S k room (j : Int) = g_X8_fillsResets_80_b (g_X8_fillsResets_80 f) S k room j from rfl]
    unfold g_X8_fillsResets_80_b g_X8_fillsResets_143
    have el := tw_lays (A := S) (kind := 5) (by decide) (a := j) (b := S M_stopCode (256 * k + j)) (c := 0) (room := room)
    rw [show ((5 : Nat) : Int) = 5 from rfl] at el
    rw [if_neg (by omega)]
    simp (disch := omega) only [t_at, bd_v, hA_ok, tk_at, c32_ok, hT.rcv hk hj, el, gB2_v]
    rw [show (j : Int) + 1 = ((j + 1 : Nat) : Int) by omega]
    unfold P5 at hp
    rw [g.rl _ _ (by decide), g.rl _ _ (by decide), g.rst]
    by_cases q1 : A M_tellStop (256 * k + j) = 0
    · rw [if_pos q1]; exact ⟨S, g, rfl⟩
    rw [if_neg q1]
    by_cases q2 : 2 ≤ rst A k j
    · rw [if_pos q2]; exact ⟨S, g, rfl⟩
    rw [if_neg q2]
    have q3 : ¬ fsz 5 j (A M_stopCode (256 * k + j)) 0 ≤ room := by
      intro q
      have : (decide (A M_tellStop (256 * k + j) ≠ 0) && decide (rst A k j < 2) && decide (fsz 5 j (A M_stopCode (256 * k + j)) 0 ≤ room)) = true := by
        simp [q1, q]; omega
      rw [this] at hp; cases hp
    rw [if_neg q3, if_pos rfl]
    exact ⟨_, g.frm, rfl⟩) 256 0 FU S g rfl (by unfold FU; omega)
  have e2 : g_X8_fillsResets_80 FU S k room 0 = g_X8_fillsResets_80 (f1 + 1) S1 k room ((fst (P5 A k room) 256 : Nat) : Int) := e1
  rw [e2]
  have hT := h.scr g1
  by_cases q : fst (P5 A k room) 256 < 256
  · obtain ⟨hp, -⟩ := fst_lt q
    rw [if_pos q]
    generalize fst (P5 A k room) 256 = j at q hp ⊢
    show g_X8_fillsResets_80 (f1 + 1) S1 k room j = some (E5 A k j, 1)
    unfold g_X8_fillsResets_80 g_X8_fillsResets_80_b g_X8_fillsResets_143
    have el := tw_lays (A := S1) (kind := 5) (by decide) (a := j) (b := S1 M_stopCode (256 * k + j)) (c := 0) (room := room)
    rw [show ((5 : Nat) : Int) = 5 from rfl] at el
    rw [if_neg (by omega)]
    simp (disch := omega) only [t_at, bd_v, hA_ok, tk_at, c32_ok, hT.rcv hk q, el, gB2_v]
    unfold P5 at hp
    simp only [Bool.and_eq_true, decide_eq_true_eq] at hp
    rw [g1.rl _ _ (by decide), g1.rl _ _ (by decide), g1.rst, if_neg hp.1.1, if_neg (by omega), if_pos hp.2, if_neg (by decide), gS_v, fr_scr g1]
    rfl
  · rw [if_neg q]
    have e3 : fst (P5 A k room) 256 = 256 := by have := fst_le (P := P5 A k room) (N := 256); omega
    rw [e3]
    unfold g_X8_fillsResets_80 g_X8_fillsResets_80_b
    rw [if_pos (by decide)]
    exact ⟨S1, g1, rfl⟩
theorem t_fillsResets (h : TB A) (hk : k < 2) {room : Int} (g : Scr A S) : FO A (g_X8_fillsResets S k room) (x45 A k room) := by
  unfold g_X8_fillsResets x45
  obtain ⟨S1, f1, g1, e1⟩ := scan (Scr A) (P4 A k room) (fun f S j => g_X8_fillsResets_2 f S k room (j : Nat)) 256 (by
    intro f S j g hj hp
    have hT := h.scr g
    show ∃ s', Scr A s' ∧ g_X8_fillsResets_2 (f + 1) S k room (j : Int) = g_X8_fillsResets_2 f s' k room ((j + 1 : Nat) : Int)
    rw [show g_X8_fillsResets_2 (f + 1) S k room (j : Int) = g_X8_fillsResets_2_b (g_X8_fillsResets_2 f) S k room j from rfl]
    unfold g_X8_fillsResets_2_b g_X8_fillsResets_72
    have el := tw_lays (A := S) (kind := 4) (by decide) (a := j) (b := S M_code (256 * k + j)) (c := (sn S k j : Int)) (room := room)
    rw [show ((4 : Nat) : Int) = 4 from rfl] at el
    rw [if_neg (by omega)]
    simp (disch := omega) only [t_at, bd_v, hA_ok, tk_at, c32_ok, hT.snt hk, el, gB2_v]
    rw [show (j : Int) + 1 = ((j + 1 : Nat) : Int) by omega]
    unfold P4 at hp
    rw [g.rl _ _ (by decide), g.rl _ _ (by decide), g.rl _ _ (by decide), g.sn]
    by_cases q1 : A M_tellReset (256 * k + j) = 0
    · rw [if_pos q1]; exact ⟨S, g, rfl⟩
    rw [if_neg q1]
    by_cases q2 : A M_resets (256 * k + j) = 1
    · rw [if_neg (fun z => z q2)]
      have q3 : ¬ fsz 4 j (A M_code (256 * k + j)) (sn A k j) ≤ room := by
        intro q
        have : (decide (A M_tellReset (256 * k + j) ≠ 0) && decide (A M_resets (256 * k + j) = 1) && decide (fsz 4 j (A M_code (256 * k + j)) (sn A k j) ≤ room)) = true := by
          simp [q1, q2, q]
        rw [this] at hp; cases hp
      rw [if_neg q3, if_pos rfl]
      exact ⟨_, g.frm, rfl⟩
    · rw [if_pos q2]; exact ⟨S, g, rfl⟩) 256 0 FU S g rfl (by unfold FU; omega)
  have e2 : g_X8_fillsResets_2 FU S k room 0 = g_X8_fillsResets_2 (f1 + 1) S1 k room ((fst (P4 A k room) 256 : Nat) : Int) := e1
  rw [e2]
  have hT := h.scr g1
  by_cases q : fst (P4 A k room) 256 < 256
  · obtain ⟨hp, -⟩ := fst_lt q
    rw [if_pos q]
    generalize fst (P4 A k room) 256 = j at q hp ⊢
    show g_X8_fillsResets_2 (f1 + 1) S1 k room j = some (E4 A k j, 1)
    unfold g_X8_fillsResets_2 g_X8_fillsResets_2_b g_X8_fillsResets_72
    have el := tw_lays (A := S1) (kind := 4) (by decide) (a := j) (b := S1 M_code (256 * k + j)) (c := (sn S1 k j : Int)) (room := room)
    rw [show ((4 : Nat) : Int) = 4 from rfl] at el
    rw [if_neg (by omega)]
    simp (disch := omega) only [t_at, bd_v, hA_ok, tk_at, c32_ok, hT.snt hk, el, gB2_v]
    unfold P4 at hp
    simp only [Bool.and_eq_true, decide_eq_true_eq] at hp
    rw [g1.rl _ _ (by decide), g1.rl _ _ (by decide), g1.rl _ _ (by decide), g1.sn, if_neg hp.1.1, if_neg (fun z => z hp.1.2), if_pos hp.2, if_neg (by decide), gS_v, fr_scr g1]
    rfl
  · rw [if_neg q]
    have e3 : fst (P4 A k room) 256 = 256 := by have := fst_le (P := P4 A k room) (N := 256); omega
    rw [e3]
    unfold g_X8_fillsResets_2 g_X8_fillsResets_2_b
    rw [if_pos (by decide)]
    exact t_fR80 h hk g1
end TWG2
