/-! THE TWIN: a frame of a stream's bytes -/
section TWS
variable {A S : AM} {k j : Nat}
def frN (A : AM) (kd a b c n : Int) : AM := uA (uA (uA (uA (uA A M_o 45 kd) M_o 46 a) M_o 47 b) M_o 48 c) M_o 49 n
theorem Scr.ext {kd a b c n : Int} (h : Scr A S) (h1 : S M_o 45 = kd) (h2 : S M_o 46 = a) (h3 : S M_o 47 = b) (h4 : S M_o 48 = c) (h5 : S M_o 49 = n) : S = frN A kd a b c n := by
  funext r f
  by_cases e : r = M_o ∧ 45 ≤ f ∧ f ≤ 49
  · obtain ⟨rfl, e1, e2⟩ := e
    have : f = 45 ∨ f = 46 ∨ f = 47 ∨ f = 48 ∨ f = 49 := by omega
    rcases this with rfl | rfl | rfl | rfl | rfl
    · exact h1
    · exact h2
    · exact h3
    · exact h4
    · exact h5
  · rw [h r f e]
    unfold frN
    simp only [uA_at]
    rw [if_neg (fun q => e ⟨q.1, by omega⟩), if_neg (fun q => e ⟨q.1, by omega⟩), if_neg (fun q => e ⟨q.1, by omega⟩), if_neg (fun q => e ⟨q.1, by omega⟩), if_neg (fun q => e ⟨q.1, by omega⟩)]
theorem Scr.o (h : Scr A S) {f : Nat} {v : Int} (h1 : 45 ≤ f) (h2 : f ≤ 49) : Scr A (uA S M_o f v) := by
  intro r g hn
  rw [uA_at, if_neg (fun q => hn ⟨q.1, by omega⟩)]
  exact h r g hn
theorem Scr.frNn (h : Scr A S) {kd a b c n : Int} : Scr A (frN S kd a b c n) := by
  unfold frN
  exact ((((h.o (by omega) (by omega)).o (by omega) (by omega)).o (by omega) (by omega)).o (by omega) (by omega)).o (by omega) (by omega)
/-- the size of a frame with m bytes -/
def fsS (j : Nat) (b m : Int) : Int := 1 + sz j + (if b ≤ 0 then 0 else sz b) + sz m + m
theorem t_bytes_8 {b m : Int} (h45 : A M_o 45 = 8) (h46 : A M_o 46 = j) (h47 : A M_o 47 = b) (h49 : A M_o 49 = m) (hm : 0 ≤ m ∧ m < 100000) : g_X8_bytes A = some (fsS j b m) := by
  unfold g_X8_bytes g_X8_bytes_38 fsS
  have s1 := sz_le j
  have s2 := sz_le b
  have s3 := sz_le m
  rw [h45, h46, h47, h49, if_neg (by decide)]
  simp (disch := omega) only [t_sizeOf, bd_v, c32_ok]
  by_cases q : b ≤ 0
  · rw [if_pos q, if_pos q]
  · rw [if_neg q, if_neg q]
def mkA (A : AM) (k j o : Nat) : Int := A M_mark (65536 * k + (pos A k j).getD o 0)
def Gd (A : AM) (k j b : Nat) (st most room : Int) (i : Nat) : Bool := decide ((i : Int) < most) && decide (b + i < wl A k j) && decide (mkA A k j (b + i) = st) && decide (fsS j b ((i : Int) + 1) ≤ room)
/-- how many bytes go into the frame -/
def rl (A : AM) (k j b : Nat) (st most room : Int) : Nat := fst (fun i => !Gd A k j b st most room i) 1300
theorem rl_lt {b : Nat} {st most room : Int} (hr : room ≤ 1200) : rl A k j b st most room < 1300 := by
  unfold rl
  by_cases q : fst (fun i => !Gd A k j b st most room i) 1300 < 1300
  · exact q
  · exfalso
    have h := fst_none q 1290 (by omega)
    simp only [Bool.not_eq_false'] at h
    unfold Gd at h
    simp only [Bool.and_eq_true, decide_eq_true_eq] at h
    have h2 := h.2
    unfold fsS at h2
    have s1 := sz_le j
    have s3 := sz_le ((1290 : Nat) + 1 : Int)
    have s2 := sz_le b
    split at h2 <;> omega
theorem rl_in {b : Nat} {st most room : Int} (hr : room ≤ 1200) {i : Nat} (hi : i < rl A k j b st most room) : Gd A k j b st most room i = true := by
  have := (fst_lt (rl_lt (A := A) (k := k) (j := j) (b := b) (st := st) (most := most) hr)).2 i hi
  simpa using this
theorem rl_out {b : Nat} {st most room : Int} (hr : room ≤ 1200) : Gd A k j b st most room (rl A k j b st most room) = false := by
  have := (fst_lt (rl_lt (A := A) (k := k) (j := j) (b := b) (st := st) (most := most) hr)).1
  unfold rl
  simpa using this
theorem pos_get {o : Nat} (h : o < wl A k j) : (pos A k j)[o]? = some ((pos A k j).getD o 0) := by
  unfold wl at h
  rw [List.getD_eq_getElem?_getD, List.getElem?_eq_getElem h]
  rfl
theorem wl_le (ht : 0 ≤ A M_total k ∧ A M_total k ≤ 65536) : wl A k j ≤ 65536 := by
  unfold wl pos
  refine Nat.le_trans (List.length_filter_le _ _) ?_
  simp
  omega
theorem pos_lt {o : Nat} (h : o < wl A k j) : (pos A k j).getD o 0 < (A M_total k).toNat := (pos_mem (List.mem_of_getElem? (pos_get h))).1
theorem Scr.pos (h : Scr A S) : pos S k j = pos A k j := pos_cg (h.rl _ _ (by decide)) (fun i _ => h.rl _ _ (by decide))
theorem t_fS207 (h : TB A) (hk : k < 2) (hj : j < 256) {b : Nat} {st most room : Int} (hr : room ≤ 1200) (hb : b ≤ 65536) (x4 : Int) : ∀ (m i f : Nat) (S : AM), Scr A S → S M_o 45 = 8 → S M_o 46 = j → S M_o 47 = b → S M_o 48 = 0 → i + m = rl A k j b st most room → m + 1 < f →
    g_X8_fillsStream_207 f S k j room x4 b st most (wl A k j) i 1 = (if rl A k j b st most room ≠ 0 then g_X8_fillsStream_317 FU (frN A 8 j b 0 (rl A k j b st most room)) k j x4 b (wl A k j) (rl A k j b st most room) 0 else some (frN A 8 j b 0 0, 0)) := by
  have hlt := rl_lt (A := A) (k := k) (j := j) (b := b) (st := st) (most := most) hr
  have hwl := wl_le (A := A) (k := k) (j := j) (h.tot k hk)
  have fin : ∀ (f : Nat) (S : AM), Scr A S → S M_o 45 = 8 → S M_o 46 = j → S M_o 47 = b → S M_o 48 = 0 → 
      g_X8_fillsStream_207 (f + 1) S k j room x4 b st most (wl A k j) (rl A k j b st most room : Nat) 0 = (if rl A k j b st most room ≠ 0 then g_X8_fillsStream_317 FU (frN A 8 j b 0 (rl A k j b st most room)) k j x4 b (wl A k j) (rl A k j b st most room) 0 else some (frN A 8 j b 0 0, 0)) := by
    intro f S g h1 h2 h3 h4
    unfold g_X8_fillsStream_207 g_X8_fillsStream_207_b
    rw [if_pos rfl, gS_v]
    have e : uA S M_o 49 (rl A k j b st most room) = frN A 8 j b 0 (rl A k j b st most room) := (g.o (f := 49) (by omega) (by omega)).ext h1 h2 h3 h4 rfl
    rw [e]
    by_cases q : rl A k j b st most room = 0
    · rw [if_neg (by omega), if_neg (fun z => z q), q]; rfl
    · rw [if_pos (by omega), if_pos q]
  have go : ∀ (f i : Nat) (S : AM), i ≤ rl A k j b st most room → Scr A S → b + i < wl A k j → g_X8_placeOf S k j ((b : Int) + i) = some (65536 * (k : Int) + (pos A k j).getD (b + i) 0) := by
    intro f i S hi g hlt2
    have hT := h.scr g
    rw [show (b : Int) + (i : Int) = ((b + i : Nat) : Int) by omega]
    refine t_placeOf hk (hT.tot k hk) (by omega) ?_
    rw [g.pos]
    exact pos_get hlt2
  intro m
  induction m with
  | zero =>
    intro i f S g h1 h2 h3 h4 h5 h6
    have hi : i = rl A k j b st most room := by omega
    obtain ⟨f, rfl⟩ : ∃ f', f = f' + 1 + 1 := ⟨f - 2, by omega⟩
    have ho := rl_out (A := A) (k := k) (j := j) (b := b) (st := st) (most := most) hr
    rw [← hi] at ho
    have f0 := fin f S g h1 h2 h3 h4
    rw [← hi] at f0
    rw [show g_X8_fillsStream_207 (f + 1 + 1) S k j room x4 b st most (wl A k j) i 1 = g_X8_fillsStream_207_b (g_X8_fillsStream_207 (f + 1)) S k j room x4 b st most (wl A k j) i 1 from rfl, ← hi]
    unfold g_X8_fillsStream_207_b g_X8_fillsStream_256 g_X8_fillsStream_257
    rw [if_neg (by decide), if_neg (show ¬ (0 : Int) ≠ 0 by decide), f0]
    unfold Gd at ho
    by_cases q1 : most ≤ (i : Int)
    · rw [if_pos q1]
    rw [if_neg q1, c32_ok (by omega) (by omega)]
    by_cases q2 : (wl A k j : Int) ≤ (b : Int) + i
    · rw [if_pos q2]
    rw [if_neg q2, go f i S (by omega) g (by omega), bd_v]
    have hp := pos_lt (A := A) (k := k) (j := j) (o := b + i) (by omega)
    have ht := h.tot k hk
    rw [hA_ok (by omega) (by omega), show (65536 * (k : Int) + ((pos A k j).getD (b + i) 0 : Nat)).toNat = 65536 * k + (pos A k j).getD (b + i) 0 by omega, g.rl _ _ (by decide)]
    by_cases q3 : A M_mark (65536 * k + (pos A k j).getD (b + i) 0) = st
    · rw [if_neg (fun z => z q3), if_pos (show (1 : Int) ≠ 0 by decide), c32_ok (by omega) (by omega), gS_v]
      have q4 : ¬ fsS j b ((i : Int) + 1) ≤ room := by
        intro q
        have q5 : mkA A k j (b + i) = st := q3
        have q6 : (i : Int) < most := by omega
        have q7 : b + i < wl A k j := by omega
        simp [q5, q6, q7, q] at ho
      rw [t_bytes_8 (A := uA S M_o 49 ((i : Int) + 1)) (j := j) (b := b) (m := (i : Int) + 1) h1 h2 h3 rfl (by omega), bd_v, if_pos (by omega)]
      unfold g_X8_fillsStream_288
      rw [if_pos rfl]
      have f1 := fin f (uA S M_o 49 ((i : Int) + 1)) (g.o (by omega) (by omega)) h1 h2 h3 h4
      rw [← hi] at f1
      exact f1
    · rw [if_pos q3]
  | succ m ih =>
    intro i f S g h1 h2 h3 h4 h5 h6
    obtain ⟨f, rfl⟩ : ∃ f', f = f' + 1 := ⟨f - 1, by omega⟩
    have hin := rl_in (A := A) (k := k) (j := j) (b := b) (st := st) (most := most) hr (i := i) (by omega)
    unfold Gd at hin
    simp only [Bool.and_eq_true, decide_eq_true_eq] at hin
    obtain ⟨⟨⟨a1, a2⟩, a3⟩, a4⟩ := hin
    rw [show g_X8_fillsStream_207 (f + 1) S k j room x4 b st most (wl A k j) i 1 = g_X8_fillsStream_207_b (g_X8_fillsStream_207 f) S k j room x4 b st most (wl A k j) i 1 from rfl]
    unfold g_X8_fillsStream_207_b g_X8_fillsStream_256 g_X8_fillsStream_257
    have hp := pos_lt (A := A) (k := k) (j := j) (o := b + i) (by omega)
    have ht := h.tot k hk
    have q3 : A M_mark (65536 * k + (pos A k j).getD (b + i) 0) = st := a3
    rw [if_neg (by decide), if_neg (by omega), c32_ok (by omega) (by omega), if_neg (by omega), go f i S (by omega) g (by omega), bd_v, hA_ok (by omega) (by omega), show (65536 * (k : Int) + ((pos A k j).getD (b + i) 0 : Nat)).toNat = 65536 * k + (pos A k j).getD (b + i) 0 by omega, g.rl _ _ (by decide), if_neg (fun z => z q3), if_pos (show (1 : Int) ≠ 0 by decide), c32_ok (by omega) (by omega), gS_v]
    rw [t_bytes_8 (A := uA S M_o 49 ((i : Int) + 1)) (j := j) (b := b) (m := (i : Int) + 1) h1 h2 h3 rfl (by omega), bd_v, if_neg (by omega)]
    unfold g_X8_fillsStream_288
    rw [if_neg (by decide), c32_ok (by omega) (by omega), show (i : Int) + 1 = ((i + 1 : Nat) : Int) by omega]
    exact ih (i + 1) f _ (g.o (by omega) (by omega)) h1 h2 h3 h4 (by omega) (by omega)
end TWS
