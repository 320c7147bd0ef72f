/-! THE TWIN: the next frame -/
section TWX
variable {A S : AM} {k j : Nat}
/-- the stream whose turn it is, q behind the last one -/
def turn (A : AM) (k q : Nat) : Nat := ((A M_lastStream k + (q + 1) + 256) % 256).toNat
theorem turn_lt {q : Nat} : turn A k q < 256 := by unfold turn; omega
def x8 (A : AM) (k : Nat) (room : Int) : Option AM := (xS A k (turn A k (fst (fun q => (xS A k (turn A k q) room).isSome) 256)) room).bind fun A' => if fst (fun q => (xS A k (turn A k q) room).isSome) 256 < 256 then some (uA A' M_lastStream k (turn A k (fst (fun q => (xS A k (turn A k q) room).isSome) 256))) else none
theorem t_fills_31 (h : TB A) (hk : k < 2) {room : Int} (hr : room ≤ 1200) (g : Scr A S) : FO A (g_X8_fills_31 FU S k room 1) (x8 A k room) := by
  have hl := h.lst k hk
  have eid : ∀ (S : AM) (q : Nat), Scr A S → q < 256 → (S M_lastStream k + ((q : Int) + 1) + 256 - (S M_lastStream k + ((q : Int) + 1) + 256) / 256 * 256) = (turn A k q : Int) := by
    intro S q g hq
    rw [g.rl _ _ (by decide)]
    unfold turn
    omega
  obtain ⟨S1, f1, g1, e1⟩ := scan (Scr A) (fun q => (xS A k (turn A k q) room).isSome) (fun f S q => g_X8_fills_31 f S k room ((q : Int) + 1)) 256 (by
    intro f S q g hq hp
    show ∃ s', Scr A s' ∧ g_X8_fills_31 (f + 1) S k room ((q : Int) + 1) = g_X8_fills_31 f s' k room (((q + 1 : Nat) : Int) + 1)
    rw [show g_X8_fills_31 (f + 1) S k room ((q : Int) + 1) = g_X8_fills_31_b (g_X8_fills_31 f) S k room ((q : Int) + 1) from rfl]
    unfold g_X8_fills_31_b
    have hx := t_fillsStream h hk (j := turn A k q) turn_lt (room := room) hr g
    have hnone : xS A k (turn A k q) room = none := by
      cases hz : xS A k (turn A k q) room with
      | none => rfl
      | some v => rw [hz] at hp; cases hp
    rw [hnone] at hx
    obtain ⟨S2, g2, e2⟩ := hx
    have hl2 := g.rl M_lastStream k (by decide)
    rw [if_neg (by omega), hA_ok (by omega) (by omega), tkN, hA_ok (by rw [hl2]; omega) (by rw [hl2]; omega), eid S q g hq, c32_ok (by have := turn_lt (A := A) (k := k) (q := q); omega) (by have := turn_lt (A := A) (k := k) (q := q); omega), e2, gB2_v, if_pos rfl, c32_ok (by omega) (by omega)]
    refine ⟨S2, g2, ?_⟩
    rw [show (q : Int) + 1 + 1 = ((q + 1 : Nat) : Int) + 1 by omega]) 256 0 FU S g rfl (by unfold FU; omega)
  have e2 : g_X8_fills_31 FU S k room 1 = g_X8_fills_31 (f1 + 1) S1 k room (((fst (fun q => (xS A k (turn A k q) room).isSome) 256 : Nat) : Int) + 1) := e1
  rw [e2]
  unfold x8
  by_cases q : fst (fun q => (xS A k (turn A k q) room).isSome) 256 < 256
  · obtain ⟨hp, -⟩ := fst_lt q
    simp only [if_pos q]
    generalize fst (fun q => (xS A k (turn A k q) room).isSome) 256 = i at q hp ⊢
    obtain ⟨A', hA'⟩ := Option.isSome_iff_exists.mp hp
    rw [hA', bd_v]
    show g_X8_fills_31 (f1 + 1) S1 k room ((i : Int) + 1) = some (uA A' M_lastStream k (turn A k i), 1)
    have hx := t_fillsStream h hk (j := turn A k i) turn_lt (room := room) hr g1
    rw [hA'] at hx
    have hx2 : g_X8_fillsStream S1 k (turn A k i) room = some (A', 1) := hx
    unfold g_X8_fills_31 g_X8_fills_31_b
    have hl2 := g1.rl M_lastStream k (by decide)
    rw [if_neg (by omega), hA_ok (by omega) (by omega), tkN, hA_ok (by rw [hl2]; omega) (by rw [hl2]; omega), eid S1 i g1 q, c32_ok (by have := turn_lt (A := A) (k := k) (q := i); omega) (by have := turn_lt (A := A) (k := k) (q := i); omega), hx2, gB2_v, if_neg (by decide), hA_ok (by omega) (by omega), gS_v]
  · have e3 : fst (fun q => (xS A k (turn A k q) room).isSome) 256 = 256 := by have := fst_le (P := fun q => (xS A k (turn A k q) room).isSome) (N := 256); omega
    simp only [if_neg q]
    rw [e3]
    have : (xS A k (turn A k 256) room).bind (fun A' => (none : Option AM)) = none := by cases xS A k (turn A k 256) room <;> rfl
    rw [this]
    unfold g_X8_fills_31 g_X8_fills_31_b
    rw [if_pos (by decide)]
    exact ⟨S1, g1, rfl⟩
def xF (A : AM) (k : Nat) (room : Int) : Option AM := match x45 A k room with
  | some A' => some A'
  | none => match x16 A k room with
    | some A' => some A'
    | none => match x20 A k room with
      | some A' => some A'
      | none => x8 A k room
theorem t_fills (h : TB A) (hk : k < 2) {room : Int} (hr : room ≤ 1200) : FO A (g_X8_fills A k room) (xF A k room) := by
  unfold g_X8_fills xF
  have h1 := t_fillsResets h hk (room := room) Scr.rfl'
  cases e1 : x45 A k room with
  | some A' =>
    rw [e1] at h1
    have h1' : g_X8_fillsResets A k room = some (A', 1) := h1
    rw [h1', gB2_v, if_pos (by decide)]
    rfl
  | none =>
    rw [e1] at h1
    obtain ⟨S1, g1, h1⟩ := h1
    rw [h1, gB2_v, if_neg (by decide)]
    have h2 := t_fillsGrants h hk (room := room) g1
    cases e2 : x16 A k room with
    | some A' =>
      rw [e2] at h2
      have h2' : g_X8_fillsGrants S1 k room = some (A', 1) := h2
      rw [h2', gB2_v, if_pos (by decide)]
      rfl
    | none =>
      rw [e2] at h2
      obtain ⟨S2, g2, h2⟩ := h2
      rw [h2, gB2_v, if_neg (by decide)]
      have h3 := t_fillsBlocked h hk (room := room) g2
      cases e3 : x20 A k room with
      | some A' =>
        rw [e3] at h3
        have h3' : g_X8_fillsBlocked S2 k room = some (A', 1) := h3
        rw [h3', gB2_v, if_neg (by decide)]
        rfl
      | none =>
        rw [e3] at h3
        obtain ⟨S3, g3, h3⟩ := h3
        rw [h3, gB2_v, if_pos rfl]
        exact t_fills_31 h hk hr g3
/-! places on the line -/
def fp (A : AM) : Nat := fst (fun p => decide (A M_lineUsed p = 0)) 64
theorem t_freePlace : g_X8_freePlace A = some (if fp A < 64 then (fp A : Int) else -1) := by
  unfold g_X8_freePlace
  obtain ⟨S1, f1, -, e1⟩ := scan (fun _ : Unit => True) (fun p => decide (A M_lineUsed p = 0)) (fun f _ p => g_X8_freePlace_2 A f (p : Int)) 64 (by
    intro f s j _ hj hp
    refine ⟨(), trivial, ?_⟩
    show g_X8_freePlace_2 A (f + 1) (j : Int) = g_X8_freePlace_2 A f ((j + 1 : Nat) : Int)
    rw [show g_X8_freePlace_2 A (f + 1) (j : Int) = g_X8_freePlace_2_b A (g_X8_freePlace_2 A f) (j : Int) from rfl]
    unfold g_X8_freePlace_2_b
    have hq : A M_lineUsed j ≠ 0 := by simpa using hp
    rw [if_neg (by omega), hA_ok (by omega) (by omega), tkN, if_pos hq, c32_ok (by omega) (by omega), show (j : Int) + 1 = ((j + 1 : Nat) : Int) by omega]) 64 0 FU () trivial rfl (by unfold FU; omega)
  have e2 : g_X8_freePlace_2 A FU 0 = g_X8_freePlace_2 A (f1 + 1) (fp A : Nat) := e1
  rw [e2]
  unfold g_X8_freePlace_2 g_X8_freePlace_2_b
  by_cases q : fp A < 64
  · have hp := (fst_lt q).1
    simp only [decide_eq_true_eq] at hp
    have hp2 : A M_lineUsed (fp A) = 0 := hp
    rw [if_neg (by omega), hA_ok (by omega) (by omega), tkN, if_neg (fun z => z hp2), if_pos q]
  · have := fst_le (P := fun p => decide (A M_lineUsed p = 0)) (N := 64)
    rw [if_pos (by unfold fp at q ⊢; omega), if_neg q]
/-- the bytes of a frame are copied: to the line, from the line or the tape -/
def aLn (A : AM) (p n : Nat) : AM := fun r f => if r = M_lineData ∧ 1200 * p ≤ f ∧ f < 1200 * p + n then A M_fData (f - 1200 * p) else A r f
def aFd (A : AM) (v : Nat → Int) (n : Nat) : AM := fun r f => if r = M_fData ∧ f < n then v f else A r f
theorem aLn_s {p m : Nat} {v : Int} (hv : A M_fData m = v) : uA (aLn A p m) M_lineData (1200 * p + m) v = aLn A p (m + 1) := by
  funext r f
  rw [uA_at]
  unfold aLn
  by_cases e1 : r = M_lineData ∧ f = 1200 * p + m
  · rw [if_pos e1, if_pos ⟨e1.1, by omega, by omega⟩, e1.2, show 1200 * p + m - 1200 * p = m by omega, hv]
  · rw [if_neg e1]
    by_cases e2 : r = M_lineData ∧ 1200 * p ≤ f ∧ f < 1200 * p + m
    · rw [if_pos e2, if_pos ⟨e2.1, e2.2.1, by omega⟩]
    · rw [if_neg e2, if_neg]
      rintro ⟨a, b, c⟩
      by_cases z : f = 1200 * p + m
      · exact e1 ⟨a, z⟩
      · exact e2 ⟨a, b, by omega⟩
theorem aFd_s {v : Nat → Int} {m : Nat} : uA (aFd A v m) M_fData m (v m) = aFd A v (m + 1) := by
  funext r f
  rw [uA_at]
  unfold aFd
  by_cases e1 : r = M_fData ∧ f = m
  · rw [if_pos e1, if_pos ⟨e1.1, by omega⟩, e1.2]
  · rw [if_neg e1]
    by_cases e2 : r = M_fData ∧ f < m
    · rw [if_pos e2, if_pos ⟨e2.1, by omega⟩]
    · rw [if_neg e2, if_neg]
      rintro ⟨a, c⟩
      by_cases z : f = m
      · exact e1 ⟨a, z⟩
      · exact e2 ⟨a, by omega⟩
theorem t_fill_161 {p n : Nat} (hp : p < 64) (hn : n ≤ 1200) (h49 : A M_o 49 = n) (hf : ∀ i, i < n → -128 ≤ A M_fData i ∧ A M_fData i < 128) : ∀ (m i f : Nat), i + m = n → m < f → g_X8_fill_161 f (aLn A p i) p i = some (aLn A p n, (p : Int)) := by
  intro m
  induction m with
  | zero =>
    intro i f h1 h2
    obtain ⟨f, rfl⟩ : ∃ f', f = f' + 1 := ⟨f - 1, by omega⟩
    unfold g_X8_fill_161 g_X8_fill_161_b
    have e : aLn A p i M_o 49 = n := h49
    rw [e, if_pos (by omega), show i = n by omega]
  | succ m ih =>
    intro i f h1 h2
    obtain ⟨f, rfl⟩ : ∃ f', f = f' + 1 := ⟨f - 1, by omega⟩
    have ih1 := ih (i + 1) f (by omega) (by omega)
    rw [show g_X8_fill_161 (f + 1) (aLn A p i) p i = g_X8_fill_161_b (g_X8_fill_161 f) (aLn A p i) p i from rfl]
    unfold g_X8_fill_161_b
    have e : aLn A p i M_o 49 = n := h49
    have e2 : aLn A p i M_fData i = A M_fData i := rfl
    have hb := hf i (by omega)
    rw [e, if_neg (by omega), hA_ok (by omega) (by omega), hA_ok (by omega) (by omega), gS_v, tkN, e2, show b8 (A M_fData i) = A M_fData i by unfold b8; omega, show (1200 * (p : Int) + (i : Int)).toNat = 1200 * p + i by omega, aLn_s rfl, c32_ok (by omega) (by omega), show (i : Int) + 1 = ((i + 1 : Nat) : Int) by omega]
    exact ih1
end TWX
