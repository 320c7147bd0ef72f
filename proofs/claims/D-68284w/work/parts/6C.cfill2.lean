section CF2
variable {A A' B B' : AM} {E : L3 → Bool} {k j n w : Nat} {room : Int}
theorem c_waitsE (h : Rel Any n E A B) (hk : k < 2) (hj : j < 256) (hE : E (S_o k j) = true) : g_X2_waits k B (some j) = some (b2i (Wt A k j)) := by
  have s := h.sd k j hk hj hE
  have e := (h.ex.sN hk hj).1 hE
  unfold g_X2_waits Wt
  rw [gM_s, c_live s h.tb hk hj, bd_v, s.wri, s.sen, e.2, decide_eq_true e.1]
  by_cases q1 : sst A k j < 2
  · rw [decide_eq_true q1, if_neg (by decide)]
    by_cases q2 : sn A k j < wl A k j
    · rw [if_neg (by omega), decide_eq_true q2]; rfl
    · rw [if_pos (by omega), decide_eq_false q2]; rfl
  · rw [decide_eq_false q1, if_pos (by decide)]; rfl
theorem Wt_no (h : Rel Any n E A B) (hk : k < 2) (hj : j < 256) (hE : ¬ E (S_o k j) = true) : Wt A k j = false := by
  have : ¬ (A M_there (256 * k + j) ≠ 0 ∧ hs k j = true) := fun z => hE ((h.ex.sN hk hj).2 z)
  unfold Wt
  by_cases q : A M_there (256 * k + j) = 0
  · simp [q]
  · have : hs k j = false := exF (fun z => this ⟨q, z⟩)
    simp [this]
theorem c_bl21 (h : Rel Any n E A B) (hk : k < 2) (hj : j < 256) (K : AM → Int → Int → Option (AM × Int)) : g_X2_fillsBlocked_96_b E k K B room j = if P21 A k room j = true then some (R21 A B k j, 1) else K B room ((j + 1 : Nat) : Int) := by
  unfold g_X2_fillsBlocked_96_b g_X2_fillsBlocked_181
  rw [if_neg (by omega), hA_ok (by omega) (by omega), tkN, c32_ok (by omega) (by omega), show (j : Int) + 1 = ((j + 1 : Nat) : Int) by omega]
  unfold P21
  by_cases q : E (S_o k j) = true
  · have s := h.sd k j hk hj q
    rw [if_pos q, c_waitsE h hk hj q, bd_v, s.sen, s.lim, s.blk]
    cases q0 : Wt A k j
    · rw [if_pos (show b2i false = 0 from rfl), if_neg (by simp)]
    · rw [if_neg (by decide)]
      by_cases q1 : (sn A k j : Int) = A M_limit (256 * k + j)
      · rw [if_neg (fun z => z q1)]
        by_cases q2 : A M_toldLimit (256 * k + j) = A M_limit (256 * k + j)
        · rw [if_pos q2, if_neg (by simp [q2])]
        · have fr := c_frame (B := B) (k := k) (kind := 21) (by decide) (a := j) (b := A M_limit (256 * k + j)) (c := 0) (room := room)
          rw [show ((21 : Nat) : Int) = 21 from rfl] at fr
          rw [if_neg q2, fr]
          by_cases q3 : fsz 21 j (A M_limit (256 * k + j)) 0 ≤ room
          · have e8 : cFr B k 21 j (A M_limit (256 * k + j)) 0 (S_o k j) 8 = A M_limit (256 * k + j) := by rw [cFr_o (fun z => by injection z with z; cases z)]; exact s.lim
            rw [if_pos q3, gB2_v, if_pos (by decide), gS_v, e8, if_pos (by simp [q1, q2, q3])]; rfl
          · rw [if_neg q3, gB2_v, if_neg (by decide), c32_ok (by omega) (by omega), if_neg (by simp [q3])]
      · rw [if_pos q1, if_neg (by simp [q1])]
  · rw [if_neg q, Wt_no h hk hj q]
    unfold g_X2_waits
    rw [gM_n, bd_v, if_pos rfl, if_neg (by simp)]
theorem c_bl22 (h : Rel Any n E A B) (hk : k < 2) (hw : w < 2) (K : AM → Int → Int → Option (AM × Int)) : g_X2_fillsBlocked_189_b E k K B room w = if P22 A k room w = true then some (R22 A B k w, 1) else K B room ((w + 1 : Nat) : Int) := by
  have c := h.wys k w hk hw
  unfold g_X2_fillsBlocked_189_b g_X2_fillsBlocked_264
  have fr := c_frame (B := B) (k := k) (kind := 22 + w) (by omega) (a := A M_limits (3 * k + 1 + w)) (b := 0) (c := 0) (room := room)
  rw [show ((22 + w : Nat) : Int) = 22 + (w : Int) by omega] at fr
  rw [if_neg (by omega), hA_ok (by omega) (by omega), tkN, c.lim, c.tld, c32_ok (by omega) (by omega), c32_ok (by omega) (by omega), fr, show (w : Int) + 1 = ((w + 1 : Nat) : Int) by omega]
  unfold P22
  by_cases q1 : B (W_o k w) 4 = A M_limits (3 * k + 1 + w)
  · have r := c.ref.1 q1
    rw [if_neg (fun z => z q1)]
    by_cases q2 : A M_toldBlocked (3 * k + 1 + w) = A M_limits (3 * k + 1 + w)
    · rw [if_pos q2, if_neg (by simp [q2])]
    · rw [if_neg q2]
      by_cases q3 : fsz (22 + w) (A M_limits (3 * k + 1 + w)) 0 0 ≤ room
      · have e3 : cFr B k (22 + (w : Int)) (A M_limits (3 * k + 1 + w)) 0 0 (W_o k w) 3 = A M_limits (3 * k + 1 + w) := by rw [cFr_o (fun z => by injection z with z; cases z)]; exact c.lim
        rw [if_pos q3, gB2_v, if_pos (by decide), gS_v, e3, if_pos (by simp [r.1, r.2, q2, q3])]; rfl
      · rw [if_neg q3, gB2_v, if_neg (by decide), c32_ok (by omega) (by omega), if_neg (by simp [q3])]
  · have nr : ¬ (A M_refused (2 * k + w) ≠ 0 ∧ A M_limits (3 * k + 1 + w) ≤ A M_opened (2 * k + w)) := fun z => q1 (c.ref.2 z)
    rw [if_pos q1, if_neg]
    intro z
    simp only [Bool.and_eq_true, decide_eq_true_eq] at z
    exact nr ⟨z.1.1.1, z.1.1.2⟩
theorem c_bl4 (h : Rel Any n E A B) (hk : k < 2) (hs0 : B (H_o k) 11 = B (H_o k) 9) : ∀ (m i f : Nat) (acc : Bool), i + m = 256 → m < f → (acc = true ↔ ∃ q, q < i ∧ Wt A k q = true) → ∃ acc' : Bool, (acc' = true ↔ ∃ q, q < 256 ∧ Wt A k q = true) ∧ g_X2_fillsBlocked_4 E k f B room (b2i acc) i = g_X2_fillsBlocked_52 E k B room (b2i acc') := by
  intro m
  induction m with
  | zero =>
    intro i f acc hi hf ha
    obtain ⟨f, rfl⟩ : ∃ q, f = q + 1 := ⟨f - 1, by omega⟩
    have : i = 256 := by omega
    subst this
    refine ⟨acc, ha, ?_⟩
    show g_X2_fillsBlocked_4_b E k (g_X2_fillsBlocked_4 E k f) B room (b2i acc) ((256 : Nat) : Int) = _
    unfold g_X2_fillsBlocked_4_b
    rw [if_pos (by decide)]
  | succ m ih =>
    intro i f acc hi hf ha
    obtain ⟨f, rfl⟩ : ∃ q, f = q + 1 := ⟨f - 1, by omega⟩
    have st : g_X2_fillsBlocked_4 E k (f + 1) B room (b2i acc) i = g_X2_fillsBlocked_4 E k f B room (b2i (acc || Wt A k i)) ((i + 1 : Nat) : Int) := by
      show g_X2_fillsBlocked_4_b E k (g_X2_fillsBlocked_4 E k f) B room (b2i acc) (i : Int) = _
      unfold g_X2_fillsBlocked_4_b g_X2_fillsBlocked_40 g_X2_fillsBlocked_45
      rw [if_neg (by omega), if_neg (fun z => z hs0), c32_ok (by omega) (by omega), c32_ok (by omega) (by omega), show (i : Int) + 1 = ((i + 1 : Nat) : Int) by omega, hA_ok (by omega) (by omega), tkN]
      cases acc
      · rw [if_neg (by decide)]
        by_cases q : E (S_o k i) = true
        · rw [if_pos q, c_waitsE h hk (by omega) q, bd_v]
          cases Wt A k i
          · rw [if_pos (show b2i false = 0 from rfl)]; rfl
          · rw [if_neg (by decide)]; rfl
        · rw [if_neg q, Wt_no h hk (by omega) q]
          unfold g_X2_waits
          rw [gM_n, bd_v, if_pos rfl]
          rfl
      · rw [if_pos (by decide)]; rfl
    rw [st]
    refine ih (i + 1) f _ (by omega) (by omega) ?_
    rw [Bool.or_eq_true, ha]
    constructor
    · rintro (⟨q, h1, h2⟩ | h2)
      · exact ⟨q, by omega, h2⟩
      · exact ⟨i, by omega, h2⟩
    · rintro ⟨q, h1, h2⟩
      by_cases z : q = i
      · subst z; exact Or.inr h2
      · exact Or.inl ⟨q, by omega, h2⟩
theorem fst_ex {P : Nat → Bool} {N : Nat} : fst P N < N ↔ ∃ q, q < N ∧ P q = true := by
  constructor
  · intro h; exact ⟨fst P N, h, (fst_lt h).1⟩
  · rintro ⟨q, h1, h2⟩
    by_cases z : fst P N < N
    · exact z
    · rw [fst_none z q h1] at h2; cases h2
theorem c_fillsBlocked (h : Rel Any n E A B) (hk : k < 2) : g_X2_fillsBlocked E k B room = if fst (Wt A k) 256 < 256 ∧ (sa A k : Int) = A M_limits (3 * k) ∧ A M_toldBlocked (3 * k) ≠ A M_limits (3 * k) ∧ fsz 20 (A M_limits (3 * k)) 0 0 ≤ room then some (R20 A B k, 1) else if fst (P21 A k room) 256 < 256 then some (R21 A B k (fst (P21 A k room) 256), 1) else if fst (P22 A k room) 2 < 2 then some (R22 A B k (fst (P22 A k room) 2), 1) else some (B, 0) := by
  have hl := h.hl k hk
  have e22 := scanL (P22 A k room) (fun f j => g_X2_fillsBlocked_189 E k f B room (j : Nat)) 2 (fun j => some (R22 A B k j, 1)) (some (B, 0)) (fun f j hj => c_bl22 h hk hj _) (fun f => by
    show g_X2_fillsBlocked_189_b E k (g_X2_fillsBlocked_189 E k f) B room ((2 : Nat) : Int) = _
    unfold g_X2_fillsBlocked_189_b
    rw [if_pos (by decide)]) FU (by unfold FU; omega)
  have e21 := scanL (P21 A k room) (fun f j => g_X2_fillsBlocked_96 E k f B room (j : Nat)) 256 (fun j => some (R21 A B k j, 1)) (g_X2_fillsBlocked_189 E k FU B room 0) (fun f j hj => c_bl21 h hk hj _) (fun f => by
    show g_X2_fillsBlocked_96_b E k (g_X2_fillsBlocked_96 E k f) B room ((256 : Nat) : Int) = _
    unfold g_X2_fillsBlocked_96_b
    rw [if_pos (by decide)]) FU (by unfold FU; omega)
  have e22' : g_X2_fillsBlocked_189 E k FU B room 0 = if fst (P22 A k room) 2 < 2 then some (R22 A B k (fst (P22 A k room) 2), 1) else some (B, 0) := e22
  have e94 : g_X2_fillsBlocked_94 E k B room = if fst (P21 A k room) 256 < 256 then some (R21 A B k (fst (P21 A k room) 256), 1) else if fst (P22 A k room) 2 < 2 then some (R22 A B k (fst (P22 A k room) 2), 1) else some (B, 0) := by rw [← e22']; exact e21
  have fr := c_frame (B := B) (k := k) (kind := 20) (by decide) (a := A M_limits (3 * k)) (b := 0) (c := 0) (room := room)
  rw [show ((20 : Nat) : Int) = 20 from rfl] at fr
  have e52 : ∀ a : Bool, g_X2_fillsBlocked_52 E k B room (b2i a) = if a = true ∧ A M_toldBlocked (3 * k) ≠ A M_limits (3 * k) ∧ fsz 20 (A M_limits (3 * k)) 0 0 ≤ room then some (R20 A B k, 1) else g_X2_fillsBlocked_94 E k B room := by
    intro a
    unfold g_X2_fillsBlocked_52
    rw [hl.bla, hl.lal, fr]
    cases a
    · rw [if_pos (show b2i false = 0 from rfl), if_neg (fun z => by cases z.1)]
    · rw [if_neg (by decide)]
      by_cases q2 : A M_toldBlocked (3 * k) = A M_limits (3 * k)
      · rw [if_pos q2, if_neg (fun z => z.2.1 q2)]
      · rw [if_neg q2]
        by_cases q3 : fsz 20 (A M_limits (3 * k)) 0 0 ≤ room
        · have e9 : cFr B k 20 (A M_limits (3 * k)) 0 0 (H_o k) 9 = A M_limits (3 * k) := by rw [cFr_o (fun _ => by omega)]; exact hl.lal
          rw [if_pos q3, gB2_v, if_neg (by decide), gS_v, e9, if_pos ⟨rfl, q2, q3⟩]; rfl
        · rw [if_neg q3, gB2_v, if_pos rfl, if_neg (fun z => q3 z.2.2)]
  rw [← e94]
  unfold g_X2_fillsBlocked
  by_cases q : (sa A k : Int) = A M_limits (3 * k)
  · obtain ⟨acc, ha, e⟩ := c_bl4 (room := room) h hk (by rw [hl.sal, hl.lal, q]) 256 0 FU false (by omega) (by unfold FU; omega) ⟨(fun z => Bool.noConfusion z), (fun z => by obtain ⟨q, h1, _⟩ := z; omega)⟩
    have e' : g_X2_fillsBlocked_4 E k FU B room 0 0 = g_X2_fillsBlocked_52 E k B room (b2i acc) := e
    rw [e', e52]
    have hx : acc = true ↔ fst (Wt A k) 256 < 256 := by rw [fst_ex]; exact ha
    by_cases z : acc = true ∧ A M_toldBlocked (3 * k) ≠ A M_limits (3 * k) ∧ fsz 20 (A M_limits (3 * k)) 0 0 ≤ room
    · rw [if_pos z, if_pos ⟨hx.1 z.1, q, z.2⟩]
    · rw [if_neg z, if_neg (fun y => z ⟨hx.2 y.1, y.2.2⟩)]
  · have e1 : g_X2_fillsBlocked_4 E k FU B room 0 0 = g_X2_fillsBlocked_52 E k B room (b2i false) := by
      rw [show FU = 199999 + 1 from rfl]
      show g_X2_fillsBlocked_4_b E k (g_X2_fillsBlocked_4 E k 199999) B room 0 0 = _
      unfold g_X2_fillsBlocked_4_b
      rw [if_neg (by decide), if_pos (by rw [hl.sal, hl.lal]; exact q)]
      rfl
    rw [e1, e52, if_neg (fun z => by cases z.1), if_neg (fun z => q z.2.1)]
end CF2
