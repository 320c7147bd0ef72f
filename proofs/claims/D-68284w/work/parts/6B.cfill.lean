/-! THE COMPONENT FILLS: frames other than a stream's bytes -/
theorem scanL {ρ : Type} (P : Nat → Bool) (loop : Nat → Nat → Option ρ) (N : Nat) (R : Nat → Option ρ) (Z : Option ρ) (hb : ∀ f j, j < N → loop (f + 1) j = if P j = true then R j else loop f (j + 1)) (hz : ∀ f, loop (f + 1) N = Z) (F : Nat) (hF : N < F) : loop F 0 = if fst P N < N then R (fst P N) else Z := by
  obtain ⟨s, f', _, e⟩ := scan (fun _ : Unit => True) P (fun f _ j => loop f j) N (by
    intro f s j _ hj hp
    refine ⟨(), trivial, ?_⟩
    rw [hb f j hj, hp, if_neg (by decide)]) N 0 F () trivial (by omega) hF
  rw [e]
  show loop (f' + 1) (fst P N) = _
  by_cases q : fst P N < N
  · rw [if_pos q, hb f' _ q, if_pos (fst_lt q).1]
  · have : fst P N = N := by have := fst_le (P := P) (N := N); omega
    rw [if_neg q, this, hz]
section CFI
variable {A A' B B' : AM} {E : L3 → Bool} {k j n w : Nat} {room : Int}
def R4 (A B : AM) (k j : Nat) : AM := uA (cFr B k 4 j (A M_code (256 * k + j)) (sn A k j)) (S_o k j) 11 0
def R5 (A B : AM) (k j : Nat) : AM := uA (cFr B k 5 j (A M_stopCode (256 * k + j)) 0) (R_o k j) 11 0
def R16 (A B : AM) (k : Nat) : AM := uA (cFr B k 16 (A M_dataGrant k) 0 0) (H_o k) 16 0
def R17 (A B : AM) (k j : Nat) : AM := uA (cFr B k 17 j (A M_grant (256 * k + j)) 0) (R_o k j) 10 0
def R18 (A B : AM) (k w : Nat) : AM := uA (cFr B k (18 + w) (A M_granted (2 * k + w)) 0 0) (W_o k w) 6 0
def R20 (A B : AM) (k : Nat) : AM := uA (cFr B k 20 (A M_limits (3 * k)) 0 0) (H_o k) 10 (A M_limits (3 * k))
def R21 (A B : AM) (k j : Nat) : AM := uA (cFr B k 21 j (A M_limit (256 * k + j)) 0) (S_o k j) 10 (A M_limit (256 * k + j))
def R22 (A B : AM) (k w : Nat) : AM := uA (cFr B k (22 + w) (A M_limits (3 * k + 1 + w)) 0 0) (W_o k w) 5 (A M_limits (3 * k + 1 + w))
theorem exF {b : Bool} (h : ¬ b = true) : b = false := by cases b; rfl; exact absurd rfl h
theorem c_end4 (h : Rel Any n E A B) (hk : k < 2) (hj : j < 256) (K : AM → Int → Int → Option (AM × Int)) : g_X2_fillsEnds_2_b E k K B room j = if P4 A k room j = true then some (R4 A B k j, 1) else K B room ((j + 1 : Nat) : Int) := by
  have t := h.ts k j hk hj
  have hr := h.tb.res k j hk hj
  unfold g_X2_fillsEnds_2_b g_X2_fillsEnds_65
  rw [if_neg (by omega), hA_ok (by omega) (by omega), tkN, c32_ok (by omega) (by omega), show (j : Int) + 1 = ((j + 1 : Nat) : Int) by omega]
  unfold P4
  by_cases q : E (S_o k j) = true
  · have s := h.sd k j hk hj q
    rw [if_pos q, s.sta, s.sen]
    by_cases q1 : A M_resets (256 * k + j) = 1
    · have e3 : sst A k j = 3 := by unfold sst; rw [if_neg (by omega), q1]; rfl
      have ec : B (S_o k j) 9 = A M_code (256 * k + j) := by rw [s.cod, if_neg (by omega)]
      rw [if_neg (fun z => z e3), s.rsf q1, ec]
      by_cases q2 : A M_tellReset (256 * k + j) = 0
      · rw [if_pos q2, if_neg (by simp [q2])]
      · have fr := c_frame (B := B) (k := k) (kind := 4) (by decide) (a := j) (b := A M_code (256 * k + j)) (c := sn A k j) (room := room)
        rw [show ((4 : Nat) : Int) = 4 from rfl] at fr
        rw [if_neg q2, fr]
        by_cases q3 : fsz 4 j (A M_code (256 * k + j)) (sn A k j) ≤ room
        · rw [if_pos q3, gB2_v, if_pos (by decide), gS_v, if_pos (by simp [q1, q2, q3])]; rfl
        · rw [if_neg q3, gB2_v, if_neg (by decide), c32_ok (by omega) (by omega), if_neg (by simp [q3])]
    · have e3 : sst A k j ≠ 3 := by
        unfold sst
        split
        · split
          · split <;> omega
          · omega
        · omega
      rw [if_pos e3, if_neg (by simp [q1])]
  · have z : A M_tellReset (256 * k + j) = 0 := by
      by_cases y : A M_tellReset (256 * k + j) = 0
      · exact y
      · exact absurd ((h.ex.sN hk hj).2 (t.sth (Or.inl y))) q
    rw [if_neg q, if_neg (by simp [z])]
theorem c_end5 (h : Rel Any n E A B) (hk : k < 2) (hj : j < 256) (K : AM → Int → Int → Option (AM × Int)) : g_X2_fillsEnds_73_b E k K B room j = if P5 A k room j = true then some (R5 A B k j, 1) else K B room ((j + 1 : Nat) : Int) := by
  have t := h.ts k j hk hj
  unfold g_X2_fillsEnds_73_b g_X2_fillsEnds_131
  rw [if_neg (by omega), hA_ok (by omega) (by omega), tkN, c32_ok (by omega) (by omega), show (j : Int) + 1 = ((j + 1 : Nat) : Int) by omega]
  unfold P5
  by_cases q : E (R_o k j) = true
  · have s := h.rv k j hk hj q
    rw [if_pos q, c_liveR s, bd_v, s.stp, s.stc]
    by_cases q1 : rst A k j ≤ 1
    · rw [if_neg (by rw [decide_eq_true q1]; decide)]
      by_cases q2 : A M_tellStop (256 * k + j) = 0
      · rw [if_pos q2, if_neg (by simp [q2])]
      · have fr := c_frame (B := B) (k := k) (kind := 5) (by decide) (a := j) (b := A M_stopCode (256 * k + j)) (c := 0) (room := room)
        rw [show ((5 : Nat) : Int) = 5 from rfl] at fr
        rw [if_neg q2, fr]
        by_cases q3 : fsz 5 j (A M_stopCode (256 * k + j)) 0 ≤ room
        · rw [if_pos q3, gB2_v, if_pos (by decide), gS_v, if_pos (by simp [q2, q3]; omega)]; rfl
        · rw [if_neg q3, gB2_v, if_neg (by decide), c32_ok (by omega) (by omega), if_neg (by simp [q3])]
    · rw [if_pos (by rw [decide_eq_false q1]; decide), if_neg (by simp; omega)]
  · have z : A M_tellStop (256 * k + j) = 0 := by
      by_cases y : A M_tellStop (256 * k + j) = 0
      · exact y
      · exact absurd ((h.ex.rN hk hj).2 (t.rth (Or.inl y))) q
    rw [if_neg q, if_neg (by simp [z])]
theorem c_fillsEnds (h : Rel Any n E A B) (hk : k < 2) : g_X2_fillsEnds E k B room = if fst (P4 A k room) 256 < 256 then some (R4 A B k (fst (P4 A k room) 256), 1) else if fst (P5 A k room) 256 < 256 then some (R5 A B k (fst (P5 A k room) 256), 1) else some (B, 0) := by
  have e5 := scanL (P5 A k room) (fun f j => g_X2_fillsEnds_73 E k f B room (j : Nat)) 256 (fun j => some (R5 A B k j, 1)) (some (B, 0)) (fun f j hj => c_end5 h hk hj _) (fun f => by
    show g_X2_fillsEnds_73_b E k (g_X2_fillsEnds_73 E k f) B room ((256 : Nat) : Int) = _
    unfold g_X2_fillsEnds_73_b
    rw [if_pos (by decide)]) FU (by unfold FU; omega)
  have e4 := scanL (P4 A k room) (fun f j => g_X2_fillsEnds_2 E k f B room (j : Nat)) 256 (fun j => some (R4 A B k j, 1)) (g_X2_fillsEnds_73 E k FU B room 0) (fun f j hj => c_end4 h hk hj _) (fun f => by
    show g_X2_fillsEnds_2_b E k (g_X2_fillsEnds_2 E k f) B room ((256 : Nat) : Int) = _
    unfold g_X2_fillsEnds_2_b
    rw [if_pos (by decide)]) FU (by unfold FU; omega)
  unfold g_X2_fillsEnds
  have e5' : g_X2_fillsEnds_73 E k FU B room 0 = if fst (P5 A k room) 256 < 256 then some (R5 A B k (fst (P5 A k room) 256), 1) else some (B, 0) := e5
  rw [← e5']
  exact e4
theorem c_gr17 (h : Rel Any n E A B) (hk : k < 2) (hj : j < 256) (K : AM → Int → Int → Option (AM × Int)) : g_X2_fillsGrants_33_b E k K B room j = if P17 A k room j = true then some (R17 A B k j, 1) else K B room ((j + 1 : Nat) : Int) := by
  have t := h.ts k j hk hj
  unfold g_X2_fillsGrants_33_b g_X2_fillsGrants_93
  rw [if_neg (by omega), hA_ok (by omega) (by omega), tkN, c32_ok (by omega) (by omega), show (j : Int) + 1 = ((j + 1 : Nat) : Int) by omega]
  unfold P17
  by_cases q : E (R_o k j) = true
  · have s := h.rv k j hk hj q
    rw [if_pos q, s.sta, s.tel, s.grt]
    by_cases q1 : rst A k j = 0
    · rw [if_neg (fun z => z q1)]
      by_cases q2 : A M_tellGrant (256 * k + j) = 0
      · rw [if_pos q2, if_neg (by simp [q2])]
      · have fr := c_frame (B := B) (k := k) (kind := 17) (by decide) (a := j) (b := A M_grant (256 * k + j)) (c := 0) (room := room)
        rw [show ((17 : Nat) : Int) = 17 from rfl] at fr
        rw [if_neg q2, fr]
        by_cases q3 : fsz 17 j (A M_grant (256 * k + j)) 0 ≤ room
        · rw [if_pos q3, gB2_v, if_pos (by decide), gS_v, if_pos (by simp [q1, q2, q3])]; rfl
        · rw [if_neg q3, gB2_v, if_neg (by decide), c32_ok (by omega) (by omega), if_neg (by simp [q3])]
    · rw [if_pos q1, if_neg (by simp [q1])]
  · have z : A M_tellGrant (256 * k + j) = 0 := by
      by_cases y : A M_tellGrant (256 * k + j) = 0
      · exact y
      · exact absurd ((h.ex.rN hk hj).2 (t.rth (Or.inr (Or.inl y)))) q
    rw [if_neg q, if_neg (by simp [z])]
theorem c_gr18 (h : Rel Any n E A B) (hk : k < 2) (hw : w < 2) (K : AM → Int → Int → Option (AM × Int)) : g_X2_fillsGrants_101_b E k K B room w = if P18 A k room w = true then some (R18 A B k w, 1) else K B room ((w + 1 : Nat) : Int) := by
  have c := h.wys k w hk hw
  unfold g_X2_fillsGrants_101_b g_X2_fillsGrants_157
  have fr := c_frame (B := B) (k := k) (kind := 18 + w) (by omega) (a := A M_granted (2 * k + w)) (b := 0) (c := 0) (room := room)
  rw [show ((18 + w : Nat) : Int) = 18 + (w : Int) by omega] at fr
  rw [if_neg (by omega), hA_ok (by omega) (by omega), tkN, c.tel, c.grt, c32_ok (by omega) (by omega), hA_ok (by omega) (by omega), c32_ok (by omega) (by omega), fr, show (w : Int) + 1 = ((w + 1 : Nat) : Int) by omega]
  unfold P18
  by_cases q2 : A M_tellStreams (2 * k + w) = 0
  · rw [if_pos q2, if_neg (by simp [q2])]
  · rw [if_neg q2]
    by_cases q3 : fsz (18 + w) (A M_granted (2 * k + w)) 0 0 ≤ room
    · rw [if_pos q3, gB2_v, if_pos (by decide), hA_ok (by omega) (by omega), gS_v, if_pos (by simp [q2, q3])]; rfl
    · rw [if_neg q3, gB2_v, if_neg (by decide), c32_ok (by omega) (by omega), if_neg (by simp [q3])]
theorem c_fillsGrants (h : Rel Any n E A B) (hk : k < 2) : g_X2_fillsGrants E k B room = if A M_tellData k ≠ 0 ∧ fsz 16 (A M_dataGrant k) 0 0 ≤ room then some (R16 A B k, 1) else if fst (P17 A k room) 256 < 256 then some (R17 A B k (fst (P17 A k room) 256), 1) else if fst (P18 A k room) 2 < 2 then some (R18 A B k (fst (P18 A k room) 2), 1) else some (B, 0) := by
  have hl := h.hl k hk
  have e18 := scanL (P18 A k room) (fun f j => g_X2_fillsGrants_101 E k f B room (j : Nat)) 2 (fun j => some (R18 A B k j, 1)) (some (B, 0)) (fun f j hj => c_gr18 h hk hj _) (fun f => by
    show g_X2_fillsGrants_101_b E k (g_X2_fillsGrants_101 E k f) B room ((2 : Nat) : Int) = _
    unfold g_X2_fillsGrants_101_b
    rw [if_pos (by decide)]) FU (by unfold FU; omega)
  have e17 := scanL (P17 A k room) (fun f j => g_X2_fillsGrants_33 E k f B room (j : Nat)) 256 (fun j => some (R17 A B k j, 1)) (g_X2_fillsGrants_101 E k FU B room 0) (fun f j hj => c_gr17 h hk hj _) (fun f => by
    show g_X2_fillsGrants_33_b E k (g_X2_fillsGrants_33 E k f) B room ((256 : Nat) : Int) = _
    unfold g_X2_fillsGrants_33_b
    rw [if_pos (by decide)]) FU (by unfold FU; omega)
  have e18' : g_X2_fillsGrants_101 E k FU B room 0 = if fst (P18 A k room) 2 < 2 then some (R18 A B k (fst (P18 A k room) 2), 1) else some (B, 0) := e18
  have e17' : g_X2_fillsGrants_33 E k FU B room 0 = if fst (P17 A k room) 256 < 256 then some (R17 A B k (fst (P17 A k room) 256), 1) else if fst (P18 A k room) 2 < 2 then some (R18 A B k (fst (P18 A k room) 2), 1) else some (B, 0) := by rw [← e18']; exact e17
  have fr := c_frame (B := B) (k := k) (kind := 16) (by decide) (a := A M_dataGrant k) (b := 0) (c := 0) (room := room)
  rw [show ((16 : Nat) : Int) = 16 from rfl] at fr
  unfold g_X2_fillsGrants g_X2_fillsGrants_31
  rw [hl.tel, hl.gal, fr, e17']
  by_cases q1 : A M_tellData k = 0
  · rw [if_pos q1, if_neg (show ¬ (A M_tellData k ≠ 0 ∧ fsz 16 (A M_dataGrant k) 0 0 ≤ room) from fun z => z.1 q1)]
  · rw [if_neg q1]
    by_cases q2 : fsz 16 (A M_dataGrant k) 0 0 ≤ room
    · rw [if_pos q2, gB2_v, if_neg (by decide), gS_v, if_pos (show A M_tellData k ≠ 0 ∧ fsz 16 (A M_dataGrant k) 0 0 ≤ room from ⟨q1, q2⟩)]; rfl
    · rw [if_neg q2, gB2_v, if_pos rfl, e17', if_neg (show ¬ (A M_tellData k ≠ 0 ∧ fsz 16 (A M_dataGrant k) 0 0 ≤ room) from fun z => q2 z.2)]
end CFI
