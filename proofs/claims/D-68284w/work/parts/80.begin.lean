/-! A STREAM BEGINS -/
def cSe (B : AM) (k j : Nat) (v : Int) : AM := uA (uA (uA (uA (uA (uA (uA (uA (uA (uA (uA (uA B (S_o k j) 0 0) (S_o k j) 1 0) (S_o k j) 2 0) (S_o k j) 3 0) (S_o k j) 4 (-1)) (S_o k j) 5 (-1)) (S_o k j) 6 (-1)) (S_o k j) 7 (-1)) (S_o k j) 8 v) (S_o k j) 9 0) (S_o k j) 10 (-1)) (S_o k j) 11 0
def cRe (B : AM) (k j : Nat) (v : Int) : AM := uA (uA (uA (uA (uA (uA (uA (uA (uA (uA (uA (uA (uA B (R_o k j) 0 v) (R_o k j) 1 0) (R_o k j) 2 0) (R_o k j) 3 0) (R_o k j) 4 0) (R_o k j) 5 (-1)) (R_o k j) 6 v) (R_o k j) 7 (-1)) (R_o k j) 8 0) (R_o k j) 9 0) (R_o k j) 10 0) (R_o k j) 11 0) (R_o k j) 12 0
def exB (E : L3 → Bool) (k j : Nat) : L3 → Bool := if hr k j = true then addE (if hs k j = true then addE E (S_o k j) else E) (R_o k j) else (if hs k j = true then addE E (S_o k j) else E)
def cBeg (B : AM) (k j : Nat) : AM := if hr k j = true then cRe (if hs k j = true then cSe B k j (B (H_limits k) (rul k j true)) else B) k j (B (H_grants k) (rul k j false)) else (if hs k j = true then cSe B k j (B (H_limits k) (rul k j true)) else B)
section BEG
variable {A A' B B' : AM} {E : L3 → Bool} {k j n : Nat}
theorem cSe_o {v : Int} (r : L3) (f : Nat) (h : r ≠ S_o k j) : cSe B k j v r f = B r f := by
  unfold cSe
  rw [uA_role _ _ _ _ h, uA_role _ _ _ _ h, uA_role _ _ _ _ h, uA_role _ _ _ _ h, uA_role _ _ _ _ h, uA_role _ _ _ _ h, uA_role _ _ _ _ h, uA_role _ _ _ _ h, uA_role _ _ _ _ h, uA_role _ _ _ _ h, uA_role _ _ _ _ h, uA_role _ _ _ _ h]
theorem cRe_o {v : Int} (r : L3) (f : Nat) (h : r ≠ R_o k j) : cRe B k j v r f = B r f := by
  unfold cRe
  rw [uA_role _ _ _ _ h, uA_role _ _ _ _ h, uA_role _ _ _ _ h, uA_role _ _ _ _ h, uA_role _ _ _ _ h, uA_role _ _ _ _ h, uA_role _ _ _ _ h, uA_role _ _ _ _ h, uA_role _ _ _ _ h, uA_role _ _ _ _ h, uA_role _ _ _ _ h, uA_role _ _ _ _ h, uA_role _ _ _ _ h]
theorem cSe_s {v : Int} {f : Nat} (h : f ≤ 11) : cSe B k j v (S_o k j) f = if f = 8 then v else if f = 4 ∨ f = 5 ∨ f = 6 ∨ f = 7 ∨ f = 10 then -1 else 0 := by
  unfold cSe
  rw [uA_at, uA_at, uA_at, uA_at, uA_at, uA_at, uA_at, uA_at, uA_at, uA_at, uA_at, uA_at]
  have hf : f = 0 ∨ f = 1 ∨ f = 2 ∨ f = 3 ∨ f = 4 ∨ f = 5 ∨ f = 6 ∨ f = 7 ∨ f = 8 ∨ f = 9 ∨ f = 10 ∨ f = 11 := by omega
  rcases hf with rfl | rfl | rfl | rfl | rfl | rfl | rfl | rfl | rfl | rfl | rfl | rfl <;> simp
theorem cRe_s {v : Int} {f : Nat} (h : f ≤ 12) : cRe B k j v (R_o k j) f = if f = 0 ∨ f = 6 then v else if f = 5 ∨ f = 7 then -1 else 0 := by
  unfold cRe
  rw [uA_at, uA_at, uA_at, uA_at, uA_at, uA_at, uA_at, uA_at, uA_at, uA_at, uA_at, uA_at, uA_at]
  have hf : f = 0 ∨ f = 1 ∨ f = 2 ∨ f = 3 ∨ f = 4 ∨ f = 5 ∨ f = 6 ∨ f = 7 ∨ f = 8 ∨ f = 9 ∨ f = 10 ∨ f = 11 ∨ f = 12 := by omega
  rcases hf with rfl | rfl | rfl | rfl | rfl | rfl | rfl | rfl | rfl | rfl | rfl | rfl | rfl <;> simp
theorem cBeg_o (r : L3) (f : Nat) (h : r ≠ S_o k j) (h2 : r ≠ R_o k j) : cBeg B k j r f = B r f := by
  unfold cBeg
  split
  · rw [cRe_o _ _ h2]; split
    · exact cSe_o _ _ h
    · rfl
  · split
    · exact cSe_o _ _ h
    · rfl
theorem cBeg_S (h : hs k j = true) {f : Nat} (hf : f ≤ 11) : cBeg B k j (S_o k j) f = if f = 8 then B (H_limits k) (rul k j true) else if f = 4 ∨ f = 5 ∨ f = 6 ∨ f = 7 ∨ f = 10 then -1 else 0 := by
  unfold cBeg
  rw [if_pos h]
  split
  · rw [cRe_o _ _ (fun z => by injection z with z; cases z), cSe_s hf]
  · rw [cSe_s hf]
theorem cBeg_R (h : hr k j = true) {f : Nat} (hf : f ≤ 12) : cBeg B k j (R_o k j) f = if f = 0 ∨ f = 6 then B (H_grants k) (rul k j false) else if f = 5 ∨ f = 7 then -1 else 0 := by
  unfold cBeg
  rw [if_pos h, cRe_s hf]
theorem exB_r {r : L3} : exB E k j r = true ↔ E r = true ∨ (r = S_o k j ∧ hs k j = true) ∨ (r = R_o k j ∧ hr k j = true) := by
  have ad : ∀ (E : L3 → Bool) (q : L3), addE E q r = true ↔ E r = true ∨ r = q := by
    intro E q
    unfold addE
    by_cases z : r = q
    · rw [if_pos z]; simp [z]
    · rw [if_neg z]; simp [z]
  unfold exB
  by_cases h1 : hs k j = true
  · by_cases h2 : hr k j = true
    · rw [if_pos h2, if_pos h1, ad, ad]; simp [h1, h2, or_assoc]
    · rw [if_neg h2, if_pos h1, ad]; simp [h1, h2]
  · by_cases h2 : hr k j = true
    · rw [if_pos h2, if_neg h1, ad]; simp [h1, h2]
    · rw [if_neg h2, if_neg h1]; simp [h1, h2]
theorem rul_lt {s : Bool} : rul k j s < 6 := by unfold rul; split <;> (try split) <;> omega
theorem c_begin_59 (hC : B (H_o k) 0 = k) (hk : k < 2) (hj : j < 256) : g_X2_begin_59 k E B j = some (addE E (R_o k j), (cRe B k j (B (H_grants k) (rul k j false)), ())) := by
  have ha : (j : Int) < 4611686018427387904 := by omega
  unfold g_X2_begin_59
  have := rul_lt (k := k) (j := j) (s := false)
  have er := c_rule hC hk ha false
  rw [show b2i false = 0 from rfl] at er
  rw [er, bd_v, hA_ok (by omega) (by omega), hA_ok (by omega) (by omega), tkN, tkN]
  unfold cRe gE
  simp only [gS_v]
theorem c_begin_42 (hC : B (H_o k) 0 = k) (hk : k < 2) (hj : j < 256) : g_X2_begin_42 k E B j = if hr k j = true then some (addE E (R_o k j), (cRe B k j (B (H_grants k) (rul k j false)), ())) else some (E, (B, ())) := by
  have ha : (j : Int) < 4611686018427387904 := by omega
  unfold g_X2_begin_42
  rw [c_isOneWay ha, bd_v, c_isOwn hC hk ha, bd_v, c_begin_59 hC hk hj]
  unfold hr
  cases ow j <;> cases own k j <;> simp [b2i]
theorem c_begin_17 (hB : B (H_o k) 0 = k) (hk : k < 2) (hj : j < 256) : g_X2_begin_17 k E B j = g_X2_begin_42 k (addE E (S_o k j)) (cSe B k j (B (H_limits k) (rul k j true))) j := by
  have ha : (j : Int) < 4611686018427387904 := by omega
  unfold g_X2_begin_17
  have := rul_lt (k := k) (j := j) (s := true)
  have er := c_rule hB hk ha true
  rw [show b2i true = 1 from rfl] at er
  rw [er, bd_v, hA_ok (by omega) (by omega), hA_ok (by omega) (by omega), tkN, tkN]
  unfold cSe gE
  rw [gS_v, gS_v, gS_v, gS_v, gS_v, gS_v, gS_v, gS_v, gS_v, gS_v, gS_v, gS_v]
theorem c_begin_0 (hB : B (H_o k) 0 = k) (hk : k < 2) (hj : j < 256) : g_X2_begin k E B j = if hs k j = true then g_X2_begin_17 k E B j else g_X2_begin_42 k E B j := by
  have ha : (j : Int) < 4611686018427387904 := by omega
  unfold g_X2_begin
  rw [c_isOneWay ha, bd_v, c_isOwn hB hk ha, bd_v]
  unfold hs
  cases ow j <;> cases own k j <;> simp [b2i]
theorem c_begin (hB : B (H_o k) 0 = k) (hk : k < 2) (hj : j < 256) : g_X2_begin k E B j = some (exB E k j, (cBeg B k j, ())) := by
  rw [c_begin_0 hB hk hj, c_begin_17 hB hk hj]
  unfold exB cBeg
  by_cases z : hs k j = true
  · rw [if_pos z, c_begin_42 (by rw [cSe_o _ _ (fun z => by injection z with z; cases z)]; exact hB) hk hj]
    rw [if_pos z, if_pos z, show cSe B k j (B (H_limits k) (rul k j true)) (H_grants k) (rul k j false) = B (H_grants k) (rul k j false) from cSe_o _ _ (fun z => by injection z with z; cases z)]
    by_cases y : hr k j = true
    · rw [if_pos y, if_pos y, if_pos y]
    · rw [if_neg y, if_neg y, if_neg y]
  · rw [if_neg z, c_begin_42 hB hk hj, if_neg z, if_neg z]
    by_cases y : hr k j = true
    · rw [if_pos y, if_pos y, if_pos y]
    · rw [if_neg y, if_neg y, if_neg y]
theorem hs_or_hr : hs k j = true ∨ hr k j = true := by
  unfold hs hr
  cases ow j <;> cases own k j <;> simp
theorem Rel.beg (h : Rel Any n E A B) (hk : k < 2) (hj : j < 256) (hno : A M_there (256 * k + j) = 0)
    (oA : ∀ (r : L3) (f : Nat), ¬ ((r = M_there ∨ r = M_grant ∨ r = M_limit) ∧ f = 256 * k + j) → ¬ ((r = M_opened ∨ r = M_theirs ∨ r = M_refused) ∧ f / 2 = k) → A' r f = A r f)
    (a18 : A' M_there (256 * k + j) = 1) (a31 : A' M_grant (256 * k + j) = A M_grants (16 * k + gi k j)) (tb : TB A') (th : ∀ i, i < 256 → TH A' k i) (tk : TK A' k)
    (oB : ∀ (r : L3) (f : Nat), r ≠ S_o k j → r ≠ R_o k j → ¬ (r.1 = 28 ∧ r.2.1 = k) → B' r f = B r f)
    (bS : hs k j = true → ∀ f, f ≤ 11 → B' (S_o k j) f = if f = 8 then A' M_limit (256 * k + j) else if f = 4 ∨ f = 5 ∨ f = 6 ∨ f = 7 ∨ f = 10 then -1 else 0)
    (bR : hr k j = true → ∀ f, f ≤ 12 → B' (R_o k j) f = if f = 0 ∨ f = 6 then A M_grants (16 * k + gi k j) else if f = 5 ∨ f = 7 then -1 else 0)
    (wys : ∀ w, w < 2 → CWy A' B' k w) : Rel Any n (exB E k j) A' B' := by
  have t := h.ts k j hk hj
  have eS : E (S_o k j) = false := by rw [(h.ex k j hk hj).1, hno]; rfl
  have eR : E (R_o k j) = false := by rw [(h.ex k j hk hj).2, hno]; rfl
  -- how it was
  have nt : ¬ (A M_there (256 * k + j) ≠ 0) := fun z => z hno
  have sno := fun z => nt (t.sth z).1
  have rno := fun z => nt (t.rth z).1
  have z23 : A M_tellReset (256 * k + j) = 0 := by
    by_cases z : A M_tellReset (256 * k + j) = 0
    · exact z
    · exact absurd (Or.inl z) sno
  have z20 : A M_finished (256 * k + j) = 0 := by
    by_cases z : A M_finished (256 * k + j) = 0
    · exact z
    · exact absurd (Or.inr (Or.inl z)) sno
  have z22 : A M_resets (256 * k + j) = 0 := by
    by_cases z : A M_resets (256 * k + j) = 0
    · exact z
    · exact absurd (Or.inr (Or.inr (Or.inl z))) sno
  have zwl : wl A k j = 0 := by
    by_cases z : wl A k j = 0
    · exact z
    · exact absurd (Or.inr (Or.inr (Or.inr (by omega)))) sno
  have z34 : A M_tellStop (256 * k + j) = 0 := by
    by_cases z : A M_tellStop (256 * k + j) = 0
    · exact z
    · exact absurd (Or.inl z) rno
  have z32 : A M_tellGrant (256 * k + j) = 0 := by
    by_cases z : A M_tellGrant (256 * k + j) = 0
    · exact z
    · exact absurd (Or.inr (Or.inl z)) rno
  have z26 : A M_highest (256 * k + j) = 0 := by
    by_cases z : A M_highest (256 * k + j) = 0
    · exact z
    · exact absurd (Or.inr (Or.inr (Or.inl z))) rno
  have z28 : A M_read (256 * k + j) = 0 := by
    by_cases z : A M_read (256 * k + j) = 0
    · exact z
    · exact absurd (Or.inr (Or.inr (Or.inr (Or.inl z)))) rno
  have z27 : A M_size (256 * k + j) = -1 := by
    by_cases z : A M_size (256 * k + j) = -1
    · exact z
    · exact absurd (Or.inr (Or.inr (Or.inr (Or.inr (Or.inl z))))) rno
  have z29 : A M_wasReset (256 * k + j) = 0 := by
    by_cases z : A M_wasReset (256 * k + j) = 0
    · exact z
    · exact absurd (Or.inr (Or.inr (Or.inr (Or.inr (Or.inr (Or.inl z)))))) rno
  have z33 : A M_stopped (256 * k + j) = 0 := by
    by_cases z : A M_stopped (256 * k + j) = 0
    · exact z
    · exact absurd (Or.inr (Or.inr (Or.inr (Or.inr (Or.inr (Or.inr z)))))) rno
  have z36 : A M_over (256 * k + j) = 0 := by
    by_cases z : A M_over (256 * k + j) = 0
    · exact z
    · exact absurd ((h.ov k j hk hj trivial).1 z).2.1 nt
  obtain ⟨z25, z35⟩ := t.tln hno
  have zpos : pos A k j = [] := List.eq_nil_of_length_eq_zero zwl
  have zhas : ∀ o, hasB A k j o = false := by
    intro o
    cases z : hasB A k j o
    · rfl
    · have := t.hsh o z; omega
  -- what is the same
  have ax : ∀ (r : L3) (f : Nat), r.1 ≠ 18 → r.1 ≠ 31 → r.1 ≠ 19 → r.1 ≠ 9 → r.1 ≠ 10 → r.1 ≠ 16 → A' r f = A r f := by
    intro r f h1 h2 h3 h4 h5 h6
    refine oA r f ?_ ?_
    · rintro ⟨z | z | z, _⟩
      · exact h1 (by rw [z])
      · exact h2 (by rw [z])
      · exact h3 (by rw [z])
    · rintro ⟨z | z | z, _⟩
      · exact h4 (by rw [z])
      · exact h5 (by rw [z])
      · exact h6 (by rw [z])
  have hR : SameR A A' := SameR.make (fun f => ax _ _ (by decide) (by decide) (by decide) (by decide) (by decide) (by decide)) (fun f => ax _ _ (by decide) (by decide) (by decide) (by decide) (by decide) (by decide)) (fun f => ax _ _ (by decide) (by decide) (by decide) (by decide) (by decide) (by decide)) (fun f => ax _ _ (by decide) (by decide) (by decide) (by decide) (by decide) (by decide))
  have hP : SameP A A' := SameP.make (fun f => ax _ _ (by decide) (by decide) (by decide) (by decide) (by decide) (by decide)) (fun f => ax _ _ (by decide) (by decide) (by decide) (by decide) (by decide) (by decide)) (fun f => ax _ _ (by decide) (by decide) (by decide) (by decide) (by decide) (by decide)) (fun f => ax _ _ (by decide) (by decide) (by decide) (by decide) (by decide) (by decide)) (fun f => ax _ _ (by decide) (by decide) (by decide) (by decide) (by decide) (by decide))
  have fx : ∀ t, 18 ≤ t → t ≤ 36 → t ≠ 18 → t ≠ 31 → t ≠ 19 → A' (t, 0, 0) (256 * k + j) = A (t, 0, 0) (256 * k + j) := fun t h1 h2 h3 h4 h5 => ax _ _ h3 h4 h5 (by show t ≠ 9; omega) (by show t ≠ 10; omega) (by show t ≠ 16; omega)
  have es : ∀ q i, q < 2 → i < 256 → ¬ (q = k ∧ i = j) → EqS A A' q i := by
    intro q i hq hi hne
    refine EqS.same hR hP (fun t h1 h2 => oA _ _ ?_ ?_)
    · rintro ⟨_, z⟩; exact hne (by omega)
    · rintro ⟨z | z | z, _⟩
      · injection z with z; omega
      · injection z with z; omega
      · injection z with z; omega
  have x20 : A' M_finished (256 * k + j) = 0 := by rw [show A' M_finished (256 * k + j) = A M_finished (256 * k + j) from fx 20 (by omega) (by omega) (by omega) (by omega) (by omega)]; exact z20
  have x21 : A' M_end (256 * k + j) = A M_end (256 * k + j) := fx 21 (by omega) (by omega) (by omega) (by omega) (by omega)
  have x22 : A' M_resets (256 * k + j) = 0 := by rw [show A' M_resets (256 * k + j) = A M_resets (256 * k + j) from fx 22 (by omega) (by omega) (by omega) (by omega) (by omega)]; exact z22
  have x23 : A' M_tellReset (256 * k + j) = 0 := by rw [show A' M_tellReset (256 * k + j) = A M_tellReset (256 * k + j) from fx 23 (by omega) (by omega) (by omega) (by omega) (by omega)]; exact z23
  have x25 : A' M_toldLimit (256 * k + j) = -1 := by rw [show A' M_toldLimit (256 * k + j) = A M_toldLimit (256 * k + j) from fx 25 (by omega) (by omega) (by omega) (by omega) (by omega)]; exact z25
  have x26 : A' M_highest (256 * k + j) = 0 := by rw [show A' M_highest (256 * k + j) = A M_highest (256 * k + j) from fx 26 (by omega) (by omega) (by omega) (by omega) (by omega)]; exact z26
  have x27 : A' M_size (256 * k + j) = -1 := by rw [show A' M_size (256 * k + j) = A M_size (256 * k + j) from fx 27 (by omega) (by omega) (by omega) (by omega) (by omega)]; exact z27
  have x28 : A' M_read (256 * k + j) = 0 := by rw [show A' M_read (256 * k + j) = A M_read (256 * k + j) from fx 28 (by omega) (by omega) (by omega) (by omega) (by omega)]; exact z28
  have x29 : A' M_wasReset (256 * k + j) = 0 := by rw [show A' M_wasReset (256 * k + j) = A M_wasReset (256 * k + j) from fx 29 (by omega) (by omega) (by omega) (by omega) (by omega)]; exact z29
  have x32 : A' M_tellGrant (256 * k + j) = 0 := by rw [show A' M_tellGrant (256 * k + j) = A M_tellGrant (256 * k + j) from fx 32 (by omega) (by omega) (by omega) (by omega) (by omega)]; exact z32
  have x33 : A' M_stopped (256 * k + j) = 0 := by rw [show A' M_stopped (256 * k + j) = A M_stopped (256 * k + j) from fx 33 (by omega) (by omega) (by omega) (by omega) (by omega)]; exact z33
  have x34 : A' M_tellStop (256 * k + j) = 0 := by rw [show A' M_tellStop (256 * k + j) = A M_tellStop (256 * k + j) from fx 34 (by omega) (by omega) (by omega) (by omega) (by omega)]; exact z34
  have x35 : A' M_stopCode (256 * k + j) = 0 := by rw [show A' M_stopCode (256 * k + j) = A M_stopCode (256 * k + j) from fx 35 (by omega) (by omega) (by omega) (by omega) (by omega)]; exact z35
  have x36 : A' M_over (256 * k + j) = 0 := by rw [show A' M_over (256 * k + j) = A M_over (256 * k + j) from fx 36 (by omega) (by omega) (by omega) (by omega) (by omega)]; exact z36
  have ywl : wl A' k j = 0 := by rw [hR.wl]; exact zwl
  have ysn : sn A' k j = 0 := by have : sn A' k j ≤ wl A' k j := List.countP_le_length; omega
  have ysst : sst A' k j = 0 := by unfold sst; rw [x22, x20]; rfl
  have yrd : rd A' k j = 0 := by
    unfold rd
    rw [x28]
    refine rdF_eq (Nat.le_refl _) (by decide) (fun o h1 h2 => by omega) ?_
    rw [hP.hasB]; exact zhas _
  have yrst : rst A' k j = 0 := by unfold rst; rw [x29, if_pos rfl, x27, if_neg (by decide)]
  have e18 : ∀ q i, q < 2 → i < 256 → A M_there (256 * q + i) ≠ 0 → A' M_there (256 * q + i) ≠ 0 := by
    intro q i hq hi z
    by_cases y : q = k ∧ i = j
    · rw [y.1, y.2, a18]; decide
    · rw [show A' M_there (256 * q + i) = A M_there (256 * q + i) from (es q i hq hi y).fld 18 (by omega) (by omega)]; exact z
  have up : ∀ r, E r = true → exB E k j r = true := fun r z => exB_r.2 (Or.inl z)
  have dn : ∀ r, r ≠ S_o k j → r ≠ R_o k j → exB E k j r = true → E r = true := by
    intro r h1 h2 z
    rcases exB_r.1 z with z | z | z
    · exact z
    · exact absurd z.1 h1
    · exact absurd z.1 h2
  have nS : ∀ q i, ¬ (q = k ∧ i = j) → S_o q i ≠ S_o k j := fun q i hne z => hne (by injection z with _ z; injection z with z1 z2; exact ⟨z1, z2⟩)
  have nR : ∀ q i, ¬ (q = k ∧ i = j) → R_o q i ≠ R_o k j := fun q i hne z => hne (by injection z with _ z; injection z with z1 z2; exact ⟨z1, z2⟩)
  have SR : ∀ q i, S_o q i ≠ R_o k j := fun q i z => by injection z with z; cases z
  have RS : ∀ q i, R_o q i ≠ S_o k j := fun q i z => by injection z with z; cases z
  have xS : ∀ q i, ¬ (q = k ∧ i = j) → (exB E k j (S_o q i) = true ↔ E (S_o q i) = true) := fun q i hne => ⟨dn _ (nS q i hne) (SR q i), up _⟩
  have xR : ∀ q i, ¬ (q = k ∧ i = j) → (exB E k j (R_o q i) = true ↔ E (R_o q i) = true) := fun q i hne => ⟨dn _ (RS q i) (nR q i hne), up _⟩
  have xSk : exB E k j (S_o k j) = true ↔ hs k j = true := by
    rw [exB_r]
    constructor
    · rintro (z | z | z)
      · rw [eS] at z; cases z
      · exact z.2
      · exact absurd z.1 (SR k j)
    · intro z; exact Or.inr (Or.inl ⟨rfl, z⟩)
  have xRk : exB E k j (R_o k j) = true ↔ hr k j = true := by
    rw [exB_r]
    constructor
    · rintro (z | z | z)
      · rw [eR] at z; cases z
      · exact absurd z.1 (RS k j)
      · exact z.2
    · intro z; exact Or.inr (Or.inr ⟨rfl, z⟩)
  have bo : ∀ (r : L3) (f : Nat), r.1 ≠ 29 → r.1 ≠ 30 → r.1 ≠ 28 → B' r f = B r f := fun r f h1 h2 h3 => oB r f (fun z => h1 (by rw [z])) (fun z => h2 (by rw [z])) (fun z => h3 z.1)
  have bSo : ∀ q i f, ¬ (q = k ∧ i = j) → B' (S_o q i) f = B (S_o q i) f := fun q i f hne => oB _ _ (nS q i hne) (SR q i) (fun z => by cases z.1)
  have bRo : ∀ q i f, ¬ (q = k ∧ i = j) → B' (R_o q i) f = B (R_o q i) f := fun q i f hne => oB _ _ (RS q i) (nR q i hne) (fun z => by cases z.1)
  refine Rel.make tb (h.pf.cg hP.pcs hP.has) ?_ ?_ ?_ ?_ ?_ ?_ (h.cnt.cg (Nat.le_refl _) hR hP (by rw [ax _ _ (by decide) (by decide) (by decide) (by decide) (by decide) (by decide)]; exact Int.le_refl _)) ?_ ?_ ?_ ?_ ?_ ?_ ?_ ?_ ?_ ?_ ?_ ?_ ?_
  · intro q i hq hi
    by_cases y : q = k ∧ i = j
    · obtain ⟨rfl, rfl⟩ := y
      refine TS.make (Or.inr a18) (Or.inl x20) ?_ ?_ (Or.inl x23) (Or.inl x32) (Or.inl x34) (Or.inl x33) (Or.inl x29) (Or.inl x36) ?_ ?_ ?_ ?_ ?_ ?_ ?_ ?_
      · rw [x21]; exact t.e03
      · rw [x21]; intro z; exact absurd z20 (t.enf z)
      · rw [x23, x20, x22, ywl]; intro z; omega
      · rw [x34, x32, x26, x28, x27, x29, x33]; intro z; omega
      · intro z; rw [a18] at z; cases z
      · rw [x28]; intro o ho; omega
      · intro o z; rw [hP.hasB, zhas] at z; cases z
      · rw [x27]; intro z; omega
      · rw [x29]; intro z; exact absurd rfl z
      · rw [ywl]; intro o z; omega
    · exact (h.ts q i hq hi).cg (es q i hq hi y)
  · intro q i hq hi
    by_cases y : q = k
    · subst y; exact th i hi
    · have := h.th q i hq hi
      unfold TH at this ⊢
      have o1 : ∀ w, w < 2 → A' M_opened (2 * q + w) = A M_opened (2 * q + w) ∧ A' M_theirs (2 * q + w) = A M_theirs (2 * q + w) := fun w hw => ⟨oA _ _ (fun z => by rcases z.1 with u | u | u <;> (injection u with u; cases u)) (fun z => by omega), oA _ _ (fun z => by rcases z.1 with u | u | u <;> (injection u with u; cases u)) (fun z => by omega)⟩
      have hw := wy_lt i
      rw [(o1 _ hw).1, (o1 _ hw).2, show A' M_there (256 * q + i) = A M_there (256 * q + i) from (es q i hq hi (fun z => y z.1)).fld 18 (by omega) (by omega)]
      exact this
  · intro q i hq hi _
    by_cases y : q = k ∧ i = j
    · obtain ⟨rfl, rfl⟩ := y
      have nov : ovr A' q i = false := by
        unfold ovr
        rw [yrst, ysst]
        rcases hs_or_hr (k := q) (j := i) with z | z <;> rw [z] <;> simp
      unfold OV
      rw [x36, nov]
      constructor
      · intro z; exact absurd rfl z
      · intro z; cases z.2.2
    · exact (h.ov q i hq hi trivial).cg (es q i hq hi y)
  · intro q hq
    by_cases y : q = k
    · subst y; exact tk
    · refine (h.tk q hq).cg (ax _ _ (by decide) (by decide) (by decide) (by decide) (by decide) (by decide)) (fun t f h1 h2 h3 => oA _ _ (fun z => by rcases z.1 with u | u | u <;> (injection u with u; omega)) (fun z => ?_)) (ax _ _ (by decide) (by decide) (by decide) (by decide) (by decide) (by decide)) (hP.pcs _)
      obtain ⟨z1, z2⟩ := z
      rcases z1 with u | u | u
      · injection u with u; omega
      · injection u with u; omega
      · injection u with u; omega
  · intro p hp
    refine (h.tl p hp).cg (fun t f h1 h2 => ax _ _ (by show t ≠ 18; omega) (by show t ≠ 31; omega) (by show t ≠ 19; omega) (by show t ≠ 9; omega) (by show t ≠ 10; omega) (by show t ≠ 16; omega)) ?_ e18 ?_ (fun q i _ _ => by rw [hR.wl]; exact Nat.le_refl _) (fun q i _ _ o _ z => by rw [hR.mka]; exact z)
    · intro q i _ _; rw [ax _ _ (by decide) (by decide) (by decide) (by decide) (by decide) (by decide)]; exact fun z => z
    · intro q i _ _; rw [ax _ _ (by decide) (by decide) (by decide) (by decide) (by decide) (by decide)]; exact fun z => z
  · exact h.tf.cg (fun t f h1 h2 => ax _ _ (by show t ≠ 18; omega) (by show t ≠ 31; omega) (by show t ≠ 19; omega) (by show t ≠ 9; omega) (by show t ≠ 10; omega) (by show t ≠ 16; omega))
  · intro q hq; rw [bo _ _ (by show 17 ≠ 29; decide) (by show 17 ≠ 30; decide) (by show 17 ≠ 28; decide)]; exact h.nst q hq
  · intro q hq; rw [bo _ _ (by show 13 ≠ 29; decide) (by show 13 ≠ 30; decide) (by show 13 ≠ 28; decide)]; exact h.nsp q hq
  · intro q i hq hi
    by_cases y : q = k ∧ i = j
    · obtain ⟨rfl, rfl⟩ := y
      rw [a18]
      refine ⟨?_, ?_⟩
      · rw [Bool.eq_iff_iff, xSk]; simp
      · rw [Bool.eq_iff_iff, xRk]; simp
    · rw [show A' M_there (256 * q + i) = A M_there (256 * q + i) from (es q i hq hi y).fld 18 (by omega) (by omega)]
      have := h.ex q i hq hi
      exact ⟨by rw [← this.1, Bool.eq_iff_iff]; exact xS q i y, by rw [← this.2, Bool.eq_iff_iff]; exact xR q i y⟩
  · have tp := h.top
    refine CTop.make ?_ ?_ ?_ ?_ ?_ ?_
    · rw [bo _ _ (by decide) (by decide) (by decide), ax _ _ (by decide) (by decide) (by decide) (by decide) (by decide) (by decide)]; exact tp.tap
    · rw [bo _ _ (by decide) (by decide) (by decide), ax _ _ (by decide) (by decide) (by decide) (by decide) (by decide) (by decide)]; exact tp.mad
    · rw [bo _ _ (by decide) (by decide) (by decide), ax _ _ (by decide) (by decide) (by decide) (by decide) (by decide) (by decide)]; exact tp.jnd
    · intro i hi; rw [bo _ _ (by decide) (by decide) (by decide), ax _ _ (by decide) (by decide) (by decide) (by decide) (by decide) (by decide)]; exact tp.tpe i hi
    · intro i hi; rw [bo _ _ (by decide) (by decide) (by decide), ax _ _ (by decide) (by decide) (by decide) (by decide) (by decide) (by decide)]; exact tp.out i hi
    · intro i; rw [ax _ _ (by decide) (by decide) (by decide) (by decide) (by decide) (by decide)]; exact tp.ovl i
  · intro q hq
    exact gr_cg (ax _ _ (by decide) (by decide) (by decide) (by decide) (by decide) (by decide)) (fun f => ax _ _ (by decide) (by decide) (by decide) (by decide) (by decide) (by decide)) (fun i => bo _ _ (by show 3 ≠ 29; decide) (by show 3 ≠ 30; decide) (by show 3 ≠ 28; decide)) (fun i => bo _ _ (by show 11 ≠ 29; decide) (by show 11 ≠ 30; decide) (by show 11 ≠ 28; decide)) (fun i => bo _ _ (by show 12 ≠ 29; decide) (by show 12 ≠ 30; decide) (by show 12 ≠ 28; decide)) (bo _ _ (by show 7 ≠ 29; decide) (by show 7 ≠ 30; decide) (by show 7 ≠ 28; decide)) (h.gr q hq)
  · intro q hq
    refine (h.hl q hq).cg (ax _ _ (by decide) (by decide) (by decide) (by decide) (by decide) (by decide)) (ax _ _ (by decide) (by decide) (by decide) (by decide) (by decide) (by decide)) hR.sa (sumTo_congr (fun i _ => ax _ _ (by decide) (by decide) (by decide) (by decide) (by decide) (by decide))) (sumTo_congr (fun i _ => ?_)) (ax _ _ (by decide) (by decide) (by decide) (by decide) (by decide) (by decide)) (ax _ _ (by decide) (by decide) (by decide) (by decide) (by decide) (by decide)) (ax _ _ (by decide) (by decide) (by decide) (by decide) (by decide) (by decide)) (fun f _ _ => bo _ _ (by show 7 ≠ 29; decide) (by show 7 ≠ 30; decide) (by show 7 ≠ 28; decide))
    unfold co
    rw [ax _ _ (by decide) (by decide) (by decide) (by decide) (by decide) (by decide), ax _ _ (by decide) (by decide) (by decide) (by decide) (by decide) (by decide), ax _ _ (by decide) (by decide) (by decide) (by decide) (by decide) (by decide)]
  · intro q w hq hw
    by_cases y : q = k
    · subst y; exact wys w hw
    · have o1 : ∀ t, t = 9 ∨ t = 10 ∨ t = 16 → A' (t, 0, 0) (2 * q + w) = A (t, 0, 0) (2 * q + w) := fun t ht => oA _ _ (fun z => by rcases z.1 with u | u | u <;> (injection u with u; omega)) (fun z => by omega)
      exact (h.wys q w hq hw).cg (o1 9 (by omega)) (o1 10 (by omega)) (ax _ _ (by decide) (by decide) (by decide) (by decide) (by decide) (by decide)) (ax _ _ (by decide) (by decide) (by decide) (by decide) (by decide) (by decide)) (o1 16 (by omega)) (ax _ _ (by decide) (by decide) (by decide) (by decide) (by decide) (by decide)) (ax _ _ (by decide) (by decide) (by decide) (by decide) (by decide) (by decide)) (fun f => oB _ _ (fun z => by injection z with z; cases z) (fun z => by injection z with z; cases z) (fun z => y z.2))
  · intro q i hq hi hE
    by_cases y : q = k ∧ i = j
    · obtain ⟨rfl, rfl⟩ := y
      have hs1 := xSk.1 hE
      have b := bS hs1
      refine CSd.make ?_ ?_ ?_ ?_ ?_ ?_ ?_ ?_
      · rw [b 0 (by decide), ysst]; rfl
      · rw [b 1 (by decide), ywl]; rfl
      · rw [b 2 (by decide), ysn]; rfl
      · rw [b 3 (by decide), x20]; rfl
      · rw [b 8 (by decide)]; rfl
      · rw [b 9 (by decide), x22]; rfl
      · rw [b 10 (by decide), x25]; rfl
      · rw [x22]; intro z; cases z
    · exact (h.sd q i hq hi ((xS q i y).1 hE)).cg (es q i hq hi y) (fun f _ _ _ _ => bSo q i f y)
  · intro q i hq hi hE
    by_cases y : q = k ∧ i = j
    · obtain ⟨rfl, rfl⟩ := y
      have hr1 := xRk.1 hE
      have b := bR hr1
      refine CRv.make ?_ ?_ ?_ ?_ ?_ ?_ ?_ ?_ ?_ ?_ ?_ ?_
      · rw [b 0 (by decide), ax _ _ (by decide) (by decide) (by decide) (by decide) (by decide) (by decide)]; rfl
      · rw [b 1 (by decide), yrst]; rfl
      · rw [b 2 (by decide), x28]; rfl
      · rw [b 3 (by decide), yrd]; rfl
      · rw [b 4 (by decide), x26]; rfl
      · rw [b 5 (by decide), x27]; rfl
      · rw [b 6 (by decide), a31]; rfl
      · rw [b 8 (by decide), x29]; rfl
      · rw [b 9 (by decide), x35]; rfl
      · rw [b 10 (by decide), x32]; rfl
      · rw [b 11 (by decide), x34]; rfl
      · rw [b 12 (by decide), x33]; rfl
    · exact (h.rv q i hq hi ((xR q i y).1 hE)).cg (es q i hq hi y) (ax _ _ (by decide) (by decide) (by decide) (by decide) (by decide) (by decide)) (fun f _ => bRo q i f y)
  · intro q hq
    obtain ⟨ch, c⟩ := h.st q hq
    refine ⟨ch, ?_⟩
    have e1 : B' (T_at q) = B (T_at q) := funext fun f => bo _ _ (by show 19 ≠ 29; decide) (by show 19 ≠ 30; decide) (by show 19 ≠ 28; decide)
    have e2 : B' (T_size q) = B (T_size q) := funext fun f => bo _ _ (by show 20 ≠ 29; decide) (by show 20 ≠ 30; decide) (by show 20 ≠ 28; decide)
    have e3 : B' (T_next q) = B (T_next q) := funext fun f => bo _ _ (by show 21 ≠ 29; decide) (by show 21 ≠ 30; decide) (by show 21 ≠ 28; decide)
    have e4 : B' (T_o q) = B (T_o q) := funext fun f => bo _ _ (by show 17 ≠ 29; decide) (by show 17 ≠ 30; decide) (by show 17 ≠ 28; decide)
    have e5 : B' (T_bytes q) = B (T_bytes q) := funext fun f => bo _ _ (by show 18 ≠ 29; decide) (by show 18 ≠ 30; decide) (by show 18 ≠ 28; decide)
    have tot : A' M_total q = A M_total q := hR.tot _
    refine CSt.make ?_ ?_ ?_ ?_ ?_ ?_ ?_ c.ndp c.dis ?_
    · rw [e4, tot]; exact c.use
    · rw [e5, tot]; intro i hi; rw [hR.val]; exact c.byt i hi
    · rw [e4]; exact c.npc
    · intro i hi hE
      rw [e3]
      by_cases y : q = k ∧ i = j
      · obtain ⟨rfl, rfl⟩ := y
        rw [bS (xSk.1 hE) 4 (by decide), c.emp i (fun z => by rw [eS] at z; cases z.2)]; rfl
      · rw [bSo q i 4 y]; exact c.lnk i hi ((xS q i y).1 hE)
    · intro i hi hE
      by_cases y : q = k ∧ i = j
      · obtain ⟨rfl, rfl⟩ := y
        rw [bS (xSk.1 hE) 5 (by decide), c.emp i (fun z => by rw [eS] at z; cases z.2)]; rfl
      · rw [bSo q i 5 y]; exact c.las i hi ((xS q i y).1 hE)
    · intro i hi; exact c.emp i (fun z => hi ⟨z.1, up _ z.2⟩)
    · rw [e4, e1, e2, tot]; exact c.mem
    · intro i hi hE
      rw [e1, e2, hR.pos]
      by_cases y : q = k ∧ i = j
      · obtain ⟨rfl, rfl⟩ := y
        rw [c.emp i (fun z => by rw [eS] at z; cases z.2), zpos]; rfl
      · exact c.seg i hi ((xS q i y).1 hE)
  · intro q hq
    obtain ⟨ch, fl, c⟩ := h.sp q hq
    refine ⟨ch, fl, ?_⟩
    have e1 : B' (P_from q) = B (P_from q) := funext fun f => bo _ _ (by show 14 ≠ 29; decide) (by show 14 ≠ 30; decide) (by show 14 ≠ 28; decide)
    have e2 : B' (P_to q) = B (P_to q) := funext fun f => bo _ _ (by show 15 ≠ 29; decide) (by show 15 ≠ 30; decide) (by show 15 ≠ 28; decide)
    have e3 : B' (P_next q) = B (P_next q) := funext fun f => bo _ _ (by show 16 ≠ 29; decide) (by show 16 ≠ 30; decide) (by show 16 ≠ 28; decide)
    have e4 : B' (P_o q) = B (P_o q) := funext fun f => bo _ _ (by show 13 ≠ 29; decide) (by show 13 ≠ 30; decide) (by show 13 ≠ 28; decide)
    refine CSp.make ?_ ?_ ?_ ?_ ?_ ?_ ?_ c.ndc c.ndf c.dis c.dif ?_ ?_ ?_
    · rw [e4]; exact c.mad
    · rw [e3, e4]; exact c.fre
    · intro i hi hE
      rw [e3]
      by_cases y : q = k ∧ i = j
      · obtain ⟨rfl, rfl⟩ := y
        rw [bS (xSk.1 hE) 6 (by decide), (c.emp i (fun z => by rw [eS] at z; cases z.2)).1]; rfl
      · rw [bSo q i 6 y]; exact c.lnl i hi ((xS q i y).1 hE)
    · intro i hi hE
      rw [e3]
      by_cases y : q = k ∧ i = j
      · obtain ⟨rfl, rfl⟩ := y
        rw [bS (xSk.1 hE) 7 (by decide), (c.emp i (fun z => by rw [eS] at z; cases z.2)).2]; rfl
      · rw [bSo q i 7 y]; exact c.lnh i hi ((xS q i y).1 hE)
    · intro i hi; exact c.emp i (fun z => hi ⟨z.1, up _ z.2⟩)
    · rw [e4]; exact c.mem
    · rw [e4]; exact c.mef
    · rw [e1, e2]; exact c.rng
    · intro i hi hE o
      rw [e1, e2, hR.wl, hR.mka]
      by_cases y : q = k ∧ i = j
      · obtain ⟨rfl, rfl⟩ := y
        rw [(c.emp i (fun z => by rw [eS] at z; cases z.2)).1, zwl]
        constructor
        · rintro ⟨_, z, _⟩; cases z
        · intro z; omega
      · exact c.los i hi ((xS q i y).1 hE) o
    · intro i hi hE o
      rw [e1, e2, hR.wl, hR.mka]
      by_cases y : q = k ∧ i = j
      · obtain ⟨rfl, rfl⟩ := y
        rw [(c.emp i (fun z => by rw [eS] at z; cases z.2)).2, zwl]
        constructor
        · rintro ⟨_, z, _⟩; cases z
        · intro z; omega
      · exact c.her i hi ((xS q i y).1 hE) o
  · intro q hq
    obtain ⟨ch, fl, c⟩ := h.bl q hq
    refine ⟨ch, fl, ?_⟩
    have e1 : B' (B_bytes q) = B (B_bytes q) := funext fun f => bo _ _ (by show 23 ≠ 29; decide) (by show 23 ≠ 30; decide) (by show 23 ≠ 28; decide)
    have e2 : B' (B_marks q) = B (B_marks q) := funext fun f => bo _ _ (by show 24 ≠ 29; decide) (by show 24 ≠ 30; decide) (by show 24 ≠ 28; decide)
    have e3 : B' (B_index q) = B (B_index q) := funext fun f => bo _ _ (by show 25 ≠ 29; decide) (by show 25 ≠ 30; decide) (by show 25 ≠ 28; decide)
    have e4 : B' (B_next q) = B (B_next q) := funext fun f => bo _ _ (by show 26 ≠ 29; decide) (by show 26 ≠ 30; decide) (by show 26 ≠ 28; decide)
    have e5 : B' (B_o q) = B (B_o q) := funext fun f => bo _ _ (by show 22 ≠ 29; decide) (by show 22 ≠ 30; decide) (by show 22 ≠ 28; decide)
    have er : ∀ i, A' M_read (256 * q + i) = A M_read (256 * q + i) := fun i => ax _ _ (by decide) (by decide) (by decide) (by decide) (by decide) (by decide)
    have ew : ∀ i, A' M_wasReset (256 * q + i) = A M_wasReset (256 * q + i) := fun i => ax _ _ (by decide) (by decide) (by decide) (by decide) (by decide) (by decide)
    have ea : ∀ i num, pa A' q i num = pa A q i num := fun i num => hP.pa
    have eh : ∀ i o, hasB A' q i o = hasB A q i o := fun i o => hP.hasB
    have eb : ∀ i o, bt A' q i o = bt A q i o := fun i o => hP.bt
    refine CBl.make ?_ ?_ ?_ ?_ ?_ ?_ c.ndc c.ndf c.dis c.dif ?_ ?_ ?_ ?_ ?_ ?_
    · rw [e5, hP.pcs]; exact c.mad
    · rw [e4, e5]; exact c.fre
    · intro i hi hE
      rw [e4]
      by_cases y : q = k ∧ i = j
      · obtain ⟨rfl, rfl⟩ := y
        rw [bR (xRk.1 hE) 7 (by decide), c.emp i (fun z => by rw [eR] at z; cases z.2.1)]; rfl
      · rw [bRo q i 7 y]; exact c.lnk i hi ((xR q i y).1 hE)
    · intro i hi; refine c.emp i (fun z => hi ⟨z.1, up _ z.2.1, ?_⟩); rw [ew]; exact z.2.2
    · rw [e5]; exact c.mem
    · rw [e5]; exact c.mef
    · rw [e3]; exact c.ris
    · intro i p hp; rw [e3, er]; simp only [ea]; exact c.idx i p hp
    · intro i hi hE
      rw [e3, er, ew]
      simp only [ea]
      by_cases y : q = k ∧ i = j
      · obtain ⟨rfl, rfl⟩ := y
        intro _ n' q' _ hz
        have := c.pth i hi _ _ hz
        rw [eR] at this; cases this
      · exact c.all i hi ((xR q i y).1 hE)
    · intro i p hp; rw [e2, e3]; simp only [eh]; exact c.bit i p hp
    · intro i p hp; rw [e1, e3]; simp only [eh, eb]; exact c.byt i p hp
    · intro i hi n' x hx; rw [ea] at hx; exact up _ (c.pth i hi n' x hx)
  · intro p hp
    exact (h.ln p hp).cg (fun t f h1 h2 => ax _ _ (by show t ≠ 18; omega) (by show t ≠ 31; omega) (by show t ≠ 19; omega) (by show t ≠ 9; omega) (by show t ≠ 10; omega) (by show t ≠ 16; omega)) (fun f => bo _ _ (by show 31 ≠ 29; decide) (by show 31 ≠ 30; decide) (by show 31 ≠ 28; decide)) (fun f => bo _ _ (by show 32 ≠ 29; decide) (by show 32 ≠ 30; decide) (by show 32 ≠ 28; decide))
end BEG
