/-! THE COMPONENT, run: frames, grants, errors -/
theorem uA_same {A : AM} {r : L3} {f : Nat} {v : Int} (h : A r f = v) : uA A r f v = A := by
  funext r' f'
  rw [uA_at]
  by_cases e : r' = r ∧ f' = f
  · rw [if_pos e, e.1, e.2, h]
  · rw [if_neg e]
theorem uA_uA {A : AM} {r : L3} {f : Nat} {v w : Int} : uA (uA A r f v) r f w = uA A r f w := by
  funext r' f'
  simp only [uA_at]
  by_cases e : r' = r ∧ f' = f
  · rw [if_pos e, if_pos e]
  · rw [if_neg e, if_neg e, if_neg e]
section CM1
variable {A B : AM} {E : L3 → Bool} {k j : Nat}
def cFr (B : AM) (k : Nat) (kd a b c : Int) : AM := uA (uA (uA (uA (uA B (H_o k) 17 kd) (H_o k) 19 a) (H_o k) 20 b) (H_o k) 21 c) (H_o k) 18 0
theorem c_frame {kind : Nat} (h8 : kind ≠ 8) {a b c room : Int} : g_X2_frame k B kind a b c room = some (if fsz kind a b c ≤ room then (cFr B k kind a b c, 1) else (B, 0)) := by
  have s1 := sz_le a
  have s2 := sz_le b
  have s3 := sz_le c
  have e70 : ∀ y0 y1 : Int, 0 ≤ y0 → y0 ≤ 20 → 0 ≤ y1 → y1 ≤ 20 → g_X2_frame_70 k B kind a b c room y0 y1 = some (if y1 + y0 ≤ room then (cFr B k kind a b c, 1) else (B, 0)) := by
    intro y0 y1 h1 h2 h3 h4
    unfold g_X2_frame_70
    rw [c32_ok (by omega) (by omega)]
    split
    · rfl
    · rfl
  have e1 : g_X2_frame_31 k B kind a b c room 1 = some (if 1 + sz a ≤ room then (cFr B k kind a b c, 1) else (B, 0)) := by
    unfold g_X2_frame_31 g_X2_frame_54
    rw [c_sizeOf, bd_v, if_pos (by decide), c32_ok (by omega) (by omega), if_pos (by decide), c32_ok (by omega) (by omega), e70 _ _ (by omega) (by omega) (by omega) (by omega), show 1 + sz a + 0 + 0 = 1 + sz a by omega]
  have e2 : g_X2_frame_31 k B kind a b c room 2 = some (if 1 + sz a + sz b ≤ room then (cFr B k kind a b c, 1) else (B, 0)) := by
    unfold g_X2_frame_31 g_X2_frame_54
    rw [c_sizeOf, bd_v, if_neg (by decide), c_sizeOf, bd_v, c32_ok (by omega) (by omega), if_pos (by decide), c32_ok (by omega) (by omega), e70 _ _ (by omega) (by omega) (by omega) (by omega), show 1 + sz a + sz b + 0 = 1 + sz a + sz b by omega]
  have e3 : g_X2_frame_31 k B kind a b c room 3 = some (if 1 + sz a + sz b + sz c ≤ room then (cFr B k kind a b c, 1) else (B, 0)) := by
    unfold g_X2_frame_31 g_X2_frame_54
    rw [c_sizeOf, bd_v, if_neg (by decide), c_sizeOf, bd_v, c32_ok (by omega) (by omega), if_neg (by decide), c_sizeOf, bd_v, c32_ok (by omega) (by omega), e70 _ _ (by omega) (by omega) (by omega) (by omega)]
  unfold g_X2_frame g_X2_frame_26
  rw [e1, e2, e3]
  by_cases q4 : kind = 4
  · rw [if_neg (by omega), show fsz kind a b c = 1 + sz a + sz b + sz c by unfold fsz; rw [if_pos (Or.inl q4), if_pos q4]]
  rw [if_pos (by omega)]
  by_cases q5 : kind = 5
  · rw [if_pos (by omega), show fsz kind a b c = 1 + sz a + sz b by unfold fsz; rw [if_pos (Or.inr (Or.inl q5)), if_neg q4]; omega]
  rw [if_neg (by omega)]
  by_cases q17 : kind = 17
  · rw [if_pos (by omega), show fsz kind a b c = 1 + sz a + sz b by unfold fsz; rw [if_pos (Or.inr (Or.inr (Or.inl q17))), if_neg q4]; omega]
  rw [if_neg (by omega)]
  by_cases q21 : kind = 21
  · rw [if_neg (by omega), show fsz kind a b c = 1 + sz a + sz b by unfold fsz; rw [if_pos (Or.inr (Or.inr (Or.inr q21))), if_neg q4]; omega]
  rw [if_pos (by omega), show fsz kind a b c = 1 + sz a by unfold fsz; rw [if_neg (by omega), if_neg q4]; omega]
theorem c_bytes {kind a n : Nat} {b c : Int} (h17 : B (H_o k) 17 = kind) (h18 : B (H_o k) 18 = n) (h19 : B (H_o k) 19 = a) (h20 : B (H_o k) 20 = b) (h21 : B (H_o k) 21 = c) (hn : n ≤ 1200) (hb : 0 ≤ b) : g_X2_bytes k B = some (if kind = 8 then fsS a b n else fsz kind a b c) := by
  have s1 := sz_le a
  have s2 := sz_le b
  have s3 := sz_le c
  have s4 := sz_le n
  have e38 : ∀ y : Int, 0 ≤ y → y ≤ 20 → g_X2_bytes_38 k B y (1 + sz a) = some (1 + sz a + y + sz n + n) := by
    intro y h1 h2
    unfold g_X2_bytes_38
    rw [h18, c_sizeOf, bd_v, c32_ok (by omega) (by omega)]
  have e108 : ∀ x : Int, 0 ≤ x → x ≤ 40 → g_X2_bytes_108 k B x = some (if kind = 4 then x + sz c else x) := by
    intro x h1 h2
    unfold g_X2_bytes_108
    rw [h17, h21, c_sizeOf, bd_v, c32_ok (by omega) (by omega)]
    by_cases q : kind = 4
    · rw [if_neg (by omega), if_pos q]
    · rw [if_pos (by omega), if_neg q]
  have e98 : g_X2_bytes_98 k B (1 + sz a) = some (if kind = 4 then 1 + sz a + sz b + sz c else 1 + sz a + sz b) := by
    unfold g_X2_bytes_98
    rw [h20, c_sizeOf, bd_v, c32_ok (by omega) (by omega), e108 _ (by omega) (by omega)]
  unfold g_X2_bytes
  rw [h17, h19, h20, c_sizeOf, bd_v, c_sizeOf, bd_v, bd_v, c32_ok (by omega) (by omega), c32_ok (by omega) (by omega), c32_ok (by omega) (by omega), c32_ok (by omega) (by omega), e98, e108 _ (by omega) (by omega), e38 _ (by omega) (by omega), e38 0 (by omega) (by omega)]
  by_cases q8 : kind = 8
  · rw [if_neg (by omega), if_pos q8]
    unfold fsS
    by_cases q : b = 0
    · rw [if_neg (fun z => z q), if_pos (by omega)]
    · rw [if_pos q, if_neg (by omega)]
  rw [if_pos (by omega), if_neg q8]
  unfold fsz
  by_cases q4 : kind = 4
  · rw [if_pos (by omega), if_pos q4, if_pos (Or.inl q4), if_pos q4]
  rw [if_neg (by omega), if_neg q4, if_neg q4, if_neg q4]
  by_cases q5 : kind = 5
  · rw [if_pos (by omega), if_pos (Or.inr (Or.inl q5))]; congr 1; omega
  rw [if_neg (by omega)]
  by_cases q17 : kind = 17
  · rw [if_pos (by omega), if_pos (Or.inr (Or.inr (Or.inl q17)))]; congr 1; omega
  rw [if_neg (by omega)]
  by_cases q21 : kind = 21
  · rw [if_neg (by omega), if_pos (Or.inr (Or.inr (Or.inr q21)))]; congr 1; omega
  rw [if_pos (by omega), if_neg (by omega)]; congr 1; omega
/-- the data grant grows: the twin's words for it -/
def gDp (A : AM) (k : Nat) : Prop := A M_grants (16 * k + 4) ≤ 2 * (sco A k + A M_grants (16 * k + 4) - A M_dataGrant k) ∧ A M_dataGrant k < sco A k + A M_grants (16 * k + 4) ∧ A M_dataGrant k < nx (sco A k + A M_grants (16 * k + 4))
def cGrowD (A B : AM) (k : Nat) : AM := if A M_grants (16 * k + 4) ≤ 2 * (sco A k + A M_grants (16 * k + 4) - A M_dataGrant k) ∧ A M_dataGrant k < sco A k + A M_grants (16 * k + 4) ∧ A M_dataGrant k < nx (sco A k + A M_grants (16 * k + 4)) then uA (uA B (H_o k) 14 (nx (sco A k + A M_grants (16 * k + 4)))) (H_o k) 16 1 else B
theorem mnZ_nx (z : Int) : mnZ z 65536 = nx z := by unfold mnZ nx; split <;> split <;> omega
theorem c_grow (hk : k < 2) (h13 : B (H_o k) 13 = sco A k) (h14 : B (H_o k) 14 = A M_dataGrant k) (hg : B (H_grants k) 0 = A M_grants (16 * k + 4)) (hT : TB A) : g_X2_grow k B = some (cGrowD A B k) := by
  have hc := sumTo_bd (f := co A k) (n := 256) (b := 65536) (fun q hq => hT.cob hk q hq)
  have hs : sco A k = sumTo (co A k) 256 := rfl
  have hg2 := hT.gra k 4 hk (by omega) (by omega)
  have hd := hT.dgr k hk
  unfold g_X2_grow cGrowD
  rw [hA_ok (by decide) (by decide), hA_ok (by decide) (by decide), hA_ok (by decide) (by decide), show (0 : Int).toNat = 0 from rfl, h13, h14, hg, mnZ_nx, c32_ok (by omega) (by omega), c32_ok (by omega) (by omega), gS_v, gS_v]
  have hn : nx (sco A k + A M_grants (16 * k + 4)) ≤ sco A k + A M_grants (16 * k + 4) := by unfold nx; split <;> omega
  by_cases q1 : 2 * (sco A k + A M_grants (16 * k + 4) - A M_dataGrant k) < A M_grants (16 * k + 4)
  · rw [if_pos q1, if_neg (by omega)]
  · rw [if_neg q1]
    by_cases q2 : A M_dataGrant k < nx (sco A k + A M_grants (16 * k + 4))
    · rw [if_pos q2, if_pos ⟨by omega, by omega, q2⟩]
    · rw [if_neg q2, if_neg (fun z => q2 z.2.2)]
def cGrowS (A B : AM) (k j : Nat) : AM := if A M_grants (16 * k + gi k j) ≤ 2 * (A M_read (256 * k + j) + A M_grants (16 * k + gi k j) - A M_grant (256 * k + j)) ∧ A M_grant (256 * k + j) < A M_read (256 * k + j) + A M_grants (16 * k + gi k j) ∧ A M_grant (256 * k + j) < nx (A M_read (256 * k + j) + A M_grants (16 * k + gi k j)) then uA (uA B (R_o k j) 6 (nx (A M_read (256 * k + j) + A M_grants (16 * k + gi k j)))) (R_o k j) 10 1 else B
theorem c_grow_2 (hk : k < 2) (hj : j < 256) (h2 : B (R_o k j) 2 = A M_read (256 * k + j)) (h6 : B (R_o k j) 6 = A M_grant (256 * k + j)) (h0 : B (R_o k j) 0 = A M_grants (16 * k + gi k j)) (hT : TB A) : g_X2_grow_2 k B j = some (cGrowS A B k j) := by
  have hgi := gi_le k j
  have hg := hT.gra k (gi k j) hk (by omega) (by omega)
  have hd := hT.grs k j hk hj
  have hr := hT.rds k j hk hj
  unfold g_X2_grow_2 cGrowS
  rw [h2, h6, h0, mnZ_nx, c32_ok (by omega) (by omega), c32_ok (by omega) (by omega), gS_v, gS_v]
  have hn : nx (A M_read (256 * k + j) + A M_grants (16 * k + gi k j)) ≤ A M_read (256 * k + j) + A M_grants (16 * k + gi k j) := by unfold nx; split <;> omega
  by_cases q1 : 2 * (A M_read (256 * k + j) + A M_grants (16 * k + gi k j) - A M_grant (256 * k + j)) < A M_grants (16 * k + gi k j)
  · rw [if_pos q1, if_neg (by omega)]
  · rw [if_neg q1]
    by_cases q2 : A M_grant (256 * k + j) < nx (A M_read (256 * k + j) + A M_grants (16 * k + gi k j))
    · rw [if_pos q2, if_pos ⟨by omega, by omega, q2⟩]
    · rw [if_neg q2, if_neg (fun z => q2 z.2.2)]
/-- a state settles -/
def stl (st sz rdy rea : Int) : Int := if (if (if st = 0 ∧ 0 ≤ sz then 1 else st) = 1 ∧ rdy = sz then 2 else (if st = 0 ∧ 0 ≤ sz then 1 else st)) = 2 ∧ rea = sz then 3 else (if (if st = 0 ∧ 0 ≤ sz then 1 else st) = 1 ∧ rdy = sz then 2 else (if st = 0 ∧ 0 ≤ sz then 1 else st))
theorem c_settle : g_X10_settle k j B = some (uA B (R_o k j) 1 (stl (B (R_o k j) 1) (B (R_o k j) 5) (B (R_o k j) 3) (B (R_o k j) 2))) := by
  have e43 : ∀ v : Int, g_X10_settle_43 k j (uA B (R_o k j) 1 v) = some (uA B (R_o k j) 1 (if v = 2 ∧ B (R_o k j) 2 = B (R_o k j) 5 then 3 else v)) := by
    intro v
    unfold g_X10_settle_43
    rw [uA_self, uA_idx _ _ _ _ (by decide), uA_idx _ _ _ _ (by decide), gS_v, uA_uA]
    by_cases q : v = 2
    · rw [if_neg (fun z => z q)]
      by_cases q2 : B (R_o k j) 2 = B (R_o k j) 5
      · rw [if_neg (fun z => z q2), if_pos ⟨q, q2⟩]
      · rw [if_pos q2, if_neg (fun z => q2 z.2)]
    · rw [if_pos q, if_neg (fun z => q z.1)]
  have e19 : ∀ v : Int, g_X10_settle_19 k j (uA B (R_o k j) 1 v) = some (uA B (R_o k j) 1 (if (if v = 1 ∧ B (R_o k j) 3 = B (R_o k j) 5 then 2 else v) = 2 ∧ B (R_o k j) 2 = B (R_o k j) 5 then 3 else (if v = 1 ∧ B (R_o k j) 3 = B (R_o k j) 5 then 2 else v))) := by
    intro v
    unfold g_X10_settle_19
    rw [uA_self, uA_idx _ _ _ _ (by decide), uA_idx _ _ _ _ (by decide), gS_v, uA_uA, e43, e43]
    by_cases q : v = 1
    · rw [if_neg (fun z => z q)]
      by_cases q2 : B (R_o k j) 3 = B (R_o k j) 5
      · rw [if_neg (fun z => z q2), if_pos (show v = 1 ∧ B (R_o k j) 3 = B (R_o k j) 5 from ⟨q, q2⟩)]
      · rw [if_pos q2, if_neg (show ¬ (v = 1 ∧ B (R_o k j) 3 = B (R_o k j) 5) from fun z => q2 z.2)]
    · rw [if_pos q, if_neg (show ¬ (v = 1 ∧ B (R_o k j) 3 = B (R_o k j) 5) from fun z => q z.1)]
  unfold g_X10_settle stl
  have e0 := e19 (B (R_o k j) 1)
  rw [uA_same rfl] at e0
  rw [gS_v, e19, e0]
  by_cases q : B (R_o k j) 1 = 0
  · rw [if_neg (fun z => z q)]
    by_cases q2 : 0 ≤ B (R_o k j) 5
    · rw [if_neg (by omega), if_pos (show B (R_o k j) 1 = 0 ∧ 0 ≤ B (R_o k j) 5 from ⟨q, q2⟩)]
    · rw [if_pos (by omega), if_neg (show ¬ (B (R_o k j) 1 = 0 ∧ 0 ≤ B (R_o k j) 5) from fun z => q2 z.2)]
  · rw [if_pos q, if_neg (show ¬ (B (R_o k j) 1 = 0 ∧ 0 ≤ B (R_o k j) 5) from fun z => q z.1)]
end CM1
