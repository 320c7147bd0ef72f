/-! THE TWIN: grants, joining, the tape, openings -/
theorem t_noSide_ok {z : Int} (h : 0 ≤ z ∧ z ≤ 1) : g_X8_noSide z = some 0 := by rw [t_noSide, if_pos h]
theorem t_noSide_bad {z : Int} (h : ¬ (0 ≤ z ∧ z ≤ 1)) : g_X8_noSide z = some 1 := by rw [t_noSide, if_neg h]
def aGrant (A : AM) (k i : Nat) (v : Int) : AM := if i = 4 then uA (uA A M_grants (16 * k + i) v) M_dataGrant k v else if i ≤ 7 then uA A M_grants (16 * k + i) v else uA (uA A M_grants (16 * k + i) v) M_granted (2 * k + i - 8) v
theorem t_grant_45 {A : AM} {x1 x2 x3 : Int} : g_X8_grant_45 A x1 x2 x3 1 = some (uA A M_o 0 1) := by
  unfold g_X8_grant_45
  rw [t_fails (Or.inr rfl), gB2_v, if_pos (by decide), if_neg (by decide)]
theorem t_grant_bad {A : AM} {x1 x2 x3 : Int} (h : ¬ (0 ≤ x1 ∧ x1 ≤ 1 ∧ 4 ≤ x2 ∧ x2 ≤ 9 ∧ 0 ≤ x3 ∧ (x2 ≤ 7 → x3 ≤ 65536) ∧ (7 < x2 → x3 ≤ 64))) : g_X8_grant A x1 x2 x3 = some (uA A M_o 0 1) := by
  unfold g_X8_grant g_X8_grant_37 g_X8_grant_40
  rw [t_noSide, bd_v, t_grant_45]
  by_cases h1 : 0 ≤ x1 ∧ x1 ≤ 1
  · rw [if_pos h1, if_neg (by decide)]
    by_cases h2 : x2 < 4
    · rw [if_pos h2]
    · rw [if_neg h2]
      by_cases h3 : 9 < x2
      · rw [if_pos h3]
      · rw [if_neg h3]
        by_cases h4 : x3 < 0
        · rw [if_pos h4]
        · rw [if_neg h4]
          by_cases h5 : x2 ≤ 7
          · rw [if_pos h5, if_neg (by omega)]
          · rw [if_neg h5, if_neg (by omega)]
  · rw [if_neg h1, if_pos (by decide)]
theorem t_grant_good {A : AM} {k i : Nat} {v : Int} (hk : k < 2) (h1 : 4 ≤ i) (h2 : i ≤ 9) (h3 : 0 ≤ v) (h4 : i ≤ 7 → v ≤ 65536) (h5 : 7 < i → v ≤ 64) (hj : A M_o 1 = 0 ∨ A M_o 1 = 1) :
    g_X8_grant A k i v = some (if A M_o 1 = 0 then aGrant (uA (uA A M_o 0 0) M_o 0 0) k i v else uA (uA A M_o 0 0) M_o 0 2) := by
  unfold g_X8_grant g_X8_grant_37
  rw [t_noSide_ok (by omega), bd_v, if_neg (by decide), if_neg (by omega), if_neg (by omega), if_neg (by omega)]
  have e : g_X8_grant_45 A k i v 0 = some (if A M_o 1 = 0 then aGrant (uA (uA A M_o 0 0) M_o 0 0) k i v else uA (uA A M_o 0 0) M_o 0 2) := by
    unfold g_X8_grant_45
    rw [t_fails (Or.inl rfl), gB2_v, if_neg (by decide), if_pos rfl]
    have e1 : (uA A M_o 0 0) M_o 1 = A M_o 1 := rfl
    rw [e1, t_fails hj, gB2_v]
    rcases hj with hj | hj
    · rw [if_pos hj, if_pos hj, if_pos hj]
      simp (disch := omega) only [hA_ok, gS_v]
      rw [show (16 * (k : Int) + (i : Int)).toNat = 16 * k + i by omega, tkN]
      unfold aGrant g_X8_grant_90
      by_cases h6 : i = 4
      · rw [if_neg (by omega), if_pos h6, if_pos (by omega)]
      · rw [if_pos (by omega), if_neg h6]
        by_cases h7 : i ≤ 7
        · rw [if_pos (by omega), if_pos h7]
        · rw [if_neg (by omega), if_neg h7, hA_ok (by omega) (by omega), gS_v, show (2 * (k : Int) + (i : Int) - 8).toNat = 2 * k + i - 8 by omega]
    · rw [if_neg (by omega), if_neg (by omega), if_neg (by omega)]
  rw [e]
  by_cases h6 : i ≤ 7
  · rw [if_pos (by omega), if_pos (by omega)]
  · rw [if_neg (by omega), if_pos (by omega)]
/-- joined: each side has the other's grants as its limits -/
def aJoin (A : AM) : AM := uA (uA (uA (uA (uA (uA (uA A M_o 1 1) M_limits 0 (A M_grants 20)) M_limits 1 (A M_grants 24)) M_limits 2 (A M_grants 25)) M_limits 3 (A M_grants 4)) M_limits 4 (A M_grants 8)) M_limits 5 (A M_grants 9)
theorem t_join {A : AM} (hj : A M_o 1 = 0 ∨ A M_o 1 = 1) : g_X8_join A = some (if A M_o 1 = 0 then aJoin (uA A M_o 0 0) else uA A M_o 0 1) := by
  unfold g_X8_join
  rw [t_fails hj, gB2_v]
  rcases hj with hj | hj
  · rw [if_pos hj, if_pos hj, if_pos hj, gS_v]
    rw [show FU = 199997 + 1 + 1 + 1 from rfl]
    unfold g_X8_join_20 g_X8_join_20_b
    rw [if_neg (by decide), hA_ok (by decide) (by decide), hA_ok (by decide) (by decide), gS_v, show FU = 199997 + 1 + 1 + 1 from rfl]
    unfold g_X8_join_49 g_X8_join_49_b
    rw [if_neg (by decide), hA_ok (by decide) (by decide), hA_ok (by decide) (by decide), gS_v, c32_ok (by decide) (by decide)]
    unfold g_X8_join_49 g_X8_join_49_b
    rw [if_neg (by decide), hA_ok (by decide) (by decide), hA_ok (by decide) (by decide), gS_v, c32_ok (by decide) (by decide)]
    unfold g_X8_join_49 g_X8_join_49_b
    rw [if_pos (by decide), c32_ok (by decide) (by decide)]
    unfold g_X8_join_20 g_X8_join_20_b
    rw [if_neg (by decide), hA_ok (by decide) (by decide), hA_ok (by decide) (by decide), gS_v, show FU = 199997 + 1 + 1 + 1 from rfl]
    unfold g_X8_join_49 g_X8_join_49_b
    rw [if_neg (by decide), hA_ok (by decide) (by decide), hA_ok (by decide) (by decide), gS_v, c32_ok (by decide) (by decide)]
    unfold g_X8_join_49 g_X8_join_49_b
    rw [if_neg (by decide), hA_ok (by decide) (by decide), hA_ok (by decide) (by decide), gS_v, c32_ok (by decide) (by decide)]
    unfold g_X8_join_49 g_X8_join_49_b
    rw [if_pos (by decide), c32_ok (by decide) (by decide)]
    unfold g_X8_join_20 g_X8_join_20_b
    rw [if_pos (by decide)]
    rfl
  · rw [if_neg (by omega), if_neg (by omega), if_neg (by omega)]
/-- bytes come on the tape -/
def aFeed (v : Int) : Nat → AM → AM
  | 0, A => A
  | m + 1, A => uA (aFeed v m A) M_tape ((A M_o 3).toNat + m) (v / 2 ^ (8 * m) % 256)
theorem aFeed_o {v : Int} {m : Nat} {A : AM} (r : L3) (f : Nat) (h : r ≠ M_tape) : aFeed v m A r f = A r f := by
  induction m with
  | zero => rfl
  | succ m ih => unfold aFeed; rw [uA_role _ _ _ _ h, ih]
theorem t_feed_54 {A : AM} {v : Int} {n : Nat} (hn : n ≤ 8) (ht : 0 ≤ A M_o 3) (ht2 : A M_o 3 + n ≤ 2048) : ∀ (m i f : Nat), i + m = n → m < f → g_X8_feed_54 f (aFeed v i A) n v i = some (uA (aFeed v n A) M_o 3 (A M_o 3 + n), A M_o 3 + n) := by
  intro m
  induction m with
  | zero =>
    intro i f h1 h2
    obtain ⟨f, rfl⟩ : ∃ f', f = f' + 1 := ⟨f - 1, by omega⟩
    unfold g_X8_feed_54 g_X8_feed_54_b
    have e : (aFeed v i A) M_o 3 = A M_o 3 := aFeed_o _ _ (by decide)
    rw [if_pos (by omega), e, c32_ok (by omega) (by omega), gS_v, uA_self, show i = n by omega]
  | succ m ih =>
    intro i f h1 h2
    obtain ⟨f, rfl⟩ : ∃ f', f = f' + 1 := ⟨f - 1, by omega⟩
    have e : (aFeed v i A) M_o 3 = A M_o 3 := aFeed_o _ _ (by decide)
    have ih1 := ih (i + 1) f (by omega) (by omega)
    unfold g_X8_feed_54 g_X8_feed_54_b
    rw [if_neg (by omega), e, hA_ok (by omega) (by omega), hA_ok (by omega) (by omega), c32_ok (by omega) (by omega), gS_v, c32_ok (by omega) (by omega), show (i : Int) + 1 = ((i + 1 : Nat) : Int) by omega]
    rw [show aFeed v (i + 1) A = uA (aFeed v i A) M_tape ((A M_o 3).toNat + i) (v / 2 ^ (8 * i) % 256) from rfl] at ih1
    rw [show (8 * (i : Int)).toNat = 8 * i by omega, show (A M_o 3 + (i : Int)).toNat = (A M_o 3).toNat + i by omega]
    exact ih1
theorem t_feed_bad {A : AM} {x1 x2 : Int} (h : ¬ (1 ≤ x1 ∧ x1 ≤ 8)) : g_X8_feed A x1 x2 = some (uA A M_o 0 1, 0) := by
  unfold g_X8_feed g_X8_feed_12
  have e : g_X8_feed_17 A x1 x2 1 = some (uA A M_o 0 1, 0) := by
    unfold g_X8_feed_17
    rw [t_fails (Or.inr rfl), gB2_v, if_pos (by decide), if_neg (by decide)]
  rw [e]
  by_cases h1 : x1 < 1
  · rw [if_pos h1]
  · rw [if_neg h1, if_neg (by omega)]
theorem t_feed_good {A : AM} {n : Nat} {v : Int} (h1 : 1 ≤ n) (h2 : n ≤ 8) (ht : 0 ≤ A M_o 3) (ht2 : A M_o 3 ≤ 2048) :
    g_X8_feed A n v = some (if A M_o 3 + n ≤ 2048 then (uA (aFeed v n (uA (uA A M_o 0 0) M_o 0 0)) M_o 3 (A M_o 3 + n), A M_o 3 + n) else (uA (uA A M_o 0 0) M_o 0 2, 0)) := by
  unfold g_X8_feed
  rw [if_neg (by omega), if_pos (by omega)]
  unfold g_X8_feed_17
  rw [t_fails (Or.inl rfl), gB2_v, if_neg (by decide), if_pos rfl]
  have e1 : (uA A M_o 0 0) M_o 3 = A M_o 3 := rfl
  rw [e1, c32_ok (by omega) (by omega)]
  unfold g_X8_feed_42
  by_cases h : A M_o 3 + n ≤ 2048
  · rw [if_pos h, if_pos h, t_fails (Or.inl rfl), gB2_v, if_pos rfl, if_pos rfl]
    have e2 : (uA (uA A M_o 0 0) M_o 0 0) M_o 3 = A M_o 3 := rfl
    have h3 := t_feed_54 (A := uA (uA A M_o 0 0) M_o 0 0) (v := v) (n := n) h2 (by rw [e2]; exact ht) (by rw [e2]; exact h) n 0 FU (by omega) (by unfold FU; omega)
    rw [e2] at h3
    exact h3
  · rw [if_neg h, if_neg h, t_fails (Or.inr rfl), gB2_v, if_neg (by decide), if_neg (by decide)]
/-- an opening: refused, or a stream begins -/
def aOpen (A : AM) (k w : Nat) : AM × Int :=
  if A M_limits (3 * k + 1 + w) ≤ A M_opened (2 * k + w) ∨ A M_opened (2 * k + w) = 64 then (uA A M_refused (2 * k + w) 1, -1)
  else (aBegin (uA (uA A M_refused (2 * k + w) 0) M_opened (2 * k + w) (A M_opened (2 * k + w) + 1)) k (4 * (A M_opened (2 * k + w)).toNat + 2 * w + k), 4 * A M_opened (2 * k + w) + 2 * w + k)
theorem t_open_43 {A : AM} {k w : Nat} (hk : k < 2) (hw : w < 2) (ho : 0 ≤ A M_opened (2 * k + w) ∧ A M_opened (2 * k + w) ≤ 64) : g_X8_open_43 A k w = some (aOpen A k w) := by
  unfold g_X8_open_43 g_X8_open_87 aOpen
  simp (disch := omega) only [hA_ok, c32_ok, gS_v, tk_2, tk_31]
  have e1 : (uA A M_refused (2 * k + w) 0) M_opened (2 * k + w) = A M_opened (2 * k + w) := rfl
  rw [e1]
  by_cases h1 : A M_limits (3 * k + 1 + w) ≤ A M_opened (2 * k + w)
  · rw [if_pos h1, if_pos (Or.inl h1)]
  · rw [if_neg h1]
    by_cases h2 : A M_opened (2 * k + w) = 64
    · rw [if_neg (fun q => q h2), if_pos (Or.inr h2)]
    · rw [if_pos h2, if_neg (fun q => by rcases q with q | q; exact h1 q; exact h2 q)]
      have e2 : 4 * A M_opened (2 * k + w) + 2 * (w : Int) + (k : Int) = ((4 * (A M_opened (2 * k + w)).toNat + 2 * w + k : Nat) : Int) := by omega
      rw [c32_ok (by omega) (by omega), c32_ok (by omega) (by omega), e2, t_begin hk (by omega), bd_v]
theorem t_open_bad {A : AM} {x1 x2 : Int} (h : ¬ (0 ≤ x1 ∧ x1 ≤ 1)) : g_X8_open A x1 x2 = some (uA A M_o 0 1, 0) := by
  unfold g_X8_open
  rw [t_noSide_bad h, bd_v, t_fails (Or.inr rfl), gB2_v, if_pos (by decide), if_neg (by decide)]
theorem t_open_good {A : AM} {k : Nat} {x2 : Int} (hk : k < 2) (hj : A M_o 1 = 0 ∨ A M_o 1 = 1) (ho : ∀ w, w < 2 → 0 ≤ A M_opened (2 * k + w) ∧ A M_opened (2 * k + w) ≤ 64) :
    g_X8_open A k x2 = some (if A M_o 1 = 0 then (uA (uA A M_o 0 0) M_o 0 2, 0) else aOpen (uA (uA A M_o 0 0) M_o 0 0) k (if x2 = 0 then 1 else 0)) := by
  unfold g_X8_open
  rw [t_noSide_ok (by omega), bd_v, t_fails (Or.inl rfl), gB2_v, if_neg (by decide), if_pos rfl]
  have e1 : (uA A M_o 0 0) M_o 1 = A M_o 1 := rfl
  rw [e1]
  unfold g_X8_open_25
  rcases hj with hj | hj
  · rw [if_neg (fun q => q hj), if_pos hj, t_fails (Or.inr rfl), gB2_v, if_neg (by decide), if_neg (by decide)]
  · rw [if_pos (by omega), if_neg (by omega), t_fails (Or.inl rfl), gB2_v, if_pos rfl, if_pos rfl]
    by_cases h : x2 = 0
    · rw [if_pos h, if_pos h]; exact t_open_43 (w := 1) hk (by omega) (ho 1 (by omega))
    · rw [if_neg h, if_neg h]; exact t_open_43 (w := 0) hk (by omega) (ho 0 (by omega))
