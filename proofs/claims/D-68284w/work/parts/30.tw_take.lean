/-! THE TWIN: taking frames -/
section TWT
variable {A : AM} {k j : Nat}
/-- whether a stream may be meant -/
def mnt (A : AM) (k a : Nat) (sp : Bool) : Int := if own k a = true ∧ (256 ≤ a ∨ A M_there (256 * k + a) = 0) then 5 else if (if sp then hs k a else hr k a) = false then 5 else if own k a = false ∧ A M_granted (2 * k + wy a) ≤ (a / 4 : Nat) then 4 else 0
theorem wy_lt (j : Nat) : wy j < 2 := by unfold wy; omega
theorem t_meant (h : TB A) (hk : k < 2) {a : Nat} (ha : (a : Int) < 4611686018427387904) (sp : Bool) : g_X8_meant A k a (b2i sp) = some (mnt A k a sp) := by
  have hw := wy_lt a
  have e58 : g_X8_meant_58 A k a = some (if own k a = false ∧ A M_granted (2 * k + wy a) ≤ (a / 4 : Nat) then 4 else 0) := by
    unfold g_X8_meant_58
    rw [t_opens hk ha, bd_v, t_wayOf ha, bd_v, wy_b2i, hA_ok (by omega) (by omega), hA_ok (by omega) (by omega), c64_ok (by omega) (by omega), tk_2]
    cases ho : own k a
    · rw [if_neg (by decide)]
      by_cases q : (a : Int) / 4 < A M_granted (2 * k + wy a)
      · rw [if_pos q, if_neg (fun z => by omega)]
      · rw [if_neg q, if_pos ⟨rfl, by omega⟩]
    · rw [if_pos (by decide), if_neg (fun z => by cases z.1)]
  have e32 : g_X8_meant_32 A k a (b2i sp) = some (if (if sp then hs k a else hr k a) = false then 5 else if own k a = false ∧ A M_granted (2 * k + wy a) ≤ (a / 4 : Nat) then 4 else 0) := by
    unfold g_X8_meant_32
    rw [t_sends hk ha, bd_v, t_receives hk ha, bd_v, e58]
    cases sp
    · cases hq : hr k a <;> simp [b2i]
    · cases hq : hs k a <;> simp [b2i]
  unfold g_X8_meant mnt
  rw [t_opens hk ha, bd_v, e32]
  generalize (if (if sp then hs k a else hr k a) = false then (5 : Int) else if own k a = false ∧ A M_granted (2 * k + wy a) ≤ (a / 4 : Nat) then 4 else 0) = T
  cases ho : own k a
  · rw [if_pos (by rfl), if_neg (fun z => by cases z.1)]
  · rw [if_neg (by decide)]
    by_cases q : 256 ≤ a
    · rw [if_pos (by omega), if_pos ⟨rfl, Or.inl q⟩]
    · rw [if_neg (by omega), c32_ok (by omega) (by omega), t_at hk (by omega), bd_v, hA_ok (by omega) (by omega), tk_at]
      by_cases q2 : A M_there (256 * k + a) = 0
      · rw [if_neg (fun z => z q2), if_pos ⟨rfl, Or.inr q2⟩]
      · rw [if_pos q2, if_neg (fun z => by rcases z.2 with z | z; exact q z; exact q2 z)]
/-- the error of a new end -/
def rch (A : AM) (k j : Nat) (e : Int) (last : Bool) : Int :=
  if 0 ≤ A M_size (256 * k + j) ∧ (A M_size (256 * k + j) < e ∨ last = true ∧ e ≠ A M_size (256 * k + j)) then 6
  else if last = true ∧ e < A M_highest (256 * k + j) then 6
  else if (if A M_there (256 * k + j) = 0 then A M_grants (16 * k + gi k j) else A M_grant (256 * k + j)) < e ∨ A M_dataGrant k < shi A k + (if e ≤ A M_highest (256 * k + j) then 0 else e - A M_highest (256 * k + j)) then 3 else 0
theorem t_reaches (h : TB A) (hk : k < 2) (hj : j < 256) {e : Int} (he : 0 ≤ e ∧ e < 4611686018427400000) (last : Bool) : g_X8_reaches A k j e (b2i last) = some (rch A k j e last) := by
  have hs := sumTo_bd (f := fun j => A M_highest (256 * k + j)) (n := 256) (b := 65536) (fun q hq => h.hig k q hk hq)
  have hs2 : shi A k = sumTo (fun j => A M_highest (256 * k + j)) 256 := rfl
  have hh := h.hig k j hk hj
  have hd := h.dgr k hk
  have e125 : ∀ x y : Int, 0 ≤ y → y < 4611686018427400000 → g_X8_reaches_125 A k e x y = some (if x < e ∨ A M_dataGrant k < shi A k + y then 3 else 0) := by
    intro x y h1 h2
    unfold g_X8_reaches_125 g_X8_reaches_152
    rw [h.rcd hk, bd_v, hA_ok (by omega) (by omega), tkN, c64_ok (by omega) (by omega)]
    by_cases q : x < e
    · rw [if_pos q, if_pos (Or.inl q)]
    · rw [if_neg q]
      by_cases q2 : shi A k + y ≤ A M_dataGrant k
      · rw [if_pos q2, if_neg (by omega)]
      · rw [if_neg q2, if_pos (by omega)]
  have e98 : ∀ x : Int, g_X8_reaches_98 A k e (256 * (k : Int) + j) x = some (if x < e ∨ A M_dataGrant k < shi A k + (if e ≤ A M_highest (256 * k + j) then 0 else e - A M_highest (256 * k + j)) then 3 else 0) := by
    intro x
    unfold g_X8_reaches_98
    rw [hA_ok (by omega) (by omega), hA_ok (by omega) (by omega), tk_at]
    by_cases q : e ≤ A M_highest (256 * k + j)
    · rw [if_pos q, if_pos q, e125 _ _ (by omega) (by omega)]
    · rw [if_neg q, if_neg q, c64_ok (by omega) (by omega), e125 _ _ (by omega) (by omega)]
  have e71 : g_X8_reaches_71 A k j e (256 * (k : Int) + j) = some (if (if A M_there (256 * k + j) = 0 then A M_grants (16 * k + gi k j) else A M_grant (256 * k + j)) < e ∨ A M_dataGrant k < shi A k + (if e ≤ A M_highest (256 * k + j) then 0 else e - A M_highest (256 * k + j)) then 3 else 0) := by
    unfold g_X8_reaches_71
    rw [hA_ok (by omega) (by omega), hA_ok (by omega) (by omega), tk_at, t_grantOf hk (by omega), bd_v, e98, e98]
    by_cases q : A M_there (256 * k + j) = 0
    · rw [if_pos q, if_pos q]
    · rw [if_neg q, if_neg q]
  have e51 : g_X8_reaches_51 A k j e (b2i last) (256 * (k : Int) + j) = some (if last = true ∧ e < A M_highest (256 * k + j) then 6 else if (if A M_there (256 * k + j) = 0 then A M_grants (16 * k + gi k j) else A M_grant (256 * k + j)) < e ∨ A M_dataGrant k < shi A k + (if e ≤ A M_highest (256 * k + j) then 0 else e - A M_highest (256 * k + j)) then 3 else 0) := by
    unfold g_X8_reaches_51
    rw [e71, hA_ok (by omega) (by omega), tk_at]
    generalize (if (if A M_there (256 * k + j) = 0 then A M_grants (16 * k + gi k j) else A M_grant (256 * k + j)) < e ∨ A M_dataGrant k < shi A k + (if e ≤ A M_highest (256 * k + j) then 0 else e - A M_highest (256 * k + j)) then (3 : Int) else 0) = T
    cases last
    · rw [if_pos (by rfl), if_neg (fun z => by cases z.1)]
    · rw [if_neg (by decide)]
      by_cases q : A M_highest (256 * k + j) ≤ e
      · rw [if_pos q, if_neg (fun z => by omega)]
      · rw [if_neg q, if_pos ⟨rfl, by omega⟩]
  unfold g_X8_reaches rch
  simp (disch := omega) only [t_at, bd_v, hA_ok, tk_at, e51]
  generalize (if last = true ∧ e < A M_highest (256 * k + j) then (6 : Int) else if (if A M_there (256 * k + j) = 0 then A M_grants (16 * k + gi k j) else A M_grant (256 * k + j)) < e ∨ A M_dataGrant k < shi A k + (if e ≤ A M_highest (256 * k + j) then 0 else e - A M_highest (256 * k + j)) then 3 else 0) = T
  by_cases q : A M_size (256 * k + j) < 0
  · rw [if_pos q, if_neg (fun z => by omega)]
  · rw [if_neg q]
    by_cases q2 : A M_size (256 * k + j) < e
    · rw [if_pos q2, if_pos ⟨by omega, Or.inl q2⟩]
    · rw [if_neg q2]
      cases last
      · rw [if_pos (by rfl), if_neg (fun z => by rcases z.2 with z | z; exact q2 z; cases z.1)]
      · rw [if_neg (by decide)]
        by_cases q3 : e = A M_size (256 * k + j)
        · rw [if_pos q3, if_neg (fun z => by rcases z.2 with z | z; exact q2 z; exact z.2 q3)]
        · rw [if_neg q3, if_pos ⟨by omega, Or.inr ⟨rfl, q3⟩⟩]
/-- a stream of the other side comes to be there, and all before it -/
def aC1 (A : AM) (k j : Nat) : AM := uA (aBegin A k (4 * (A M_theirs (2 * k + wy j)).toNat + j % 4)) M_theirs (2 * k + wy j) (A M_theirs (2 * k + wy j) + 1)
def aComeN (k j : Nat) : Nat → AM → AM
  | 0, A => A
  | m + 1, A => aComeN k j m (aC1 A k j)
def aCome (A : AM) (k j : Nat) : AM := if own k j = true then A else aComeN k j (j / 4 + 1 - (A M_theirs (2 * k + wy j)).toNat) A
theorem aC1_theirs : aC1 A k j M_theirs (2 * k + wy j) = A M_theirs (2 * k + wy j) + 1 := by unfold aC1; rw [uA_self]
theorem TB.c1 (h : TB A) (hk : k < 2) (ht : A M_theirs (2 * k + wy j) ≤ 63) : TB (aC1 A k j) := by
  have hw := wy_lt j
  have h0 := h.thr (2 * k + wy j) (by omega)
  have hg1 := gi_le k (4 * (A M_theirs (2 * k + wy j)).toNat + j % 4)
  have hg2 := gi_le (1 - k) (4 * (A M_theirs (2 * k + wy j)).toNat + j % 4)
  have b1 := h.gra k (gi k (4 * (A M_theirs (2 * k + wy j)).toNat + j % 4)) hk (by omega) (by omega)
  have b2 := h.gra (1 - k) (gi (1 - k) (4 * (A M_theirs (2 * k + wy j)).toNat + j % 4)) (by omega) (by omega) (by omega)
  exact (TB.make h.jnd h.tap h.tpv h.out h.tot h.mrk h.val h.pcs h.cam h.hsb h.rds h.res h.hig h.siz h.wrs h.gra h.grt h.opn (fun q hq => by
      by_cases e : q = 2 * k + wy j
      · rw [e, aC1_theirs]; omega
      · have := h.thr q hq
        have e2 : aC1 A k j M_theirs q = A M_theirs q := by unfold aC1; rw [uA_idx _ _ _ _ e]; rfl
        rw [e2]; exact this) h.dgr (fun q i hq hi => by
      have := h.grs q i hq hi
      by_cases e : 256 * q + i = 256 * k + (4 * (A M_theirs (2 * k + wy j)).toNat + j % 4)
      · have e2 : aC1 A k j M_grant (256 * q + i) = A M_grants (16 * k + gi k (4 * (A M_theirs (2 * k + wy j)).toNat + j % 4)) := by
          unfold aC1 aBegin; rw [uA_role _ _ _ _ (by decide), uA_role _ _ _ _ (by decide), e, uA_self]
        rw [e2]; exact b1
      · have e2 : aC1 A k j M_grant (256 * q + i) = A M_grant (256 * q + i) := by
          unfold aC1 aBegin; rw [uA_role _ _ _ _ (by decide), uA_role _ _ _ _ (by decide), uA_idx _ _ _ _ e]; rfl
        rw [e2]; exact this) (fun q i hq hi => by
      have := h.lim q i hq hi
      by_cases e : 256 * q + i = 256 * k + (4 * (A M_theirs (2 * k + wy j)).toNat + j % 4)
      · have e2 : aC1 A k j M_limit (256 * q + i) = A M_grants (16 * (1 - k) + gi (1 - k) (4 * (A M_theirs (2 * k + wy j)).toNat + j % 4)) := by
          unfold aC1 aBegin; rw [uA_role _ _ _ _ (by decide), e, uA_self]
        rw [e2]; omega
      · have e2 : aC1 A k j M_limit (256 * q + i) = A M_limit (256 * q + i) := by
          unfold aC1 aBegin; rw [uA_role _ _ _ _ (by decide), uA_idx _ _ _ _ e]; rfl
        rw [e2]; exact this) h.lms h.lst h.stc h.cod)
theorem TB.comeN (hk : k < 2) : ∀ (m : Nat) {A : AM}, TB A → A M_theirs (2 * k + wy j) + m ≤ 64 → TB (aComeN k j m A) := by
  intro m
  induction m with
  | zero => intro A h _; exact h
  | succ m ih =>
    intro A h hm
    exact ih (h.c1 hk (by omega)) (by rw [aC1_theirs]; omega)
theorem TB.come (h : TB A) (hk : k < 2) (hj : j < 256) : TB (aCome A k j) := by
  unfold aCome
  split
  · exact h
  · have hw := wy_lt j
    have h0 := h.thr (2 * k + wy j) (by omega)
    exact TB.comeN hk _ h (by omega)
theorem t_comesThere_20 (hk : k < 2) (hj : j < 256) : ∀ (m f : Nat) {A : AM}, TB A → m = j / 4 + 1 - (A M_theirs (2 * k + wy j)).toNat → m < f → g_X8_comesThere_20 f A k j (2 * (k : Int) + wy j) = some (aComeN k j m A) := by
  have hw := wy_lt j
  intro m
  induction m with
  | zero =>
    intro f A h h1 h2
    obtain ⟨f, rfl⟩ : ∃ f', f = f' + 1 := ⟨f - 1, by omega⟩
    have h0 := h.thr (2 * k + wy j) (by omega)
    unfold g_X8_comesThere_20 g_X8_comesThere_20_b
    simp (disch := omega) only [hA_ok, c32_ok, tk_2]
    rw [if_pos (by omega)]
    rfl
  | succ m ih =>
    intro f A h h1 h2
    obtain ⟨f, rfl⟩ : ∃ f', f = f' + 1 := ⟨f - 1, by omega⟩
    have h0 := h.thr (2 * k + wy j) (by omega)
    unfold g_X8_comesThere_20 g_X8_comesThere_20_b
    have e1 : 4 * A M_theirs (2 * k + wy j) + ((j : Int) - (j : Int) / 4 * 4) = ((4 * (A M_theirs (2 * k + wy j)).toNat + j % 4 : Nat) : Int) := by omega
    simp (disch := omega) only [hA_ok, c32_ok, tk_2, e1]
    rw [if_neg (by omega), t_begin hk (by omega), bd_v]
    have e2 : aBegin A k (4 * (A M_theirs (2 * k + wy j)).toNat + j % 4) M_theirs (2 * k + wy j) = A M_theirs (2 * k + wy j) := rfl
    rw [e2, c32_ok (by omega) (by omega), gS_v]
    exact ih f (A := aC1 A k j) (h.c1 hk (by omega)) (by rw [aC1_theirs]; omega) (by omega)
theorem t_comesThere (h : TB A) (hk : k < 2) (hj : j < 256) : g_X8_comesThere A k j = some (aCome A k j) := by
  have hw := wy_lt j
  unfold g_X8_comesThere aCome
  rw [t_wayOf (by omega), bd_v, t_opens hk (by omega), bd_v, wy_b2i]
  cases ho : own k j
  · rw [if_pos (by rfl), if_neg (by decide), c32_ok (by omega) (by omega)]
    exact t_comesThere_20 hk hj _ FU h rfl (by unfold FU; omega)
  · rw [if_neg (by decide), if_pos rfl]
end TWT
