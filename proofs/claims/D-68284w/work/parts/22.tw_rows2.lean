/-! THE TWIN: all that is sent; the first byte in a state; the place of a byte -/
theorem t_allSent_7 {A : AM} {k : Nat} (hk : k < 2) (ht : 0 ≤ A M_total k ∧ A M_total k ≤ 65536) : ∀ (m i c n : Nat), i + m = (A M_total k).toNat → m < n → c ≤ i →
    g_X8_allSent_7 A n k c (65536 * (k : Int) + i) = some ((c + (List.range' i m).countP (fun i => decide (A M_mark (65536 * k + i) ≠ 0)) : Nat) : Int) := by
  intro m
  induction m with
  | zero =>
    intro i c n h1 h2 h3
    obtain ⟨n, rfl⟩ : ∃ n', n = n' + 1 := ⟨n - 1, by omega⟩
    unfold g_X8_allSent_7 g_X8_allSent_7_b
    simp (disch := omega) only [hA_ok, c32_ok, tkN]
    rw [if_pos (by omega)]
    simp
  | succ m ih =>
    intro i c n h1 h2 h3
    obtain ⟨n, rfl⟩ : ∃ n', n = n' + 1 := ⟨n - 1, by omega⟩
    unfold g_X8_allSent_7 g_X8_allSent_7_b g_X8_allSent_37
    have e1 : (65536 * (k : Int) + i).toNat = 65536 * k + i := by omega
    have e2 : 65536 * (k : Int) + i + 1 = 65536 * (k : Int) + ((i + 1 : Nat) : Int) := by omega
    have ih1 := ih (i + 1) c n (by omega) (by omega) (by omega)
    have ih2 := ih (i + 1) (c + 1) n (by omega) (by omega) (by omega)
    rw [show (c : Int) + 1 = ((c + 1 : Nat) : Int) by omega, show (c : Int) + 0 = (c : Int) by omega]
    simp (disch := omega) only [hA_ok, c32_ok, tkN, e1, e2, ih1, ih2]
    rw [if_neg (by omega), List.range'_succ, List.countP_cons]
    by_cases h4 : A M_mark (65536 * k + i) = 0
    · have hd : ¬ decide (A M_mark (65536 * k + i) ≠ 0) = true := by simpa using h4
      rw [if_pos h4, if_neg hd]; rfl
    · have hd : decide (A M_mark (65536 * k + i) ≠ 0) = true := by simpa using h4
      rw [if_neg h4, if_pos hd]; congr 2; omega
theorem t_allSent {A : AM} {k : Nat} (hk : k < 2) (ht : 0 ≤ A M_total k ∧ A M_total k ≤ 65536) : g_X8_allSent A k = some ((sa A k : Nat) : Int) := by
  unfold g_X8_allSent
  have h := t_allSent_7 hk ht (A M_total k).toNat 0 0 FU (by omega) (by unfold FU; omega) (by omega)
  rw [c32_ok (by omega) (by omega)]
  rw [show (65536 * (k : Int) + ((0 : Nat) : Int)) = 65536 * (k : Int) by omega] at h
  rw [show ((0 : Nat) : Int) = 0 from rfl] at h
  rw [h, Nat.zero_add]
  rfl
/-- the first byte of a stream in a state, by its offset -/
def fi (A : AM) (k j : Nat) (st : Int) : Option Nat := (pos A k j).findIdx? (fun i => decide (A M_mark (65536 * k + i) = st))
def o2i (o : Option Nat) : Int := match o with
  | none => -1
  | some v => (v : Int)
theorem t_firstIn_9 {A : AM} {k : Nat} (hk : k < 2) (ht : 0 ≤ A M_total k ∧ A M_total k ≤ 65536) (j : Nat) (st : Int) : ∀ (m i c n : Nat), i + m = (A M_total k).toNat → m < n → c ≤ i →
    g_X8_firstIn_9 A n k j st c (65536 * (k : Int) + i) = some (o2i ((((List.range' i m).filter (fun i => decide (A M_of (65536 * k + i) = (j : Int)))).findIdx? (fun i => decide (A M_mark (65536 * k + i) = st))).map (fun q => q + c))) := by
  intro m
  induction m with
  | zero =>
    intro i c n h1 h2 h3
    obtain ⟨n, rfl⟩ : ∃ n', n = n' + 1 := ⟨n - 1, by omega⟩
    unfold g_X8_firstIn_9 g_X8_firstIn_9_b
    simp (disch := omega) only [hA_ok, c32_ok, tkN]
    rw [if_pos (by omega)]
    rfl
  | succ m ih =>
    intro i c n h1 h2 h3
    obtain ⟨n, rfl⟩ : ∃ n', n = n' + 1 := ⟨n - 1, by omega⟩
    unfold g_X8_firstIn_9 g_X8_firstIn_9_b g_X8_firstIn_56
    have e1 : (65536 * (k : Int) + i).toNat = 65536 * k + i := by omega
    have e2 : 65536 * (k : Int) + i + 1 = 65536 * (k : Int) + ((i + 1 : Nat) : Int) := by omega
    have ih1 := ih (i + 1) c n (by omega) (by omega) (by omega)
    have ih2 := ih (i + 1) (c + 1) n (by omega) (by omega) (by omega)
    rw [show (c : Int) + 1 = ((c + 1 : Nat) : Int) by omega]
    simp (disch := omega) only [hA_ok, c32_ok, tkN, e1, e2, ih1, ih2]
    rw [if_neg (by omega), List.range'_succ, List.filter_cons]
    by_cases h4 : A M_of (65536 * k + i) = (j : Int)
    · have hd : decide (A M_of (65536 * k + i) = (j : Int)) = true := by simpa using h4
      rw [if_pos h4, if_pos hd, List.findIdx?_cons]
      by_cases h5 : A M_mark (65536 * k + i) = st
      · have he : decide (A M_mark (65536 * k + i) = st) = true := by simpa using h5
        rw [if_neg (fun q => q h5), if_pos he]
        show some (c : Int) = some (((0 + c : Nat)) : Int)
        congr 1; omega
      · have he : ¬ decide (A M_mark (65536 * k + i) = st) = true := by simpa using h5
        rw [if_pos h5, if_neg he, Option.map_map]
        congr 3
        funext q
        show q + (c + 1) = q + 1 + c
        omega
    · have hd : ¬ decide (A M_of (65536 * k + i) = (j : Int)) = true := by simpa using h4
      rw [if_neg h4, if_neg hd]
theorem t_firstIn {A : AM} {k : Nat} (hk : k < 2) (ht : 0 ≤ A M_total k ∧ A M_total k ≤ 65536) (j : Nat) (st : Int) : g_X8_firstIn A k j st = some (o2i (fi A k j st)) := by
  unfold g_X8_firstIn
  have h := t_firstIn_9 hk ht j st (A M_total k).toNat 0 0 FU (by omega) (by unfold FU; omega) (by omega)
  rw [c32_ok (by omega) (by omega)]
  rw [show (65536 * (k : Int) + ((0 : Nat) : Int)) = 65536 * (k : Int) by omega] at h
  rw [show ((0 : Nat) : Int) = 0 from rfl] at h
  rw [h]
  congr 2
  show Option.map (fun q => q) _ = _
  rw [Option.map_id']
  rfl
theorem t_placeOf_9 {A : AM} {k : Nat} (hk : k < 2) (ht : 0 ≤ A M_total k ∧ A M_total k ≤ 65536) (j : Nat) : ∀ (m i o n q : Nat), i + m = (A M_total k).toNat → m < n → o < 65536 → ((List.range' i m).filter (fun i => decide (A M_of (65536 * k + i) = (j : Int))))[o]? = some q →
    g_X8_placeOf_9 A n j o (65536 * (k : Int) + i) = some (65536 * (k : Int) + q) := by
  intro m
  induction m with
  | zero => intro i o n q h1 h2 h3 h4; simp at h4
  | succ m ih =>
    intro i o n q h1 h2 h3 h4
    obtain ⟨n, rfl⟩ : ∃ n', n = n' + 1 := ⟨n - 1, by omega⟩
    unfold g_X8_placeOf_9 g_X8_placeOf_9_b g_X8_placeOf_25 g_X8_placeOf_43
    have e1 : (65536 * (k : Int) + i).toNat = 65536 * k + i := by omega
    have e2 : 65536 * (k : Int) + i + 1 = 65536 * (k : Int) + ((i + 1 : Nat) : Int) := by omega
    simp (disch := omega) only [hA_ok, c32_ok, tkN, e1, e2]
    rw [List.range'_succ, List.filter_cons] at h4
    by_cases h5 : A M_of (65536 * k + i) = (j : Int)
    · have hd : decide (A M_of (65536 * k + i) = (j : Int)) = true := by simpa using h5
      rw [if_pos hd] at h4
      simp only [ne_eq, h5, not_true_eq_false, if_false]
      by_cases h6 : o = 0
      · subst h6
        rw [if_pos (by omega)]
        simp at h4
        subst h4
        rfl
      · obtain ⟨o, rfl⟩ : ∃ o', o = o' + 1 := ⟨o - 1, by omega⟩
        rw [List.getElem?_cons_succ] at h4
        rw [if_neg (by omega)]
        rw [show ((o + 1 : Nat) : Int) - 1 = (o : Int) by omega]
        exact ih (i + 1) o n q (by omega) (by omega) (by omega) h4
    · have hd : ¬ decide (A M_of (65536 * k + i) = (j : Int)) = true := by simpa using h5
      rw [if_neg hd] at h4
      simp only [ne_eq, h5, not_false_eq_true, if_true]
      rw [show (o : Int) - 0 = (o : Int) by omega]
      exact ih (i + 1) o n q (by omega) (by omega) (by omega) h4
theorem t_placeOf {A : AM} {k : Nat} (hk : k < 2) (ht : 0 ≤ A M_total k ∧ A M_total k ≤ 65536) {j o q : Nat} (ho : o < 65536) (h : (pos A k j)[o]? = some q) : g_X8_placeOf A k j o = some (65536 * (k : Int) + q) := by
  unfold g_X8_placeOf
  have h := t_placeOf_9 hk ht j (A M_total k).toNat 0 o FU q (by omega) (by unfold FU; omega) ho h
  rw [show (65536 * (k : Int) + ((0 : Nat) : Int)) = 65536 * (k : Int) by omega] at h
  rw [c32_ok (by omega) (by omega), h]
