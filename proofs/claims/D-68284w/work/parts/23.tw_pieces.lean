/-! THE TWIN: pieces of what came; what is ready; states of receiving parts; sums -/
def pa (A : AM) (k j : Nat) (num : Int) : Option Nat := (List.range' 0 (A M_pieces k).toNat).find? (fun p => decide (A M_pieceOf (1408 * k + p) = (j : Int) ∧ A M_pieceNumber (1408 * k + p) = num))
theorem t_pieceAt_7 {A : AM} {k : Nat} (hk : k < 2) (ht : 0 ≤ A M_pieces k ∧ A M_pieces k ≤ 1408) (j : Nat) (num : Int) : ∀ (m i n : Nat), i + m = (A M_pieces k).toNat → m < n →
    g_X8_pieceAt_7 A n k j num (1408 * (k : Int) + i) = some (o2i (((List.range' i m).find? (fun p => decide (A M_pieceOf (1408 * k + p) = (j : Int) ∧ A M_pieceNumber (1408 * k + p) = num))).map (fun p => 1408 * k + p))) := by
  intro m
  induction m with
  | zero =>
    intro i n h1 h2
    obtain ⟨n, rfl⟩ : ∃ n', n = n' + 1 := ⟨n - 1, by omega⟩
    unfold g_X8_pieceAt_7 g_X8_pieceAt_7_b
    simp (disch := omega) only [hA_ok, c32_ok, tkN]
    rw [if_pos (by omega)]
    rfl
  | succ m ih =>
    intro i n h1 h2
    obtain ⟨n, rfl⟩ : ∃ n', n = n' + 1 := ⟨n - 1, by omega⟩
    unfold g_X8_pieceAt_7 g_X8_pieceAt_7_b g_X8_pieceAt_49
    have e1 : (1408 * (k : Int) + i).toNat = 1408 * k + i := by omega
    have e2 : 1408 * (k : Int) + i + 1 = 1408 * (k : Int) + ((i + 1 : Nat) : Int) := by omega
    have ih1 := ih (i + 1) n (by omega) (by omega)
    simp (disch := omega) only [hA_ok, c32_ok, tkN, e1, e2, ih1]
    rw [if_neg (by omega), List.range'_succ, List.find?_cons]
    by_cases h4 : A M_pieceOf (1408 * k + i) = (j : Int)
    · by_cases h5 : A M_pieceNumber (1408 * k + i) = num
      · rw [if_neg (fun q => q h4), if_neg (fun q => q h5)]
        have hd : decide (A M_pieceOf (1408 * k + i) = (j : Int) ∧ A M_pieceNumber (1408 * k + i) = num) = true := by simp [h4, h5]
        rw [hd]
        show some (1408 * (k : Int) + i) = some (((1408 * k + i : Nat)) : Int)
        congr 1
      · rw [if_neg (fun q => q h4), if_pos h5]
        have hd : decide (A M_pieceOf (1408 * k + i) = (j : Int) ∧ A M_pieceNumber (1408 * k + i) = num) = false := by simp [h5]
        rw [hd]
    · rw [if_pos h4]
      have hd : decide (A M_pieceOf (1408 * k + i) = (j : Int) ∧ A M_pieceNumber (1408 * k + i) = num) = false := by simp [h4]
      rw [hd]
theorem t_pieceAt {A : AM} {k : Nat} (hk : k < 2) (ht : 0 ≤ A M_pieces k ∧ A M_pieces k ≤ 1408) (j : Nat) (num : Int) : g_X8_pieceAt A k j num = some (o2i ((pa A k j num).map (fun p => 1408 * k + p))) := by
  unfold g_X8_pieceAt
  have h := t_pieceAt_7 hk ht j num (A M_pieces k).toNat 0 FU (by omega) (by unfold FU; omega)
  rw [show (1408 * (k : Int) + ((0 : Nat) : Int)) = 1408 * (k : Int) by omega] at h
  rw [c32_ok (by omega) (by omega), h]
  rfl
theorem pa_some {A : AM} {k j : Nat} {num : Int} {p : Nat} (h : pa A k j num = some p) : p < (A M_pieces k).toNat ∧ A M_pieceOf (1408 * k + p) = (j : Int) ∧ A M_pieceNumber (1408 * k + p) = num := by
  unfold pa at h
  have h1 := List.mem_of_find?_eq_some h
  have h2 := List.find?_some h
  simp at h1 h2
  exact ⟨by omega, h2⟩
/-- the byte of a stream at an offset has come -/
def hasB (A : AM) (k j o : Nat) : Bool := match pa A k j ((o / 64 : Nat) : Int) with
  | none => false
  | some p => decide (A M_has (64 * (1408 * k + p) + o % 64) ≠ 0)
theorem t_isHere {A : AM} {k : Nat} (hk : k < 2) (ht : 0 ≤ A M_pieces k ∧ A M_pieces k ≤ 1408) (j : Nat) {o : Nat} (ho : o < 1000000) : g_X8_isHere A k j o = some (b2i (hasB A k j o)) := by
  unfold g_X8_isHere
  have e0 : (o : Int) / 64 = ((o / 64 : Nat) : Int) := by omega
  simp (disch := omega) only [hA_ok, c32_ok]
  rw [e0, t_pieceAt hk ht, bd_v]
  unfold hasB
  cases hp : pa A k j ((o / 64 : Nat) : Int) with
  | none => rw [if_pos (show o2i (Option.map (fun p => 1408 * k + p) none) < 0 from (by decide : (-1 : Int) < 0))]; rfl
  | some p =>
    have hq := pa_some hp
    show (if ((1408 * k + p : Nat) : Int) < 0 then some 0 else _) = _
    rw [if_neg (by omega)]
    show hA ((64 * ((1408 * k + p : Nat) : Int)) + ((o : Int) - (((o / 64 : Nat) : Int) * 64))) 180224 _ = _
    have e1 : ((64 * ((1408 * k + p : Nat) : Int)) + ((o : Int) - (((o / 64 : Nat) : Int) * 64))).toNat = 64 * (1408 * k + p) + o % 64 := by omega
    rw [hA_ok (by omega) (by omega)]
    show (if A M_has ((64 * ((1408 * k + p : Nat) : Int)) + ((o : Int) - (((o / 64 : Nat) : Int) * 64))).toNat = 0 then some 0 else some 1) = _
    rw [e1]
    by_cases h : A M_has (64 * (1408 * k + p) + o % 64) = 0
    · rw [if_pos h]; simp [b2i, h]
    · rw [if_neg h]; simp [b2i, h]
/-- the first that has not come, from n on -/
def rdF (h : Nat → Bool) : Nat → Nat → Nat
  | 0, n => n
  | f + 1, n => if h n then rdF h f (n + 1) else n
def rd (A : AM) (k j : Nat) : Nat := rdF (hasB A k j) 70000 (A M_read (256 * k + j)).toNat
theorem rdF_eq {h : Nat → Bool} : ∀ {f n m : Nat}, n ≤ m → m - n < f → (∀ o, n ≤ o → o < m → h o = true) → h m = false → rdF h f n = m := by
  intro f
  induction f with
  | zero => intro n m h1 h2; omega
  | succ f ih =>
    intro n m h1 h2 h3 h4
    unfold rdF
    by_cases e : n = m
    · subst e; rw [h4]; rfl
    · rw [h3 n (by omega) (by omega)]
      exact ih (by omega) (by omega) (fun o p q => h3 o (by omega) q) h4
theorem rdF_ge {h : Nat → Bool} : ∀ {f n : Nat}, n ≤ rdF h f n := by
  intro f
  induction f with
  | zero => intro n; exact Nat.le_refl n
  | succ f ih =>
    intro n
    unfold rdF
    split
    · exact Nat.le_trans (by omega) (ih (n := n + 1))
    · exact Nat.le_refl n
theorem rdF_has {h : Nat → Bool} : ∀ {f n o : Nat}, n ≤ o → o < rdF h f n → h o = true := by
  intro f
  induction f with
  | zero => intro n o h1 h2; unfold rdF at h2; omega
  | succ f ih =>
    intro n o h1 h2
    unfold rdF at h2
    split at h2
    · rename_i hn
      by_cases e : o = n
      · subst e; exact hn
      · exact ih (by omega) h2
    · omega
theorem rdF_not {h : Nat → Bool} {b : Nat} (hb : ∀ o, h o = true → o < b) : ∀ {f n : Nat}, b < n + f → h (rdF h f n) = false := by
  intro f
  induction f with
  | zero => intro n h1; unfold rdF; cases e : h n with
    | false => rfl
    | true => have := hb n e; omega
  | succ f ih =>
    intro n h1
    unfold rdF
    split
    · exact ih (by omega)
    · rename_i hn; simpa using hn
theorem t_readyOf_11 {A : AM} {k : Nat} (hk : k < 2) (ht : 0 ≤ A M_pieces k ∧ A M_pieces k ≤ 1408) (j : Nat) (hb : ∀ o, hasB A k j o = true → o < 65536) : ∀ (f n : Nat), 65536 < n + f → n + f < 1000000 → g_X8_readyOf_11 A (f + 1) k j n = some (((rdF (hasB A k j) f n : Nat)) : Int) := by
  intro f
  induction f with
  | zero =>
    intro n h1 h2
    unfold g_X8_readyOf_11 g_X8_readyOf_11_b rdF
    rw [t_isHere hk ht j (by omega), bd_v]
    rw [if_pos]
    cases e : hasB A k j n with
    | false => rfl
    | true => have := hb n e; omega
  | succ f ih =>
    intro n h1 h2
    unfold g_X8_readyOf_11 g_X8_readyOf_11_b rdF
    rw [t_isHere hk ht j (by omega), bd_v]
    cases e : hasB A k j n with
    | false => rw [if_pos (by rfl)]; rfl
    | true =>
      rw [if_neg (by simp [b2i]), c64_ok (by omega) (by omega), if_pos rfl, show (n : Int) + 1 = ((n + 1 : Nat) : Int) by omega]
      exact ih (n + 1) (by omega) (by omega)
theorem rdF_stop {h : Nat → Bool} {b : Nat} (hb : ∀ o, h o = true → o < b) : ∀ {f g n : Nat}, b < n + f → b < n + g → 0 < g → rdF h f n = rdF h g n := by
  intro f g n h1 h2 h3
  have a1 := rdF_not hb h1
  refine (rdF_eq rdF_ge ?_ (fun o p q => rdF_has p q) a1).symm
  have : rdF h f n ≤ b ∨ rdF h f n = n := by
    by_cases e : n < rdF h f n
    · have := hb (rdF h f n - 1) (rdF_has (n := n) (f := f) (by omega) (by omega)); omega
    · have := rdF_ge (h := h) (f := f) (n := n); omega
  omega
theorem t_readyOf {A : AM} {k j : Nat} (hk : k < 2) (hj : j < 256) (ht : 0 ≤ A M_pieces k ∧ A M_pieces k ≤ 1408) (hb : ∀ o, hasB A k j o = true → o < 65536) (hr : 0 ≤ A M_read (256 * k + j) ∧ A M_read (256 * k + j) ≤ 65536) : g_X8_readyOf A k j = some ((rd A k j : Nat) : Int) := by
  unfold g_X8_readyOf
  rw [t_at hk hj, bd_v, hA_ok (by omega) (by omega), tk_at]
  obtain ⟨r, hrr⟩ : ∃ r : Nat, A M_read (256 * k + j) = (r : Int) := ⟨(A M_read (256 * k + j)).toNat, by omega⟩
  have h := t_readyOf_11 hk ht j hb 199999 r (by omega) (by omega)
  have e : rdF (hasB A k j) 199999 r = rd A k j := by
    unfold rd
    rw [hrr, tkN]
    exact rdF_stop hb (by omega) (by omega) (by omega)
  rw [hrr, show FU = 199999 + 1 from rfl, h, e]
/-- the state of a receiving part -/
def rst (A : AM) (k j : Nat) : Int := if A M_wasReset (256 * k + j) = 0 then (if 0 ≤ A M_size (256 * k + j) then (if A M_read (256 * k + j) = A M_size (256 * k + j) then 3 else if (rd A k j : Int) = A M_size (256 * k + j) then 2 else 1) else 0) else 4
theorem t_receiving {A : AM} {k j : Nat} (hk : k < 2) (hj : j < 256) (ht : 0 ≤ A M_pieces k ∧ A M_pieces k ≤ 1408) (hb : ∀ o, hasB A k j o = true → o < 65536) (hr : 0 ≤ A M_read (256 * k + j) ∧ A M_read (256 * k + j) ≤ 65536) : g_X8_receiving A k j = some (rst A k j) := by
  unfold g_X8_receiving rst
  simp (disch := omega) only [t_at, bd_v, hA_ok, tk_at, t_readyOf hk hj ht hb hr]
  by_cases h1 : A M_wasReset (256 * k + j) = 0
  · rw [if_pos h1, if_pos h1]
    by_cases h2 : 0 ≤ A M_size (256 * k + j)
    · rw [if_pos h2, if_pos h2]
      by_cases h3 : A M_read (256 * k + j) = A M_size (256 * k + j)
      · rw [if_neg (fun q => q h3), if_pos h3]
      · rw [if_pos h3, if_neg h3]
        by_cases h4 : (rd A k j : Int) = A M_size (256 * k + j)
        · rw [if_neg (fun q => q h4), if_pos h4]
        · rw [if_pos h4, if_neg h4]
    · rw [if_neg h2, if_neg h2]
  · rw [if_neg h1, if_neg h1]
/-- what was received, what was consumed, of a side -/
def shi (A : AM) (k : Nat) : Int := sumTo (fun j => A M_highest (256 * k + j)) 256
def co (A : AM) (k j : Nat) : Int := if A M_wasReset (256 * k + j) = 0 then A M_read (256 * k + j) else A M_size (256 * k + j)
def sco (A : AM) (k : Nat) : Int := sumTo (co A k) 256
theorem t_received_5 {A : AM} {k : Nat} (hk : k < 2) (hb : ∀ j, j < 256 → 0 ≤ A M_highest (256 * k + j) ∧ A M_highest (256 * k + j) ≤ 65536) : ∀ (m i n : Nat), i + m = 256 → m < n → g_X8_received_5 A n k (sumTo (fun j => A M_highest (256 * k + j)) i) i = some (shi A k) := by
  intro m
  induction m with
  | zero =>
    intro i n h1 h2
    obtain ⟨n, rfl⟩ : ∃ n', n = n' + 1 := ⟨n - 1, by omega⟩
    unfold g_X8_received_5 g_X8_received_5_b
    rw [if_pos (by omega), show i = 256 by omega]
    rfl
  | succ m ih =>
    intro i n h1 h2
    obtain ⟨n, rfl⟩ : ∃ n', n = n' + 1 := ⟨n - 1, by omega⟩
    have hs := sumTo_bd (f := fun j => A M_highest (256 * k + j)) (n := i) (b := 65536) (fun q hq => hb q (by omega))
    have hi := hb i (by omega)
    have ih1 := ih (i + 1) n (by omega) (by omega)
    unfold sumTo at ih1
    unfold g_X8_received_5 g_X8_received_5_b
    rw [if_neg (by omega)]
    simp (disch := omega) only [t_at, bd_v, hA_ok, tk_at]
    rw [c64_ok (by omega) (by omega), c32_ok (by omega) (by omega), show (i : Int) + 1 = ((i + 1 : Nat) : Int) by omega]
    exact ih1
theorem t_received {A : AM} {k : Nat} (hk : k < 2) (hb : ∀ j, j < 256 → 0 ≤ A M_highest (256 * k + j) ∧ A M_highest (256 * k + j) ≤ 65536) : g_X8_received A k = some (shi A k) := by
  unfold g_X8_received
  exact t_received_5 hk hb 256 0 FU (by omega) (by unfold FU; omega)
theorem t_consumed_5 {A : AM} {k : Nat} (hk : k < 2) (hb : ∀ j, j < 256 → 0 ≤ co A k j ∧ co A k j ≤ 65536) : ∀ (m i n : Nat), i + m = 256 → m < n → g_X8_consumed_5 A n k (sumTo (co A k) i) i = some (sco A k) := by
  intro m
  induction m with
  | zero =>
    intro i n h1 h2
    obtain ⟨n, rfl⟩ : ∃ n', n = n' + 1 := ⟨n - 1, by omega⟩
    unfold g_X8_consumed_5 g_X8_consumed_5_b
    rw [if_pos (by omega), show i = 256 by omega]
    rfl
  | succ m ih =>
    intro i n h1 h2
    obtain ⟨n, rfl⟩ : ∃ n', n = n' + 1 := ⟨n - 1, by omega⟩
    have hs := sumTo_bd (f := co A k) (n := i) (b := 65536) (fun q hq => hb q (by omega))
    have hi := hb i (by omega)
    have ih1 := ih (i + 1) n (by omega) (by omega)
    unfold sumTo at ih1
    unfold g_X8_consumed_5 g_X8_consumed_5_b g_X8_consumed_53
    rw [if_neg (by omega)]
    simp (disch := omega) only [t_at, bd_v, hA_ok, tk_at]
    rw [show (i : Int) + 1 = ((i + 1 : Nat) : Int) by omega]
    unfold co at hi
    by_cases h : A M_wasReset (256 * k + i) = 0
    · rw [if_pos h] at hi ⊢
      rw [c64_ok (by omega) (by omega), c32_ok (by omega) (by omega)]
      rw [show co A k i = A M_read (256 * k + i) by unfold co; rw [if_pos h]] at ih1
      exact ih1
    · rw [if_neg h] at hi ⊢
      rw [c64_ok (by omega) (by omega), c32_ok (by omega) (by omega)]
      rw [show co A k i = A M_size (256 * k + i) by unfold co; rw [if_neg h]] at ih1
      exact ih1
theorem t_consumed {A : AM} {k : Nat} (hk : k < 2) (hb : ∀ j, j < 256 → 0 ≤ co A k j ∧ co A k j ≤ 65536) : g_X8_consumed A k = some (sco A k) := by
  unfold g_X8_consumed
  exact t_consumed_5 hk hb 256 0 FU (by omega) (by unfold FU; omega)
