/-! THE TWIN: a frame is taken -/
section TWV
variable {A : AM} {k j : Nat}
theorem aC1_o (r : L3) (f : Nat) (h1 : r ≠ M_there) (h2 : r ≠ M_grant) (h3 : r ≠ M_limit) (h4 : r ≠ M_theirs) : aC1 A k j r f = A r f := by
  unfold aC1 aBegin
  rw [uA_role _ _ _ _ h4, uA_role _ _ _ _ h3, uA_role _ _ _ _ h2, uA_role _ _ _ _ h1]
theorem aComeN_o (r : L3) (f : Nat) (h1 : r ≠ M_there) (h2 : r ≠ M_grant) (h3 : r ≠ M_limit) (h4 : r ≠ M_theirs) : ∀ (m : Nat) (A : AM), aComeN k j m A r f = A r f := by
  intro m
  induction m with
  | zero => intro A; rfl
  | succ m ih => intro A; show aComeN k j m (aC1 A k j) r f = _; rw [ih, aC1_o r f h1 h2 h3 h4]
theorem aCome_o (r : L3) (f : Nat) (h1 : r ≠ M_there) (h2 : r ≠ M_grant) (h3 : r ≠ M_limit) (h4 : r ≠ M_theirs) : aCome A k j r f = A r f := by
  unfold aCome
  split
  · rfl
  · exact aComeN_o r f h1 h2 h3 h4 _ _
theorem ite_01 {P : Prop} [Decidable P] {a b : Int} (ha : a = 0 ∨ 0 < a) (hb : b = 0 ∨ 0 < b) : (if P then a else b) = 0 ∨ 0 < (if P then a else b) := by
  split <;> assumption
theorem mnt_01 {a : Nat} {sp : Bool} : mnt A k a sp = 0 ∨ 0 < mnt A k a sp :=
  ite_01 (Or.inr (by decide)) (ite_01 (Or.inr (by decide)) (ite_01 (Or.inr (by decide)) (Or.inl rfl)))
theorem rch_01 {e : Int} {last : Bool} : rch A k j e last = 0 ∨ 0 < rch A k j e last :=
  ite_01 (Or.inr (by decide)) (ite_01 (Or.inr (by decide)) (ite_01 (Or.inr (by decide)) (Or.inl rfl)))
theorem mnt_z {a : Nat} {sp : Bool} (hm : mnt A k a sp = 0) : ¬ (own k a = true ∧ (256 ≤ a ∨ A M_there (256 * k + a) = 0)) ∧ (if sp then hs k a else hr k a) = true ∧ ¬ (own k a = false ∧ A M_granted (2 * k + wy a) ≤ (a / 4 : Nat)) := by
  unfold mnt at hm
  by_cases c1 : own k a = true ∧ (256 ≤ a ∨ A M_there (256 * k + a) = 0)
  · rw [if_pos c1] at hm; omega
  rw [if_neg c1] at hm
  by_cases c2 : (if sp then hs k a else hr k a) = false
  · rw [if_pos c2] at hm; omega
  rw [if_neg c2] at hm
  by_cases c3 : own k a = false ∧ A M_granted (2 * k + wy a) ≤ (a / 4 : Nat)
  · rw [if_pos c3] at hm; omega
  exact ⟨c1, by simpa using c2, c3⟩
theorem mnt_lt (h : TB A) (hk : k < 2) {a : Nat} {sp : Bool} (hm : mnt A k a sp = 0) : a < 256 := by
  obtain ⟨c1, -, c3⟩ := mnt_z hm
  have hw := wy_lt a
  have hg := h.grt (2 * k + wy a) (by omega)
  cases ho : own k a
  · by_cases e : A M_granted (2 * k + wy a) ≤ ((a / 4 : Nat) : Int)
    · exact absurd ⟨ho, e⟩ c3
    · omega
  · by_cases e : 256 ≤ a
    · exact absurd ⟨ho, Or.inl e⟩ c1
    · omega
theorem rch_le (h : TB A) (hk : k < 2) (hj : j < 256) {e : Int} {last : Bool} (hm : rch A k j e last = 0) : e ≤ 65536 := by
  unfold rch at hm
  have hgi := gi_le k j
  have h1 := h.gra k (gi k j) hk (by omega) (by omega)
  have h2 := h.grs k j hk hj
  split at hm
  · omega
  · split at hm
    · omega
    · by_cases q : (if A M_there (256 * k + j) = 0 then A M_grants (16 * k + gi k j) else A M_grant (256 * k + j)) < e
      · rw [if_pos (Or.inl q)] at hm; omega
      · split at q <;> omega
def aTakeS (A : AM) (k a b n : Nat) (c : Int) : AM × Int := if mnt A k a false = 0 then (if rch A k a (b + n) (c == 1) = 0 then (aOver (aTS1 (aCome A k a) k a b n c (rst (aCome A k a) k a)) k a, 0) else (A, rch A k a (b + n) (c == 1))) else (A, mnt A k a false)
theorem t_takeStream (h : TB A) (hf : PF A) (hk : k < 2) {a b n : Nat} {c : Int} (h46 : A M_o 46 = a) (h47 : A M_o 47 = b) (h48 : A M_o 48 = c) (h49 : A M_o 49 = n) (ha : (a : Int) < 4611686018427387904) (hb : (b : Int) < 4611686018427390000) (hn : n ≤ 2048) (hm : ∀ k, k < 2 → A M_pieces k + n ≤ 1400) : g_X8_takeStream A k = some (aTakeS A k a b n c) := by
  unfold g_X8_takeStream aTakeS
  rw [h46, h47, h48, h49]
  have e0 := t_meant h hk ha false
  rw [show b2i false = 0 from rfl] at e0
  rw [e0, bd_v]
  have h01 := mnt_01 (A := A) (k := k) (a := a) (sp := false)
  by_cases q : mnt A k a false = 0
  · have hj := mnt_lt h hk q
    have e61 := t_takeStream_61 h hf hk hj h47 h49 hn hm hb h48 (fun r f hr => by
      apply aCome_o <;> (rcases hr with rfl | rfl | rfl <;> decide)) (fun q => by have := rch_le h hk hj q; omega)
    rw [if_pos (by omega), if_pos q, c32_ok (by omega) (by omega), t_at hk hj, bd_v, c64_ok (by omega) (by omega)]
    by_cases q2 : c = 1
    · rw [if_neg (fun z => z q2), c64_ok (by omega) (by omega)]
      rw [show b2i (c == 1) = 1 by rw [q2]; rfl] at e61
      exact e61
    · rw [if_pos q2]
      rw [show b2i (c == 1) = 0 by rw [show (c == 1) = false by simpa using q2]; rfl] at e61
      exact e61
  · rw [if_neg (by omega), if_neg q]
def aTakeR (A : AM) (k a : Nat) (b c : Int) : AM × Int := if mnt A k a false = 0 then (if rch A k a c true = 0 then ((if rst (aCome A k a) k a ≤ 1 then aOver (aGrowD (uA (uA (uA (uA (aCome A k a) M_highest (256 * k + a) c) M_size (256 * k + a) c) M_wasReset (256 * k + a) 1) M_theirCode (256 * k + a) b) k) k a else uA (uA (aCome A k a) M_highest (256 * k + a) c) M_size (256 * k + a) c), 0) else (A, rch A k a c true)) else (A, mnt A k a false)
theorem TB.wr (h : TB A) {v : Int} (hv : 0 ≤ A M_size (256 * k + j)) : TB (uA (uA A M_wasReset (256 * k + j) 1) M_theirCode (256 * k + j) v) :=
  (TB.make h.jnd h.tap h.tpv h.out h.tot h.mrk h.val h.pcs h.cam h.hsb h.rds h.res h.hig h.siz (fun q i hq hi hw => by
    by_cases e : 256 * q + i = 256 * k + j
    · show 0 ≤ A M_size (256 * q + i); rw [e]; exact hv
    · refine h.wrs q i hq hi ?_
      rw [uA_role _ _ _ _ (by decide), uA_idx _ _ _ _ e] at hw; exact hw) h.gra h.grt h.opn h.thr h.dgr h.grs h.lim h.lms h.lst h.stc h.cod)
theorem t_takeReset (h : TB A) (hk : k < 2) {a : Nat} {b c : Int} (h46 : A M_o 46 = a) (h47 : A M_o 47 = b) (h48 : A M_o 48 = c) (ha : (a : Int) < 4611686018427387904) (hc : 0 ≤ c ∧ c < 4611686018427387904) : g_X8_takeReset A k = some (aTakeR A k a b c) := by
  unfold g_X8_takeReset aTakeR
  rw [h46, h48]
  have e0 := t_meant h hk ha false
  rw [show b2i false = 0 from rfl] at e0
  rw [e0, bd_v]
  have h01 := mnt_01 (A := A) (k := k) (a := a) (sp := false)
  by_cases q : mnt A k a false = 0
  · have hj := mnt_lt h hk q
    have e1 := t_reaches h hk hj (e := c) (by omega) true
    rw [show b2i true = 1 from rfl] at e1
    rw [if_pos (by omega), if_pos q, c32_ok (by omega) (by omega), t_at hk hj, bd_v, e1, bd_v]
    have r01 := rch_01 (A := A) (k := k) (j := a) (e := c) (last := true)
    by_cases q2 : rch A k a c true = 0
    · have hle := rch_le h hk hj q2
      have hT := h.come hk hj
      have f48 : aCome A k a M_o 48 = c := by rw [aCome_o _ _ (by decide) (by decide) (by decide) (by decide)]; exact h48
      have f47 : aCome A k a M_o 47 = b := by rw [aCome_o _ _ (by decide) (by decide) (by decide) (by decide)]; exact h47
      rw [if_pos (by omega), if_pos q2, t_comesThere h hk hj, bd_v, hT.rcv hk hj, bd_v, hA_ok (by omega) (by omega), gS_v, hA_ok (by omega) (by omega), gS_v, tk_at, f48]
      have g48 : (uA (aCome A k a) M_highest (256 * k + a) c) M_o 48 = c := f48
      rw [g48]
      by_cases q3 : rst (aCome A k a) k a ≤ 1
      · rw [if_pos q3, if_pos q3, hA_ok (by omega) (by omega), gS_v, hA_ok (by omega) (by omega), gS_v]
        have g47 : (uA (uA (uA (aCome A k a) M_highest (256 * k + a) c) M_size (256 * k + a) c) M_wasReset (256 * k + a) 1) M_o 47 = b := f47
        rw [g47]
        have hT3 : TB (uA (uA (uA (uA (aCome A k a) M_highest (256 * k + a) c) M_size (256 * k + a) c) M_wasReset (256 * k + a) 1) M_theirCode (256 * k + a) b) :=
          ((hT.hi (k := k) (j := a) (v := c) (by omega)).sz (k := k) (j := a) (v := c) (by omega)).wr (by rw [uA_self]; omega)
        rw [t_growData hT3 hk, bd_v, t_looksOver (hT3.growD hk) hk hj, bd_v]
      · rw [if_neg q3, if_neg q3]
    · rw [if_neg (by omega), if_neg q2]
  · rw [if_neg (by omega), if_neg q]
def aTakeO (A : AM) (k kind a : Nat) (b : Int) : AM × Int := if mnt A k a (kind != 21) = 0 then ((if kind = 5 ∧ sst (aCome A k a) k a < 2 then aReset (aCome A k a) k a b else if kind = 17 then uA (aCome A k a) M_limit (256 * k + a) (if aCome A k a M_limit (256 * k + a) ≤ b then b else aCome A k a M_limit (256 * k + a)) else aCome A k a), 0) else (A, mnt A k a (kind != 21))
theorem t_greater {x y : Int} : g_X8_greater x y = some (if x ≤ y then y else x) := by
  unfold g_X8_greater
  split <;> rfl
theorem t_takeOther (h : TB A) (hk : k < 2) {kind a : Nat} {b : Int} (h45 : A M_o 45 = kind) (h46 : A M_o 46 = a) (h47 : A M_o 47 = b) (ha : (a : Int) < 4611686018427387904) : g_X8_takeOther A k = some (aTakeO A k kind a b) := by
  have key : ∀ sp : Bool, sp = (kind != 21) → g_X8_takeOther_20 A k (b2i sp) a k = some (aTakeO A k kind a b) := by
    intro sp hsp
    unfold g_X8_takeOther_20 aTakeO
    rw [← hsp, t_meant h hk ha sp, bd_v, h46]
    have h01 := mnt_01 (A := A) (k := k) (a := a) (sp := sp)
    by_cases q : mnt A k a sp = 0
    · have hj := mnt_lt h hk q
      have hT := h.come hk hj
      have f45 : aCome A k a M_o 45 = kind := by rw [aCome_o _ _ (by decide) (by decide) (by decide) (by decide)]; exact h45
      have f47 : aCome A k a M_o 47 = b := by rw [aCome_o _ _ (by decide) (by decide) (by decide) (by decide)]; exact h47
      have e70 : g_X8_takeOther_70 (aCome A k a) k a = some ((if kind = 17 then uA (aCome A k a) M_limit (256 * k + a) (if aCome A k a M_limit (256 * k + a) ≤ b then b else aCome A k a M_limit (256 * k + a)) else aCome A k a), 0) := by
        unfold g_X8_takeOther_70
        rw [f45]
        by_cases q17 : kind = 17
        · rw [if_neg (by omega), if_pos q17]
          simp (disch := omega) only [t_at, bd_v, hA_ok, tk_at, f47, t_greater, gS_v]
        · rw [if_pos (by omega), if_neg q17]
      rw [if_pos (by omega), if_pos q, c32_ok (by omega) (by omega), t_comesThere h hk hj, bd_v, f45, e70]
      by_cases q5 : kind = 5
      · rw [if_neg (by omega), hT.snd hk hj, bd_v]
        by_cases q2 : sst (aCome A k a) k a < 2
        · rw [if_neg (by omega), if_pos ⟨q5, q2⟩, t_doReset hk hj, bd_v, f47]
          have g45 : aReset (aCome A k a) k a b M_o 45 = kind := f45
          unfold g_X8_takeOther_70
          rw [g45, if_pos (by omega)]
        · rw [if_pos (show (2 : Int) ≤ sst (aCome A k a) k a by omega), if_neg (show ¬ (kind = 5 ∧ sst (aCome A k a) k a < 2) from fun z => q2 z.2)]
      · rw [if_pos (show (kind : Int) ≠ 5 by omega), if_neg (show ¬ (kind = 5 ∧ sst (aCome A k a) k a < 2) from fun z => q5 z.1)]
    · rw [if_neg (by omega), if_neg q]
  unfold g_X8_takeOther
  rw [h45, h46]
  by_cases q : kind = 21
  · rw [if_pos (by omega)]
    exact key false (by rw [q]; rfl)
  · rw [if_neg (by omega)]
    exact key true (by simpa using q)
/-- a side takes a frame -/
def aTakes (A : AM) (k kind a b n : Nat) (c : Int) : AM × Int :=
  if kind = 8 then aTakeS A k a b n c else if kind = 4 then aTakeR A k a b c else if kind = 5 ∨ kind = 17 ∨ kind = 21 then aTakeO A k kind a b
  else if kind = 16 then (uA A M_limits (3 * k) (if A M_limits (3 * k) ≤ a then a else A M_limits (3 * k)), 0)
  else if kind = 18 ∨ kind = 19 then (uA A M_limits (3 * k + kind - 17) (if A M_limits (3 * k + kind - 17) ≤ (if 64 ≤ a then 64 else (a : Int)) then (if 64 ≤ a then 64 else (a : Int)) else A M_limits (3 * k + kind - 17)), 0)
  else (A, 0)
theorem t_takes (h : TB A) (hf : PF A) (hk : k < 2) {kind a b n : Nat} {c : Int} (h45 : A M_o 45 = kind) (h46 : A M_o 46 = a) (h47 : A M_o 47 = b) (h48 : A M_o 48 = c) (h49 : A M_o 49 = n) (ha : (a : Int) < 4611686018427387904) (hb : (b : Int) < 4611686018427390000) (hc : 0 ≤ c ∧ c < 4611686018427387904) (hn : n ≤ 2048) (hm : ∀ k, k < 2 → A M_pieces k + n ≤ 1400) : g_X8_takes A k = some (aTakes A k kind a b n c) := by
  unfold g_X8_takes g_X8_takes_55 aTakes
  rw [h45]
  by_cases q8 : kind = 8
  · rw [if_neg (by omega), if_pos q8, t_takeStream h hf hk h46 h47 h48 h49 ha hb hn hm]
    rfl
  rw [if_pos (by omega), if_neg q8]
  by_cases q4 : kind = 4
  · rw [if_neg (by omega), if_pos q4, t_takeReset h hk h46 h47 h48 ha hc]
    rfl
  rw [if_pos (by omega), if_neg q4, t_takeOther h hk h45 h46 h47 ha]
  by_cases q5 : kind = 5
  · rw [if_pos (by omega), if_pos (Or.inl q5)]; rfl
  rw [if_neg (by omega)]
  by_cases q17 : kind = 17
  · rw [if_pos (by omega), if_pos (Or.inr (Or.inl q17))]; rfl
  rw [if_neg (by omega)]
  by_cases q21 : kind = 21
  · rw [if_neg (by omega), if_pos (Or.inr (Or.inr q21))]; rfl
  rw [if_pos (by omega), if_neg (show ¬ (kind = 5 ∨ kind = 17 ∨ kind = 21) by omega)]
  by_cases q16 : kind = 16
  · rw [if_neg (by omega), if_pos q16, hA_ok (by omega) (by omega), h46, t_greater, bd_v, hA_ok (by omega) (by omega), gS_v, tk_3]
    unfold g_X8_takes_93
    have e : (uA A M_limits (3 * k) (if A M_limits (3 * k) ≤ (a : Int) then (a : Int) else A M_limits (3 * k))) M_o 45 = kind := h45
    rw [e, if_neg (by omega), if_pos (by omega)]
  rw [if_pos (by omega), if_neg q16]
  unfold g_X8_takes_93
  rw [h45]
  have e111 : (kind = 18 ∨ kind = 19) → g_X8_takes_111 A k = some (uA A M_limits (3 * k + kind - 17) (if A M_limits (3 * k + kind - 17) ≤ (if 64 ≤ a then 64 else (a : Int)) then (if 64 ≤ a then 64 else (a : Int)) else A M_limits (3 * k + kind - 17)), 0) := by
    intro q
    unfold g_X8_takes_111 g_X8_takes_155
    have e1 : (3 * (k : Int) + (kind : Int) - 17).toNat = 3 * k + kind - 17 := by omega
    rw [h45, h46, hA_ok (by omega) (by omega), c32_ok (by omega) (by omega), e1]
    by_cases q2 : 64 ≤ a
    · rw [if_pos (by omega), t_greater, bd_v, hA_ok (by omega) (by omega), gS_v, if_pos q2]
    · rw [if_neg (by omega), c32_ok (by omega) (by omega), t_greater, bd_v, hA_ok (by omega) (by omega), gS_v, if_neg q2]
  by_cases q18 : kind = 18
  · rw [if_pos (by omega), if_pos (Or.inl q18), e111 (Or.inl q18)]
  rw [if_neg (by omega)]
  by_cases q19 : kind = 19
  · rw [if_neg (by omega), if_pos (Or.inr q19), e111 (Or.inr q19)]
  · rw [if_pos (by omega), if_neg (by omega)]
end TWV
