/-! THE TWIN: a frame of a stream's bytes, filled -/
section TWS2
variable {A S : AM} {k j : Nat}
/-- m bytes go out from an offset on -/
def aOut (A : AM) (k j b : Nat) : Nat → AM
  | 0 => A
  | m + 1 => uA (uA (aOut A k j b m) M_fData m (A M_value (65536 * k + (pos A k j).getD (b + m) 0))) M_mark (65536 * k + (pos A k j).getD (b + m) 0) 1
theorem aOut_o {b m : Nat} (r : L3) (f : Nat) (h1 : r ≠ M_fData) (h2 : r ≠ M_mark) : aOut A k j b m r f = A r f := by
  induction m with
  | zero => rfl
  | succ m ih =>
    show uA (uA (aOut A k j b m) M_fData m _) M_mark _ 1 r f = _
    rw [uA_role _ _ _ _ h2, uA_role _ _ _ _ h1, ih]
theorem aOut_fD {b m i : Nat} : aOut A k j b m M_fData i = if i < m then A M_value (65536 * k + (pos A k j).getD (b + i) 0) else A M_fData i := by
  induction m with
  | zero => rfl
  | succ m ih =>
    show uA (uA (aOut A k j b m) M_fData m _) M_mark _ 1 M_fData i = _
    rw [uA_role _ _ _ _ (by decide)]
    by_cases e : i = m
    · rw [e, uA_self, if_pos (by omega)]
    · rw [uA_idx _ _ _ _ e, ih]
      by_cases q : i < m
      · rw [if_pos q, if_pos (by omega)]
      · rw [if_neg q, if_neg (by omega)]
theorem aOut_mk {b m : Nat} {x : Nat} : aOut A k j b m M_mark x = if ∃ i, i < m ∧ x = 65536 * k + (pos A k j).getD (b + i) 0 then 1 else A M_mark x := by
  induction m with
  | zero =>
    rw [if_neg (fun ⟨i, h, _⟩ => by omega)]
    rfl
  | succ m ih =>
    show uA (uA (aOut A k j b m) M_fData m _) M_mark _ 1 M_mark x = _
    by_cases e : x = 65536 * k + (pos A k j).getD (b + m) 0
    · rw [e, uA_self, if_pos ⟨m, by omega, rfl⟩]
    · rw [uA_idx _ _ _ _ e, uA_role _ _ _ _ (by decide), ih]
      by_cases q : ∃ i, i < m ∧ x = 65536 * k + (pos A k j).getD (b + i) 0
      · obtain ⟨i, q1, q2⟩ := q
        rw [if_pos ⟨i, q1, q2⟩, if_pos ⟨i, by omega, q2⟩]
      · rw [if_neg q, if_neg]
        rintro ⟨i, q1, q2⟩
        by_cases z : i = m
        · exact e (by rw [q2, z])
        · exact q ⟨i, by omega, q2⟩
/-- the end goes with the last bytes -/
def aFin (A : AM) (k j : Nat) (last : Prop) [Decidable last] : AM := if last ∧ A M_finished (256 * k + j) ≠ 0 then (if A M_end (256 * k + j) = 3 then uA A M_o 48 1 else uA (uA A M_o 48 1) M_end (256 * k + j) 1) else A
theorem aOut_pos {b m : Nat} : pos (aOut A k j b m) k j = pos A k j := pos_cg (aOut_o _ _ (by decide) (by decide)) (fun i _ => aOut_o _ _ (by decide) (by decide))
theorem t_fS317 (hk : k < 2) (hj : j < 256) (ht : 0 ≤ A M_total k ∧ A M_total k ≤ 65536) (hv : ∀ i, -128 ≤ A M_value i ∧ A M_value i < 128) {b n : Nat} (hn : n ≤ 2048) (hb : b + n ≤ wl A k j) : ∀ (m i f : Nat), i + m = n → m < f →
    g_X8_fillsStream_317 f (aOut A k j b i) k j (256 * (k : Int) + j) b (wl A k j) n i = some (aFin (aOut A k j b n) k j (b + n = wl A k j), 1) := by
  have hwl := wl_le (A := A) (k := k) (j := j) ht
  intro m
  induction m with
  | zero =>
    intro i f h1 h2
    obtain ⟨f, rfl⟩ : ∃ f', f = f' + 1 := ⟨f - 1, by omega⟩
    unfold g_X8_fillsStream_317 g_X8_fillsStream_317_b aFin
    rw [show i = n by omega, if_pos (by omega), c32_ok (by omega) (by omega), hA_ok (by omega) (by omega), gS_v, hA_ok (by omega) (by omega), hA_ok (by omega) (by omega), gS_v, tk_at]
    by_cases q1 : b + n = wl A k j
    · rw [if_neg (by omega)]
      by_cases q2 : aOut A k j b n M_finished (256 * k + j) = 0
      · rw [if_pos q2, if_neg (fun z => z.2 q2)]
      · rw [if_neg q2, if_pos (show b + n = wl A k j ∧ aOut A k j b n M_finished (256 * k + j) ≠ 0 from ⟨q1, q2⟩)]
        have e : (uA (aOut A k j b n) M_o 48 1) M_end (256 * k + j) = aOut A k j b n M_end (256 * k + j) := rfl
        rw [e]
        by_cases q3 : aOut A k j b n M_end (256 * k + j) = 3
        · rw [if_pos q3, if_pos q3]
        · rw [if_neg q3, if_neg q3]
    · rw [if_pos (by omega), if_neg (fun z => q1 z.1)]
  | succ m ih =>
    intro i f h1 h2
    obtain ⟨f, rfl⟩ : ∃ f', f = f' + 1 := ⟨f - 1, by omega⟩
    have hp := pos_lt (A := A) (k := k) (j := j) (o := b + i) (by omega)
    have e1 : g_X8_placeOf (aOut A k j b i) k j ((b : Int) + i) = some (65536 * (k : Int) + (pos A k j).getD (b + i) 0) := by
      rw [show (b : Int) + (i : Int) = ((b + i : Nat) : Int) by omega]
      refine t_placeOf hk (by rw [aOut_o _ _ (by decide) (by decide)]; exact ht) (by omega) ?_
      rw [aOut_pos]
      exact pos_get (by omega)
    have ih1 := ih (i + 1) f (by omega) (by omega)
    rw [show g_X8_fillsStream_317 (f + 1) (aOut A k j b i) k j (256 * (k : Int) + j) b (wl A k j) n i = g_X8_fillsStream_317_b (g_X8_fillsStream_317 f) (aOut A k j b i) k j (256 * (k : Int) + j) b (wl A k j) n i from rfl]
    unfold g_X8_fillsStream_317_b
    have hvv := hv (65536 * k + (pos A k j).getD (b + i) 0)
    rw [if_neg (by omega), c32_ok (by omega) (by omega), e1, bd_v, hA_ok (by omega) (by omega), hA_ok (by omega) (by omega), gS_v, hA_ok (by omega) (by omega), gS_v, c32_ok (by omega) (by omega), tkN, show (65536 * (k : Int) + ((pos A k j).getD (b + i) 0 : Nat)).toNat = 65536 * k + (pos A k j).getD (b + i) 0 by omega, aOut_o M_value _ (by decide) (by decide), show b8 (A M_value (65536 * k + (pos A k j).getD (b + i) 0)) = A M_value (65536 * k + (pos A k j).getD (b + i) 0) by unfold b8; omega, show b8 1 = 1 from rfl, show (i : Int) + 1 = ((i + 1 : Nat) : Int) by omega]
    exact ih1
/-- what a stream may send for the first time -/
def alw (A : AM) (k j : Nat) : Int := if A M_limits (3 * k) - sa A k ≤ A M_limit (256 * k + j) - sn A k j then (if 0 ≤ A M_limits (3 * k) - sa A k then A M_limits (3 * k) - sa A k else 0) else (if 0 ≤ A M_limit (256 * k + j) - sn A k j then A M_limit (256 * k + j) - sn A k j else 0)
theorem cnt_le {ht : 0 ≤ A M_total k ∧ A M_total k ≤ 65536} : sn A k j ≤ 65536 ∧ sa A k ≤ 65536 := by
  constructor
  · refine Nat.le_trans (List.countP_le_length) ?_
    exact wl_le ht
  · refine Nat.le_trans (List.countP_le_length) ?_
    simp
    omega
theorem t_allowed (h : TB A) (hk : k < 2) (hj : j < 256) : g_X8_allowed A k j = some (alw A k j) := by
  have hc := cnt_le (A := A) (k := k) (j := j) (ht := h.tot k hk)
  have hl := h.lim k j hk hj
  have hl2 := h.lms (3 * k) (by omega)
  unfold g_X8_allowed g_X8_allowed_49 alw
  rw [t_at hk hj, bd_v, hA_ok (by omega) (by omega), h.snt hk, bd_v, hA_ok (by omega) (by omega), t_allSent hk (h.tot k hk), bd_v, tk_3, tk_at, c64_ok (by omega) (by omega), c64_ok (by omega) (by omega)]
  split
  · split <;> rfl
  · split <;> rfl
/-- the frame of a stream, if there is one -/
def xB (A : AM) (k j b : Nat) (st most room : Int) : Option AM := if rl A k j b st most room ≠ 0 then some (aFin (aOut (frN A 8 j b 0 (rl A k j b st most room)) k j b (rl A k j b st most room)) k j (b + rl A k j b st most room = wl A k j)) else none
def isE (A : AM) (k j : Nat) : Bool := decide (A M_finished (256 * k + j) ≠ 0) && (decide (A M_end (256 * k + j) = 0) || decide (A M_end (256 * k + j) = 2))
def opS (A : AM) (k j : Nat) : Bool := decide (A M_there (256 * k + j) ≠ 0) && hs k j && decide (sst A k j < 2)
def xS (A : AM) (k j : Nat) (room : Int) : Option AM := if opS A k j = true then (match fi A k j 2 with
    | some b => xB A k j b 2 65536 room
    | none => match fi A k j 0 with
      | some b => if alw A k j = 0 then none else xB A k j b 0 (alw A k j) room
      | none => if isE A k j = true ∧ fsS j (wl A k j) 0 ≤ room then some (uA (frN A 8 j (wl A k j) 1 0) M_end (256 * k + j) 1) else none) else none
theorem Scr.fi0 (h : Scr A S) {st : Int} : fi S k j st = fi A k j st := by
  unfold fi
  rw [h.pos]
  congr 1
  funext i
  rw [h.rl _ _ (by decide)]
theorem Scr.alw0 (h : Scr A S) : alw S k j = alw A k j := by unfold alw; rw [h.sa, h.sn, h.rl _ _ (by decide), h.rl _ _ (by decide)]
theorem fi_lt {st : Int} {b : Nat} (h : fi A k j st = some b) : b < wl A k j ∧ mkA A k j b = st ∧ ∀ i, i < b → mkA A k j i ≠ st := by
  unfold fi at h
  rw [List.findIdx?_eq_some_iff_getElem] at h
  obtain ⟨h1, h2, h3⟩ := h
  refine ⟨h1, ?_, fun i hi => ?_⟩
  · unfold mkA
    rw [List.getD_eq_getElem?_getD, List.getElem?_eq_getElem h1]
    simpa using h2
  · have h4 := h3 i hi
    unfold mkA
    rw [List.getD_eq_getElem?_getD, List.getElem?_eq_getElem (by omega)]
    simpa using h4
theorem t_fS180 (h : TB A) (hk : k < 2) (hj : j < 256) {room : Int} (hr : room ≤ 1200) {b : Nat} {st most : Int} (hb : b < wl A k j) (g : Scr A S) (h45 : S M_o 45 = 8) (h46 : S M_o 46 = j) : FO A (g_X8_fillsStream_180 S k j room (256 * (k : Int) + j) b st most (wl A k j) 0 b) (xB A k j b st most room) := by
  have hwl := wl_le (A := A) (k := k) (j := j) (h.tot k hk)
  have hlt := rl_lt (A := A) (k := k) (j := j) (b := b) (st := st) (most := most) hr
  unfold g_X8_fillsStream_180 xB
  rw [gS_v, gS_v, if_pos rfl]
  have e := t_fS207 h hk hj (b := b) (st := st) (most := most) (room := room) hr (by omega) (256 * (k : Int) + j) (rl A k j b st most room) 0 FU (uA (uA S M_o 47 b) M_o 48 0) ((g.o (by omega) (by omega)).o (by omega) (by omega)) h45 h46 rfl rfl (by omega) (by unfold FU; omega)
  rw [show ((0 : Nat) : Int) = 0 from rfl] at e
  rw [e]
  by_cases q : rl A k j b st most room = 0
  · rw [if_neg (fun z => z q), if_neg (fun z => z q)]
    exact ⟨_, Scr.rfl'.frNn, rfl⟩
  · rw [if_pos q, if_pos q]
    have hs : Scr A (frN A 8 j b 0 (rl A k j b st most room)) := Scr.rfl'.frNn
    have ewl : wl (frN A 8 j b 0 (rl A k j b st most room)) k j = wl A k j := hs.wl
    have hend : b + rl A k j b st most room ≤ wl A k j := by
      have := rl_in (A := A) (k := k) (j := j) (b := b) (st := st) (most := most) hr (i := rl A k j b st most room - 1) (by omega)
      unfold Gd at this
      simp only [Bool.and_eq_true, decide_eq_true_eq] at this
      omega
    have e2 := t_fS317 (A := frN A 8 j b 0 (rl A k j b st most room)) hk hj ((h.scr hs).tot k hk) (h.scr hs).val (b := b) (n := rl A k j b st most room) (by omega) (by rw [ewl]; exact hend) (rl A k j b st most room) 0 FU (by omega) (by unfold FU; omega)
    rw [ewl] at e2
    exact e2
theorem t_fillsStream (h : TB A) (hk : k < 2) (hj : j < 256) {room : Int} (hr : room ≤ 1200) (g : Scr A S) : FO A (g_X8_fillsStream S k j room) (xS A k j room) := by
  have hT := h.scr g
  have hwl := wl_le (A := A) (k := k) (j := j) (h.tot k hk)
  unfold g_X8_fillsStream xS
  rw [t_isOpenSending hT hk hj, bd_v, g.rl _ _ (by decide), g.sst]
  by_cases q : A M_there (256 * k + j) ≠ 0 ∧ hs k j = true ∧ sst A k j < 2
  · have qo : opS A k j = true := by unfold opS; simp [q]
    rw [if_pos q, if_pos (by decide), if_pos qo, t_at hk hj, bd_v, t_firstIn hk (hT.tot k hk), bd_v, g.fi0]
    have key148 : ∀ (b : Nat) (st most : Int), b < wl A k j → FO A (g_X8_fillsStream_148 S k j room (256 * (k : Int) + j) b st most (wl A k j) 0) (xB A k j b st most room) := by
      intro b st most hb
      unfold g_X8_fillsStream_148
      rw [gS_v, gS_v, gS_v, if_pos rfl]
      exact t_fS180 h hk hj hr hb (((g.o (by omega) (by omega)).o (by omega) (by omega)).o (by omega) (by omega)) rfl rfl
    have key110 : ∀ (b : Nat) (st most y : Int), b < wl A k j → FO A (g_X8_fillsStream_110 S k j room (256 * (k : Int) + j) b st most (wl A k j) y) (if most = 0 then none else xB A k j b st most room) := by
      intro b st most y hb
      unfold g_X8_fillsStream_110 g_X8_fillsStream_122 g_X8_fillsStream_134
      rw [if_pos (by omega), if_pos rfl, if_neg (by decide)]
      by_cases q2 : most = 0
      · rw [if_neg (fun z => z q2), if_pos q2]
        exact ⟨S, g, rfl⟩
      · rw [if_pos q2, if_neg q2]
        exact key148 b st most hb
    have key66 : ∀ (b : Nat) (st most : Int), b < wl A k j → FO A (g_X8_fillsStream_66 S k j room (256 * (k : Int) + j) b st most) (if most = 0 then none else xB A k j b st most room) := by
      intro b st most hb
      unfold g_X8_fillsStream_66 g_X8_fillsStream_109 g_X8_fillsStream_105
      rw [hT.wrt hk, bd_v, g.wl, hA_ok (by omega) (by omega), hA_ok (by omega) (by omega), hA_ok (by omega) (by omega)]
      split
      · exact key110 b st most 0 hb
      · split
        · exact key110 b st most 1 hb
        · split
          · exact key110 b st most 0 hb
          · exact key110 b st most 1 hb
    unfold g_X8_fillsStream_37
    cases hf : fi A k j 2 with
    | some b =>
      have hb := (fi_lt hf).1
      show FO A (if o2i (some b) < 0 then _ else _) _
      rw [if_neg (show ¬ o2i (some b) < 0 by show ¬ (b : Int) < 0; omega), if_pos (show 0 ≤ o2i (some b) by show 0 ≤ (b : Int); omega)]
      have := key66 b 2 65536 hb
      rw [if_neg (by decide)] at this
      exact this
    | none =>
      show FO A (if o2i none < 0 then _ else _) _
      rw [if_pos (show o2i none < 0 by decide), if_neg (show ¬ 0 ≤ o2i none by decide), t_firstIn hk (hT.tot k hk), bd_v, g.fi0, t_allowed hT hk hj, bd_v, g.alw0]
      cases hf0 : fi A k j 0 with
      | some b => exact key66 b 0 (alw A k j) (fi_lt hf0).1
      | none =>
        show FO A (g_X8_fillsStream_66 S k j room (256 * (k : Int) + j) (-1) 0 (alw A k j)) (if isE A k j = true ∧ fsS j (wl A k j) 0 ≤ room then some (uA (frN A 8 j (wl A k j) 1 0) M_end (256 * k + j) 1) else none)
        have k1 : FO A (g_X8_fillsStream_110 S k j room (256 * (k : Int) + j) (-1) 0 (alw A k j) (wl A k j) 1) (if fsS j (wl A k j) 0 ≤ room then some (uA (frN A 8 j (wl A k j) 1 0) M_end (256 * k + j) 1) else none) := by
          unfold g_X8_fillsStream_110 g_X8_fillsStream_122 g_X8_fillsStream_134 g_X8_fillsStream_148 g_X8_fillsStream_180 g_X8_endAlone
          rw [if_neg (show ¬ (0 : Int) ≤ -1 by decide), if_neg (show ¬ (1 : Int) = 0 by decide), if_neg (show ¬ (1 : Int) = 0 by decide), if_pos (show (1 : Int) ≠ 0 by decide), gS_v, gS_v, gS_v, if_neg (show ¬ (1 : Int) = 0 by decide), gS_v, gS_v, if_neg (show ¬ (1 : Int) = 0 by decide), gS_v]
          have es : uA (uA (uA (uA (uA (uA S M_o 49 0) M_o 45 8) M_o 46 j) M_o 47 (wl A k j)) M_o 48 0) M_o 48 1 = frN A 8 j (wl A k j) 1 0 := Scr.ext ((((((g.o (by omega) (by omega)).o (by omega) (by omega)).o (by omega) (by omega)).o (by omega) (by omega)).o (by omega) (by omega)).o (by omega) (by omega)) rfl rfl rfl rfl rfl
          rw [es, t_bytes_8 (A := frN A 8 j (wl A k j) 1 0) (j := j) (b := wl A k j) (m := 0) rfl rfl rfl rfl (by omega), bd_v]
          by_cases q2 : fsS j (wl A k j) 0 ≤ room
          · rw [if_pos q2, if_pos q2, t_at hk hj, bd_v, hA_ok (by omega) (by omega), gS_v, gB2_v, hB_ok (Or.inr rfl), tk_at]
            rfl
          · rw [if_neg q2, if_neg q2, gB2_v, hB_ok (Or.inl rfl)]
            exact ⟨_, Scr.rfl'.frNn, rfl⟩
        have k0 : FO A (g_X8_fillsStream_110 S k j room (256 * (k : Int) + j) (-1) 0 (alw A k j) (wl A k j) 0) none := by
          unfold g_X8_fillsStream_110 g_X8_fillsStream_122
          rw [if_neg (show ¬ (0 : Int) ≤ -1 by decide), if_neg (show ¬ (1 : Int) = 0 by decide), if_pos rfl]
          exact ⟨S, g, rfl⟩
        unfold g_X8_fillsStream_66 g_X8_fillsStream_109 g_X8_fillsStream_105
        rw [hT.wrt hk, bd_v, g.wl, hA_ok (by omega) (by omega), hA_ok (by omega) (by omega), hA_ok (by omega) (by omega), tk_at, g.rl _ _ (by decide), g.rl _ _ (by decide)]
        unfold isE
        by_cases c1 : A M_finished (256 * k + j) = 0
        · rw [if_pos c1]; simp only [c1, ne_eq, not_true_eq_false, decide_false, Bool.false_and, Bool.false_eq_true, false_and, if_false]; exact k0
        rw [if_neg c1]
        by_cases c2 : A M_end (256 * k + j) = 0
        · rw [if_pos c2]; simp only [c1, c2, ne_eq, not_false_eq_true, decide_true, Bool.true_or, Bool.and_true, true_and]; exact k1
        rw [if_neg c2]
        by_cases c3 : A M_end (256 * k + j) = 2
        · rw [if_neg (fun z => z c3)]
          have e1 : (decide (A M_finished (256 * k + j) ≠ 0) && (decide (A M_end (256 * k + j) = 0) || decide (A M_end (256 * k + j) = 2))) = true := by simp [c1, c3]
          rw [e1]; simp only [true_and]; exact k1
        · rw [if_pos c3]
          have e1 : (decide (A M_finished (256 * k + j) ≠ 0) && (decide (A M_end (256 * k + j) = 0) || decide (A M_end (256 * k + j) = 2))) = false := by simp [c2, c3]
          rw [e1]; simp only [Bool.false_eq_true, false_and, if_false]; exact k0
  · have qo : opS A k j = false := by
      unfold opS
      cases hq : (decide (A M_there (256 * k + j) ≠ 0) && hs k j && decide (sst A k j < 2)) with
      | false => rfl
      | true =>
        simp only [Bool.and_eq_true, decide_eq_true_eq] at hq
        exact absurd ⟨hq.1.1, hq.1.2, hq.2⟩ q
    rw [if_neg q, if_neg (by decide), qo]
    exact ⟨S, g, rfl⟩
end TWS2
