/-! THE TWIN: its calls, whole -/
section TWC
variable {A : AM} {k j : Nat}
theorem TB.o0 (h : TB A) {v : Int} : TB (uA A M_o 0 v) := (TB.make h.jnd h.tap h.tpv h.out h.tot h.mrk h.val h.pcs h.cam h.hsb h.rds h.res h.hig h.siz h.wrs h.gra h.grt h.opn h.thr h.dgr h.grs h.lim h.lms h.lst h.stc h.cod)
theorem TB.o3 (h : TB A) : TB (uA A M_o 3 0) := (TB.make h.jnd (⟨by show (0 : Int) ≤ 0; omega, by show (0 : Int) ≤ 2048; omega⟩) h.tpv h.out h.tot h.mrk h.val h.pcs h.cam h.hsb h.rds h.res h.hig h.siz h.wrs h.gra h.grt h.opn h.thr h.dgr h.grs h.lim h.lms h.lst h.stc h.cod)
theorem TB.o5 (h : TB A) : TB (uA A M_o 5 0) := (TB.make h.jnd h.tap h.tpv (⟨by show (0 : Int) ≤ 0; omega, by show (0 : Int) ≤ 2048; omega⟩) h.tot h.mrk h.val h.pcs h.cam h.hsb h.rds h.res h.hig h.siz h.wrs h.gra h.grt h.opn h.thr h.dgr h.grs h.lim h.lms h.lst h.stc h.cod)
theorem t_write_bad {x1 x2 : Int} (h : ¬ (0 ≤ x1 ∧ x1 ≤ 1)) : g_X8_write A x1 x2 = some (uA A M_o 0 1, 0) := by
  unfold g_X8_write
  rw [t_noSide_bad h, bd_v, t_fails (Or.inr rfl), gB2_v, if_neg (by decide), if_neg (by decide)]
theorem t_write_no (h : TB A) (hk : k < 2) {z : Int} (hn : ¬ (isS A k z ∧ sst A k z.toNat = 0)) : g_X8_write A k z = some (uA (uA A M_o 0 0) M_o 3 0, -1) := by
  unfold g_X8_write
  rw [t_noSide_ok (by omega), bd_v, t_fails (Or.inl rfl), gB2_v, if_pos rfl, if_pos rfl, gS_v]
  by_cases q : isS A k z
  · have q2 : isS (uA (uA A M_o 0 0) M_o 3 0) k z := q
    have hq := q
    unfold isS at hq
    obtain ⟨j, rfl⟩ : ∃ j : Nat, z = j := ⟨z.toNat, by omega⟩
    rw [tkN] at hn
    have e : sst (uA (uA A M_o 0 0) M_o 3 0) k j = sst A k j := rfl
    rw [t_hS hk q2, bd_v, if_neg (by decide), (h.o0.o3).snd hk (by omega), bd_v, e, if_neg (fun y => hn ⟨q, y⟩)]
  · have q2 : ¬ isS (uA (uA A M_o 0 0) M_o 3 0) k z := q
    rw [t_hSn hk q2, bd_v, if_pos rfl]
theorem t_write_ok (h : TB A) (hk : k < 2) (hj : j < 256) (hs : isS A k j) (h0 : sst A k j = 0) {n mm : Nat} (hn : A M_o 3 = n) (hm : mm ≤ n) (hm2 : A M_total k + mm ≤ 65536) (hm3 : mm = n ∨ A M_total k + mm = 65536) : g_X8_write A k j = some (aWrite (uA (uA A M_o 0 0) M_o 3 0) k j mm, (mm : Int)) := by
  unfold g_X8_write
  have ht := h.tap
  have q2 : isS (uA (uA A M_o 0 0) M_o 3 0) k j := hs
  have e : sst (uA (uA A M_o 0 0) M_o 3 0) k j = 0 := h0
  have e3 : (uA A M_o 0 0) M_o 3 = n := hn
  rw [t_noSide_ok (by omega), bd_v, t_fails (Or.inl rfl), gB2_v, if_pos rfl, if_pos rfl, gS_v, t_hS hk q2, bd_v, if_neg (by decide), (h.o0.o3).snd hk hj, bd_v, e, if_pos rfl, e3]
  exact t_write_47 (A := uA (uA A M_o 0 0) M_o 3 0) hk hj (n := n) (mm := mm) (by omega) (h.tot k hk) h.tpv hm hm2 hm3 mm 0 FU (by omega) (by unfold FU; omega)
theorem t_finish_bad {x1 x2 : Int} (h : ¬ (0 ≤ x1 ∧ x1 ≤ 1)) : g_X8_finish A x1 x2 = some (uA A M_o 0 1, 0) := by
  unfold g_X8_finish
  rw [t_noSide_bad h, bd_v, t_fails (Or.inr rfl), gB2_v, if_pos (by decide), if_neg (by decide)]
theorem t_finish_no (h : TB A) (hk : k < 2) {z : Int} (hn : ¬ (isS A k z ∧ sst A k z.toNat = 0)) : g_X8_finish A k z = some (uA A M_o 0 0, 0) := by
  unfold g_X8_finish
  rw [t_noSide_ok (by omega), bd_v, t_fails (Or.inl rfl), gB2_v, if_neg (by decide), if_pos rfl]
  by_cases q : isS A k z
  · have q2 : isS (uA A M_o 0 0) k z := q
    have hq := q
    unfold isS at hq
    obtain ⟨j, rfl⟩ : ∃ j : Nat, z = j := ⟨z.toNat, by omega⟩
    rw [tkN] at hn
    have e : sst (uA A M_o 0 0) k j = sst A k j := rfl
    rw [t_hS hk q2, bd_v, if_neg (by decide), h.o0.snd hk (by omega), bd_v, e, if_neg (fun y => hn ⟨q, y⟩)]
  · have q2 : ¬ isS (uA A M_o 0 0) k z := q
    rw [t_hSn hk q2, bd_v, if_pos rfl]
theorem t_finish_ok (h : TB A) (hk : k < 2) (hj : j < 256) (hs : isS A k j) (h0 : sst A k j = 0) : g_X8_finish A k j = some (aFinish (uA A M_o 0 0) k j, 1) := by
  unfold g_X8_finish aFinish
  have q2 : isS (uA A M_o 0 0) k j := hs
  have e : sst (uA A M_o 0 0) k j = 0 := h0
  rw [t_noSide_ok (by omega), bd_v, t_fails (Or.inl rfl), gB2_v, if_neg (by decide), if_pos rfl, t_hS hk q2, bd_v, if_neg (by decide), h.o0.snd hk hj, bd_v, e, if_pos rfl, t_at hk hj, bd_v, hA_ok (by omega) (by omega), gS_v, bd_v, hA_ok (by omega) (by omega), gS_v, tk_at]
theorem t_iOS (h : TB A) (hk : k < 2) {z : Int} (hs : isS A k z ∧ sst A k z.toNat < 2) : g_X8_isOpenSending A k z = some 1 := by
  have hq := hs.1
  unfold isS at hq
  obtain ⟨j, rfl⟩ : ∃ j : Nat, z = j := ⟨z.toNat, by omega⟩
  rw [tkN] at hs hq
  rw [t_isOpenSending h hk (by omega), if_pos ⟨hq.2.2.1, hq.2.2.2, hs.2⟩]
theorem t_iOSn (h : TB A) (hk : k < 2) {z : Int} (hs : ¬ (isS A k z ∧ sst A k z.toNat < 2)) : g_X8_isOpenSending A k z = some 0 := by
  by_cases q : isS A k z
  · have hq := q
    unfold isS at hq
    obtain ⟨j, rfl⟩ : ∃ j : Nat, z = j := ⟨z.toNat, by omega⟩
    rw [tkN] at hs hq
    rw [t_isOpenSending h hk (by omega), if_neg (fun y => hs ⟨q, y.2.2⟩)]
  · unfold g_X8_isOpenSending
    rw [t_hSn hk q, bd_v, if_pos rfl]
theorem t_reset_bad {x1 x2 x3 : Int} (h : ¬ (0 ≤ x1 ∧ x1 ≤ 1 ∧ 0 ≤ x3 ∧ x3 ≤ 4611686018427387903)) : g_X8_reset A x1 x2 x3 = some (uA A M_o 0 1, 0) := by
  have e : g_X8_reset_27 A x1 x2 x3 1 = some (uA A M_o 0 1, 0) := by
    unfold g_X8_reset_27
    rw [t_fails (Or.inr rfl), gB2_v, if_pos (by decide), if_neg (by decide)]
  unfold g_X8_reset g_X8_reset_22
  rw [e]
  by_cases h1 : 0 ≤ x1 ∧ x1 ≤ 1
  · rw [t_noSide_ok h1, bd_v, if_neg (by decide)]
    by_cases h2 : x3 < 0
    · rw [if_pos h2]
    · rw [if_neg h2, if_neg (by omega)]
  · rw [t_noSide_bad h1, bd_v, if_pos (by decide)]
theorem t_reset_no (h : TB A) (hk : k < 2) {z c : Int} (hc : 0 ≤ c ∧ c ≤ 4611686018427387903) (hn : ¬ (isS A k z ∧ sst A k z.toNat < 2)) : g_X8_reset A k z c = some (uA A M_o 0 0, 0) := by
  unfold g_X8_reset g_X8_reset_27
  have hn2 : ¬ (isS (uA A M_o 0 0) k z ∧ sst (uA A M_o 0 0) k z.toNat < 2) := hn
  rw [t_noSide_ok (by omega), bd_v, if_neg (by decide), if_neg (by omega), if_pos (by omega), t_fails (Or.inl rfl), gB2_v, if_neg (by decide), if_pos rfl, t_iOSn h.o0 hk hn2, bd_v, if_neg (by decide)]
theorem t_reset_ok (h : TB A) (hk : k < 2) (hj : j < 256) {c : Int} (hc : 0 ≤ c ∧ c ≤ 4611686018427387903) (hs : isS A k j) (h2 : sst A k j < 2) : g_X8_reset A k j c = some (aReset (uA A M_o 0 0) k j c, 1) := by
  unfold g_X8_reset g_X8_reset_27
  have hn2 : isS (uA A M_o 0 0) k j ∧ sst (uA A M_o 0 0) k (j : Int).toNat < 2 := ⟨hs, h2⟩
  rw [t_noSide_ok (by omega), bd_v, if_neg (by decide), if_neg (by omega), if_pos (by omega), t_fails (Or.inl rfl), gB2_v, if_neg (by decide), if_pos rfl, t_iOS h.o0 hk hn2, bd_v, if_pos (by decide), t_doReset hk hj, bd_v]
theorem t_stop_bad {x1 x2 x3 : Int} (h : ¬ (0 ≤ x1 ∧ x1 ≤ 1 ∧ 0 ≤ x3 ∧ x3 ≤ 4611686018427387903)) : g_X8_stop A x1 x2 x3 = some (uA A M_o 0 1, 0) := by
  have e : g_X8_stop_27 A x1 x2 x3 1 = some (uA A M_o 0 1, 0) := by
    unfold g_X8_stop_27
    rw [t_fails (Or.inr rfl), gB2_v, if_pos (by decide), if_neg (by decide)]
  unfold g_X8_stop g_X8_stop_22
  rw [e]
  by_cases h1 : 0 ≤ x1 ∧ x1 ≤ 1
  · rw [t_noSide_ok h1, bd_v, if_neg (by decide)]
    by_cases h2 : x3 < 0
    · rw [if_pos h2]
    · rw [if_neg h2, if_neg (by omega)]
  · rw [t_noSide_bad h1, bd_v, if_pos (by decide)]
theorem t_stop_no (h : TB A) (hk : k < 2) {z c : Int} (hc : 0 ≤ c ∧ c ≤ 4611686018427387903) (hn : ¬ (isR A k z ∧ rst A k z.toNat ≤ 1 ∧ A M_stopped (256 * k + z.toNat) = 0)) : g_X8_stop A k z c = some (uA A M_o 0 0, 0) := by
  unfold g_X8_stop g_X8_stop_27
  rw [t_noSide_ok (by omega), bd_v, if_neg (by decide), if_neg (by omega), if_pos (by omega), t_fails (Or.inl rfl), gB2_v, if_neg (by decide), if_pos rfl]
  by_cases q : isR A k z
  · have q2 : isR (uA A M_o 0 0) k z := q
    have hq := q
    unfold isR at hq
    obtain ⟨j, rfl⟩ : ∃ j : Nat, z = j := ⟨z.toNat, by omega⟩
    rw [tkN] at hn
    have e : rst (uA A M_o 0 0) k j = rst A k j := rfl
    have e2 : (uA A M_o 0 0) M_stopped (256 * k + j) = A M_stopped (256 * k + j) := rfl
    rw [t_hR hk q2, bd_v, if_neg (by decide), h.o0.rcv hk (by omega), bd_v, e]
    by_cases q3 : 1 < rst A k j
    · rw [if_pos q3]
    · rw [if_neg q3, t_at hk (by omega), bd_v, hA_ok (by omega) (by omega), tk_at, e2, if_neg (fun y => hn ⟨q, by omega, y⟩)]
  · have q2 : ¬ isR (uA A M_o 0 0) k z := q
    rw [t_hRn hk q2, bd_v, if_pos rfl]
theorem t_stop_ok (h : TB A) (hk : k < 2) (hj : j < 256) {c : Int} (hc : 0 ≤ c ∧ c ≤ 4611686018427387903) (hs : isR A k j) (h2 : rst A k j ≤ 1) (h3 : A M_stopped (256 * k + j) = 0) : g_X8_stop A k j c = some (aStop (uA A M_o 0 0) k j c, 1) := by
  unfold g_X8_stop g_X8_stop_27 aStop
  have q2 : isR (uA A M_o 0 0) k j := hs
  have e : rst (uA A M_o 0 0) k j = rst A k j := rfl
  have e2 : (uA A M_o 0 0) M_stopped (256 * k + j) = 0 := h3
  rw [t_noSide_ok (by omega), bd_v, if_neg (by decide), if_neg (by omega), if_pos (by omega), t_fails (Or.inl rfl), gB2_v, if_neg (by decide), if_pos rfl, t_hR hk q2, bd_v, if_neg (by decide), h.o0.rcv hk hj, bd_v, e, if_neg (by omega), t_at hk hj, bd_v, hA_ok (by omega) (by omega), tk_at, e2, if_pos rfl, bd_v, hA_ok (by omega) (by omega), gS_v, bd_v, hA_ok (by omega) (by omega), gS_v, bd_v, hA_ok (by omega) (by omega), gS_v, tk_at]
theorem t_read_bad {x1 x2 x3 : Int} (h : ¬ (0 ≤ x1 ∧ x1 ≤ 1 ∧ 0 ≤ x3 ∧ x3 ≤ 2048)) : g_X8_read A x1 x2 x3 = some (uA A M_o 0 1, 0) := by
  have e : g_X8_read_24 A x1 x2 x3 1 = some (uA A M_o 0 1, 0) := by
    unfold g_X8_read_24
    rw [t_fails (Or.inr rfl), gB2_v, if_neg (by decide), if_neg (by decide)]
  unfold g_X8_read g_X8_read_19
  rw [e]
  by_cases h1 : 0 ≤ x1 ∧ x1 ≤ 1
  · rw [t_noSide_ok h1, bd_v, if_neg (by decide)]
    by_cases h2 : x3 < 0
    · rw [if_pos h2]
    · rw [if_neg h2, if_neg (by omega)]
  · rw [t_noSide_bad h1, bd_v, if_pos (by decide)]
theorem t_read_no (hk : k < 2) {z m : Int} (hm : 0 ≤ m ∧ m ≤ 2048) (hn : ¬ isR A k z) : g_X8_read A k z m = some (uA (uA A M_o 0 0) M_o 5 0, -1) := by
  unfold g_X8_read g_X8_read_24
  have q2 : ¬ isR (uA (uA A M_o 0 0) M_o 5 0) k z := hn
  rw [t_noSide_ok (by omega), bd_v, if_neg (by decide), if_neg (by omega), if_pos (by omega), t_fails (Or.inl rfl), gB2_v, if_pos rfl, if_pos rfl, gS_v, t_hRn hk q2, bd_v, if_neg (by decide)]
theorem t_read_rst (hk : k < 2) (hj : j < 256) {m : Int} (hm : 0 ≤ m ∧ m ≤ 2048) (hs : isR A k j) (hw : A M_wasReset (256 * k + j) ≠ 0) : g_X8_read A k j m = some (uA (uA A M_o 0 0) M_o 5 0, -2) := by
  unfold g_X8_read g_X8_read_24
  have q2 : isR (uA (uA A M_o 0 0) M_o 5 0) k j := hs
  have e : (uA (uA A M_o 0 0) M_o 5 0) M_wasReset (256 * k + j) = A M_wasReset (256 * k + j) := rfl
  rw [t_noSide_ok (by omega), bd_v, if_neg (by decide), if_neg (by omega), if_pos (by omega), t_fails (Or.inl rfl), gB2_v, if_pos rfl, if_pos rfl, gS_v, t_hR hk q2, bd_v, if_pos (by decide), t_at hk hj, bd_v, hA_ok (by omega) (by omega), tk_at, e, if_neg hw]
theorem rd_ge : (A M_read (256 * k + j)).toNat ≤ rd A k j := rdF_ge
theorem rd_le (h : TB A) (hk : k < 2) (hj : j < 256) : rd A k j ≤ 65536 := by
  have hr := h.rds k j hk hj
  by_cases q : (A M_read (256 * k + j)).toNat < rd A k j
  · have := h.hsb k j (rd A k j - 1) hk hj (rdF_has (f := 70000) (n := (A M_read (256 * k + j)).toNat) (by omega) (show rd A k j - 1 < rd A k j by omega))
    omega
  · have := rd_ge (A := A) (k := k) (j := j); omega
theorem t_read_ok (h : TB A) (hk : k < 2) (hj : j < 256) {m n : Nat} (hm : m ≤ 2048) (hs : isR A k j) (hw : A M_wasReset (256 * k + j) = 0) (hn : n ≤ m) (hn2 : A M_read (256 * k + j) + n ≤ rd A k j) (hn3 : n = m ∨ A M_read (256 * k + j) + n = rd A k j) : g_X8_read A k j m = some (aRead1 (aRd (uA (uA A M_o 0 0) M_o 5 0) k j n) k j, (n : Int)) := by
  unfold g_X8_read g_X8_read_24
  have q2 : isR (uA (uA A M_o 0 0) M_o 5 0) k j := hs
  have e : (uA (uA A M_o 0 0) M_o 5 0) M_wasReset (256 * k + j) = 0 := hw
  have hr := h.rds k j hk hj
  have hrl := rd_le h hk hj
  have hT := h.o0 (v := 0) |>.o5
  have erd : rd (uA (uA A M_o 0 0) M_o 5 0) k j = rd A k j := rfl
  have hT2 := hT.rdm (k := k) (j := j) (m := n) (by omega) hk hj (show A M_read (256 * k + j) + (n : Int) ≤ 65536 by omega)
  have e77 := t_read_77 (A := uA (uA A M_o 0 0) M_o 5 0) (k := k) (j := j) hT hk hj rfl (most := m) (n := n) (rdy := rd A k j) (fun o p q => rdF_has (f := 70000) p q) hrl hm hn hn2 hn3 n 0 FU (by omega) (by unfold FU; omega)
  rw [aRd_0 rfl] at e77
  rw [t_noSide_ok (by omega), bd_v, if_neg (by decide), if_neg (by omega), if_pos (by omega), t_fails (Or.inl rfl), gB2_v, if_pos rfl, if_pos rfl, gS_v, t_hR hk q2, bd_v, if_pos (by decide), t_at hk hj, bd_v, hA_ok (by omega) (by omega), tk_at, e, if_pos rfl, hT.rdy hk hj, bd_v, erd, e77, t_read_148 hT2 hk hj]
  rfl
end TWC
