/-! CALLS: finish, reset, stop -/
def Ans (wr : Nat → Int) (A' : AM) (v : Int) : Nat ⊕ Int → Prop
  | .inl c => A' M_o 0 = wr c
  | .inr u => A' M_o 0 = 0 ∧ u = v
theorem ans_r {wr : Nat → Int} {A' : AM} {v : Int} (h : A' M_o 0 = 0) : Ans wr A' v (.inr v) := ⟨h, rfl⟩
theorem ans_l {wr : Nat → Int} {A' : AM} {v : Int} {c : Nat} (h : A' M_o 0 = wr c) : Ans wr A' v (.inl c) := h
def wI (c : Nat) : Int := c
def wN (c : Nat) : Int := if c = 3 then 1 else 2
def Any (_ _ : Nat) : Prop := True
section CA1
variable {A A' B B' : AM} {E : L3 → Bool} {k j n n' : Nat} {P P' : Nat → Nat → Prop}
theorem CEx.s (h : CEx E A) (hk : k < 2) {z : Int} : isS A k z ↔ 0 ≤ z ∧ z < 256 ∧ E (S_o k z.toNat) = true := by
  unfold isS
  constructor
  · rintro ⟨h1, h2, h3, h4⟩
    refine ⟨h1, h2, ?_⟩
    rw [(h k z.toNat hk (by omega)).1, h4]; simp [h3]
  · rintro ⟨h1, h2, h3⟩
    rw [(h k z.toNat hk (by omega)).1] at h3
    simp at h3
    exact ⟨h1, h2, h3.1, h3.2⟩
theorem CEx.r (h : CEx E A) (hk : k < 2) {z : Int} : isR A k z ↔ 0 ≤ z ∧ z < 256 ∧ E (R_o k z.toNat) = true := by
  unfold isR
  constructor
  · rintro ⟨h1, h2, h3, h4⟩
    refine ⟨h1, h2, ?_⟩
    rw [(h k z.toNat hk (by omega)).2, h4]; simp [h3]
  · rintro ⟨h1, h2, h3⟩
    rw [(h k z.toNat hk (by omega)).2] at h3
    simp at h3
    exact ⟨h1, h2, h3.1, h3.2⟩
theorem CEx.sN (h : CEx E A) (hk : k < 2) (hj : j < 256) : E (S_o k j) = true ↔ A M_there (256 * k + j) ≠ 0 ∧ hs k j = true := by
  rw [(h k j hk hj).1]; simp
theorem CEx.rN (h : CEx E A) (hk : k < 2) (hj : j < 256) : E (R_o k j) = true ↔ A M_there (256 * k + j) ≠ 0 ∧ hr k j = true := by
  rw [(h k j hk hj).2]; simp
theorem fL0 {k j f : Nat} (h : f ≠ 1) : fL k j M_o f := Or.inl ⟨rfl, h⟩
theorem fLs {k j t : Nat} (h1 : 19 ≤ t) (h2 : t ≤ 36) (h3 : t ≠ 28) (h4 : t ≠ 29) : fL k j (t, 0, 0) (256 * k + j) := Or.inr (Or.inr (Or.inr (Or.inr (Or.inr (Or.inr ⟨h1, h2, h3, h4, rfl⟩)))))
theorem gLs {k j f : Nat} (h : f ≤ 3 ∨ 8 ≤ f) : gL k j (S_o k j) f := Or.inr (Or.inr (Or.inr (Or.inr (Or.inr (Or.inl ⟨rfl, rfl, rfl, h⟩)))))
theorem gLr {k j f : Nat} (h : f ≠ 7) : gL k j (R_o k j) f := Or.inr (Or.inr (Or.inr (Or.inr (Or.inr (Or.inr ⟨rfl, rfl, rfl, h⟩)))))
theorem Rel.o0 (h : Rel P n E A B) (hn : n ≤ n') {v : Int} : Rel P n' E (uA A M_o 0 v) B :=
  h.loc (k := 0) (j := 0) (by decide) (by decide) (Out.rf.u (fL0 (by decide))) Out.rf hn h.tb.o0 (Int.le_refl _) (h.ts 0 0 (by decide) (by decide)) (h.ov 0 0 (by decide) (by decide)) (fun _ _ _ _ _ z => z) (h.tk 0 (by decide)) (fun z => z) (fun z => z) h.top (h.hl 0 (by decide)) (fun w hw => h.wys 0 w (by decide) hw) (h.sd 0 0 (by decide) (by decide)) (h.rv 0 0 (by decide) (by decide))
theorem Rel.up (h : Rel P n E A B) (hn : n ≤ n') : Rel P n' E A B :=
  h.loc (k := 0) (j := 0) (by decide) (by decide) Out.rf Out.rf hn h.tb (Int.le_refl _) (h.ts 0 0 (by decide) (by decide)) (h.ov 0 0 (by decide) (by decide)) (fun _ _ _ _ _ z => z) (h.tk 0 (by decide)) (fun z => z) (fun z => z) h.top (h.hl 0 (by decide)) (fun w hw => h.wys 0 w (by decide) hw) (h.sd 0 0 (by decide) (by decide)) (h.rv 0 0 (by decide) (by decide))
theorem sst_fin : sst (aFinish A k j) k j = if A M_resets (256 * k + j) ≤ 0 then 1 else 2 + A M_resets (256 * k + j) := by
  unfold sst aFinish
  rw [uA_role _ _ _ _ (by decide), uA_role _ _ _ _ (by decide), uA_role _ _ _ _ (by decide), uA_self, uA_self]
  rfl
theorem sst_0 : sst A k j = 0 → A M_resets (256 * k + j) ≤ 0 ∧ A M_finished (256 * k + j) = 0 := by
  unfold sst
  intro h
  split at h
  · rename_i q
    refine ⟨q, ?_⟩
    split at h
    · split at h <;> omega
    · rename_i z; omega
  · omega
theorem sst_rng (h : TB A) (hk : k < 2) (hj : j < 256) : 0 ≤ sst A k j ∧ sst A k j ≤ 4 := by
  have := h.res k j hk hj
  unfold sst
  split
  · split
    · split <;> omega
    · omega
  · omega
theorem sst_lt2 (h : TB A) (hk : k < 2) (hj : j < 256) : sst A k j < 2 → A M_resets (256 * k + j) = 0 := by
  have := h.res k j hk hj
  unfold sst
  intro q
  split at q
  · omega
  · omega
theorem ovr_no (hs1 : hs k j = true) (h : sst A k j ≠ 2) (h4 : sst A k j ≠ 4) : ovr A k j = false := by
  unfold ovr
  rw [hs1]; simp [h, h4]
theorem Rel.finish (h : Rel Any n E A B) (hk : k < 2) (hj : j < 256) (hE : E (S_o k j) = true) (h0 : sst A k j = 0) : Rel Any (n + 1) E (aFinish A k j) (uA (uA B (S_o k j) 0 1) (S_o k j) 3 1) := by
  have hT := h.tb
  have hr := hT.res k j hk hj
  have t := h.ts k j hk hj
  have e := (h.ex.sN hk hj).1 hE
  have z := sst_0 h0
  have s1 : sst (aFinish A k j) k j = 1 := by rw [sst_fin, if_pos z.1]
  have fs : aFinish A k j M_finished (256 * k + j) = 1 := uA_self _ _ _ _
  have es : aFinish A k j M_end (256 * k + j) = 0 := uA_self _ _ _ _
  refine h.loc hk hj ((Out.rf.u (fLs (by decide) (by decide) (by decide) (by decide))).u (fLs (by decide) (by decide) (by decide) (by decide))) ((Out.rf.u (gLs (by decide))).u (gLs (by decide))) (by omega) ?_ (Int.le_refl _) ?_ ?_ (fun _ _ _ _ _ z => z) (h.tk k hk) (fun z => z) (fun _ => by rw [fs]; decide) h.top (h.hl k hk) (fun w hw => h.wys k w hk hw) ?_ (h.rv k j hk hj)
  · exact (TB.make hT.jnd hT.tap hT.tpv hT.out hT.tot hT.mrk hT.val hT.pcs hT.cam hT.hsb hT.rds hT.res hT.hig hT.siz hT.wrs hT.gra hT.grt hT.opn hT.thr hT.dgr hT.grs hT.lim hT.lms hT.lst hT.stc hT.cod)
  · exact (TS.make t.t01 (Or.inr fs) (by rw [es]; omega) (fun q => absurd es q) t.r01 t.g01 t.s01 t.p01 t.w01 t.o01 (fun _ => e) t.rth t.tln t.rdb t.hsh t.shz t.wsz t.nwm)
  · intro _
    have o := h.ov k j hk hj trivial
    have n1 : ovr A k j = false := ovr_no e.2 (by omega) (by omega)
    have n2 : ovr (aFinish A k j) k j = false := ovr_no e.2 (by omega) (by omega)
    unfold OV at o ⊢
    rw [n1] at o
    rw [n2]
    exact o
  · intro _
    have s := h.sd k j hk hj hE
    have rs : A M_resets (256 * k + j) ≤ 0 := z.1
    refine (CSd.make (by rw [s1, uA_idx _ _ _ _ (by decide), uA_self]) (by rw [uA_idx _ _ _ _ (by decide), uA_idx _ _ _ _ (by decide)]; exact s.wri) (by rw [uA_idx _ _ _ _ (by decide), uA_idx _ _ _ _ (by decide)]; exact s.sen) (by rw [uA_self, fs, es]; rfl) (by rw [uA_idx _ _ _ _ (by decide), uA_idx _ _ _ _ (by decide)]; exact s.lim) (by rw [uA_idx _ _ _ _ (by decide), uA_idx _ _ _ _ (by decide)]; exact s.cod) (by rw [uA_idx _ _ _ _ (by decide), uA_idx _ _ _ _ (by decide)]; exact s.blk) (by rw [uA_idx _ _ _ _ (by decide), uA_idx _ _ _ _ (by decide)]; exact s.rsf))
theorem call_finish (h : Rel Any n E A B) (x1 x2 : Int) : ∃ A' v B' w, g_X8_finish A x1 x2 = some (A', v) ∧ g_X1_finish E B x1 x2 = some (B', w) ∧ Rel Any (n + 1) E A' B' ∧ Ans wI A' v w := by
  unfold g_X1_finish
  by_cases q : 0 ≤ x1 ∧ x1 ≤ 1
  · obtain ⟨k, rfl⟩ := Int.eq_ofNat_of_zero_le q.1
    have hk : k < 2 := by omega
    rw [c_hallN hk, bd_v, hXW_r]
    by_cases hs : isS A k x2 ∧ sst A k x2.toNat = 0
    · have hz := (h.ex.s hk).1 hs.1
      obtain ⟨j, rfl⟩ := Int.eq_ofNat_of_zero_le hz.1
      have hj : j < 256 := by omega
      rw [tkN] at hs hz
      refine ⟨_, _, _, _, t_finish_ok h.tb hk hj hs.1 hs.2, ?_, ((h.o0 (Nat.le_refl _)).finish hk hj hz.2.2 hs.2), ans_r rfl⟩
      unfold g_X2_finish
      rw [c_sendingN hj hz.2.2, bd_v, gM_s, if_pos (by rw [(h.sd k j hk hj hz.2.2).sta]; exact hs.2), gS_v, gS_v, gB2_v, hB_ok (by omega)]
    · refine ⟨_, _, _, _, t_finish_no h.tb hk hs, ?_, h.o0 (v := 0) (by omega), ans_r rfl⟩
      unfold g_X2_finish
      by_cases hz : isS A k x2
      · have hz' := (h.ex.s hk).1 hz
        obtain ⟨j, rfl⟩ := Int.eq_ofNat_of_zero_le hz'.1
        have hj : j < 256 := by omega
        rw [tkN] at hs hz'
        rw [c_sendingN hj hz'.2.2, bd_v, gM_s, if_neg (by rw [(h.sd k j hk hj hz'.2.2).sta]; exact fun z => hs ⟨hz, z⟩), gB2_v, hB_ok (by omega)]
      · rw [c_sending_no (fun z => hz ((h.ex.s hk).2 z)), bd_v, gM_n, gB2_v, hB_ok (by omega)]
  · rw [c_hall_bad q, bd_v, hXW_l]
    exact ⟨_, _, _, _, t_finish_bad q, rfl, h.o0 (v := 1) (by omega), ans_l rfl⟩
theorem Rel.reset (h : Rel Any n E A B) (hk : k < 2) (hj : j < 256) (hE : E (S_o k j) = true) (h0 : sst A k j < 2) {c : Int} (hc : 0 ≤ c ∧ c ≤ 4611686018427387903) : Rel Any (n + 1) E (aReset A k j c) (uA (uA (uA B (S_o k j) 0 3) (S_o k j) 9 c) (S_o k j) 11 1) := by
  have hT := h.tb
  have hr := hT.res k j hk hj
  have t := h.ts k j hk hj
  have e := (h.ex.sN hk hj).1 hE
  have r1 : aReset A k j c M_resets (256 * k + j) = 1 := uA_self _ _ _ _
  have c1 : aReset A k j c M_code (256 * k + j) = c := uA_self _ _ _ _
  have l1 : aReset A k j c M_tellReset (256 * k + j) = 1 := uA_self _ _ _ _
  have s1 : sst (aReset A k j c) k j = 3 := by
    unfold sst
    rw [r1]; rfl
  refine h.loc hk hj (((Out.rf.u (fLs (by decide) (by decide) (by decide) (by decide))).u (fLs (by decide) (by decide) (by decide) (by decide))).u (fLs (by decide) (by decide) (by decide) (by decide))) (((Out.rf.u (gLs (by decide))).u (gLs (by decide))).u (gLs (by decide))) (by omega) ?_ (Int.le_refl _) ?_ ?_ (fun _ _ _ _ _ z => z) (h.tk k hk) (fun _ => by rw [r1]; decide) (fun z => z) h.top (h.hl k hk) (fun w hw => h.wys k w hk hw) ?_ (h.rv k j hk hj)
  · exact (TB.make hT.jnd hT.tap hT.tpv hT.out hT.tot hT.mrk hT.val hT.pcs hT.cam hT.hsb hT.rds (fun q i hq hi => by
      show 0 ≤ uA A M_resets (256 * k + j) 1 M_resets (256 * q + i) ∧ uA A M_resets (256 * k + j) 1 M_resets (256 * q + i) ≤ 2
      rw [uA_at]; split
      · omega
      · exact hT.res q i hq hi) hT.hig hT.siz hT.wrs hT.gra hT.grt hT.opn hT.thr hT.dgr hT.grs hT.lim hT.lms hT.lst hT.stc (fun q i hq hi => by
      show 0 ≤ uA A M_code (256 * k + j) c M_code (256 * q + i) ∧ uA A M_code (256 * k + j) c M_code (256 * q + i) ≤ 4611686018427387903
      rw [uA_at]; split
      · exact hc
      · exact hT.cod q i hq hi))
  · exact (TS.make t.t01 t.f01 t.e03 t.enf (Or.inr l1) t.g01 t.s01 t.p01 t.w01 t.o01 (fun _ => e) t.rth t.tln t.rdb t.hsh t.shz t.wsz t.nwm)
  · intro _
    have o := h.ov k j hk hj trivial
    have n1 : ovr A k j = false := ovr_no e.2 (by omega) (by omega)
    have n2 : ovr (aReset A k j c) k j = false := ovr_no e.2 (by omega) (by omega)
    unfold OV at o ⊢
    rw [n1] at o
    rw [n2]
    exact o
  · intro _
    have s := h.sd k j hk hj hE
    exact (CSd.make (by rw [s1, uA_idx _ _ _ _ (by decide), uA_idx _ _ _ _ (by decide), uA_self]) (by rw [uA_idx _ _ _ _ (by decide), uA_idx _ _ _ _ (by decide), uA_idx _ _ _ _ (by decide)]; exact s.wri) (by rw [uA_idx _ _ _ _ (by decide), uA_idx _ _ _ _ (by decide), uA_idx _ _ _ _ (by decide)]; exact s.sen) (by rw [uA_idx _ _ _ _ (by decide), uA_idx _ _ _ _ (by decide), uA_idx _ _ _ _ (by decide)]; exact s.ende) (by rw [uA_idx _ _ _ _ (by decide), uA_idx _ _ _ _ (by decide), uA_idx _ _ _ _ (by decide)]; exact s.lim) (by rw [uA_idx _ _ _ _ (by decide), uA_self, r1, c1]; rfl) (by rw [uA_idx _ _ _ _ (by decide), uA_idx _ _ _ _ (by decide), uA_idx _ _ _ _ (by decide)]; exact s.blk) (fun _ => by rw [uA_self, l1]))
theorem c_live (s : CSd A B k j) (hT : TB A) (hk : k < 2) (hj : j < 256) : g_X9_isLive k j B = some (b2i (decide (sst A k j < 2))) := by
  rw [c_isLiveS, s.sta]
  have := sst_rng hT hk hj
  congr 2
  apply decide_eq_decide.2
  omega
theorem call_reset (h : Rel Any n E A B) (x1 x2 x3 : Int) : ∃ A' v B' w, g_X8_reset A x1 x2 x3 = some (A', v) ∧ g_X1_reset E B x1 x2 x3 = some (B', w) ∧ Rel Any (n + 1) E A' B' ∧ Ans wI A' v w := by
  unfold g_X1_reset
  by_cases q : 0 ≤ x1 ∧ x1 ≤ 1
  · obtain ⟨k, rfl⟩ := Int.eq_ofNat_of_zero_le q.1
    have hk : k < 2 := by omega
    rw [c_hallN hk, bd_v, hXW_r]
    by_cases qc : 0 ≤ x3 ∧ x3 ≤ 4611686018427387903
    · rw [c_in1 qc, bd_v, c_need1, bd_v, hXW_r]
      by_cases hs : isS A k x2 ∧ sst A k x2.toNat < 2
      · have hz := (h.ex.s hk).1 hs.1
        obtain ⟨j, rfl⟩ := Int.eq_ofNat_of_zero_le hz.1
        have hj : j < 256 := by omega
        rw [tkN] at hs hz
        refine ⟨_, _, _, _, t_reset_ok h.tb hk hj qc hs.1 hs.2, ?_, ((h.o0 (Nat.le_refl _)).reset hk hj hz.2.2 hs.2 qc), ans_r rfl⟩
        unfold g_X2_reset
        rw [c_sendingN hj hz.2.2, bd_v, gM_s, c_live (h.sd k j hk hj hz.2.2) h.tb hk hj, bd_v, if_pos (by rw [decide_eq_true hs.2]; decide)]
        unfold g_X9_reset
        rw [gS_v, gS_v, gS_v, bd_v, gB2_v, hB_ok (by omega)]
      · refine ⟨_, _, _, _, t_reset_no h.tb hk qc hs, ?_, h.o0 (v := 0) (by omega), ans_r rfl⟩
        unfold g_X2_reset
        by_cases hz : isS A k x2
        · have hz' := (h.ex.s hk).1 hz
          obtain ⟨j, rfl⟩ := Int.eq_ofNat_of_zero_le hz'.1
          have hj : j < 256 := by omega
          rw [tkN] at hs hz'
          rw [c_sendingN hj hz'.2.2, bd_v, gM_s, c_live (h.sd k j hk hj hz'.2.2) h.tb hk hj, bd_v, if_neg (by rw [decide_eq_false (fun z => hs ⟨hz, z⟩)]; decide), gB2_v, hB_ok (by omega)]
        · rw [c_sending_no (fun z => hz ((h.ex.s hk).2 z)), bd_v, gM_n, gB2_v, hB_ok (by omega)]
    · rw [c_in0 qc, bd_v, c_need0, bd_v, hXW_l]
      exact ⟨_, _, _, _, t_reset_bad (fun z => qc z.2.2), rfl, h.o0 (v := 1) (by omega), ans_l rfl⟩
  · rw [c_hall_bad q, bd_v, hXW_l]
    exact ⟨_, _, _, _, t_reset_bad (fun z => q ⟨z.1, z.2.1⟩), rfl, h.o0 (v := 1) (by omega), ans_l rfl⟩
theorem Rel.stop (h : Rel Any n E A B) (hk : k < 2) (hj : j < 256) (hE : E (R_o k j) = true) {c : Int} (hc : 0 ≤ c ∧ c ≤ 4611686018427387903) : Rel Any (n + 1) E (aStop A k j c) (uA (uA (uA B (R_o k j) 12 1) (R_o k j) 11 1) (R_o k j) 9 c) := by
  have hT := h.tb
  have t := h.ts k j hk hj
  have e := (h.ex.rN hk hj).1 hE
  have p1 : aStop A k j c M_stopped (256 * k + j) = 1 := uA_self _ _ _ _
  have p2 : aStop A k j c M_tellStop (256 * k + j) = 1 := uA_self _ _ _ _
  have p3 : aStop A k j c M_stopCode (256 * k + j) = c := uA_self _ _ _ _
  refine h.loc hk hj (((Out.rf.u (fLs (by decide) (by decide) (by decide) (by decide))).u (fLs (by decide) (by decide) (by decide) (by decide))).u (fLs (by decide) (by decide) (by decide) (by decide))) (((Out.rf.u (gLr (by decide))).u (gLr (by decide))).u (gLr (by decide))) (by omega) ?_ (Int.le_refl _) ?_ (h.ov k j hk hj) (fun _ _ _ _ _ z => z) (h.tk k hk) (fun z => z) (fun z => z) h.top (h.hl k hk) (fun w hw => h.wys k w hk hw) (h.sd k j hk hj) ?_
  · exact (TB.make hT.jnd hT.tap hT.tpv hT.out hT.tot hT.mrk hT.val hT.pcs hT.cam hT.hsb hT.rds hT.res hT.hig hT.siz hT.wrs hT.gra hT.grt hT.opn hT.thr hT.dgr hT.grs hT.lim hT.lms hT.lst (fun q i hq hi => by
      show 0 ≤ uA A M_stopCode (256 * k + j) c M_stopCode (256 * q + i) ∧ uA A M_stopCode (256 * k + j) c M_stopCode (256 * q + i) ≤ 4611686018427387903
      rw [uA_at]; split
      · exact hc
      · exact hT.stc q i hq hi) hT.cod)
  · exact (TS.make t.t01 t.f01 t.e03 t.enf t.r01 t.g01 (Or.inr p2) (Or.inr p1) t.w01 t.o01 t.sth (fun _ => e) (fun z => absurd z e.1) t.rdb t.hsh t.shz t.wsz t.nwm)
  · intro _
    have s := h.rv k j hk hj hE
    have id3 : ∀ f, f ≠ 12 → f ≠ 11 → f ≠ 9 → uA (uA (uA B (R_o k j) 12 1) (R_o k j) 11 1) (R_o k j) 9 c (R_o k j) f = B (R_o k j) f := fun f h1 h2 h3 => by rw [uA_idx _ _ _ _ h3, uA_idx _ _ _ _ h2, uA_idx _ _ _ _ h1]
    exact (CRv.make (by rw [id3 _ (by decide) (by decide) (by decide)]; exact s.win) (by rw [id3 _ (by decide) (by decide) (by decide)]; exact s.sta) (by rw [id3 _ (by decide) (by decide) (by decide)]; exact s.rea) (by rw [id3 _ (by decide) (by decide) (by decide)]; exact s.rdy) (by rw [id3 _ (by decide) (by decide) (by decide)]; exact s.hig) (by rw [id3 _ (by decide) (by decide) (by decide)]; exact s.siz) (by rw [id3 _ (by decide) (by decide) (by decide)]; exact s.grt) (by rw [id3 _ (by decide) (by decide) (by decide)]; exact s.cod) (by rw [uA_self, p3]) (by rw [id3 _ (by decide) (by decide) (by decide)]; exact s.tel) (by rw [uA_idx _ _ _ _ (by decide), uA_self, p2]) (by rw [uA_idx _ _ _ _ (by decide), uA_idx _ _ _ _ (by decide), uA_self, p1]))
theorem rst_rng : 0 ≤ rst A k j ∧ rst A k j ≤ 4 := by
  unfold rst
  repeat' split
  all_goals omega
theorem c_liveR (s : CRv A B k j) : g_X10_isLive k j B = some (b2i (decide (rst A k j ≤ 1))) := by
  rw [c_isLiveR, s.sta]
  have := rst_rng (A := A) (k := k) (j := j)
  congr 2
  apply decide_eq_decide.2
  omega
theorem call_stop (h : Rel Any n E A B) (x1 x2 x3 : Int) : ∃ A' v B' w, g_X8_stop A x1 x2 x3 = some (A', v) ∧ g_X1_stop E B x1 x2 x3 = some (B', w) ∧ Rel Any (n + 1) E A' B' ∧ Ans wI A' v w := by
  unfold g_X1_stop
  by_cases q : 0 ≤ x1 ∧ x1 ≤ 1
  · obtain ⟨k, rfl⟩ := Int.eq_ofNat_of_zero_le q.1
    have hk : k < 2 := by omega
    rw [c_hallN hk, bd_v, hXW_r]
    by_cases qc : 0 ≤ x3 ∧ x3 ≤ 4611686018427387903
    · rw [c_in1 qc, bd_v, c_need1, bd_v, hXW_r]
      by_cases hs : isR A k x2 ∧ rst A k x2.toNat ≤ 1 ∧ A M_stopped (256 * k + x2.toNat) = 0
      · have hz := (h.ex.r hk).1 hs.1
        obtain ⟨j, rfl⟩ := Int.eq_ofNat_of_zero_le hz.1
        have hj : j < 256 := by omega
        rw [tkN] at hs hz
        have rv := h.rv k j hk hj hz.2.2
        refine ⟨_, _, _, _, t_stop_ok h.tb hk hj qc hs.1 hs.2.1 hs.2.2, ?_, ((h.o0 (Nat.le_refl _)).stop hk hj hz.2.2 qc), ans_r rfl⟩
        unfold g_X2_stop
        rw [c_receivingN hj hz.2.2, bd_v, gM_s, c_liveR rv, bd_v, if_neg (by rw [decide_eq_true hs.2.1]; decide), if_pos (by rw [rv.std]; exact hs.2.2), gS_v, gS_v, gS_v, gB2_v, hB_ok (by omega)]
      · refine ⟨_, _, _, _, t_stop_no h.tb hk qc hs, ?_, h.o0 (v := 0) (by omega), ans_r rfl⟩
        unfold g_X2_stop
        by_cases hz : isR A k x2
        · have hz' := (h.ex.r hk).1 hz
          obtain ⟨j, rfl⟩ := Int.eq_ofNat_of_zero_le hz'.1
          have hj : j < 256 := by omega
          rw [tkN] at hs hz'
          have rv := h.rv k j hk hj hz'.2.2
          rw [c_receivingN hj hz'.2.2, bd_v, gM_s, c_liveR rv, bd_v]
          by_cases hl : rst A k j ≤ 1
          · rw [if_neg (by rw [decide_eq_true hl]; decide), if_neg (by rw [rv.std]; exact fun z => hs ⟨hz, hl, z⟩), gB2_v, hB_ok (by omega)]
          · rw [if_pos (by rw [decide_eq_false hl]; decide), gB2_v, hB_ok (by omega)]
        · rw [c_receiving_no (fun z => hz ((h.ex.r hk).2 z)), bd_v, gM_n, gB2_v, hB_ok (by omega)]
    · rw [c_in0 qc, bd_v, c_need0, bd_v, hXW_l]
      exact ⟨_, _, _, _, t_stop_bad (fun z => qc z.2.2), rfl, h.o0 (v := 1) (by omega), ans_l rfl⟩
  · rw [c_hall_bad q, bd_v, hXW_l]
    exact ⟨_, _, _, _, t_stop_bad (fun z => q ⟨z.1, z.2.1⟩), rfl, h.o0 (v := 1) (by omega), ans_l rfl⟩
end CA1
