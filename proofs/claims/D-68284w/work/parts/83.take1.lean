section TK1
variable {A A' B B' : AM} {E : L3 → Bool} {k j n w : Nat}
theorem mx_eq {x y : Int} : mxZ x y = if x ≤ y then y else x := by unfold mxZ; split <;> split <;> omega
theorem Rel.lim16 (h : Rel Any n E A B) (hk : k < 2) (hjn : A M_o 1 ≠ 0) {a : Int} (ha : 0 ≤ a ∧ a ≤ 4611686018427387903) : Rel Any n E (uA A M_limits (3 * k) (if A M_limits (3 * k) ≤ a then a else A M_limits (3 * k))) (uA B (H_o k) 9 (mxZ (B (H_o k) 9) a)) := by
  have tk := h.tk k hk
  have hl := h.hl k hk
  have b := h.tb.lms (3 * k) (by omega)
  refine h.loc (j := 0) hk (by decide) (Out.rf.u (fLb (by decide) (by omega))) (Out.rf.u (gLh (by decide))) (Nat.le_refl _) ?_ (Int.le_refl _) (h.ts k 0 hk (by decide)) (h.ov k 0 hk (by decide)) (fun _ _ _ _ _ z => z) ?_ (fun z => z) (fun z => z) h.top ?_ ?_ (h.sd k 0 hk (by decide)) (h.rv k 0 hk (by decide))
  · exact (TB.make h.tb.jnd h.tb.tap h.tb.tpv h.tb.out h.tb.tot h.tb.mrk h.tb.val h.tb.pcs h.tb.cam h.tb.hsb h.tb.rds h.tb.res h.tb.hig h.tb.siz h.tb.wrs h.tb.gra h.tb.grt h.tb.opn h.tb.thr h.tb.dgr h.tb.grs h.tb.lim (fun x hx => by
      rw [uA_at]; split
      · split <;> omega
      · exact h.tb.lms x hx) h.tb.lst h.tb.stc h.tb.cod)
  · exact (TK.make (fun z q hq => by
      have e : uA A M_limits (3 * k) (if A M_limits (3 * k) ≤ a then a else A M_limits (3 * k)) M_limits (3 * k + 1 + q) = A M_limits (3 * k + 1 + q) := uA_idx _ _ _ _ (by omega)
      rw [e]
      exact tk.lim z q hq) tk.thg tk.d01 tk.s01 tk.g89 (fun z => absurd z hjn) (fun z => absurd z hjn))
  · refine CHl.make ?_ (by rw [uA_idx _ _ _ _ (by decide)]; exact hl.bla) (by rw [uA_idx _ _ _ _ (by decide)]; exact hl.sal) (by rw [uA_idx _ _ _ _ (by decide)]; exact hl.ral) (by rw [uA_idx _ _ _ _ (by decide)]; exact hl.cal) (by rw [uA_idx _ _ _ _ (by decide)]; exact hl.gal) (by rw [uA_idx _ _ _ _ (by decide)]; exact hl.lst) (by rw [uA_idx _ _ _ _ (by decide)]; exact hl.tel)
    rw [uA_self, uA_self, hl.lal, mx_eq]
  · intro q hq
    exact CWy.cg (A := A) (B := B) rfl rfl rfl (uA_idx _ _ _ _ (by omega)) rfl rfl rfl (fun f => rfl) (h.wys k q hk hq)
theorem Rel.lim18 (h : Rel Any n E A B) (hk : k < 2) (hw : w < 2) (hjn : A M_o 1 ≠ 0) {a : Int} (ha : 0 ≤ a) : Rel Any n E (uA A M_limits (3 * k + 1 + w) (if A M_limits (3 * k + 1 + w) ≤ (if 64 ≤ a then 64 else a) then (if 64 ≤ a then 64 else a) else A M_limits (3 * k + 1 + w))) (uA B (W_o k w) 3 (mxZ (B (W_o k w) 3) (mnZ a 64))) := by
  have tk := h.tk k hk
  have c0 := h.wys k w hk hw
  have l0 := tk.lim hjn w hw
  have lb := h.tb.lms (3 * k + 1 + w) (by omega)
  have em : mnZ a 64 = if 64 ≤ a then 64 else a := by unfold mnZ; split <;> split <;> omega
  generalize hv : (if A M_limits (3 * k + 1 + w) ≤ (if 64 ≤ a then 64 else a) then (if 64 ≤ a then 64 else a) else A M_limits (3 * k + 1 + w)) = v
  have ev : mxZ (B (W_o k w) 3) (mnZ a 64) = v := by rw [em, c0.lim, mx_eq, hv]
  have v1 : A M_limits (3 * k + 1 + w) ≤ v ∧ v ≤ 64 := by
    rw [← hv]
    split
    · split <;> omega
    · omega
  rw [ev]
  refine h.loc (j := 0) hk (by decide) (Out.rf.u (fLb (by decide) (by omega))) (Out.rf.u gLw) (Nat.le_refl _) ?_ (Int.le_refl _) (h.ts k 0 hk (by decide)) (h.ov k 0 hk (by decide)) (fun _ _ _ _ _ z => z) ?_ (fun z => z) (fun z => z) h.top ?_ ?_ (h.sd k 0 hk (by decide)) (h.rv k 0 hk (by decide))
  · exact (TB.make h.tb.jnd h.tb.tap h.tb.tpv h.tb.out h.tb.tot h.tb.mrk h.tb.val h.tb.pcs h.tb.cam h.tb.hsb h.tb.rds h.tb.res h.tb.hig h.tb.siz h.tb.wrs h.tb.gra h.tb.grt h.tb.opn h.tb.thr h.tb.dgr h.tb.grs h.tb.lim (fun x hx => by
      rw [uA_at]; split
      · omega
      · exact h.tb.lms x hx) h.tb.lst h.tb.stc h.tb.cod)
  · exact (TK.make (fun z q hq => by
      by_cases y : q = w
      · subst y
        have e : uA A M_limits (3 * k + 1 + q) v M_limits (3 * k + 1 + q) = v := uA_self _ _ _ _
        rw [e]
        exact ⟨by have := l0.1; show A M_opened (2 * k + q) ≤ v; omega, v1.2⟩
      · have e : uA A M_limits (3 * k + 1 + w) v M_limits (3 * k + 1 + q) = A M_limits (3 * k + 1 + q) := uA_idx _ _ _ _ (by omega)
        rw [e]
        exact tk.lim z q hq) tk.thg tk.d01 tk.s01 tk.g89 (fun z => absurd z hjn) (fun z => absurd z hjn))
  · exact CHl.cg (A := A) (B := B) (uA_idx _ _ _ _ (by omega)) rfl rfl rfl rfl rfl rfl rfl (fun f _ _ => rfl) (h.hl k hk)
  · intro q hq
    have c := h.wys k q hk hq
    by_cases e : q = w
    · subst e
      refine CWy.make (by rw [uA_idx _ _ _ _ (by decide)]; exact c.opn) (by rw [uA_idx _ _ _ _ (by decide)]; exact c.thr) (by rw [uA_idx _ _ _ _ (by decide)]; exact c.grt) (by rw [uA_self, uA_self]) ?_ ?_ (by rw [uA_idx _ _ _ _ (by decide)]; exact c.tld) (by rw [uA_idx _ _ _ _ (by decide)]; exact c.tel)
      · rw [uA_idx _ _ _ _ (by decide), uA_self]
        have rle := c.rle
        by_cases z : v = A M_limits (3 * k + 1 + q)
        · rw [z]; exact c.ref
        · constructor
          · intro y; omega
          · rintro ⟨_, y⟩
            have y' : v ≤ A M_opened (2 * k + q) := y
            have := l0.1
            omega
      · rw [uA_idx _ _ _ _ (by decide), uA_self]
        have := c.rle
        omega
    · exact CWy.cg (A := A) (B := B) rfl rfl rfl (uA_idx _ _ _ _ (by omega)) rfl rfl rfl (fun f => uA_role _ _ _ _ (W_ne (fun z => e z.2))) c
theorem Rel.lim17 (h : Rel Any n E A B) (hk : k < 2) (hj : j < 256) (hE : E (S_o k j) = true) {b : Int} (hb : 0 ≤ b ∧ b ≤ 4611686018427387903) : Rel Any n E (uA A M_limit (256 * k + j) (if A M_limit (256 * k + j) ≤ b then b else A M_limit (256 * k + j))) (uA B (S_o k j) 8 (mxZ (B (S_o k j) 8) b)) := by
  have t := h.ts k j hk hj
  have lb := h.tb.lim k j hk hj
  refine h.loc hk hj (Out.rf.u (fLs (by decide) (by decide) (by decide) (by decide))) (Out.rf.u (gLs (by decide))) (Nat.le_refl _) ?_ (Int.le_refl _) t (h.ov k j hk hj) (fun _ _ _ _ _ z => z) (h.tk k hk) (fun z => z) (fun z => z) h.top (h.hl k hk) (fun w hw => h.wys k w hk hw) ?_ (h.rv k j hk hj)
  · exact (TB.make h.tb.jnd h.tb.tap h.tb.tpv h.tb.out h.tb.tot h.tb.mrk h.tb.val h.tb.pcs h.tb.cam h.tb.hsb h.tb.rds h.tb.res h.tb.hig h.tb.siz h.tb.wrs h.tb.gra h.tb.grt h.tb.opn h.tb.thr h.tb.dgr h.tb.grs (fun q i hq hi => by
      rw [uA_at]; split
      · split <;> omega
      · exact h.tb.lim q i hq hi) h.tb.lms h.tb.lst h.tb.stc h.tb.cod)
  · intro _
    have s := h.sd k j hk hj hE
    exact (CSd.make (by rw [uA_idx _ _ _ _ (by decide)]; exact s.sta) (by rw [uA_idx _ _ _ _ (by decide)]; exact s.wri) (by rw [uA_idx _ _ _ _ (by decide)]; exact s.sen) (by rw [uA_idx _ _ _ _ (by decide)]; exact s.ende) (by rw [uA_self, uA_self, s.lim, mx_eq]) (by rw [uA_idx _ _ _ _ (by decide)]; exact s.cod) (by rw [uA_idx _ _ _ _ (by decide)]; exact s.blk) (fun z => by rw [show uA B (S_o k j) 8 (mxZ (B (S_o k j) 8) b) (S_o k j) 11 = B (S_o k j) 11 from uA_idx _ _ _ _ (by decide)]; exact s.rsf z))
theorem c_mbo (h : Rel Any n E A B) (hk : k < 2) (hj : j < 256) (ht : A M_there (256 * k + j) ≠ 0) : g_X2_mayBeOver E k B j (b2i (ovr A k j)) = some B := by
  have o := h.ov k j hk hj trivial
  have g := (h.weak.over hk hj ht (fun z => ⟨(o.1 z).1, (o.1 z).2.2⟩) (ovr A k j) (o.was ht)).1
  rw [g]
  unfold cMb
  cases ovr A k j
  · rw [if_neg (fun z => by cases z.2.2)]
  · rw [if_neg (fun z => by cases z.1)]
theorem c_t329 (h : Rel Any n E A B) (hk : k < 2) (hj : j < 256) (ht : A M_there (256 * k + j) ≠ 0) {was : Bool} (hw : was = ovr A k j) : g_X2_take_329 k E B j (b2i was) = some (E, (B, 0)) := by
  unfold g_X2_take_329
  rw [hw, c_mbo h hk hj ht, bd_v]
theorem c_t21 (h : Rel Any n E A B) (hk : k < 2) (hj : j < 256) (ht : A M_there (256 * k + j) ≠ 0) {b c m : Int} {x8 : L3} : g_X2_take_201 k E B 21 b c x8 0 m j = some (E, (B, 0)) := by
  unfold g_X2_take_201 g_X2_take_240 g_X2_take_270 g_X2_take_308
  rw [c_isOver' h hk hj ht, bd_v, if_pos (by decide), if_pos (by decide), if_pos (by decide), if_pos (by decide), c_t329 h hk hj ht rfl]
theorem c_t17 (h : Rel Any n E A B) (hk : k < 2) (hj : j < 256) (ht : A M_there (256 * k + j) ≠ 0) (hs1 : hs k j = true) {b c m : Int} (hb : 0 ≤ b ∧ b ≤ 4611686018427387903) {x8 : L3} : ∃ B', g_X2_take_201 k E B 17 b c x8 0 m j = some (E, (B', 0)) ∧ Rel Any n E (uA A M_limit (256 * k + j) (if A M_limit (256 * k + j) ≤ b then b else A M_limit (256 * k + j))) B' := by
  have hE := (h.ex.sN hk hj).2 ⟨ht, hs1⟩
  have R := h.lim17 hk hj hE hb
  refine ⟨_, ?_, R⟩
  unfold g_X2_take_201 g_X2_take_240 g_X2_take_270 g_X2_take_308
  have e := c_t329 R hk hj ht (was := ovr A k j) rfl
  rw [c_isOver' h hk hj ht, bd_v, if_neg (fun z => z rfl), hA_ok (by omega) (by omega), tkN, if_pos hE, hA_ok (by omega) (by omega), if_pos hE, gS_v, if_pos (by decide), if_pos (by decide), if_pos (by decide), e]
theorem c_t5 (h : Rel Any n E A B) (hk : k < 2) (hj : j < 256) (ht : A M_there (256 * k + j) ≠ 0) (hs1 : hs k j = true) {b c m : Int} (hb : 0 ≤ b ∧ b ≤ 4611686018427387903) {x8 : L3} : ∃ B', g_X2_take_201 k E B 5 b c x8 0 m j = some (E, (B', 0)) ∧ Rel Any (n + 1) E (if sst A k j < 2 then aReset A k j b else A) B' := by
  have hE := (h.ex.sN hk hj).2 ⟨ht, hs1⟩
  have s := h.sd k j hk hj hE
  unfold g_X2_take_201 g_X2_take_240 g_X2_take_270 g_X2_take_308
  rw [c_isOver' h hk hj ht, bd_v, if_pos (by decide), if_neg (fun z => z rfl), hA_ok (by omega) (by omega), tkN, if_pos hE, c_live s h.tb hk hj, bd_v]
  by_cases z : sst A k j < 2
  · have R := h.reset hk hj hE z hb
    have n1 : ovr A k j = false := ovr_no hs1 (by omega) (by omega)
    have r1 : aReset A k j b M_resets (256 * k + j) = 1 := uA_self _ _ _ _
    have s3 : sst (aReset A k j b) k j = 3 := by unfold sst; rw [r1]; rfl
    have n2 : ovr (aReset A k j b) k j = false := ovr_no hs1 (by omega) (by omega)
    have e := c_t329 R hk hj ht (was := ovr A k j) (by rw [n1, n2])
    rw [if_pos z]
    refine ⟨_, ?_, R⟩
    rw [if_neg (by simp [b2i, z]), hA_ok (by omega) (by omega), if_pos hE]
    unfold g_X9_reset
    rw [gS_v, gS_v, gS_v, bd_v, if_pos (by decide), if_pos (by decide), e]
  · rw [if_neg z, if_pos (by simp [b2i, z]), if_pos (by decide), if_pos (by decide), c_t329 h hk hj ht rfl]
    exact ⟨B, rfl, h.up (by omega)⟩
/-- the stream is there, then -/
theorem c_t177 (h : Rel Any n E A B) (hk : k < 2) (hjn : A M_o 1 ≠ 0) {a : Nat} {sp : Bool} (hm : mnt A k a sp = 0) {x1 b c m x11 : Int} (hx : x11 = 0) {x8 : L3} : ∃ E' B', g_X2_take_177 k E B x1 b c x8 0 m x11 a = g_X2_take_201 k E' B' x1 b c x8 0 m a ∧ Rel Any n E' (aCome A k a) B' ∧ aCome A k a M_there (256 * k + a) ≠ 0 ∧ a < 256 ∧ ∀ (r : L3) (f : Nat), r.1 ≠ 28 → r.1 ≠ 29 → r.1 ≠ 30 → B' r f = B r f := by
  have a256 := mnt_lt h.tb hk hm
  obtain ⟨c1, c2, c3⟩ := mnt_z hm
  have sd := (h.gr k hk).sd
  unfold g_X2_take_177
  rw [if_pos (by omega), c_isOwn sd hk (by omega), bd_v]
  cases ho : own k a
  · have hg : ((a / 4 : Nat) : Int) < A M_granted (2 * k + wy a) := by
      by_cases z : A M_granted (2 * k + wy a) ≤ (a / 4 : Nat)
      · exact absurd ⟨ho, z⟩ c3
      · omega
    obtain ⟨E', B', e1, e2, e3, e4⟩ := c_come h hk a256 hjn ho hg
    refine ⟨E', B', ?_, e2, e3, a256, e4⟩
    rw [if_neg (by simp [b2i]), e1]
    rfl
  · have eC : aCome A k a = A := by unfold aCome; rw [if_pos ho]
    have th : A M_there (256 * k + a) ≠ 0 := fun z => c1 ⟨ho, Or.inr z⟩
    refine ⟨E, B, by rw [if_pos (by simp [b2i])], by rw [eC]; exact h, by rw [eC]; exact th, a256, fun _ _ _ _ _ => rfl⟩
end TK1
