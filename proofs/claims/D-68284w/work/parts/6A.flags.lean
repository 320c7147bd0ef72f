/-! FLAGS, and what was told -/
section FLG
variable {A A' B B' : AM} {E : L3 → Bool} {k j n w : Nat} {P : Nat → Nat → Prop} {v : Int}
theorem cFr_o {kd a b c : Int} {r : L3} {f : Nat} (h : r = H_o k → f < 17 ∨ 21 < f) : cFr B k kd a b c r f = B r f := by
  unfold cFr
  rw [uA_at, if_neg (fun z => by have := h z.1; omega), uA_at, if_neg (fun z => by have := h z.1; omega), uA_at, if_neg (fun z => by have := h z.1; omega), uA_at, if_neg (fun z => by have := h z.1; omega), uA_at, if_neg (fun z => by have := h z.1; omega)]
theorem Rel.fr (h : Rel P n E A B) (hk : k < 2) {kd a b c : Int} : Rel P n E (fr A kd a b c) (cFr B k kd a b c) := by
  refine h.loc (j := 0) hk (by decide) (((((Out.rf.u (fL0 (by decide))).u (fL0 (by decide))).u (fL0 (by decide))).u (fL0 (by decide))).u (fL0 (by decide))) (((((Out.rf.u (gLh (by decide))).u (gLh (by decide))).u (gLh (by decide))).u (gLh (by decide))).u (gLh (by decide))) (Nat.le_refl _) ?_ (Int.le_refl _) (h.ts k 0 hk (by decide)) (h.ov k 0 hk (by decide)) (fun _ _ _ _ _ z => z) (h.tk k hk) (fun z => z) (fun z => z) h.top ?_ (fun w hw => h.wys k w hk hw) (h.sd k 0 hk (by decide)) (h.rv k 0 hk (by decide))
  · exact h.tb.scr (Scr.frm Scr.rfl')
  · exact (h.hl k hk).cg rfl rfl rfl rfl rfl rfl rfl rfl (fun f h1 h2 => cFr_o (fun _ => by omega))
theorem Rel.tR (h : Rel P n E A B) (hk : k < 2) (hj : j < 256) (hE : E (S_o k j) = true) (hv : v = 0 ∨ v = 1) : Rel P n E (uA A M_tellReset (256 * k + j) v) (uA B (S_o k j) 11 v) := by
  have e := (h.ex.sN hk hj).1 hE
  have t := h.ts k j hk hj
  refine h.loc hk hj (Out.rf.u (fLs (by decide) (by decide) (by decide) (by decide))) (Out.rf.u (gLs (by decide))) (Nat.le_refl _) ((TB.make h.tb.jnd h.tb.tap h.tb.tpv h.tb.out h.tb.tot h.tb.mrk h.tb.val h.tb.pcs h.tb.cam h.tb.hsb h.tb.rds h.tb.res h.tb.hig h.tb.siz h.tb.wrs h.tb.gra h.tb.grt h.tb.opn h.tb.thr h.tb.dgr h.tb.grs h.tb.lim h.tb.lms h.tb.lst h.tb.stc h.tb.cod)) (Int.le_refl _) ?_ (h.ov k j hk hj) (fun _ _ _ _ _ z => z) (h.tk k hk) (fun z => z) (fun z => z) h.top (h.hl k hk) (fun w hw => h.wys k w hk hw) ?_ (h.rv k j hk hj)
  · exact (TS.make t.t01 t.f01 t.e03 t.enf (by rw [uA_self]; exact hv) t.g01 t.s01 t.p01 t.w01 t.o01 (fun _ => e) t.rth t.tln t.rdb t.hsh t.shz t.wsz t.nwm)
  · intro _
    have s := h.sd k j hk hj hE
    exact CSd.make (by rw [uA_idx _ _ _ _ (by decide)]; exact s.sta) (by rw [uA_idx _ _ _ _ (by decide)]; exact s.wri) (by rw [uA_idx _ _ _ _ (by decide)]; exact s.sen) (by rw [uA_idx _ _ _ _ (by decide)]; exact s.ende) (by rw [uA_idx _ _ _ _ (by decide)]; exact s.lim) (by rw [uA_idx _ _ _ _ (by decide)]; exact s.cod) (by rw [uA_idx _ _ _ _ (by decide)]; exact s.blk) (fun _ => by rw [uA_self, uA_self])
theorem Rel.bS (h : Rel P n E A B) (hk : k < 2) (hj : j < 256) (hE : E (S_o k j) = true) : Rel P n E (uA A M_toldLimit (256 * k + j) v) (uA B (S_o k j) 10 v) := by
  have e := (h.ex.sN hk hj).1 hE
  have t := h.ts k j hk hj
  refine h.loc hk hj (Out.rf.u (fLs (by decide) (by decide) (by decide) (by decide))) (Out.rf.u (gLs (by decide))) (Nat.le_refl _) ((TB.make h.tb.jnd h.tb.tap h.tb.tpv h.tb.out h.tb.tot h.tb.mrk h.tb.val h.tb.pcs h.tb.cam h.tb.hsb h.tb.rds h.tb.res h.tb.hig h.tb.siz h.tb.wrs h.tb.gra h.tb.grt h.tb.opn h.tb.thr h.tb.dgr h.tb.grs h.tb.lim h.tb.lms h.tb.lst h.tb.stc h.tb.cod)) (Int.le_refl _) ?_ (h.ov k j hk hj) (fun _ _ _ _ _ z => z) (h.tk k hk) (fun z => z) (fun z => z) h.top (h.hl k hk) (fun w hw => h.wys k w hk hw) ?_ (h.rv k j hk hj)
  · exact (TS.make t.t01 t.f01 t.e03 t.enf t.r01 t.g01 t.s01 t.p01 t.w01 t.o01 t.sth t.rth (fun z => absurd z e.1) t.rdb t.hsh t.shz t.wsz t.nwm)
  · intro _
    have s := h.sd k j hk hj hE
    exact CSd.make (by rw [uA_idx _ _ _ _ (by decide)]; exact s.sta) (by rw [uA_idx _ _ _ _ (by decide)]; exact s.wri) (by rw [uA_idx _ _ _ _ (by decide)]; exact s.sen) (by rw [uA_idx _ _ _ _ (by decide)]; exact s.ende) (by rw [uA_idx _ _ _ _ (by decide)]; exact s.lim) (by rw [uA_idx _ _ _ _ (by decide)]; exact s.cod) (by rw [uA_self, uA_self]) (fun z => by rw [uA_idx _ _ _ _ (by decide)]; exact s.rsf z)
theorem Rel.tS (h : Rel P n E A B) (hk : k < 2) (hj : j < 256) (hE : E (R_o k j) = true) (hv : v = 0 ∨ v = 1) : Rel P n E (uA A M_tellStop (256 * k + j) v) (uA B (R_o k j) 11 v) := by
  have e := (h.ex.rN hk hj).1 hE
  have t := h.ts k j hk hj
  refine h.loc hk hj (Out.rf.u (fLs (by decide) (by decide) (by decide) (by decide))) (Out.rf.u (gLr (by decide))) (Nat.le_refl _) ((TB.make h.tb.jnd h.tb.tap h.tb.tpv h.tb.out h.tb.tot h.tb.mrk h.tb.val h.tb.pcs h.tb.cam h.tb.hsb h.tb.rds h.tb.res h.tb.hig h.tb.siz h.tb.wrs h.tb.gra h.tb.grt h.tb.opn h.tb.thr h.tb.dgr h.tb.grs h.tb.lim h.tb.lms h.tb.lst h.tb.stc h.tb.cod)) (Int.le_refl _) ?_ (h.ov k j hk hj) (fun _ _ _ _ _ z => z) (h.tk k hk) (fun z => z) (fun z => z) h.top (h.hl k hk) (fun w hw => h.wys k w hk hw) (h.sd k j hk hj) ?_
  · exact (TS.make t.t01 t.f01 t.e03 t.enf t.r01 t.g01 (by rw [uA_self]; exact hv) t.p01 t.w01 t.o01 t.sth (fun _ => e) t.tln t.rdb t.hsh t.shz t.wsz t.nwm)
  · intro _
    have s := h.rv k j hk hj hE
    exact CRv.make (by rw [uA_idx _ _ _ _ (by decide)]; exact s.win) (by rw [uA_idx _ _ _ _ (by decide)]; exact s.sta) (by rw [uA_idx _ _ _ _ (by decide)]; exact s.rea) (by rw [uA_idx _ _ _ _ (by decide)]; exact s.rdy) (by rw [uA_idx _ _ _ _ (by decide)]; exact s.hig) (by rw [uA_idx _ _ _ _ (by decide)]; exact s.siz) (by rw [uA_idx _ _ _ _ (by decide)]; exact s.grt) (by rw [uA_idx _ _ _ _ (by decide)]; exact s.cod) (by rw [uA_idx _ _ _ _ (by decide)]; exact s.stc) (by rw [uA_idx _ _ _ _ (by decide)]; exact s.tel) (by rw [uA_self, uA_self]) (by rw [uA_idx _ _ _ _ (by decide)]; exact s.std)
theorem Rel.tG (h : Rel P n E A B) (hk : k < 2) (hj : j < 256) (hE : E (R_o k j) = true) (hv : v = 0 ∨ v = 1) : Rel P n E (uA A M_tellGrant (256 * k + j) v) (uA B (R_o k j) 10 v) := by
  have e := (h.ex.rN hk hj).1 hE
  have t := h.ts k j hk hj
  refine h.loc hk hj (Out.rf.u (fLs (by decide) (by decide) (by decide) (by decide))) (Out.rf.u (gLr (by decide))) (Nat.le_refl _) ((TB.make h.tb.jnd h.tb.tap h.tb.tpv h.tb.out h.tb.tot h.tb.mrk h.tb.val h.tb.pcs h.tb.cam h.tb.hsb h.tb.rds h.tb.res h.tb.hig h.tb.siz h.tb.wrs h.tb.gra h.tb.grt h.tb.opn h.tb.thr h.tb.dgr h.tb.grs h.tb.lim h.tb.lms h.tb.lst h.tb.stc h.tb.cod)) (Int.le_refl _) ?_ (h.ov k j hk hj) (fun _ _ _ _ _ z => z) (h.tk k hk) (fun z => z) (fun z => z) h.top (h.hl k hk) (fun w hw => h.wys k w hk hw) (h.sd k j hk hj) ?_
  · exact (TS.make t.t01 t.f01 t.e03 t.enf t.r01 (by rw [uA_self]; exact hv) t.s01 t.p01 t.w01 t.o01 t.sth (fun _ => e) t.tln t.rdb t.hsh t.shz t.wsz t.nwm)
  · intro _
    have s := h.rv k j hk hj hE
    exact CRv.make (by rw [uA_idx _ _ _ _ (by decide)]; exact s.win) (by rw [uA_idx _ _ _ _ (by decide)]; exact s.sta) (by rw [uA_idx _ _ _ _ (by decide)]; exact s.rea) (by rw [uA_idx _ _ _ _ (by decide)]; exact s.rdy) (by rw [uA_idx _ _ _ _ (by decide)]; exact s.hig) (by rw [uA_idx _ _ _ _ (by decide)]; exact s.siz) (by rw [uA_idx _ _ _ _ (by decide)]; exact s.grt) (by rw [uA_idx _ _ _ _ (by decide)]; exact s.cod) (by rw [uA_idx _ _ _ _ (by decide)]; exact s.stc) (by rw [uA_self, uA_self]) (by rw [uA_idx _ _ _ _ (by decide)]; exact s.stp) (by rw [uA_idx _ _ _ _ (by decide)]; exact s.std)
theorem Rel.tD (h : Rel P n E A B) (hk : k < 2) (hv : v = 0 ∨ v = 1) : Rel P n E (uA A M_tellData k v) (uA B (H_o k) 16 v) := by
  refine h.loc (j := 0) hk (by decide) (Out.rf.u (fLk (by decide))) (Out.rf.u (gLh (by decide))) (Nat.le_refl _) ((TB.make h.tb.jnd h.tb.tap h.tb.tpv h.tb.out h.tb.tot h.tb.mrk h.tb.val h.tb.pcs h.tb.cam h.tb.hsb h.tb.rds h.tb.res h.tb.hig h.tb.siz h.tb.wrs h.tb.gra h.tb.grt h.tb.opn h.tb.thr h.tb.dgr h.tb.grs h.tb.lim h.tb.lms h.tb.lst h.tb.stc h.tb.cod)) (Int.le_refl _) (h.ts k 0 hk (by decide)) (h.ov k 0 hk (by decide)) (fun _ _ _ _ _ z => z) ?_ (fun z => z) (fun z => z) h.top ?_ (fun w hw => h.wys k w hk hw) (h.sd k 0 hk (by decide)) (h.rv k 0 hk (by decide))
  · have tk := h.tk k hk
    exact (TK.make tk.lim tk.thg (by rw [uA_self]; exact hv) tk.s01 tk.g89 tk.una tk.unw)
  · have hl := h.hl k hk
    exact CHl.make (by rw [uA_idx _ _ _ _ (by decide)]; exact hl.lal) (by rw [uA_idx _ _ _ _ (by decide)]; exact hl.bla) (by rw [uA_idx _ _ _ _ (by decide)]; exact hl.sal) (by rw [uA_idx _ _ _ _ (by decide)]; exact hl.ral) (by rw [uA_idx _ _ _ _ (by decide)]; exact hl.cal) (by rw [uA_idx _ _ _ _ (by decide)]; exact hl.gal) (by rw [uA_idx _ _ _ _ (by decide)]; exact hl.lst) (by rw [uA_self, uA_self])
theorem fLb {k j t f : Nat} (ht : t = 8 ∨ t = 15) (hf : f / 3 = k) : fL k j (t, 0, 0) f := Or.inr (Or.inr (Or.inr (Or.inl ⟨ht, hf⟩)))
theorem Rel.bD (h : Rel P n E A B) (hk : k < 2) : Rel P n E (uA A M_toldBlocked (3 * k) v) (uA B (H_o k) 10 v) := by
  refine h.loc (j := 0) hk (by decide) (Out.rf.u (fLb (by decide) (by omega))) (Out.rf.u (gLh (by decide))) (Nat.le_refl _) ((TB.make h.tb.jnd h.tb.tap h.tb.tpv h.tb.out h.tb.tot h.tb.mrk h.tb.val h.tb.pcs h.tb.cam h.tb.hsb h.tb.rds h.tb.res h.tb.hig h.tb.siz h.tb.wrs h.tb.gra h.tb.grt h.tb.opn h.tb.thr h.tb.dgr h.tb.grs h.tb.lim h.tb.lms h.tb.lst h.tb.stc h.tb.cod)) (Int.le_refl _) (h.ts k 0 hk (by decide)) (h.ov k 0 hk (by decide)) (fun _ _ _ _ _ z => z) (h.tk k hk) (fun z => z) (fun z => z) h.top ?_ ?_ (h.sd k 0 hk (by decide)) (h.rv k 0 hk (by decide))
  · have hl := h.hl k hk
    exact CHl.make (by rw [uA_idx _ _ _ _ (by decide)]; exact hl.lal) (by rw [uA_self, uA_self]) (by rw [uA_idx _ _ _ _ (by decide)]; exact hl.sal) (by rw [uA_idx _ _ _ _ (by decide)]; exact hl.ral) (by rw [uA_idx _ _ _ _ (by decide)]; exact hl.cal) (by rw [uA_idx _ _ _ _ (by decide)]; exact hl.gal) (by rw [uA_idx _ _ _ _ (by decide)]; exact hl.lst) (by rw [uA_idx _ _ _ _ (by decide)]; exact hl.tel)
  · intro w hw
    exact CWy.cg (A := A) (B := B) rfl rfl rfl rfl rfl (uA_idx _ _ _ _ (by omega)) rfl (fun f => rfl) (h.wys k w hk hw)
theorem Rel.tW (h : Rel P n E A B) (hk : k < 2) (hw : w < 2) (hv : v = 0 ∨ v = 1) : Rel P n E (uA A M_tellStreams (2 * k + w) v) (uA B (W_o k w) 6 v) := by
  refine h.loc (j := 0) hk (by decide) (Out.rf.u (fLw (by decide) hw)) (Out.rf.u gLw) (Nat.le_refl _) ((TB.make h.tb.jnd h.tb.tap h.tb.tpv h.tb.out h.tb.tot h.tb.mrk h.tb.val h.tb.pcs h.tb.cam h.tb.hsb h.tb.rds h.tb.res h.tb.hig h.tb.siz h.tb.wrs h.tb.gra h.tb.grt h.tb.opn h.tb.thr h.tb.dgr h.tb.grs h.tb.lim h.tb.lms h.tb.lst h.tb.stc h.tb.cod)) (Int.le_refl _) (h.ts k 0 hk (by decide)) (h.ov k 0 hk (by decide)) (fun _ _ _ _ _ z => z) ?_ (fun z => z) (fun z => z) h.top (h.hl k hk) ?_ (h.sd k 0 hk (by decide)) (h.rv k 0 hk (by decide))
  · have tk := h.tk k hk
    exact (TK.make tk.lim tk.thg tk.d01 (fun q hq => by
      rw [uA_at]
      split
      · exact hv
      · exact tk.s01 q hq) tk.g89 tk.una tk.unw)
  · intro q hq
    have c := h.wys k q hk hq
    by_cases e : q = w
    · subst e
      exact CWy.make (by rw [uA_idx _ _ _ _ (by decide)]; exact c.opn) (by rw [uA_idx _ _ _ _ (by decide)]; exact c.thr) (by rw [uA_idx _ _ _ _ (by decide)]; exact c.grt) (by rw [uA_idx _ _ _ _ (by decide)]; exact c.lim) (by rw [uA_idx _ _ _ _ (by decide)]; exact c.ref) (by rw [uA_idx _ _ _ _ (by decide)]; exact c.rle) (by rw [uA_idx _ _ _ _ (by decide)]; exact c.tld) (by rw [uA_self, uA_self])
    · exact CWy.cg (A := A) (B := B) rfl rfl rfl rfl rfl rfl (uA_idx _ _ _ _ (by omega)) (fun f => uA_role _ _ _ _ (W_ne (fun z => e z.2))) c
theorem Rel.bW (h : Rel P n E A B) (hk : k < 2) (hw : w < 2) : Rel P n E (uA A M_toldBlocked (3 * k + 1 + w) v) (uA B (W_o k w) 5 v) := by
  refine h.loc (j := 0) hk (by decide) (Out.rf.u (fLb (by decide) (by omega))) (Out.rf.u gLw) (Nat.le_refl _) ((TB.make h.tb.jnd h.tb.tap h.tb.tpv h.tb.out h.tb.tot h.tb.mrk h.tb.val h.tb.pcs h.tb.cam h.tb.hsb h.tb.rds h.tb.res h.tb.hig h.tb.siz h.tb.wrs h.tb.gra h.tb.grt h.tb.opn h.tb.thr h.tb.dgr h.tb.grs h.tb.lim h.tb.lms h.tb.lst h.tb.stc h.tb.cod)) (Int.le_refl _) (h.ts k 0 hk (by decide)) (h.ov k 0 hk (by decide)) (fun _ _ _ _ _ z => z) (h.tk k hk) (fun z => z) (fun z => z) h.top ?_ ?_ (h.sd k 0 hk (by decide)) (h.rv k 0 hk (by decide))
  · exact CHl.cg (A := A) (B := B) rfl (uA_idx _ _ _ _ (by omega)) rfl rfl rfl rfl rfl rfl (fun f _ _ => rfl) (h.hl k hk)
  · intro q hq
    have c := h.wys k q hk hq
    by_cases e : q = w
    · subst e
      exact CWy.make (by rw [uA_idx _ _ _ _ (by decide)]; exact c.opn) (by rw [uA_idx _ _ _ _ (by decide)]; exact c.thr) (by rw [uA_idx _ _ _ _ (by decide)]; exact c.grt) (by rw [uA_idx _ _ _ _ (by decide)]; exact c.lim) (by rw [uA_idx _ _ _ _ (by decide)]; exact c.ref) (by rw [uA_idx _ _ _ _ (by decide)]; exact c.rle) (by rw [uA_self, uA_self]) (by rw [uA_idx _ _ _ _ (by decide)]; exact c.tel)
    · exact CWy.cg (A := A) (B := B) rfl rfl rfl rfl rfl (uA_idx _ _ _ _ (by omega)) rfl (fun f => uA_role _ _ _ _ (W_ne (fun z => e z.2))) c
end FLG
