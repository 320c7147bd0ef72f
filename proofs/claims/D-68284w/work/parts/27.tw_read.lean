/-! THE TWIN: reading -/
section TWRD
variable {A : AM} {k j : Nat}
theorem nx_le {z : Int} (h : 0 ≤ z) : 0 ≤ nx z ∧ nx z ≤ 65536 := by unfold nx; split <;> omega
theorem TB.growD (h : TB A) (hk : k < 2) : TB (aGrowD A k) := by
  unfold aGrowD
  split
  · have hc := sumTo_bd (f := co A k) (n := 256) (b := 65536) (fun q hq => h.cob hk q hq)
    have hs : sco A k = sumTo (co A k) 256 := rfl
    have hg := h.gra k 4 hk (by omega) (by omega)
    have hn := nx_le (z := sco A k + A M_grants (16 * k + 4)) (by omega)
    exact (TB.make h.jnd h.tap h.tpv h.out h.tot h.mrk h.val h.pcs h.cam h.hsb h.rds h.res h.hig h.siz h.wrs h.gra h.grt h.opn h.thr (fun q hq => by
        by_cases e : q = k
        · subst e
          show 0 ≤ uA (uA A M_dataGrant q _) M_tellData q 1 M_dataGrant q ∧ uA (uA A M_dataGrant q _) M_tellData q 1 M_dataGrant q ≤ 65536
          rw [uA_role _ _ _ _ (by decide), uA_self]; exact hn
        · have := h.dgr q hq
          show 0 ≤ uA (uA A M_dataGrant k _) M_tellData k 1 M_dataGrant q ∧ uA (uA A M_dataGrant k _) M_tellData k 1 M_dataGrant q ≤ 65536
          rw [uA_role _ _ _ _ (by decide), uA_idx _ _ _ _ e]; exact this) h.grs h.lim h.lms h.lst h.stc h.cod)
  · exact h
theorem TB.growS (h : TB A) (hk : k < 2) (hj : j < 256) : TB (aGrowS A k j) := by
  unfold aGrowS
  split
  · have hgi := gi_le k j
    have hg := h.gra k (gi k j) hk (by omega) (by omega)
    have hr := h.rds k j hk hj
    have hn := nx_le (z := A M_read (256 * k + j) + A M_grants (16 * k + gi k j)) (by omega)
    exact (TB.make h.jnd h.tap h.tpv h.out h.tot h.mrk h.val h.pcs h.cam h.hsb h.rds h.res h.hig h.siz h.wrs h.gra h.grt h.opn h.thr h.dgr (fun q i hq hi => by
        by_cases e : 256 * q + i = 256 * k + j
        · rw [e]
          show 0 ≤ uA (uA A M_grant (256 * k + j) _) M_tellGrant _ 1 M_grant (256 * k + j) ∧ uA (uA A M_grant (256 * k + j) _) M_tellGrant _ 1 M_grant (256 * k + j) ≤ 65536
          rw [uA_role _ _ _ _ (by decide), uA_self]; exact hn
        · have := h.grs q i hq hi
          show 0 ≤ uA (uA A M_grant (256 * k + j) _) M_tellGrant _ 1 M_grant (256 * q + i) ∧ uA (uA A M_grant (256 * k + j) _) M_tellGrant _ 1 M_grant (256 * q + i) ≤ 65536
          rw [uA_role _ _ _ _ (by decide), uA_idx _ _ _ _ e]; exact this) h.lim h.lms h.lst h.stc h.cod)
  · exact h
theorem TB.ov1 (h : TB A) (hk : k < 2) : TB (aOv1 A k j) := by
  have hw : wy j < 2 := by unfold wy; omega
  have hg := h.grt (2 * k + wy j) (by omega)
  unfold aOv1
  split
  · exact (TB.make h.jnd h.tap h.tpv h.out h.tot h.mrk h.val h.pcs h.cam h.hsb h.rds h.res h.hig h.siz h.wrs h.gra (fun q hq => by
        show 0 ≤ uA (uA (uA A M_over _ 1) M_granted (2 * k + wy j) _) M_tellStreams _ 1 M_granted q ∧ uA (uA (uA A M_over _ 1) M_granted (2 * k + wy j) _) M_tellStreams _ 1 M_granted q ≤ 64
        rw [uA_role _ _ _ _ (by decide)]
        by_cases e : q = 2 * k + wy j
        · rw [e, uA_self]; omega
        · rw [uA_idx _ _ _ _ e]; exact h.grt q hq) h.opn h.thr h.dgr h.grs h.lim h.lms h.lst h.stc h.cod)
  · exact (TB.make h.jnd h.tap h.tpv h.out h.tot h.mrk h.val h.pcs h.cam h.hsb h.rds h.res h.hig h.siz h.wrs h.gra h.grt h.opn h.thr h.dgr h.grs h.lim h.lms h.lst h.stc h.cod)
theorem TB.over (h : TB A) (hk : k < 2) : TB (aOver A k j) := by
  unfold aOver
  split
  · exact h
  · exact h.ov1 hk
/-- the byte of a stream at an offset, of what came -/
def bt (A : AM) (k j o : Nat) : Int := match pa A k j ((o / 64 : Nat) : Int) with
  | none => 0
  | some p => A M_came (64 * (1408 * k + p) + o % 64)
theorem t_byteAt (h : TB A) (hk : k < 2) {o : Nat} (ho : o < 1000000) (hb : hasB A k j o = true) : g_X8_byteAt A k j o = some (bt A k j o) := by
  unfold g_X8_byteAt
  have hp := h.pcs k hk
  have e0 : (o : Int) / 64 = ((o / 64 : Nat) : Int) := by omega
  simp (disch := omega) only [hA_ok, c32_ok]
  rw [e0, t_pieceAt hk ⟨hp.1, by omega⟩, bd_v]
  unfold hasB at hb
  unfold bt
  cases hp : pa A k j ((o / 64 : Nat) : Int) with
  | none => rw [hp] at hb; cases hb
  | some p =>
    have hq := pa_some hp
    show hA ((64 * ((1408 * k + p : Nat) : Int)) + ((o : Int) - (((o / 64 : Nat) : Int) * 64))) 180224 (hY8 (A M_came ((64 * ((1408 * k + p : Nat) : Int)) + ((o : Int) - (((o / 64 : Nat) : Int) * 64))).toNat) (some (A M_came ((64 * ((1408 * k + p : Nat) : Int)) + ((o : Int) - (((o / 64 : Nat) : Int) * 64))).toNat))) = _
    have e1 : ((64 * ((1408 * k + p : Nat) : Int)) + ((o : Int) - (((o / 64 : Nat) : Int) * 64))).toNat = 64 * (1408 * k + p) + o % 64 := by omega
    have hc := h.cam (64 * (1408 * k + p) + o % 64)
    rw [hA_ok (by omega) (by omega), e1, hY8_ok hc.1 hc.2]
/-- m bytes were read -/
def aRd (A : AM) (k j m : Nat) : AM := fun r f => if r = M_out ∧ f < m then bt A k j ((A M_read (256 * k + j)).toNat + f) % 256 else if r = M_o ∧ f = 5 then (m : Int) else if r = M_read ∧ f = 256 * k + j then A M_read (256 * k + j) + m else A r f
theorem aRd_0 (h : A M_o 5 = 0) : aRd A k j 0 = A := by
  funext r f
  unfold aRd
  rw [if_neg (fun q => Nat.not_lt_zero _ q.2)]
  by_cases e : r = M_o ∧ f = 5
  · rw [if_pos e, e.1, e.2, h]; rfl
  · rw [if_neg e]
    by_cases e2 : r = M_read ∧ f = 256 * k + j
    · rw [if_pos e2, e2.1, e2.2]; show _ + 0 = _; omega
    · rw [if_neg e2]
theorem aRd_s {m : Nat} : uA (uA (uA (aRd A k j m) M_out m (bt A k j ((A M_read (256 * k + j)).toNat + m) % 256)) M_o 5 ((m : Int) + 1)) M_read (256 * k + j) (A M_read (256 * k + j) + m + 1) = aRd A k j (m + 1) := by
  funext r f
  simp only [uA_at]
  unfold aRd
  by_cases e1 : r = M_read ∧ f = 256 * k + j
  · rw [if_pos e1, if_neg (fun q => by rw [e1.1] at q; exact absurd q.1 (by decide)), if_neg (fun q => by rw [e1.1] at q; exact absurd q.1 (by decide)), if_pos e1]
    omega
  · rw [if_neg e1]
    by_cases e2 : r = M_o ∧ f = 5
    · rw [if_pos e2, if_neg (fun q => by rw [e2.1] at q; exact absurd q.1 (by decide)), if_pos e2]
      omega
    · rw [if_neg e2]
      by_cases e3 : r = M_out ∧ f = m
      · rw [if_pos e3, if_pos ⟨e3.1, by omega⟩, e3.2]
      · rw [if_neg e3]
        by_cases e4 : r = M_out ∧ f < m
        · rw [if_pos e4, if_pos ⟨e4.1, by omega⟩]
        · rw [if_neg e4, if_neg e2, if_neg e1, if_neg (fun q => by
            rcases Nat.lt_or_ge f m with z | z
            · exact e4 ⟨q.1, z⟩
            · exact e3 ⟨q.1, by omega⟩), if_neg e2, if_neg e1]
theorem aRd_read {m : Nat} : aRd A k j m M_read (256 * k + j) = A M_read (256 * k + j) + m := by
  unfold aRd
  rw [if_neg (fun q => absurd q.1 (by decide)), if_neg (fun q => absurd q.1 (by decide)), if_pos ⟨rfl, rfl⟩]
theorem TB.rdm (h : TB A) {m : Nat} (hm : m ≤ 2048) (hk : k < 2) (hj : j < 256) (hr : A M_read (256 * k + j) + m ≤ 65536) : TB (aRd A k j m) :=
  (TB.make h.jnd h.tap h.tpv (⟨by show (0 : Int) ≤ (m : Int); omega, by show (m : Int) ≤ 2048; omega⟩) h.tot h.mrk h.val h.pcs h.cam h.hsb (fun q i hq hi => by
    by_cases e : 256 * q + i = 256 * k + j
    · have := h.rds k j hk hj
      rw [e, aRd_read]; omega
    · have := h.rds q i hq hi
      have e2 : aRd A k j m M_read (256 * q + i) = A M_read (256 * q + i) := by
        unfold aRd
        rw [if_neg (fun q => absurd q.1 (by decide)), if_neg (fun q => absurd q.1 (by decide)), if_neg (fun z => e z.2)]
      rw [e2]; exact this) h.res h.hig h.siz h.wrs h.gra h.grt h.opn h.thr h.dgr h.grs h.lim h.lms h.lst h.stc h.cod)
theorem t_read_77 (h : TB A) (hk : k < 2) (hj : j < 256) (ho : A M_o 5 = 0) {most n rdy : Nat} (hb : ∀ o, (A M_read (256 * k + j)).toNat ≤ o → o < rdy → hasB A k j o = true) (hrd : rdy ≤ 65536) (hm : most ≤ 2048) (hn : n ≤ most) (hn2 : A M_read (256 * k + j) + n ≤ rdy) (hn3 : n = most ∨ A M_read (256 * k + j) + n = rdy) :
    ∀ (m i f : Nat), i + m = n → m < f → g_X8_read_77 f (aRd A k j i) k j most (256 * (k : Int) + j) rdy = g_X8_read_148 (aRd A k j n) k j := by
  have hr := h.rds k j hk hj
  intro m
  induction m with
  | zero =>
    intro i f h1 h2
    obtain ⟨f, rfl⟩ : ∃ f', f = f' + 1 := ⟨f - 1, by omega⟩
    unfold g_X8_read_77 g_X8_read_77_b
    have e5 : aRd A k j i M_o 5 = (i : Int) := rfl
    rw [e5, show i = n by omega]
    by_cases q : n = most
    · rw [if_pos (by omega)]
    · rw [if_neg (by omega), hA_ok (by omega) (by omega), tk_at, aRd_read, if_pos (by omega)]
  | succ m ih =>
    intro i f h1 h2
    obtain ⟨f, rfl⟩ : ∃ f', f = f' + 1 := ⟨f - 1, by omega⟩
    have ih1 := ih (i + 1) f (by omega) (by omega)
    unfold g_X8_read_77 g_X8_read_77_b
    have e5 : aRd A k j i M_o 5 = (i : Int) := rfl
    have hT := h.rdm (k := k) (j := j) (m := i) (by omega) hk hj (by omega)
    have ew : A M_read (256 * k + j) + (i : Int) = (((A M_read (256 * k + j)).toNat + i : Nat) : Int) := by omega
    have hbi : hasB (aRd A k j i) k j ((A M_read (256 * k + j)).toNat + i) = true := hb _ (by omega) (by omega)
    rw [e5, if_neg (by omega), hA_ok (by omega) (by omega), tk_at, aRd_read, if_neg (by omega), hA_ok (by omega) (by omega), ew, t_byteAt hT hk (by omega) hbi, bd_v, tkN]
    have ebt : bt (aRd A k j i) k j ((A M_read (256 * k + j)).toNat + i) = bt A k j ((A M_read (256 * k + j)).toNat + i) := rfl
    rw [ebt, hA_ok (by omega) (by omega), c32_ok (by omega) (by omega), gS_v]
    have e6 : (uA (aRd A k j i) M_out i (bt A k j ((A M_read (256 * k + j)).toNat + i) % 256)) M_o 5 = (i : Int) := rfl
    rw [e6, c32_ok (by omega) (by omega), gS_v, hA_ok (by omega) (by omega), hA_ok (by omega) (by omega)]
    have e7 : (uA (uA (aRd A k j i) M_out i (bt A k j ((A M_read (256 * k + j)).toNat + i) % 256)) M_o 5 ((i : Int) + 1)) M_read (256 * k + j) = A M_read (256 * k + j) + i := aRd_read
    rw [e7, c64_ok (by omega) (by omega), gS_v, aRd_s]
    exact ih1
/-- what follows when bytes were read -/
def aRead1 (A : AM) (k j : Nat) : AM := if A M_o 5 ≤ 0 then aOver A k j else if rst (aGrowD A k) k j ≠ 0 then aOver (aGrowD A k) k j else aOver (aGrowS (aGrowD A k) k j) k j
theorem aGrowD_o5 : aGrowD A k M_o 5 = A M_o 5 := by unfold aGrowD; split <;> rfl
theorem aGrowS_o5 : aGrowS A k j M_o 5 = A M_o 5 := by unfold aGrowS; split <;> rfl
theorem aOver_o5 : aOver A k j M_o 5 = A M_o 5 := by
  unfold aOver
  split
  · rfl
  · unfold aOv1; split <;> rfl
theorem t_read_148 (h : TB A) (hk : k < 2) (hj : j < 256) : g_X8_read_148 A k j = some (aRead1 A k j, A M_o 5) := by
  unfold g_X8_read_148 g_X8_read_175 aRead1
  have h1 := h.growD hk
  have h2 := h1.growS hk hj
  rw [t_growData h hk, bd_v, h1.rcv hk hj, bd_v, t_growStream h1 hk hj, bd_v, t_looksOver h hk hj, t_looksOver h1 hk hj, t_looksOver h2 hk hj, bd_v, bd_v, bd_v, aOver_o5, aOver_o5, aOver_o5, aGrowS_o5, aGrowD_o5]
  split
  · rfl
  · split <;> rfl
end TWRD
