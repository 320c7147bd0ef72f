/-! THE TWIN: what became of frames, whole -/
section TWO
variable {A : AM} {k j : Nat}
theorem t_gone_80 (h : TB A) (hk : k < 2) {p kind a : Nat} {b arr : Int} (hp : p < 64) (hK : A M_lineKind p = kind) (hB : A M_lineB p = b) (ha : kind = 4 ∨ kind = 5 ∨ kind = 17 ∨ kind = 21 → a < 256) (h8 : kind ≠ 8) (hks : kind = 4 ∨ kind = 5 ∨ (16 ≤ kind ∧ kind ≤ 23)) {y0 : Nat} (hy : y0 < 256) (hya : a < 256 → y0 = a) : g_X8_gone_80 A p arr k a y0 k = some (aGo A k kind a b arr) := by
  unfold g_X8_gone_80 aGo
  rw [t_at hk hy, bd_v, hA_ok (by omega) (by omega), tkN, hK]
  by_cases q4 : kind = 4
  · have ha4 := ha (Or.inl q4)
    have hy4 := hya ha4
    subst hy4
    have hT1 : TB (uA A M_tellReset (256 * k + y0) 1) := (TB.make h.jnd h.tap h.tpv h.out h.tot h.mrk h.val h.pcs h.cam h.hsb h.rds h.res h.hig h.siz h.wrs h.gra h.grt h.opn h.thr h.dgr h.grs h.lim h.lms h.lst h.stc h.cod)
    have hT2 : TB (uA A M_resets (256 * k + y0) 2) := (TB.make h.jnd h.tap h.tpv h.out h.tot h.mrk h.val h.pcs h.cam h.hsb h.rds (fun q i hq hi => by
      by_cases e : 256 * q + i = 256 * k + y0
      · rw [e, uA_self]; omega
      · rw [uA_idx _ _ _ _ e]; exact h.res q i hq hi) h.hig h.siz h.wrs h.gra h.grt h.opn h.thr h.dgr h.grs h.lim h.lms h.lst h.stc h.cod)
    rw [if_pos (by omega), if_pos q4]
    unfold g_X8_gone_212 g_X8_gone_235
    by_cases qa : arr = 0
    · rw [if_pos qa, if_neg (show ¬ arr ≠ 0 from fun z => z qa), hA_ok (by omega) (by omega), tk_at]
      by_cases qr : A M_resets (256 * k + y0) = 1
      · rw [if_neg (fun z => z qr), if_pos qr, if_pos qa, hA_ok (by omega) (by omega), gS_v, c32_ok (by omega) (by omega), t_looksOver hT1 hk hy, bd_v]
      · rw [if_pos qr, if_neg qr, c32_ok (by omega) (by omega), t_looksOver h hk hy, bd_v]
    · rw [if_neg qa, hA_ok (by omega) (by omega), tk_at]
      by_cases qr : A M_resets (256 * k + y0) = 1
      · rw [if_neg (fun z => z qr), if_pos qr, if_neg qa, hA_ok (by omega) (by omega), gS_v, c32_ok (by omega) (by omega), t_looksOver hT2 hk hy, bd_v]
      · rw [if_pos qr, if_neg qr, if_pos (show arr ≠ 0 from qa), c32_ok (by omega) (by omega), t_looksOver h hk hy, bd_v]
  rw [if_neg (by omega), if_neg q4]
  by_cases q5 : kind = 5
  · have hy5 := hya (ha (Or.inr (Or.inl q5)))
    subst hy5
    rw [if_pos (by omega), hA_ok (by omega) (by omega), gS_v, tk_at]
    by_cases qa : arr = 0
    · rw [if_neg (show ¬ arr ≠ 0 from fun z => z qa), if_neg (show ¬ arr ≠ 0 from fun z => z qa), if_pos q5]
    · rw [if_pos qa, if_pos qa]
  rw [if_neg (by omega), if_neg (by omega)]
  by_cases q16 : kind = 16
  · rw [if_pos (by omega), hA_ok (by omega) (by omega), hA_ok (by omega) (by omega), gS_v, tkN]
    by_cases qa : arr = 0
    · rw [if_neg (show ¬ arr ≠ 0 from fun z => z qa), if_neg (show ¬ arr ≠ 0 from fun z => z qa), if_neg q5, if_pos q16]
      by_cases qd : (a : Int) = A M_dataGrant k
      · rw [if_neg (fun z => z qd), if_pos qd]
      · rw [if_pos qd, if_neg qd]
    · rw [if_pos qa, if_pos qa]
  rw [if_neg (by omega)]
  by_cases q17 : kind = 17
  · have hy7 := hya (ha (Or.inr (Or.inr (Or.inl q17))))
    subst hy7
    rw [if_pos (by omega), hA_ok (by omega) (by omega), hA_ok (by omega) (by omega), hA_ok (by omega) (by omega), gS_v, tk_at, hB]
    by_cases qa : arr = 0
    · rw [if_neg (show ¬ arr ≠ 0 from fun z => z qa), if_neg (show ¬ arr ≠ 0 from fun z => z qa), if_neg q5, if_neg q16, if_pos q17]
      by_cases qd : b = A M_grant (256 * k + y0)
      · rw [if_neg (fun z => z qd), if_pos qd]
      · rw [if_pos qd, if_neg qd]
    · rw [if_pos qa, if_pos qa]
  rw [if_neg (by omega)]
  have e18 : (2 * (k : Int) + (kind : Int) - 18).toNat = 2 * k + kind - 18 := by omega
  have e22 : (3 * (k : Int) + 1 + (kind : Int) - 22).toNat = 3 * k + 1 + kind - 22 := by omega
  by_cases q18 : kind = 18
  · rw [if_pos (by omega), hA_ok (by omega) (by omega), hA_ok (by omega) (by omega), hA_ok (by omega) (by omega), gS_v, e18]
    by_cases qa : arr = 0
    · rw [if_neg (show ¬ arr ≠ 0 from fun z => z qa), if_neg (show ¬ arr ≠ 0 from fun z => z qa), if_neg q5, if_neg q16, if_neg q17, if_pos (Or.inl q18)]
      by_cases qd : (a : Int) = A M_granted (2 * k + kind - 18)
      · rw [if_neg (fun z => z qd), if_pos qd]
      · rw [if_pos qd, if_neg qd]
    · rw [if_pos qa, if_pos qa]
  rw [if_neg (by omega)]
  by_cases q19 : kind = 19
  · rw [if_pos (by omega), hA_ok (by omega) (by omega), hA_ok (by omega) (by omega), hA_ok (by omega) (by omega), gS_v, e18]
    by_cases qa : arr = 0
    · rw [if_neg (show ¬ arr ≠ 0 from fun z => z qa), if_neg (show ¬ arr ≠ 0 from fun z => z qa), if_neg q5, if_neg q16, if_neg q17, if_pos (Or.inr q19)]
      by_cases qd : (a : Int) = A M_granted (2 * k + kind - 18)
      · rw [if_neg (fun z => z qd), if_pos qd]
      · rw [if_pos qd, if_neg qd]
    · rw [if_pos qa, if_pos qa]
  rw [if_neg (by omega)]
  by_cases q20 : kind = 20
  · rw [if_pos (by omega), hA_ok (by omega) (by omega), hA_ok (by omega) (by omega), gS_v, tk_3]
    by_cases qa : arr = 0
    · rw [if_neg (show ¬ arr ≠ 0 from fun z => z qa), if_neg (show ¬ arr ≠ 0 from fun z => z qa), if_neg q5, if_neg q16, if_neg q17, if_neg (show ¬ (kind = 18 ∨ kind = 19) by omega), if_pos q20]
      by_cases qd : A M_toldBlocked (3 * k) = a
      · rw [if_neg (fun z => z qd), if_pos qd]
      · rw [if_pos qd, if_neg qd]
    · rw [if_pos qa, if_pos qa]
  rw [if_neg (by omega)]
  by_cases q21 : kind = 21
  · have hy1 := hya (ha (Or.inr (Or.inr (Or.inr q21))))
    subst hy1
    rw [if_pos (by omega), hA_ok (by omega) (by omega), hA_ok (by omega) (by omega), hA_ok (by omega) (by omega), gS_v, tk_at, hB]
    by_cases qa : arr = 0
    · rw [if_neg (show ¬ arr ≠ 0 from fun z => z qa), if_neg (show ¬ arr ≠ 0 from fun z => z qa), if_neg q5, if_neg q16, if_neg q17, if_neg (show ¬ (kind = 18 ∨ kind = 19) by omega), if_neg q20, if_pos q21]
      by_cases qd : A M_toldLimit (256 * k + y0) = b
      · rw [if_neg (fun z => z qd), if_pos qd]
      · rw [if_pos qd, if_neg qd]
    · rw [if_pos qa, if_pos qa]
  rw [if_neg (by omega), hA_ok (by omega) (by omega), hA_ok (by omega) (by omega), hA_ok (by omega) (by omega), gS_v, e22]
  by_cases qa : arr = 0
  · rw [if_neg (show ¬ arr ≠ 0 from fun z => z qa), if_neg (show ¬ arr ≠ 0 from fun z => z qa), if_neg q5, if_neg q16, if_neg q17, if_neg (show ¬ (kind = 18 ∨ kind = 19) by omega), if_neg q20, if_neg q21]
    by_cases qd : A M_toldBlocked (3 * k + 1 + kind - 22) = a
    · rw [if_neg (fun z => z qd), if_pos qd]
    · rw [if_pos qd, if_neg qd]
  · rw [if_pos qa, if_pos qa]
def aGone (A : AM) (p k kind a b n : Nat) (c arr : Int) : AM := if kind = 8 then aOver (aG8 (uA A M_lineUsed p 0) k a b n c arr) k a else aGo (uA A M_lineUsed p 0) k kind a b arr
theorem t_gone_33 (h : TB A) (hk : k < 2) {p kind a b n : Nat} {c arr : Int} (hp : p < 64) (hS : A M_lineSide p = k) (hK : A M_lineKind p = kind) (hAa : A M_lineA p = a) (hB : A M_lineB p = b) (hN : A M_lineSize p = n) (hC : A M_lineC p = c) (ha : kind = 4 ∨ kind = 5 ∨ kind = 8 ∨ kind = 17 ∨ kind = 21 → a < 256) (hks : kind = 4 ∨ kind = 5 ∨ kind = 8 ∨ (16 ≤ kind ∧ kind ≤ 23)) (hbn : kind = 8 → b + n ≤ wl A k a) : g_X8_gone_33 A p arr 0 = some (aGone (uA A M_o 0 0) p k kind a b n c arr) := by
  unfold g_X8_gone_33
  rw [t_fails (Or.inl rfl), gB2_v, if_pos rfl, if_pos rfl, hA_ok (by omega) (by omega), gS_v, tkN, hA_ok (by omega) (by omega), hA_ok (by omega) (by omega)]
  have eS : (uA (uA A M_o 0 0) M_lineUsed p 0) M_lineSide p = k := hS
  have eA : (uA (uA A M_o 0 0) M_lineUsed p 0) M_lineA p = a := hAa
  have hT : TB (uA (uA A M_o 0 0) M_lineUsed p 0) := (TB.make h.jnd h.tap h.tpv h.out h.tot h.mrk h.val h.pcs h.cam h.hsb h.rds h.res h.hig h.siz h.wrs h.gra h.grt h.opn h.thr h.dgr h.grs h.lim h.lms h.lst h.stc h.cod)
  rw [eS, eA]
  have key : ∀ y0 : Nat, y0 < 256 → (a < 256 → y0 = a) → g_X8_gone_80 (uA (uA A M_o 0 0) M_lineUsed p 0) p arr k a y0 k = some (aGone (uA A M_o 0 0) p k kind a b n c arr) := by
    intro y0 hy hya
    unfold aGone
    by_cases q8 : kind = 8
    · have ha8 := ha (Or.inr (Or.inr (Or.inl q8)))
      rw [if_pos q8]
      unfold g_X8_gone_80
      have eK : (uA (uA A M_o 0 0) M_lineUsed p 0) M_lineKind p = kind := hK
      have hg := t_goneStream (A := uA (uA A M_o 0 0) M_lineUsed p 0) hT hk (p := p) (a := a) (b := b) (n := n) (c := c) (arr := arr) ha8 hp hAa hB hN hC (hbn q8)
      rw [t_at hk hy, bd_v, hA_ok (by omega) (by omega), tkN, eK, if_neg (by omega), if_neg (by omega), if_pos (by omega), hg, bd_v]
    · rw [if_neg q8]
      exact t_gone_80 hT hk hp hK hB (fun z => ha (by omega)) q8 (by omega) hy hya
  by_cases q : 256 ≤ (a : Int)
  · rw [if_pos q]
    exact key 0 (by omega) (fun z => by omega)
  · rw [if_neg q, c32_ok (by omega) (by omega)]
    exact key a (by omega) (fun _ => rfl)
theorem t_noPlace {z : Int} : g_X8_noPlace A z = some (if 0 ≤ z ∧ z ≤ 63 ∧ A M_lineUsed z.toNat ≠ 0 then 0 else 1) := by
  unfold g_X8_noPlace g_X8_noPlace_19
  by_cases q1 : z < 0
  · rw [if_pos q1, if_neg (by omega)]
  rw [if_neg q1]
  by_cases q2 : 63 < z
  · rw [if_pos q2, if_neg (by omega)]
  rw [if_neg q2, hA_ok (by omega) (by omega)]
  by_cases q3 : A M_lineUsed z.toNat = 0
  · rw [if_neg (fun y => y q3), if_neg (fun y => y.2.2 q3)]
  · rw [if_pos q3, if_pos ⟨by omega, by omega, q3⟩]
/-- a place of the line that is used -/
def isP (A : AM) (z : Int) : Prop := 0 ≤ z ∧ z ≤ 63 ∧ A M_lineUsed z.toNat ≠ 0
theorem t_nP {z : Int} (h : isP A z) : g_X8_noPlace A z = some 0 := by unfold isP at h; rw [t_noPlace, if_pos h]
theorem t_nPn {z : Int} (h : ¬ isP A z) : g_X8_noPlace A z = some 1 := by unfold isP at h; rw [t_noPlace, if_neg h]
theorem t_gone_bad {x1 x2 : Int} (h : ¬ isP A x1) : g_X8_gone A x1 x2 = some (uA A M_o 0 1) := by
  unfold g_X8_gone
  rw [t_nPn h, bd_v, t_fails (Or.inr rfl), gB2_v, if_pos (by decide), if_neg (by decide)]
theorem t_gone_early {p : Nat} {x2 : Int} (h : isP A p) (h2 : x2 ≠ 0) (hd : A M_delivered p ≠ 1) : g_X8_gone A p x2 = some (uA (uA A M_o 0 0) M_o 0 2) := by
  unfold g_X8_gone
  have hp := h
  unfold isP at hp
  have e : (uA A M_o 0 0) M_delivered p = A M_delivered p := rfl
  rw [t_nP h, bd_v, t_fails (Or.inl rfl), gB2_v, if_neg (by decide), if_pos rfl, if_neg h2, hA_ok (by omega) (by omega), tkN, e, if_neg hd]
  unfold g_X8_gone_33
  rw [t_fails (Or.inr rfl), gB2_v, if_neg (by decide), if_neg (by decide)]
theorem t_gone_good (h : TB A) (hk : k < 2) {p kind a b n : Nat} {c arr : Int} (hP : isP A p) (hd : arr = 0 ∨ A M_delivered p = 1) (hS : A M_lineSide p = k) (hK : A M_lineKind p = kind) (hAa : A M_lineA p = a) (hB : A M_lineB p = b) (hN : A M_lineSize p = n) (hC : A M_lineC p = c) (ha : kind = 4 ∨ kind = 5 ∨ kind = 8 ∨ kind = 17 ∨ kind = 21 → a < 256) (hks : kind = 4 ∨ kind = 5 ∨ kind = 8 ∨ (16 ≤ kind ∧ kind ≤ 23)) (hbn : kind = 8 → b + n ≤ wl A k a) : g_X8_gone A p arr = some (aGone (uA (uA A M_o 0 0) M_o 0 0) p k kind a b n c arr) := by
  unfold g_X8_gone g_X8_gone_32
  have hp := hP
  unfold isP at hp
  have hT : TB (uA A M_o 0 0) := (TB.make h.jnd h.tap h.tpv h.out h.tot h.mrk h.val h.pcs h.cam h.hsb h.rds h.res h.hig h.siz h.wrs h.gra h.grt h.opn h.thr h.dgr h.grs h.lim h.lms h.lst h.stc h.cod)
  have e33 := t_gone_33 (A := uA A M_o 0 0) (k := k) hT hk (p := p) (kind := kind) (a := a) (b := b) (n := n) (c := c) (arr := arr) (by omega) hS hK hAa hB hN hC ha hks hbn
  have e : (uA A M_o 0 0) M_delivered p = A M_delivered p := rfl
  rw [t_nP hP, bd_v, t_fails (Or.inl rfl), gB2_v, if_neg (by decide), if_pos rfl, e33]
  by_cases q : arr = 0
  · rw [if_pos q]
  · rw [if_neg q, hA_ok (by omega) (by omega), tkN, e]
    rcases hd with hd | hd
    · exact absurd hd q
    · rw [if_pos hd]
end TWO
