/-! THE TWIN: taking and delivering, whole -/
section TWD
variable {A : AM} {k j : Nat}
def tkOK (x1 x2 a b c : Int) : Prop := (0 ≤ x1 ∧ x1 ≤ 1) ∧ (x2 = 4 ∨ x2 = 5 ∨ x2 = 8 ∨ (16 ≤ x2 ∧ x2 ≤ 23)) ∧ (0 ≤ a ∧ a ≤ 4611686018427387903) ∧ (0 ≤ b ∧ (x2 ≠ 8 → b ≤ 4611686018427387903) ∧ (x2 = 8 → b ≤ 4611686018427380000)) ∧ (0 ≤ c ∧ (x2 ≠ 8 → c ≤ 4611686018427387903) ∧ (x2 = 8 → c ≤ 1))
theorem t_tk108 {x1 x2 x3 x5 x7 x9 y : Int} (h : ¬ ((0 ≤ x1 ∧ x1 ≤ 1) ∧ x9 ≠ 0 ∧ y ≠ 0)) : g_X8_take_108 A x1 x2 x3 x5 x7 x9 y = some (uA A M_o 0 1, 0) := by
  have e : g_X8_take_133 A x1 x2 x3 x5 x7 1 = some (uA A M_o 0 1, 0) := by
    unfold g_X8_take_133
    rw [t_fails (Or.inr rfl), gB2_v, if_pos (by decide), if_neg (by decide)]
  unfold g_X8_take_108 g_X8_take_128
  rw [e]
  by_cases h1 : 0 ≤ x1 ∧ x1 ≤ 1
  · rw [t_noSide_ok h1, bd_v, if_neg (by decide)]
    by_cases h2 : x9 = 0
    · rw [if_pos h2]
    · rw [if_neg h2]
      by_cases h3 : y = 0
      · rw [if_neg (fun z => z h3)]
      · exact absurd ⟨h1, h2, h3⟩ h
  · rw [t_noSide_bad h1, bd_v, if_pos (by decide)]
theorem t_take_bad {x1 x2 a b c : Int} (h : ¬ tkOK x1 x2 a b c) : g_X8_take A x1 x2 a b c = some (uA A M_o 0 1, 0) := by
  have e107 : ∀ x9, g_X8_take_107 A x1 x2 a b c x9 = some (uA A M_o 0 1, 0) := fun x9 => by
    unfold g_X8_take_107; exact t_tk108 (fun z => z.2.2 rfl)
  have e32 : g_X8_take_32 A x1 x2 a b c = some (uA A M_o 0 1, 0) := by
    unfold g_X8_take_32 g_X8_take_33 g_X8_take_73 g_X8_take_99
    have e0 : ∀ y, g_X8_take_108 A x1 x2 a b c 0 y = some (uA A M_o 0 1, 0) := fun y => t_tk108 (fun z => z.2.1 rfl)
    simp only [e107, e0]
    split
    · rfl
    · split
      · rfl
      · split
        · rfl
        · split <;> (split <;> (try rfl)) <;> (split <;> (try rfl)) <;> (split <;> (try rfl)) <;> (split <;> rfl)
  have e28 : (x2 = 4 ∨ x2 = 5 ∨ x2 = 8 ∨ (16 ≤ x2 ∧ x2 ≤ 23)) → g_X8_take_28 A x1 x2 a b c = some (uA A M_o 0 1, 0) := by
    intro hk
    unfold g_X8_take_28 g_X8_take_33
    rw [e107]
    by_cases c1 : a < 0
    · rw [if_pos c1]
    rw [if_neg c1]
    by_cases c2 : 4611686018427387903 < a
    · rw [if_pos c2]
    rw [if_neg c2]
    by_cases c3 : b < 0
    · rw [if_pos c3]
    rw [if_neg c3]
    have e73 : ∀ y, (x2 ≠ 8 → y = 4611686018427387903) → (x2 = 8 → y = 4611686018427380000) → g_X8_take_73 A x1 x2 a b c 1 y b = some (uA A M_o 0 1, 0) := by
      intro y hy1 hy2
      unfold g_X8_take_73
      rw [e107]
      by_cases c4 : y < b
      · rw [if_pos c4]
      rw [if_neg c4]
      by_cases c5 : c < 0
      · rw [if_pos c5]
      rw [if_neg c5]
      have e99 : ∀ w, (x2 ≠ 8 → w = 4611686018427387903) → (x2 = 8 → w = 1) → g_X8_take_99 A x1 x2 a b c 1 w c = some (uA A M_o 0 1, 0) := by
        intro w hw1 hw2
        unfold g_X8_take_99
        rw [e107]
        by_cases c6 : w < c
        · rw [if_pos c6]
        · rw [if_neg c6]
          refine t_tk108 (fun z => h ⟨z.1, hk, by omega, ⟨by omega, fun q => by have := hy1 q; omega, fun q => by have := hy2 q; omega⟩, by omega, fun q => by have := hw1 q; omega, fun q => by have := hw2 q; omega⟩)
      by_cases c7 : x2 = 8
      · rw [if_neg (fun z => z c7)]; exact e99 1 (fun q => absurd c7 q) (fun _ => rfl)
      · rw [if_pos c7]; exact e99 _ (fun _ => rfl) (fun q => absurd q c7)
    by_cases c7 : x2 = 8
    · rw [if_neg (fun z => z c7)]; exact e73 _ (fun q => absurd c7 q) (fun _ => rfl)
    · rw [if_pos c7]; exact e73 _ (fun _ => rfl) (fun q => absurd q c7)
  unfold g_X8_take
  by_cases c1 : x2 = 4
  · rw [if_pos c1]; exact e28 (Or.inl c1)
  rw [if_neg c1]
  by_cases c2 : x2 = 5
  · rw [if_pos c2]; exact e28 (Or.inr (Or.inl c2))
  rw [if_neg c2]
  by_cases c3 : x2 = 8
  · rw [if_pos c3]; exact e28 (Or.inr (Or.inr (Or.inl c3)))
  rw [if_neg c3]
  by_cases c4 : x2 < 16
  · rw [if_pos c4]; exact e32
  rw [if_neg c4]
  by_cases c5 : 23 < x2
  · rw [if_pos c5]; exact e32
  · rw [if_neg c5]; exact e28 (Or.inr (Or.inr (Or.inr ⟨by omega, by omega⟩)))
theorem t_take_133 {x1 x2 a b c : Int} (h : tkOK x1 x2 a b c) : g_X8_take A x1 x2 a b c = g_X8_take_133 A x1 x2 a b c 0 := by
  obtain ⟨h1, h2, h3, h4, h5⟩ := h
  have e28 : g_X8_take_28 A x1 x2 a b c = g_X8_take_133 A x1 x2 a b c 0 := by
    unfold g_X8_take_28 g_X8_take_33 g_X8_take_73 g_X8_take_99 g_X8_take_108
    rw [t_noSide_ok h1, bd_v, if_neg (show ¬ a < 0 by omega), if_neg (show ¬ 4611686018427387903 < a by omega), if_neg (show ¬ b < 0 by omega), if_neg (show ¬ c < 0 by omega)]
    by_cases q : x2 = 8
    · have h6 := h4.2.2 q
      have h7 := h5.2.2 q
      rw [if_neg (show ¬ x2 ≠ 8 from fun z => z q), if_neg (show ¬ 4611686018427380000 < b by omega), if_neg (show ¬ x2 ≠ 8 from fun z => z q), if_neg (show ¬ 1 < c by omega), if_neg (by decide), if_neg (by decide), if_pos (by decide)]
    · have h6 := h4.2.1 q
      have h7 := h5.2.1 q
      rw [if_pos (show x2 ≠ 8 from q), if_neg (show ¬ 4611686018427387903 < b by omega), if_pos (show x2 ≠ 8 from q), if_neg (show ¬ 4611686018427387903 < c by omega), if_neg (by decide), if_neg (by decide), if_pos (by decide)]
  unfold g_X8_take
  by_cases c1 : x2 = 4
  · rw [if_pos c1]; exact e28
  rw [if_neg c1]
  by_cases c2 : x2 = 5
  · rw [if_pos c2]; exact e28
  rw [if_neg c2]
  by_cases c3 : x2 = 8
  · rw [if_pos c3]; exact e28
  rw [if_neg c3, if_neg (by omega), if_neg (by omega)]
  exact e28
theorem t_take_early {x1 x2 a b c : Int} (h : tkOK x1 x2 a b c) (hj : A M_o 1 = 0) : g_X8_take A x1 x2 a b c = some (uA (uA A M_o 0 0) M_o 0 2, 0) := by
  rw [t_take_133 h]
  unfold g_X8_take_133 g_X8_take_153
  have e : (uA A M_o 0 0) M_o 1 = 0 := hj
  rw [t_fails (Or.inl rfl), gB2_v, if_neg (by decide), if_pos rfl, e, if_neg (by decide), t_fails (Or.inr rfl), gB2_v, if_neg (by decide), if_neg (by decide)]
/-- a frame lies ready with its bytes -/
def aRdy (A : AM) (kind a b c : Int) (n : Nat) (v : Nat → Int) : AM := aFd (frN A kind a b c n) v n
theorem aRdy_x {kind a b c : Int} {n : Nat} {v : Nat → Int} (r : L3) (f : Nat) (h1 : r ≠ M_o) (h2 : r ≠ M_fData) : aRdy A kind a b c n v r f = A r f := by
  unfold aRdy aFd
  rw [if_neg (fun q => h2 q.1)]
  unfold frN
  rw [uA_role _ _ _ _ h1, uA_role _ _ _ _ h1, uA_role _ _ _ _ h1, uA_role _ _ _ _ h1, uA_role _ _ _ _ h1]
theorem TB.rdy0 (h : TB A) {kind a b c : Int} {n : Nat} {v : Nat → Int} : TB (aRdy A kind a b c n v) := (TB.make h.jnd h.tap h.tpv h.out h.tot h.mrk h.val h.pcs h.cam h.hsb h.rds h.res h.hig h.siz h.wrs h.gra h.grt h.opn h.thr h.dgr h.grs h.lim h.lms h.lst h.stc h.cod)
theorem t_take_195 {n : Nat} (hk : k < 2) (hn : A M_o 3 = n) (hn2 : n ≤ 2048) (htp : ∀ i, 0 ≤ A M_tape i ∧ A M_tape i < 256) : ∀ (m i f : Nat), i + m = n → m < f → g_X8_take_195 f (aFd A (fun i => b8 (A M_tape i)) i) k i = g_X8_takes (uA (aFd A (fun i => b8 (A M_tape i)) n) M_o 3 0) k := by
  have eo : ∀ o : Option (AM × Int), (gB2 o fun S2 v3 => some (S2, v3)) = o := fun o => by cases o <;> rfl
  intro m
  induction m with
  | zero =>
    intro i f h1 h2
    obtain ⟨f, rfl⟩ : ∃ f', f = f' + 1 := ⟨f - 1, by omega⟩
    have e : aFd A (fun i => b8 (A M_tape i)) i M_o 3 = n := hn
    unfold g_X8_take_195 g_X8_take_195_b
    rw [e, if_pos (by omega), gS_v, eo, show i = n by omega]
  | succ m ih =>
    intro i f h1 h2
    obtain ⟨f, rfl⟩ : ∃ f', f = f' + 1 := ⟨f - 1, by omega⟩
    have e : aFd A (fun i => b8 (A M_tape i)) i M_o 3 = n := hn
    have e2 : aFd A (fun i => b8 (A M_tape i)) i M_tape i = A M_tape i := rfl
    have ih1 := ih (i + 1) f (by omega) (by omega)
    rw [show g_X8_take_195 (f + 1) (aFd A (fun i => b8 (A M_tape i)) i) k i = g_X8_take_195_b (g_X8_take_195 f) (aFd A (fun i => b8 (A M_tape i)) i) k i from rfl]
    unfold g_X8_take_195_b
    have es := aFd_s (A := A) (v := fun i => b8 (A M_tape i)) (m := i)
    rw [e, if_neg (by omega), hA_ok (by omega) (by omega), hA_ok (by omega) (by omega), gS_v, tkN, e2, b8_b8, es, c32_ok (by omega) (by omega), show (i : Int) + 1 = ((i + 1 : Nat) : Int) by omega]
    exact ih1
theorem aFd_0 {v : Nat → Int} : aFd A v 0 = A := by
  funext r f
  unfold aFd
  rw [if_neg (fun q => Nat.not_lt_zero _ q.2)]
theorem t_take_ok (h : TB A) (hf : PF A) (hk : k < 2) {kind a b n : Nat} {c : Int} (ht : tkOK k kind a b c) (hj : A M_o 1 = 1) (hn : A M_o 3 = n) (hm : ∀ k, k < 2 → A M_pieces k + n ≤ 1400) : g_X8_take A k kind a b c = some (aTakes (uA (aRdy (uA (uA A M_o 0 0) M_o 0 0) kind a b c n (fun i => b8 (A M_tape i))) M_o 3 0) k kind a b n c) := by
  rw [t_take_133 ht]
  unfold g_X8_take_133 g_X8_take_153
  have e : (uA A M_o 0 0) M_o 1 = 1 := hj
  have htap := h.tap
  rw [t_fails (Or.inl rfl), gB2_v, if_neg (by decide), if_pos rfl, e, if_pos (by decide), t_fails (Or.inl rfl), gB2_v, if_pos rfl, if_pos rfl, gS_v, gS_v, gS_v, gS_v, gS_v]
  have e3 : (uA (uA (uA (uA (uA (uA A M_o 0 0) M_o 0 0) M_o 45 (kind : Int)) M_o 46 (a : Int)) M_o 47 (b : Int)) M_o 48 c) M_o 3 = n := hn
  rw [e3]
  have e195 := t_take_195 (A := frN (uA (uA A M_o 0 0) M_o 0 0) kind a b c n) (k := k) (n := n) hk hn (by omega) h.tpv n 0 FU (by omega) (by unfold FU; omega)
  rw [aFd_0] at e195
  obtain ⟨t1, t2, t3, t4, t5⟩ := ht
  have hT : TB (uA (aRdy (uA (uA A M_o 0 0) M_o 0 0) kind a b c n (fun i => b8 (A M_tape i))) M_o 3 0) := (h.o0.o0.rdy0).o3
  have key := t_takes (A := uA (aRdy (uA (uA A M_o 0 0) M_o 0 0) kind a b c n (fun i => b8 (A M_tape i))) M_o 3 0) (k := k) (kind := kind) (a := a) (b := b) (n := n) (c := c) hT hf hk rfl rfl rfl rfl rfl (by omega) (by
    by_cases q : (kind : Int) = 8
    · have := t4.2.2 q; omega
    · have := t4.2.1 q; omega) (by
    by_cases q : (kind : Int) = 8
    · have := t5.2.2 q; omega
    · have := t5.2.1 q; omega) (by omega) hm
  exact e195.trans key
theorem t_deliver_bad {x1 : Int} (h : ¬ isP A x1) : g_X8_deliver A x1 = some (uA A M_o 0 1, 0) := by
  unfold g_X8_deliver
  rw [t_nPn h, bd_v, t_fails (Or.inr rfl), gB2_v, if_neg (by decide), if_neg (by decide)]
theorem t_del_67 {p n : Nat} (hk : k < 2) (hp : p < 64) (h49 : A M_o 49 = n) (hn2 : n ≤ 1200) (hs : A M_lineSide p = k) (hb : ∀ i, i < n → -128 ≤ A M_lineData (1200 * p + i) ∧ A M_lineData (1200 * p + i) < 128) : ∀ (m i f : Nat), i + m = n → m < f → g_X8_deliver_67 f (aFd A (fun i => A M_lineData (1200 * p + i)) i) p i = (g_X8_takes (aFd A (fun i => A M_lineData (1200 * p + i)) n) ((1 - k : Nat) : Int)).bind fun q => if q.2 ≠ 0 then some q else some (uA q.1 M_delivered p 1, q.2) := by
  intro m
  induction m with
  | zero =>
    intro i f h1 h2
    obtain ⟨f, rfl⟩ : ∃ f', f = f' + 1 := ⟨f - 1, by omega⟩
    have e : aFd A (fun i => A M_lineData (1200 * p + i)) i M_o 49 = n := h49
    have e2 : aFd A (fun i => A M_lineData (1200 * p + i)) i M_lineSide p = k := hs
    unfold g_X8_deliver_67 g_X8_deliver_67_b
    rw [e, if_pos (by omega), hA_ok (by omega) (by omega), tkN, e2, c32_ok (by omega) (by omega), show (1 : Int) - (k : Int) = ((1 - k : Nat) : Int) by omega, show i = n by omega]
    cases g_X8_takes (aFd A (fun i => A M_lineData (1200 * p + i)) n) ((1 - k : Nat) : Int) with
    | none => rfl
    | some q =>
      show (if q.2 ≠ 0 then some (q.1, q.2) else hA (p : Int) 64 (gS (uA q.1 M_delivered p 1) fun S3 => some (S3, q.2))) = if q.2 ≠ 0 then some q else some (uA q.1 M_delivered p 1, q.2)
      rw [hA_ok (by omega) (by omega), gS_v]
  | succ m ih =>
    intro i f h1 h2
    obtain ⟨f, rfl⟩ : ∃ f', f = f' + 1 := ⟨f - 1, by omega⟩
    have e : aFd A (fun i => A M_lineData (1200 * p + i)) i M_o 49 = n := h49
    have e2 : aFd A (fun i => A M_lineData (1200 * p + i)) i M_lineData (1200 * p + i) = A M_lineData (1200 * p + i) := rfl
    have ih1 := ih (i + 1) f (by omega) (by omega)
    have hbi := hb i (by omega)
    rw [show g_X8_deliver_67 (f + 1) (aFd A (fun i => A M_lineData (1200 * p + i)) i) p i = g_X8_deliver_67_b (g_X8_deliver_67 f) (aFd A (fun i => A M_lineData (1200 * p + i)) i) p i from rfl]
    unfold g_X8_deliver_67_b
    have es := aFd_s (A := A) (v := fun i => A M_lineData (1200 * p + i)) (m := i)
    rw [e, if_neg (by omega), hA_ok (by omega) (by omega), hA_ok (by omega) (by omega), gS_v, tkN, show (1200 * (p : Int) + (i : Int)).toNat = 1200 * p + i by omega, e2, show b8 (A M_lineData (1200 * p + i)) = A M_lineData (1200 * p + i) by unfold b8; omega, es, c32_ok (by omega) (by omega), show (i : Int) + 1 = ((i + 1 : Nat) : Int) by omega]
    exact ih1
def aDel (q : AM × Int) (p : Nat) : AM × Int := if q.2 ≠ 0 then q else (uA q.1 M_delivered p 1, q.2)
theorem t_deliver_ok (h : TB A) (hf : PF A) (hk : k < 2) {p kind a b n : Nat} {c : Int} (hP : isP A p) (hS : A M_lineSide p = k) (hK : A M_lineKind p = kind) (hAa : A M_lineA p = a) (hB : A M_lineB p = b) (hN : A M_lineSize p = n) (hC : A M_lineC p = c) (hn : n ≤ 1200) (hb : ∀ i, i < n → -128 ≤ A M_lineData (1200 * p + i) ∧ A M_lineData (1200 * p + i) < 128) (ha : (a : Int) < 4611686018427387904) (hbb : (b : Int) < 4611686018427387904) (hc : 0 ≤ c ∧ c < 4611686018427387904) (hm : ∀ k, k < 2 → A M_pieces k + n ≤ 1400) : g_X8_deliver A p = some (aDel (aTakes (aRdy (uA A M_o 0 0) kind a b c n (fun i => A M_lineData (1200 * p + i))) (1 - k) kind a b n c) p) := by
  unfold g_X8_deliver
  have hp := hP
  unfold isP at hp
  rw [t_nP hP, bd_v, t_fails (Or.inl rfl), gB2_v, if_pos rfl, if_pos rfl, hA_ok (by omega) (by omega), gS_v, hA_ok (by omega) (by omega), gS_v, hA_ok (by omega) (by omega), gS_v, hA_ok (by omega) (by omega), gS_v, hA_ok (by omega) (by omega), gS_v, tkN]
  have e1 : (uA A M_o 0 0) M_lineKind p = kind := hK
  rw [e1]
  have e2 : (uA (uA A M_o 0 0) M_o 45 (kind : Int)) M_lineA p = a := hAa
  rw [e2]
  have e3 : (uA (uA (uA A M_o 0 0) M_o 45 (kind : Int)) M_o 46 (a : Int)) M_lineB p = b := hB
  rw [e3]
  have e4 : (uA (uA (uA (uA A M_o 0 0) M_o 45 (kind : Int)) M_o 46 (a : Int)) M_o 47 (b : Int)) M_lineC p = c := hC
  rw [e4]
  have e5 : (uA (uA (uA (uA (uA A M_o 0 0) M_o 45 (kind : Int)) M_o 46 (a : Int)) M_o 47 (b : Int)) M_o 48 c) M_lineSize p = n := hN
  rw [e5]
  have e67 := t_del_67 (A := frN (uA A M_o 0 0) kind a b c n) (k := k) (p := p) (n := n) hk (by omega) rfl hn hS hb n 0 FU (by omega) (by unfold FU; omega)
  rw [aFd_0] at e67
  have hT : TB (aRdy (uA A M_o 0 0) kind a b c n (fun i => A M_lineData (1200 * p + i))) := h.o0.rdy0
  have key := t_takes (A := aRdy (uA A M_o 0 0) kind a b c n (fun i => A M_lineData (1200 * p + i))) (k := 1 - k) (kind := kind) (a := a) (b := b) (n := n) (c := c) hT hf (by omega) rfl rfl rfl rfl rfl ha (by omega) hc (by omega) hm
  refine e67.trans ?_
  show (g_X8_takes (aRdy (uA A M_o 0 0) kind a b c n (fun i => A M_lineData (1200 * p + i))) ((1 - k : Nat) : Int)).bind _ = _
  rw [key, bd_v]
  unfold aDel
  split <;> rfl
end TWD
