/-! THE TWIN: taking frames of streams, resets, others -/
section TWU
variable {A : AM} {k j : Nat}
def aPuts (A : AM) (k j b : Nat) : Nat → AM
  | 0 => A
  | m + 1 => aPut (aPuts A k j b m) k j (b + m) (A M_fData m)
theorem aPuts_o {b m : Nat} (r : L3) (f : Nat) (h1 : r ≠ M_has) (h2 : r ≠ M_came) (h3 : r ≠ M_pieces) (h4 : r ≠ M_pieceOf) (h5 : r ≠ M_pieceNumber) : aPuts A k j b m r f = A r f := by
  induction m with
  | zero => rfl
  | succ m ih => show aPut (aPuts A k j b m) k j (b + m) (A M_fData m) r f = _; rw [aPut_o r f h1 h2 h3 h4 h5, ih]
theorem aPuts_pieces {b m : Nat} (h0 : ∀ k, k < 2 → 0 ≤ A M_pieces k) (hk : k < 2) : ∀ k', k' < 2 → A M_pieces k' ≤ aPuts A k j b m M_pieces k' ∧ aPuts A k j b m M_pieces k' ≤ A M_pieces k' + m := by
  induction m with
  | zero => intro k' _; exact ⟨Int.le_refl _, by show A M_pieces k' ≤ A M_pieces k' + 0; omega⟩
  | succ m ih =>
    intro k' hk'
    have h1 := ih k' hk'
    show A M_pieces k' ≤ aPut (aPuts A k j b m) k j (b + m) (A M_fData m) M_pieces k' ∧ aPut (aPuts A k j b m) k j (b + m) (A M_fData m) M_pieces k' ≤ _
    rw [aPut_pieces]
    split
    · rename_i q; obtain ⟨rfl, -⟩ := q; omega
    · omega
theorem aPuts_PB {b m : Nat} (h0 : ∀ k, k < 2 → 0 ≤ A M_pieces k) (hk : k < 2) (hm : ∀ k, k < 2 → A M_pieces k + m ≤ 1400) : PB (aPuts A k j b m) := by
  intro k' hk'
  have h1 := aPuts_pieces (A := A) (k := k) (j := j) (b := b) (m := m) h0 hk k' hk'
  have h2 := hm k' hk'
  have h3 := h0 k' hk'
  omega
theorem aPuts_PF {b m : Nat} (hf : PF A) (h0 : ∀ k, k < 2 → 0 ≤ A M_pieces k) (hk : k < 2) (hm : ∀ k, k < 2 → A M_pieces k + m ≤ 1400) : PF (aPuts A k j b m) := by
  induction m with
  | zero => exact hf
  | succ m ih => exact PF.put (aPuts_PB h0 hk (fun k hk => by have := hm k hk; omega)) (ih (fun k hk => by have := hm k hk; omega)) hk
theorem aPuts_hasB {b m : Nat} (hf : PF A) (h0 : ∀ k, k < 2 → 0 ≤ A M_pieces k) (hk : k < 2) (hm : ∀ k, k < 2 → A M_pieces k + m ≤ 1400) {k' j' o' : Nat} (hk' : k' < 2) : hasB (aPuts A k j b m) k' j' o' = true ↔ (hasB A k' j' o' = true ∨ (k' = k ∧ j' = j ∧ b ≤ o' ∧ o' < b + m)) := by
  induction m with
  | zero =>
    show hasB A k' j' o' = true ↔ _
    constructor
    · exact Or.inl
    · rintro (h | h)
      · exact h
      · omega
  | succ m ih =>
    have hm' : ∀ k, k < 2 → A M_pieces k + (m : Nat) ≤ 1400 := fun k hk => by have := hm k hk; omega
    have e := aPut_hasB (A := aPuts A k j b m) (j := j) (o := b + m) (v := A M_fData m) (j' := j') (o' := o') (aPuts_PB h0 hk hm') (aPuts_PF hf h0 hk hm') hk hk'
    show hasB (aPut (aPuts A k j b m) k j (b + m) (A M_fData m)) k' j' o' = true ↔ _
    rw [e, ih hm']
    constructor
    · rintro ((h | h) | h)
      · exact Or.inl h
      · exact Or.inr (by omega)
      · exact Or.inr (by omega)
    · rintro (h | h)
      · exact Or.inl (Or.inl h)
      · by_cases q : o' = b + m
        · exact Or.inr ⟨h.1, h.2.1, q⟩
        · exact Or.inl (Or.inr ⟨h.1, h.2.1, h.2.2.1, by omega⟩)
theorem aPuts_cam {b m : Nat} (h : ∀ i, -128 ≤ A M_came i ∧ A M_came i < 128) : ∀ i, -128 ≤ aPuts A k j b m M_came i ∧ aPuts A k j b m M_came i < 128 := by
  induction m with
  | zero => exact h
  | succ m ih =>
    intro i
    show -128 ≤ aPut (aPuts A k j b m) k j (b + m) (A M_fData m) M_came i ∧ aPut (aPuts A k j b m) k j (b + m) (A M_fData m) M_came i < 128
    rw [aPut_camex]
    split
    · exact ⟨b8_lo _, b8_hi _⟩
    · exact ih i
theorem TB.puts (h : TB A) (hf : PF A) (hk : k < 2) {b m : Nat} (hm : ∀ k, k < 2 → A M_pieces k + m ≤ 1400) (hb : b + m ≤ 65536) : TB (aPuts A k j b m) := by
  have h0 : ∀ k, k < 2 → 0 ≤ A M_pieces k := fun k hk => (h.pcs k hk).1
  have eo : ∀ (r : L3) (f : Nat), r ≠ M_has → r ≠ M_came → r ≠ M_pieces → r ≠ M_pieceOf → r ≠ M_pieceNumber → aPuts A k j b m r f = A r f := fun r f a1 a2 a3 a4 a5 => aPuts_o r f a1 a2 a3 a4 a5
  refine TB.make ?_ ?_ ?_ ?_ ?_ ?_ ?_ (aPuts_PB h0 hk hm) (aPuts_cam h.cam) ?_ ?_ ?_ ?_ ?_ ?_ ?_ ?_ ?_ ?_ ?_ ?_ ?_ ?_ ?_ ?_ ?_
  · rw [eo _ _ (by decide) (by decide) (by decide) (by decide) (by decide)]; exact h.jnd
  · rw [eo _ _ (by decide) (by decide) (by decide) (by decide) (by decide)]; exact h.tap
  · intro i; rw [eo _ _ (by decide) (by decide) (by decide) (by decide) (by decide)]; exact h.tpv i
  · rw [eo _ _ (by decide) (by decide) (by decide) (by decide) (by decide)]; exact h.out
  · intro q hq; rw [eo _ _ (by decide) (by decide) (by decide) (by decide) (by decide)]; exact h.tot q hq
  · intro i; rw [eo _ _ (by decide) (by decide) (by decide) (by decide) (by decide)]; exact h.mrk i
  · intro i; rw [eo _ _ (by decide) (by decide) (by decide) (by decide) (by decide)]; exact h.val i
  · intro k' j' o hk' hj' ho
    rcases (aPuts_hasB hf h0 hk hm hk').mp ho with q | q
    · exact h.hsb k' j' o hk' hj' q
    · omega
  · intro q i hq hi; rw [eo _ _ (by decide) (by decide) (by decide) (by decide) (by decide)]; exact h.rds q i hq hi
  · intro q i hq hi; rw [eo _ _ (by decide) (by decide) (by decide) (by decide) (by decide)]; exact h.res q i hq hi
  · intro q i hq hi; rw [eo _ _ (by decide) (by decide) (by decide) (by decide) (by decide)]; exact h.hig q i hq hi
  · intro q i hq hi; rw [eo _ _ (by decide) (by decide) (by decide) (by decide) (by decide)]; exact h.siz q i hq hi
  · intro q i hq hi; rw [eo _ _ (by decide) (by decide) (by decide) (by decide) (by decide), eo _ _ (by decide) (by decide) (by decide) (by decide) (by decide)]; exact h.wrs q i hq hi
  · intro q i hq hi hi2; rw [eo _ _ (by decide) (by decide) (by decide) (by decide) (by decide)]; exact h.gra q i hq hi hi2
  · intro q hq; rw [eo _ _ (by decide) (by decide) (by decide) (by decide) (by decide)]; exact h.grt q hq
  · intro q hq; rw [eo _ _ (by decide) (by decide) (by decide) (by decide) (by decide)]; exact h.opn q hq
  · intro q hq; rw [eo _ _ (by decide) (by decide) (by decide) (by decide) (by decide)]; exact h.thr q hq
  · intro q hq; rw [eo _ _ (by decide) (by decide) (by decide) (by decide) (by decide)]; exact h.dgr q hq
  · intro q i hq hi; rw [eo _ _ (by decide) (by decide) (by decide) (by decide) (by decide)]; exact h.grs q i hq hi
  · intro q i hq hi; rw [eo _ _ (by decide) (by decide) (by decide) (by decide) (by decide)]; exact h.lim q i hq hi
  · intro q hq; rw [eo _ _ (by decide) (by decide) (by decide) (by decide) (by decide)]; exact h.lms q hq
  · intro q hq; rw [eo _ _ (by decide) (by decide) (by decide) (by decide) (by decide)]; exact h.lst q hq
  · intro q i hq hi; rw [eo _ _ (by decide) (by decide) (by decide) (by decide) (by decide)]; exact h.stc q i hq hi
  · intro q i hq hi; rw [eo _ _ (by decide) (by decide) (by decide) (by decide) (by decide)]; exact h.cod q i hq hi
theorem t_takeStream_128 (h : TB A) (hf : PF A) (hk : k < 2) (hj : j < 256) {b n : Nat} (h47 : A M_o 47 = b) (h49 : A M_o 49 = n) (hn : n ≤ 2048) (hb : b + n ≤ 65536) (hm : ∀ k, k < 2 → A M_pieces k + n ≤ 1400) {st : Int} (hst : st < 2) : ∀ (m i f : Nat), i + m = n → m < f → g_X8_takeStream_128 f (aPuts A k j b i) k j st i = some (aOver (aPuts A k j b n) k j, 0) := by
  have h0 : ∀ k, k < 2 → 0 ≤ A M_pieces k := fun k hk => (h.pcs k hk).1
  intro m
  induction m with
  | zero =>
    intro i f h1 h2
    obtain ⟨f, rfl⟩ : ∃ f', f = f' + 1 := ⟨f - 1, by omega⟩
    unfold g_X8_takeStream_128 g_X8_takeStream_128_b g_X8_takeStream_170
    rw [show i = n by omega, aPuts_o _ _ (by decide) (by decide) (by decide) (by decide) (by decide), h49, if_pos (by omega), t_looksOver (h.puts hf hk hm hb) hk hj, bd_v]
  | succ m ih =>
    intro i f h1 h2
    obtain ⟨f, rfl⟩ : ∃ f', f = f' + 1 := ⟨f - 1, by omega⟩
    have hpb := aPuts_PB (A := A) (k := k) (j := j) (b := b) (m := i) h0 hk (fun k hk => by have := hm k hk; omega) k hk
    have ih1 := ih (i + 1) f (by omega) (by omega)
    unfold g_X8_takeStream_128 g_X8_takeStream_128_b g_X8_takeStream_170
    have e1 : aPuts A k j b i M_o 49 = n := by rw [aPuts_o _ _ (by decide) (by decide) (by decide) (by decide) (by decide), h49]
    have e2 : aPuts A k j b i M_o 47 = b := by rw [aPuts_o _ _ (by decide) (by decide) (by decide) (by decide) (by decide), h47]
    have e3 : aPuts A k j b i M_fData i = A M_fData i := aPuts_o _ _ (by decide) (by decide) (by decide) (by decide) (by decide)
    rw [e1, e2, tkN, e3, if_neg (by omega), if_neg (by omega), hA_ok (by omega) (by omega), c64_ok (by omega) (by omega), show (b : Int) + (i : Int) = ((b + i : Nat) : Int) by omega, t_comes hk hj hpb (by omega), bd_v, c32_ok (by omega) (by omega), show (i : Int) + 1 = ((i + 1 : Nat) : Int) by omega]
    exact ih1
/-- a frame of a stream is taken -/
def aTS1 (A : AM) (k j : Nat) (b n : Nat) (c : Int) (st : Int) : AM :=
  if st < 2 then aPuts (if c = 1 then uA (if (b + n : Int) ≤ A M_highest (256 * k + j) then A else uA A M_highest (256 * k + j) (b + n)) M_size (256 * k + j) (b + n) else (if (b + n : Int) ≤ A M_highest (256 * k + j) then A else uA A M_highest (256 * k + j) (b + n))) k j b n
  else (if c = 1 then uA (if (b + n : Int) ≤ A M_highest (256 * k + j) then A else uA A M_highest (256 * k + j) (b + n)) M_size (256 * k + j) (b + n) else (if (b + n : Int) ≤ A M_highest (256 * k + j) then A else uA A M_highest (256 * k + j) (b + n)))
theorem TB.hi (h : TB A) {v : Int} (hv : 0 ≤ v ∧ v ≤ 65536) : TB (uA A M_highest (256 * k + j) v) :=
  (TB.make h.jnd h.tap h.tpv h.out h.tot h.mrk h.val h.pcs h.cam h.hsb h.rds h.res (fun q i hq hi => by
    by_cases e : 256 * q + i = 256 * k + j
    · rw [e, uA_self]; exact hv
    · rw [uA_idx _ _ _ _ e]; exact h.hig q i hq hi) h.siz h.wrs h.gra h.grt h.opn h.thr h.dgr h.grs h.lim h.lms h.lst h.stc h.cod)
theorem TB.sz (h : TB A) {v : Int} (hv : 0 ≤ v ∧ v ≤ 65536) : TB (uA A M_size (256 * k + j) v) :=
  (TB.make h.jnd h.tap h.tpv h.out h.tot h.mrk h.val h.pcs h.cam h.hsb h.rds h.res h.hig (fun q i hq hi => by
    by_cases e : 256 * q + i = 256 * k + j
    · rw [e, uA_self]; omega
    · rw [uA_idx _ _ _ _ e]; exact h.siz q i hq hi) (fun q i hq hi hw => by
    by_cases e : 256 * q + i = 256 * k + j
    · rw [e, uA_self]; omega
    · rw [uA_idx _ _ _ _ e]; exact h.wrs q i hq hi hw) h.gra h.grt h.opn h.thr h.dgr h.grs h.lim h.lms h.lst h.stc h.cod)
theorem t_takeStream_125 (h : TB A) (hf : PF A) (hk : k < 2) (hj : j < 256) {b n : Nat} (h47 : A M_o 47 = b) (h49 : A M_o 49 = n) (hn : n ≤ 2048) (hb : b + n ≤ 65536) (hm : ∀ k, k < 2 → A M_pieces k + n ≤ 1400) {st : Int} : g_X8_takeStream_125 A k j st = some (aOver (if st < 2 then aPuts A k j b n else A) k j, 0) := by
  unfold g_X8_takeStream_125
  by_cases q : st < 2
  · rw [if_pos q]
    exact t_takeStream_128 h hf hk hj h47 h49 hn hb hm q n 0 FU (by omega) (by unfold FU; omega)
  · rw [if_neg q, show FU = 199999 + 1 from rfl]
    unfold g_X8_takeStream_128 g_X8_takeStream_128_b g_X8_takeStream_170
    rw [t_looksOver h hk hj, bd_v, if_pos (show (2 : Int) ≤ st by omega)]
    split <;> rfl
theorem t_takeStream_61 (h : TB A) (hf : PF A) (hk : k < 2) (hj : j < 256) {b n : Nat} (h47 : A M_o 47 = b) (h49 : A M_o 49 = n) (hn : n ≤ 2048) (hm : ∀ k, k < 2 → A M_pieces k + n ≤ 1400) (hbb : (b : Int) < 4611686018427390000) {c : Int} (h48 : A M_o 48 = c) (hC : ∀ r f, r = M_o ∨ r = M_pieces ∨ r = M_has → aCome A k j r f = A r f) (hrch : rch A k j (b + n) (c == 1) = 0 → b + n ≤ 65536) :
    g_X8_takeStream_61 A k j (256 * (k : Int) + j) (b + n) (b2i (c == 1)) (b + n) j k = some (if rch A k j (b + n) (c == 1) = 0 then (aOver (aTS1 (aCome A k j) k j b n c (rst (aCome A k j) k j)) k j, 0) else (A, rch A k j (b + n) (c == 1))) := by
  unfold g_X8_takeStream_61
  rw [t_reaches h hk hj (by omega), bd_v]
  have hr0 : rch A k j (b + n) (c == 1) = 0 ∨ 0 < rch A k j (b + n) (c == 1) := by
    unfold rch
    split
    · right; decide
    · split
      · right; decide
      · have z : ∀ (P : Prop) [Decidable P], (if P then (3 : Int) else 0) = 0 ∨ 0 < (if P then (3 : Int) else 0) := by
          intro P _
          by_cases e : P
          · right; rw [if_pos e]; decide
          · left; rw [if_neg e]
        exact z _
  by_cases q : rch A k j (b + n) (c == 1) = 0
  · have hb := hrch q
    have hT := h.come hk hj
    rw [if_pos (by omega), if_pos q, t_comesThere h hk hj, bd_v, hT.rcv hk hj, bd_v, hA_ok (by omega) (by omega), tk_at]
    have key : ∀ B : AM, TB B → PF B → (∀ f, B M_o f = A M_o f) → (∀ k, B M_pieces k = A M_pieces k) → g_X8_takeStream_107 B k j (256 * (k : Int) + j) (b + n) (rst (aCome A k j) k j) = some (aOver (if rst (aCome A k j) k j < 2 then aPuts (if c = 1 then uA B M_size (256 * k + j) (b + n) else B) k j b n else (if c = 1 then uA B M_size (256 * k + j) (b + n) else B)) k j, 0) := by
      intro B hB hF ho hp
      unfold g_X8_takeStream_107
      rw [ho 48, h48]
      by_cases q2 : c = 1
      · rw [if_neg (fun z => z q2), if_pos q2, hA_ok (by omega) (by omega), gS_v, tk_at]
        exact t_takeStream_125 (A := uA B M_size (256 * k + j) (b + n)) (hB.sz (by omega)) hF hk hj (by show B M_o 47 = _; rw [ho]; exact h47) (by show B M_o 49 = _; rw [ho]; exact h49) hn hb (fun k hk => by show B M_pieces k + _ ≤ _; rw [hp]; exact hm k hk)
      · rw [if_pos q2, if_neg q2]
        exact t_takeStream_125 hB hF hk hj (by rw [ho]; exact h47) (by rw [ho]; exact h49) hn hb (fun k hk => by rw [hp]; exact hm k hk)
    have hF2 : PF (aCome A k j) := by
      intro k' p q1 hk' hp hp2
      rw [hC _ _ (Or.inr (Or.inl rfl))] at hp
      rw [hC _ _ (Or.inr (Or.inr rfl))]
      exact hf k' p q1 hk' hp hp2
    unfold aTS1
    by_cases q3 : (b + n : Int) ≤ aCome A k j M_highest (256 * k + j)
    · rw [if_pos q3, key _ hT hF2 (fun f => hC _ _ (Or.inl rfl)) (fun k => hC _ _ (Or.inr (Or.inl rfl))), if_pos q3]
    · rw [if_neg q3, hA_ok (by omega) (by omega), gS_v, key (uA (aCome A k j) M_highest (256 * k + j) (b + n)) (hT.hi (by omega)) hF2 (fun f => hC _ _ (Or.inl rfl)) (fun k => hC _ _ (Or.inr (Or.inl rfl))), if_neg q3]
  · rw [if_neg (by omega), if_neg q]
end TWU
