/-! BLOCKS: reading -/
section BTK
variable {A A' B B' : AM} {E : L3 → Bool} {k j n : Nat} {ch : Nat → List Nat} {fl : List Nat}
def TkI (E : L3 → Bool) (A B : AM) (k j o i : Nat) (C : AM) : Prop :=
  (∀ r f, ¬ (r = C_out ∧ f < i) → ¬ (r = R_o k j ∧ (f = 2 ∨ f = 7)) → r ≠ B_next k → ¬ (r = B_o k ∧ f = 5) → C r f = B r f) ∧ (∀ f, f < i → C C_out f = bt A k j (o + f)) ∧ C (R_o k j) 2 = ((o + i : Nat) : Int) ∧ ∃ ch fl, CBl E (uA A M_read (256 * k + j) ((o + i : Nat) : Int)) C k ch fl
theorem bt_b8 (hT : TB A) {o : Nat} : b8 (bt A k j o) = bt A k j o := by
  have : -128 ≤ bt A k j o ∧ bt A k j o < 128 := by
    unfold bt
    split
    · omega
    · exact hT.cam _
  unfold b8; omega
theorem uA_rd {A : AM} {f : Nat} {v : Int} {k j o : Nat} : hasB (uA A M_read f v) k j o = hasB A k j o := rfl
theorem TkI.step (hT : TB A) (hp64 : A M_pieces k ≤ 64) (hk : k < 2) (hj : j < 256) (hE : E (R_o k j) = true) (hw : A M_wasReset (256 * k + j) = 0) {o i m : Nat} {C : AM} (h : TkI E A B k j o i C) (hb : hasB A k j (o + i) = true) (hi : i < m) (hm : m ≤ 2048) (f : Nat) : ∃ C', TkI E A B k j o (i + 1) C' ∧ g_X6_take_3 k (f + 1) C j 0 m i = g_X6_take_3 k f C' j 0 m ((i + 1 : Nat) : Int) := by
  obtain ⟨fr, ou, rd2, ch, fl, cb⟩ := h
  have ob := hT.hsb k j (o + i) hk hj hb
  have rdv : (uA A M_read (256 * k + j) ((o + i : Nat) : Int)) M_read (256 * k + j) = ((o + i : Nat) : Int) := uA_self _ _ _ _
  obtain ⟨p, l, hc, hpi⟩ := cb.head hj hE hw rdv hb
  have sc := cb.str (by exact hp64)
  obtain ⟨b7, p64, dr⟩ := sc.drop hj hE hc
  have pm : p ∈ ch j := by rw [hc]; exact List.mem_cons_self
  have byt := cb.byt j p pm ((o + i) / 64) ((o + i) % 64) hpi (by omega) (by rw [show 64 * ((o + i) / 64) + (o + i) % 64 = o + i by omega]; exact hb)
  rw [show 64 * ((o + i) / 64) + (o + i) % 64 = o + i by omega] at byt
  have byt' : C (B_bytes k) (64 * p + (o + i) % 64) = bt A k j (o + i) := byt
  -- the two memories on the way
  have e1 : ∀ x y, uA C C_out x y (R_o k j) 2 = ((o + i : Nat) : Int) := fun _ _ => rd2
  rw [show g_X6_take_3 k (f + 1) C j 0 m i = g_X6_take_3_b k (g_X6_take_3 k f) C j 0 m i from rfl]
  unfold g_X6_take_3_b g_X6_take_61
  have ix : ((p : Int) * 64 + (((o + i : Nat) : Int) - ((o + i : Nat) : Int) / 64 * 64)).toNat = 64 * p + (o + i) % 64 := by omega
  rw [if_neg (by omega), rd2, b7, hA_ok (by omega) (by omega), hA_ok (by omega) (by omega), hA_ok (by omega) (by omega), gS_v, e1, c32_ok (by omega) (by omega), gS_v, uA_self, hA_ok (by omega) (by omega), c32_ok (by omega) (by omega), ix, byt', bt_b8 hT, show ((0 : Int) + (i : Int)).toNat = i by omega, c32_ok (by omega) (by omega), show ((o + i : Nat) : Int) + 1 = ((o + (i + 1) : Nat) : Int) by omega, show (i : Int) + 1 = ((i + 1 : Nat) : Int) by omega]
  -- the memory after the byte
  generalize hD : uA (uA C C_out i (bt A k j (o + i))) (R_o k j) 2 ((o + (i + 1) : Nat) : Int) = D
  have d : ∀ r f, ¬ (r = C_out ∧ f = i) → ¬ (r = R_o k j ∧ f = 2) → D r f = C r f := by
    intro r f h1 h2
    rw [← hD, uA_at, if_neg h2, uA_at, if_neg h1]
  have dT : ∀ t f, t = 22 ∨ t = 23 ∨ t = 24 ∨ t = 25 ∨ t = 26 → D (t, k, 0) f = C (t, k, 0) f := fun t f ht => d _ _ (fun z => by injection z.1; omega) (fun z => by injection z.1; omega)
  have d7 : ∀ i', D (R_o k i') 7 = C (R_o k i') 7 := fun i' => d _ _ (fun z => by injection z.1 with z; cases z) (fun z => by omega)
  have d2 : D (R_o k j) 2 = ((o + (i + 1) : Nat) : Int) := by rw [← hD, uA_self]
  have do_ : ∀ f, f < i + 1 → D C_out f = bt A k j (o + f) := by
    intro f hf
    rw [← hD, uA_tag (by show 6 ≠ 30; decide), uA_at]
    by_cases z : f = i
    · rw [if_pos ⟨rfl, z⟩, z]
    · rw [if_neg (fun y => z y.2)]; exact ou f (by omega)
  have e2 : D (B_bytes k) = C (B_bytes k) := funext fun f => dT 23 f (by omega)
  have e3 : D (B_marks k) = C (B_marks k) := funext fun f => dT 24 f (by omega)
  have e4 : D (B_index k) = C (B_index k) := funext fun f => dT 25 f (by omega)
  have e5 : D (B_next k) = C (B_next k) := funext fun f => dT 26 f (by omega)
  have e6 : D (B_o k) = C (B_o k) := funext fun f => dT 22 f (by omega)
  have fr' : ∀ r f, ¬ (r = C_out ∧ f < i + 1) → ¬ (r = R_o k j ∧ (f = 2 ∨ f = 7)) → r ≠ B_next k → ¬ (r = B_o k ∧ f = 5) → D r f = B r f := by
    intro r f h1 h2 h3 h4
    rw [d r f (fun z => h1 ⟨z.1, by omega⟩) (fun z => h2 ⟨z.1, Or.inl z.2⟩)]
    exact fr r f (fun z => h1 ⟨z.1, by omega⟩) h2 h3 h4
  -- reads of other streams
  have rdi : ∀ i', i' ≠ j → (uA A M_read (256 * k + j) ((o + (i + 1) : Nat) : Int)) M_read (256 * k + i') = (uA A M_read (256 * k + j) ((o + i : Nat) : Int)) M_read (256 * k + i') := fun i' h' => by rw [uA_idx _ _ _ _ (by omega), uA_idx _ _ _ _ (by omega)]
  have rdj : (uA A M_read (256 * k + j) ((o + (i + 1) : Nat) : Int)) M_read (256 * k + j) = ((o + (i + 1) : Nat) : Int) := uA_self _ _ _ _
  by_cases q : ((o + (i + 1) : Nat) : Int) - ((o + (i + 1) : Nat) : Int) / 64 * 64 ≠ 0
  · rw [if_pos q]
    refine ⟨D, ⟨fr', do_, d2, ch, fl, ?_⟩, rfl⟩
    have qq : (o + (i + 1)) / 64 = (o + i) / 64 := by omega
    refine CBl.make ?_ ?_ ?_ cb.emp ?_ ?_ cb.ndc cb.ndf cb.dis cb.dif ?_ ?_ ?_ ?_ ?_ cb.pth
    · rw [e6]; exact cb.mad
    · rw [e5, e6]; exact cb.fre
    · intro i' hi' hE'; rw [e5, d7]; exact cb.lnk i' hi' hE'
    · rw [e6]; exact cb.mem
    · rw [e6]; exact cb.mef
    · rw [e4]; exact cb.ris
    · intro i' p' hp'
      rw [e4]
      have := cb.idx i' p' hp'
      by_cases z : i' = j
      · subst z; rw [rdj, tkN, qq]; rw [rdv, tkN] at this; exact this
      · rw [rdi i' z]; exact this
    · intro i' hi' hE' hw' n' q' h1 h2
      rw [e4]
      refine cb.all i' hi' hE' hw' n' q' ?_ h2
      by_cases z : i' = j
      · subst z; rw [rdv, tkN]; rw [rdj, tkN, qq] at h1; exact h1
      · rw [rdi i' z] at h1; exact h1
    · intro i' p' hp'; rw [e3, e4]; exact cb.bit i' p' hp'
    · intro i' p' hp'; rw [e2, e4]; exact cb.byt i' p' hp'
  · rw [if_neg q]
    have qq : (o + (i + 1)) / 64 = (o + i) / 64 + 1 := by omega
    have b7' : D (R_o k j) 7 = p := by rw [d7]; exact b7
    rw [c_drop b7' p64, bd_v, c32_ok (by omega) (by omega)]
    have sD : CBs E D k ch fl := CBs.make (by rw [e6]; exact sc.mad) (by rw [e5, e6]; exact sc.fre) (fun i' hi' hE' => by rw [e5, d7]; exact sc.lnk i' hi' hE') sc.emp (by rw [e6]; exact sc.mem) (by rw [e6]; exact sc.mef) sc.ndc sc.ndf sc.dis sc.dif
    obtain ⟨_, _, dr⟩ := sD.drop hj hE hc
    have dd : ∀ r f, (r = R_o k j → f ≠ 7) → r ≠ B_next k → (r = B_o k → f ≠ 5) → cDrop D k j p r f = D r f := fun r f h1 h2 h3 => cDrop_o r f h1 (fun z => absurd z h2) h3
    have x2 : cDrop D k j p (B_bytes k) = C (B_bytes k) := by rw [← e2]; exact funext fun f => dd _ _ (fun z => by injection z with z; cases z) (fun z => by injection z with z; cases z) (fun z => by injection z with z; cases z)
    have x3 : cDrop D k j p (B_marks k) = C (B_marks k) := by rw [← e3]; exact funext fun f => dd _ _ (fun z => by injection z with z; cases z) (fun z => by injection z with z; cases z) (fun z => by injection z with z; cases z)
    have x4 : cDrop D k j p (B_index k) = C (B_index k) := by rw [← e4]; exact funext fun f => dd _ _ (fun z => by injection z with z; cases z) (fun z => by injection z with z; cases z) (fun z => by injection z with z; cases z)
    have sub : ∀ i' q', q' ∈ (if i' = j then l else ch i') → q' ∈ ch i' := by
      intro i' q' hq
      by_cases e : i' = j
      · subst e; rw [if_pos rfl] at hq; rw [hc]; exact List.mem_cons_of_mem _ hq
      · rw [if_neg e] at hq; exact hq
    refine ⟨cDrop D k j p, ⟨?_, ?_, ?_, (fun i => if i = j then l else ch i), (p :: fl), ?_⟩, rfl⟩
    · intro r f h1 h2 h3 h4
      rw [dd r f (fun z y => h2 ⟨z, Or.inr y⟩) h3 (fun z y => h4 ⟨z, y⟩)]
      exact fr' r f h1 h2 h3 h4
    · intro f hf
      rw [dd _ _ (fun z => by injection z with z; cases z) (fun z => by injection z with z; cases z) (fun z => by injection z with z; cases z)]
      exact do_ f hf
    · rw [dd _ _ (fun _ => by decide) (fun z => by injection z with z; cases z) (fun z => by injection z with z; cases z)]
      exact d2
    · refine CBl.make ?_ dr.fre dr.lnk ?_ dr.mem dr.mef dr.ndc dr.ndf dr.dis dr.dif ?_ ?_ ?_ ?_ ?_ cb.pth
      · rw [dd _ _ (fun z => by injection z with z; cases z) (fun z => by injection z with z; cases z) (fun _ => by decide), e6]
        exact cb.mad
      · intro i' hi'
        by_cases z : i' = j
        · subst z; exact absurd ⟨hj, hE, hw⟩ hi'
        · rw [if_neg z]; exact cb.emp i' hi'
      · intro i'
        rw [x4]
        by_cases z : i' = j
        · subst z
          rw [if_pos rfl]
          have := cb.ris i'
          rw [hc, List.pairwise_cons] at this
          exact this.2
        · rw [if_neg z]; exact cb.ris i'
      · intro i' p' hp'
        rw [x4]
        obtain ⟨n', a1, a2, a3, a4⟩ := cb.idx i' p' (sub i' p' hp')
        refine ⟨n', a1, ?_, a3, a4⟩
        by_cases z : i' = j
        · subst z
          rw [if_pos rfl] at hp'
          rw [rdj, tkN, qq]
          have := cb.ris i'
          rw [hc, List.pairwise_cons] at this
          have := this.1 p' hp'
          omega
        · rw [rdi i' z]; exact a2
      · intro i' hi' hE' hw' n' q' h1 h2
        rw [x4]
        by_cases z : i' = j
        · subst z
          rw [rdj, tkN, qq] at h1
          obtain ⟨p', a1, a2⟩ := cb.all i' hi' hE' hw' n' q' (by rw [rdv, tkN]; omega) h2
          refine ⟨p', ?_, a2⟩
          rw [if_pos rfl]
          rw [hc] at a1
          cases a1 with
          | head => omega
          | tail _ a1 => exact a1
        · rw [if_neg z]
          rw [rdi i' z] at h1
          exact cb.all i' hi' hE' hw' n' q' h1 h2
      · intro i' p' hp'; rw [x3, x4]; exact cb.bit i' p' (sub i' p' hp')
      · intro i' p' hp'; rw [x2, x4]; exact cb.byt i' p' (sub i' p' hp')
theorem c_btake (hT : TB A) (hp64 : A M_pieces k ≤ 64) (hk : k < 2) (hj : j < 256) (hE : E (R_o k j) = true) (hw : A M_wasReset (256 * k + j) = 0) {o m : Nat} (hb : ∀ x, x < m → hasB A k j (o + x) = true) (hm : m ≤ 2048) : ∀ (s i f : Nat) (C : AM), i + s = m → s < f → TkI E A B k j o i C → ∃ C', g_X6_take_3 k f C j 0 m i = some C' ∧ TkI E A B k j o m C' := by
  intro s
  induction s with
  | zero =>
    intro i f C hi hf h
    obtain ⟨f, rfl⟩ : ∃ q, f = q + 1 := ⟨f - 1, by omega⟩
    have : i = m := by omega
    subst this
    refine ⟨C, ?_, h⟩
    rw [show g_X6_take_3 k (f + 1) C j 0 i i = g_X6_take_3_b k (g_X6_take_3 k f) C j 0 i i from rfl]
    unfold g_X6_take_3_b
    rw [if_pos (by omega)]
  | succ s ih =>
    intro i f C hi hf h
    obtain ⟨f, rfl⟩ : ∃ q, f = q + 1 := ⟨f - 1, by omega⟩
    obtain ⟨C', h1, h2⟩ := h.step hT hp64 hk hj hE hw (hb i (by omega)) (by omega : i < m) hm f
    obtain ⟨C2, h3, h4⟩ := ih (i + 1) f C' (by omega) (by omega) h1
    exact ⟨C2, by rw [h2]; exact h3, h4⟩
end BTK
