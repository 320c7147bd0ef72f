/-! CALLS: outs -/
theorem j2_nat (a : Nat) : (j2 (a : Int)).toBitVec = BitVec.ofNat 64 a := by
  unfold j2
  rw [Int64.toBitVec_ofInt, BitVec.ofInt_natCast]
theorem sh_c : ∀ i : Fin 8, ((Int32.toInt64 (i2 (8 * (i.val : Int))) &&& 63).toBitVec.smod 64).toNat = 8 * i.val := by decide
theorem j2_shl {a i : Nat} (hi : i < 8) : j2 (a : Int) <<< (Int32.toInt64 (i2 (8 * (i : Int))) &&& 63) = j2 ((a * 2 ^ (8 * i) : Nat) : Int) := by
  have h := sh_c ⟨i, hi⟩
  apply Int64.toBitVec_inj.1
  rw [Int64.toBitVec_shiftLeft, j2_nat, j2_nat, BitVec.shiftLeft_eq', h]
  apply BitVec.eq_of_toNat_eq
  rw [BitVec.toNat_shiftLeft, BitVec.toNat_ofNat, BitVec.toNat_ofNat, Nat.shiftLeft_eq]
  rw [Nat.mod_mul_mod]
theorem or_pow (m c a : Nat) (i : Nat) (hm : m = 2 ^ i) (ha : a < m) : a ||| (m * c) = m * c + a := by
  subst hm
  rw [Nat.or_comm, Nat.two_pow_add_eq_or_of_lt ha]
theorem j2_or {a b i : Nat} (ha : a < 2 ^ (8 * i)) (hi : i < 8) : j2 (a : Int) ||| j2 ((b * 2 ^ (8 * i) : Nat) : Int) = j2 ((a + b * 2 ^ (8 * i) : Nat) : Int) := by
  apply Int64.toBitVec_inj.1
  rw [Int64.toBitVec_or, j2_nat, j2_nat, j2_nat]
  apply BitVec.eq_of_toNat_eq
  rw [BitVec.toNat_or, BitVec.toNat_ofNat, BitVec.toNat_ofNat, BitVec.toNat_ofNat]
  have hi' : i = 0 ∨ i = 1 ∨ i = 2 ∨ i = 3 ∨ i = 4 ∨ i = 5 ∨ i = 6 ∨ i = 7 := by omega
  have h1 : a % 2 ^ 64 = a := by
    apply Nat.mod_eq_of_lt
    exact Nat.lt_of_lt_of_le ha (Nat.pow_le_pow_right (by decide) (by omega))
  have h2 : b * 2 ^ (8 * i) % 2 ^ 64 = 2 ^ (8 * i) * (b % 2 ^ (64 - 8 * i)) := by
    rw [← Nat.mul_mod_mul_left, ← Nat.pow_add, show 8 * i + (64 - 8 * i) = 64 by omega, Nat.mul_comm]
  have h3 : (a + b * 2 ^ (8 * i)) % 2 ^ 64 = 2 ^ (8 * i) * (b % 2 ^ (64 - 8 * i)) + a := by
    rcases hi' with rfl | rfl | rfl | rfl | rfl | rfl | rfl | rfl <;> simp only [Nat.reduceMul, Nat.reducePow, Nat.reduceSub] at ha ⊢ <;> omega
  rw [h1, h2, h3]
  exact or_pow _ _ _ _ rfl ha
theorem j2_or8 {v b : Nat} (hb : b < 256) : j2 ((v * 256 : Nat) : Int) ||| j2 (b : Int) = j2 ((v * 256 + b : Nat) : Int) := by
  have h := j2_or (a := b) (b := v) (i := 1) (by simpa using hb) (by decide)
  have e : ∀ x y : Int64, x ||| y = y ||| x := fun x y => by
    apply Int64.toBitVec_inj.1
    rw [Int64.toBitVec_or, Int64.toBitVec_or, BitVec.or_comm]
  rw [e]
  simp only [Nat.reduceMul, Nat.reducePow] at h
  rw [h, Nat.add_comm]
/-- bytes, the lowest first -/
def num8 (g : Nat → Nat) : Nat → Nat
  | 0 => 0
  | m + 1 => g 0 + 256 * num8 (fun i => g (i + 1)) m
theorem num8_last (g : Nat → Nat) : ∀ m, num8 g (m + 1) = num8 g m + g m * 2 ^ (8 * m) := by
  intro m
  induction m generalizing g with
  | zero => simp [num8]
  | succ m ih =>
    rw [show num8 g (m + 1 + 1) = g 0 + 256 * num8 (fun i => g (i + 1)) (m + 1) from rfl, ih, show num8 g (m + 1) = g 0 + 256 * num8 (fun i => g (i + 1)) m from rfl, Nat.mul_add, ← Nat.add_assoc, Nat.mul_add 8 m 1, Nat.pow_add]
    congr 1
    rw [Nat.mul_left_comm, show 2 ^ (8 * 1) = 256 from rfl, Nat.mul_comm 256 (2 ^ (8 * m))]
theorem num8_lt {g : Nat → Nat} (hg : ∀ i, g i < 256) : ∀ m, num8 g m < 2 ^ (8 * m) := by
  intro m
  induction m with
  | zero => simp [num8]
  | succ m ih =>
    rw [num8_last, Nat.mul_add 8 m 1, Nat.pow_add]
    have := hg m
    have h2 : g m * 2 ^ (8 * m) ≤ 255 * 2 ^ (8 * m) := Nat.mul_le_mul_right _ (by omega)
    simp only [Nat.reduceMul, Nat.reducePow]
    omega
section OUT
variable {A B : AM} {E : L3 → Bool} {n : Nat}
theorem t_outs_32 {k mm : Nat} (h : TB A) (g : Nat → Nat) (hg : ∀ i, i < mm → A M_out (k + i) = g i) (hg2 : ∀ i, g i < 256) (hm : mm ≤ 8) (hkm : (k : Int) + mm ≤ A M_o 5) (hmx : mm = 8 ∨ (k : Int) + mm = A M_o 5) : ∀ (m i f : Nat), i + m = mm → m < f → g_X8_outs_32 f A k (j2 (num8 g i : Int)).toInt i = some (A, (j2 (num8 g mm : Int)).toInt) := by
  have ho := h.out
  intro m
  induction m with
  | zero =>
    intro i f hi hf
    obtain ⟨f, rfl⟩ : ∃ q, f = q + 1 := ⟨f - 1, by omega⟩
    have : i = mm := by omega
    subst this
    rw [show g_X8_outs_32 (f + 1) A k (j2 (num8 g i : Int)).toInt i = g_X8_outs_32_b (g_X8_outs_32 f) A k (j2 (num8 g i : Int)).toInt i from rfl]
    unfold g_X8_outs_32_b
    by_cases e : i = 8
    · rw [if_pos (by omega)]
    · rw [if_neg (by omega), c32_ok (by omega) (by omega), if_pos (by omega)]
  | succ m ih =>
    intro i f hi hf
    obtain ⟨f, rfl⟩ : ∃ q, f = q + 1 := ⟨f - 1, by omega⟩
    rw [show g_X8_outs_32 (f + 1) A k (j2 (num8 g i : Int)).toInt i = g_X8_outs_32_b (g_X8_outs_32 f) A k (j2 (num8 g i : Int)).toInt i from rfl]
    unfold g_X8_outs_32_b
    rw [if_neg (by omega), c32_ok (by omega) (by omega), if_neg (by omega), hA_ok (by omega) (by omega), c32_ok (by omega) (by omega), show ((k : Int) + (i : Int)).toNat = k + i by omega, hg i (by omega), j2_self, j2_self, j2_shl (by omega), j2_or (num8_lt hg2 i) (by omega), ← num8_last]
    have := ih (i + 1) f (by omega) (by omega)
    rw [show ((i : Int) + 1) = ((i + 1 : Nat) : Int) by omega]
    exact this
theorem c_outs_33 {k mm : Nat} (g : Nat → Nat) (hg : ∀ i, i < mm → B C_out (k + i) % 256 = g i) (hg2 : ∀ i, g i < 256) (hm : mm ≤ 8) (hkm : k + mm ≤ 2048) : ∀ (m i f : Nat), i + m = mm → i < f → g_X1_outs_33 B f k (j2 (num8 (fun t => g (i + t)) m : Int)).toInt ((i : Int) - 1) = some (.inr (j2 (num8 g mm : Int)).toInt) := by
  intro m i
  induction i generalizing m with
  | zero =>
    intro f hi hf
    obtain ⟨f, rfl⟩ : ∃ q, f = q + 1 := ⟨f - 1, by omega⟩
    have : m = mm := by omega
    subst this
    rw [show g_X1_outs_33 B (f + 1) k (j2 (num8 (fun t => g (0 + t)) m : Int)).toInt (((0 : Nat) : Int) - 1) = g_X1_outs_33_b B (g_X1_outs_33 B f) k (j2 (num8 (fun t => g (0 + t)) m : Int)).toInt (((0 : Nat) : Int) - 1) from rfl]
    unfold g_X1_outs_33_b
    rw [if_pos (by decide)]
    simp only [Nat.zero_add]
  | succ i ih =>
    intro f hi hf
    obtain ⟨f, rfl⟩ : ∃ q, f = q + 1 := ⟨f - 1, by omega⟩
    rw [show g_X1_outs_33 B (f + 1) k (j2 (num8 (fun t => g (i + 1 + t)) m : Int)).toInt (((i + 1 : Nat) : Int) - 1) = g_X1_outs_33_b B (g_X1_outs_33 B f) k (j2 (num8 (fun t => g (i + 1 + t)) m : Int)).toInt (((i + 1 : Nat) : Int) - 1) from rfl]
    unfold g_X1_outs_33_b
    have e : ((i + 1 : Nat) : Int) - 1 = (i : Int) := by omega
    have sh := j2_shl (a := num8 (fun t => g (i + 1 + t)) m) (i := 1) (by decide)
    simp only [Nat.reduceMul, Nat.reducePow] at sh
    rw [e, if_neg (by omega), hA_ok (by omega) (by omega), c32_ok (by omega) (by omega), show ((k : Int) + (i : Int)).toNat = k + i by omega, hg i (by omega), j2_self, j2_self]
    rw [show i2 8 = i2 (8 * ((1 : Nat) : Int)) from rfl, sh, j2_or8 (hg2 i)]
    have h := ih (m + 1) f (by omega) (by omega)
    rw [show num8 (fun t => g (i + t)) (m + 1) = g (i + 0) + 256 * num8 (fun t => g (i + (t + 1))) m from rfl] at h
    rw [show (i : Int) + (-1) = (i : Int) - 1 from rfl, ← h]
    simp only [Nat.add_zero, Nat.add_assoc, Nat.add_comm 1]
    rw [Nat.mul_comm, Nat.add_comm (g i)]
theorem call_outs (h : Rel Any n E A B) (x1 : Int) : ∃ A' v w, g_X8_outs A x1 = some (A', v) ∧ g_X1_outs B x1 = some w ∧ Rel Any (n + 1) E A' B ∧ Ans wN A' v w := by
  have ho := h.tb.out
  have hm := h.top.mad
  unfold g_X1_outs g_X8_outs g_X8_outs_13 g_X8_outs_18
  rw [hm, c64_ok (by omega) (by omega)]
  by_cases q : 0 ≤ x1 ∧ x1 ≤ A M_o 5 - 1
  · obtain ⟨k, rfl⟩ := Int.eq_ofNat_of_zero_le q.1
    rw [c_in1 q, bd_v, c_there1, bd_v, gX_r, if_neg (by omega), if_pos (by omega), t_fails (Or.inl rfl), gB2_v, if_pos rfl, if_pos rfl]
    obtain ⟨mm, hmm⟩ : ∃ mm : Nat, mnZ (A M_o 5 - k) 8 = mm := ⟨(mnZ (A M_o 5 - k) 8).toNat, by unfold mnZ; split <;> omega⟩
    have m1 : mm ≤ 8 := by unfold mnZ at hmm; split at hmm <;> omega
    have m2 : (k : Int) + mm ≤ A M_o 5 := by unfold mnZ at hmm; split at hmm <;> omega
    have m3 : mm = 8 ∨ (k : Int) + mm = A M_o 5 := by unfold mnZ at hmm; split at hmm <;> omega
    have ov := h.top.ovl
    have g2 : ∀ i, (A M_out (k + i)).toNat < 256 := fun i => by have := ov (k + i); omega
    have r1 := t_outs_32 (A := uA A M_o 0 0) (k := k) (mm := mm) h.tb.o0 (fun i => (A M_out (k + i)).toNat) (fun i _ => by have := ov (k + i); show A M_out (k + i) = _; omega) g2 m1 m2 m3 mm 0 FU (by omega) (by unfold FU; omega)
    have r2 := c_outs_33 (B := B) (k := k) (mm := mm) (fun i => (A M_out (k + i)).toNat) (fun i hi => by rw [h.top.out (k + i) (by omega), mod_b8]; have := ov (k + i); omega) g2 m1 (by omega) 0 mm FU (by omega) (by unfold FU; omega)
    rw [c32_ok (by omega) (by omega), hmm, c32_ok (by omega) (by omega)]
    exact ⟨_, _, _, r1, r2, h.o0 (v := 0) (by omega), ans_r rfl⟩
  · rw [c_in0 q, bd_v, c_there0, bd_v, gX_l]
    refine ⟨uA A M_o 0 1, 0, _, ?_, rfl, h.o0 (v := 1) (by omega), ans_l rfl⟩
    by_cases z : x1 < 0
    · rw [if_pos z, t_fails (Or.inr rfl), gB2_v, if_neg (by decide), if_neg (by decide)]
    · rw [if_neg z, if_neg (by omega), t_fails (Or.inr rfl), gB2_v, if_neg (by decide), if_neg (by decide)]
end OUT
