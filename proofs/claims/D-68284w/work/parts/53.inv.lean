/-! WHAT HOLDS OF THE TWIN between calls -/
def TS (A : AM) (k j : Nat) : Prop :=
  (A M_there (256 * k + j) = 0 ∨ A M_there (256 * k + j) = 1) ∧
  (A M_finished (256 * k + j) = 0 ∨ A M_finished (256 * k + j) = 1) ∧
  (0 ≤ A M_end (256 * k + j) ∧ A M_end (256 * k + j) ≤ 3) ∧
  (A M_end (256 * k + j) ≠ 0 → A M_finished (256 * k + j) ≠ 0) ∧
  (A M_tellReset (256 * k + j) = 0 ∨ A M_tellReset (256 * k + j) = 1) ∧
  (A M_tellGrant (256 * k + j) = 0 ∨ A M_tellGrant (256 * k + j) = 1) ∧
  (A M_tellStop (256 * k + j) = 0 ∨ A M_tellStop (256 * k + j) = 1) ∧
  (A M_stopped (256 * k + j) = 0 ∨ A M_stopped (256 * k + j) = 1) ∧
  (A M_wasReset (256 * k + j) = 0 ∨ A M_wasReset (256 * k + j) = 1) ∧
  (A M_over (256 * k + j) = 0 ∨ A M_over (256 * k + j) = 1) ∧
  (A M_tellReset (256 * k + j) ≠ 0 ∨ A M_finished (256 * k + j) ≠ 0 ∨ A M_resets (256 * k + j) ≠ 0 ∨ 0 < wl A k j → A M_there (256 * k + j) ≠ 0 ∧ hs k j = true) ∧
  (A M_tellStop (256 * k + j) ≠ 0 ∨ A M_tellGrant (256 * k + j) ≠ 0 ∨ A M_highest (256 * k + j) ≠ 0 ∨ A M_read (256 * k + j) ≠ 0 ∨ A M_size (256 * k + j) ≠ -1 ∨ A M_wasReset (256 * k + j) ≠ 0 ∨ A M_stopped (256 * k + j) ≠ 0 → A M_there (256 * k + j) ≠ 0 ∧ hr k j = true) ∧
  (A M_there (256 * k + j) = 0 → A M_toldLimit (256 * k + j) = -1 ∧ A M_stopCode (256 * k + j) = 0) ∧
  (∀ o : Nat, (o : Int) < A M_read (256 * k + j) → hasB A k j o = true) ∧
  (∀ o, hasB A k j o = true → (o : Int) < A M_highest (256 * k + j)) ∧
  (0 ≤ A M_size (256 * k + j) → A M_highest (256 * k + j) ≤ A M_size (256 * k + j)) ∧
  (A M_wasReset (256 * k + j) ≠ 0 → A M_size (256 * k + j) = A M_highest (256 * k + j)) ∧
  (∀ o, o < wl A k j → (mkA A k j o = 0 ↔ sn A k j ≤ o))
theorem TS.t01 {A : AM} {k j : Nat} (h : TS A k j) : A M_there (256 * k + j) = 0 ∨ A M_there (256 * k + j) = 1 := h.1
theorem TS.f01 {A : AM} {k j : Nat} (h : TS A k j) : A M_finished (256 * k + j) = 0 ∨ A M_finished (256 * k + j) = 1 := h.2.1
theorem TS.e03 {A : AM} {k j : Nat} (h : TS A k j) : 0 ≤ A M_end (256 * k + j) ∧ A M_end (256 * k + j) ≤ 3 := h.2.2.1
theorem TS.enf {A : AM} {k j : Nat} (h : TS A k j) : A M_end (256 * k + j) ≠ 0 → A M_finished (256 * k + j) ≠ 0 := h.2.2.2.1
theorem TS.r01 {A : AM} {k j : Nat} (h : TS A k j) : A M_tellReset (256 * k + j) = 0 ∨ A M_tellReset (256 * k + j) = 1 := h.2.2.2.2.1
theorem TS.g01 {A : AM} {k j : Nat} (h : TS A k j) : A M_tellGrant (256 * k + j) = 0 ∨ A M_tellGrant (256 * k + j) = 1 := h.2.2.2.2.2.1
theorem TS.s01 {A : AM} {k j : Nat} (h : TS A k j) : A M_tellStop (256 * k + j) = 0 ∨ A M_tellStop (256 * k + j) = 1 := h.2.2.2.2.2.2.1
theorem TS.p01 {A : AM} {k j : Nat} (h : TS A k j) : A M_stopped (256 * k + j) = 0 ∨ A M_stopped (256 * k + j) = 1 := h.2.2.2.2.2.2.2.1
theorem TS.w01 {A : AM} {k j : Nat} (h : TS A k j) : A M_wasReset (256 * k + j) = 0 ∨ A M_wasReset (256 * k + j) = 1 := h.2.2.2.2.2.2.2.2.1
theorem TS.o01 {A : AM} {k j : Nat} (h : TS A k j) : A M_over (256 * k + j) = 0 ∨ A M_over (256 * k + j) = 1 := h.2.2.2.2.2.2.2.2.2.1
theorem TS.sth {A : AM} {k j : Nat} (h : TS A k j) : A M_tellReset (256 * k + j) ≠ 0 ∨ A M_finished (256 * k + j) ≠ 0 ∨ A M_resets (256 * k + j) ≠ 0 ∨ 0 < wl A k j → A M_there (256 * k + j) ≠ 0 ∧ hs k j = true := h.2.2.2.2.2.2.2.2.2.2.1
theorem TS.rth {A : AM} {k j : Nat} (h : TS A k j) : A M_tellStop (256 * k + j) ≠ 0 ∨ A M_tellGrant (256 * k + j) ≠ 0 ∨ A M_highest (256 * k + j) ≠ 0 ∨ A M_read (256 * k + j) ≠ 0 ∨ A M_size (256 * k + j) ≠ -1 ∨ A M_wasReset (256 * k + j) ≠ 0 ∨ A M_stopped (256 * k + j) ≠ 0 → A M_there (256 * k + j) ≠ 0 ∧ hr k j = true := h.2.2.2.2.2.2.2.2.2.2.2.1
theorem TS.tln {A : AM} {k j : Nat} (h : TS A k j) : A M_there (256 * k + j) = 0 → A M_toldLimit (256 * k + j) = -1 ∧ A M_stopCode (256 * k + j) = 0 := h.2.2.2.2.2.2.2.2.2.2.2.2.1
theorem TS.rdb {A : AM} {k j : Nat} (h : TS A k j) : ∀ o : Nat, (o : Int) < A M_read (256 * k + j) → hasB A k j o = true := h.2.2.2.2.2.2.2.2.2.2.2.2.2.1
theorem TS.hsh {A : AM} {k j : Nat} (h : TS A k j) : ∀ o, hasB A k j o = true → (o : Int) < A M_highest (256 * k + j) := h.2.2.2.2.2.2.2.2.2.2.2.2.2.2.1
theorem TS.shz {A : AM} {k j : Nat} (h : TS A k j) : 0 ≤ A M_size (256 * k + j) → A M_highest (256 * k + j) ≤ A M_size (256 * k + j) := h.2.2.2.2.2.2.2.2.2.2.2.2.2.2.2.1
theorem TS.wsz {A : AM} {k j : Nat} (h : TS A k j) : A M_wasReset (256 * k + j) ≠ 0 → A M_size (256 * k + j) = A M_highest (256 * k + j) := h.2.2.2.2.2.2.2.2.2.2.2.2.2.2.2.2.1
theorem TS.nwm {A : AM} {k j : Nat} (h : TS A k j) : ∀ o, o < wl A k j → (mkA A k j o = 0 ↔ sn A k j ≤ o) := h.2.2.2.2.2.2.2.2.2.2.2.2.2.2.2.2.2
theorem TS.make {A : AM} {k j : Nat} (t01 : A M_there (256 * k + j) = 0 ∨ A M_there (256 * k + j) = 1) (f01 : A M_finished (256 * k + j) = 0 ∨ A M_finished (256 * k + j) = 1) (e03 : 0 ≤ A M_end (256 * k + j) ∧ A M_end (256 * k + j) ≤ 3) (enf : A M_end (256 * k + j) ≠ 0 → A M_finished (256 * k + j) ≠ 0) (r01 : A M_tellReset (256 * k + j) = 0 ∨ A M_tellReset (256 * k + j) = 1) (g01 : A M_tellGrant (256 * k + j) = 0 ∨ A M_tellGrant (256 * k + j) = 1) (s01 : A M_tellStop (256 * k + j) = 0 ∨ A M_tellStop (256 * k + j) = 1) (p01 : A M_stopped (256 * k + j) = 0 ∨ A M_stopped (256 * k + j) = 1) (w01 : A M_wasReset (256 * k + j) = 0 ∨ A M_wasReset (256 * k + j) = 1) (o01 : A M_over (256 * k + j) = 0 ∨ A M_over (256 * k + j) = 1) (sth : A M_tellReset (256 * k + j) ≠ 0 ∨ A M_finished (256 * k + j) ≠ 0 ∨ A M_resets (256 * k + j) ≠ 0 ∨ 0 < wl A k j → A M_there (256 * k + j) ≠ 0 ∧ hs k j = true) (rth : A M_tellStop (256 * k + j) ≠ 0 ∨ A M_tellGrant (256 * k + j) ≠ 0 ∨ A M_highest (256 * k + j) ≠ 0 ∨ A M_read (256 * k + j) ≠ 0 ∨ A M_size (256 * k + j) ≠ -1 ∨ A M_wasReset (256 * k + j) ≠ 0 ∨ A M_stopped (256 * k + j) ≠ 0 → A M_there (256 * k + j) ≠ 0 ∧ hr k j = true) (tln : A M_there (256 * k + j) = 0 → A M_toldLimit (256 * k + j) = -1 ∧ A M_stopCode (256 * k + j) = 0) (rdb : ∀ o : Nat, (o : Int) < A M_read (256 * k + j) → hasB A k j o = true) (hsh : ∀ o, hasB A k j o = true → (o : Int) < A M_highest (256 * k + j)) (shz : 0 ≤ A M_size (256 * k + j) → A M_highest (256 * k + j) ≤ A M_size (256 * k + j)) (wsz : A M_wasReset (256 * k + j) ≠ 0 → A M_size (256 * k + j) = A M_highest (256 * k + j)) (nwm : ∀ o, o < wl A k j → (mkA A k j o = 0 ↔ sn A k j ≤ o)) : TS A k j := ⟨t01, f01, e03, enf, r01, g01, s01, p01, w01, o01, sth, rth, tln, rdb, hsh, shz, wsz, nwm⟩
def TK (A : AM) (k : Nat) : Prop :=
  (A M_o 1 ≠ 0 → ∀ w, w < 2 → A M_opened (2 * k + w) ≤ A M_limits (3 * k + 1 + w) ∧ A M_limits (3 * k + 1 + w) ≤ 64) ∧
  (∀ w, w < 2 → A M_theirs (2 * k + w) ≤ A M_granted (2 * k + w)) ∧
  (A M_tellData k = 0 ∨ A M_tellData k = 1) ∧
  (∀ w, w < 2 → A M_tellStreams (2 * k + w) = 0 ∨ A M_tellStreams (2 * k + w) = 1) ∧
  (∀ w, w < 2 → A M_grants (16 * k + 8 + w) ≤ 64) ∧
  (A M_o 1 = 0 → A M_limits (3 * k) = 0 ∧ A M_dataGrant k = A M_grants (16 * k + 4) ∧ A M_total k = 0 ∧ A M_pieces k = 0) ∧
  (A M_o 1 = 0 → ∀ w, w < 2 → A M_opened (2 * k + w) = 0 ∧ A M_theirs (2 * k + w) = 0 ∧ A M_refused (2 * k + w) = 0 ∧ A M_limits (3 * k + 1 + w) = 0 ∧ A M_granted (2 * k + w) = A M_grants (16 * k + 8 + w))
theorem TK.lim {A : AM} {k : Nat} (h : TK A k) : A M_o 1 ≠ 0 → ∀ w, w < 2 → A M_opened (2 * k + w) ≤ A M_limits (3 * k + 1 + w) ∧ A M_limits (3 * k + 1 + w) ≤ 64 := h.1
theorem TK.thg {A : AM} {k : Nat} (h : TK A k) : ∀ w, w < 2 → A M_theirs (2 * k + w) ≤ A M_granted (2 * k + w) := h.2.1
theorem TK.d01 {A : AM} {k : Nat} (h : TK A k) : A M_tellData k = 0 ∨ A M_tellData k = 1 := h.2.2.1
theorem TK.s01 {A : AM} {k : Nat} (h : TK A k) : ∀ w, w < 2 → A M_tellStreams (2 * k + w) = 0 ∨ A M_tellStreams (2 * k + w) = 1 := h.2.2.2.1
theorem TK.g89 {A : AM} {k : Nat} (h : TK A k) : ∀ w, w < 2 → A M_grants (16 * k + 8 + w) ≤ 64 := h.2.2.2.2.1
theorem TK.una {A : AM} {k : Nat} (h : TK A k) : A M_o 1 = 0 → A M_limits (3 * k) = 0 ∧ A M_dataGrant k = A M_grants (16 * k + 4) ∧ A M_total k = 0 ∧ A M_pieces k = 0 := h.2.2.2.2.2.1
theorem TK.unw {A : AM} {k : Nat} (h : TK A k) : A M_o 1 = 0 → ∀ w, w < 2 → A M_opened (2 * k + w) = 0 ∧ A M_theirs (2 * k + w) = 0 ∧ A M_refused (2 * k + w) = 0 ∧ A M_limits (3 * k + 1 + w) = 0 ∧ A M_granted (2 * k + w) = A M_grants (16 * k + 8 + w) := h.2.2.2.2.2.2
theorem TK.make {A : AM} {k : Nat} (lim : A M_o 1 ≠ 0 → ∀ w, w < 2 → A M_opened (2 * k + w) ≤ A M_limits (3 * k + 1 + w) ∧ A M_limits (3 * k + 1 + w) ≤ 64) (thg : ∀ w, w < 2 → A M_theirs (2 * k + w) ≤ A M_granted (2 * k + w)) (d01 : A M_tellData k = 0 ∨ A M_tellData k = 1) (s01 : ∀ w, w < 2 → A M_tellStreams (2 * k + w) = 0 ∨ A M_tellStreams (2 * k + w) = 1) (g89 : ∀ w, w < 2 → A M_grants (16 * k + 8 + w) ≤ 64) (una : A M_o 1 = 0 → A M_limits (3 * k) = 0 ∧ A M_dataGrant k = A M_grants (16 * k + 4) ∧ A M_total k = 0 ∧ A M_pieces k = 0) (unw : A M_o 1 = 0 → ∀ w, w < 2 → A M_opened (2 * k + w) = 0 ∧ A M_theirs (2 * k + w) = 0 ∧ A M_refused (2 * k + w) = 0 ∧ A M_limits (3 * k + 1 + w) = 0 ∧ A M_granted (2 * k + w) = A M_grants (16 * k + 8 + w)) : TK A k := ⟨lim, thg, d01, s01, g89, una, unw⟩
/-- which streams are there -/
def TH (A : AM) (k j : Nat) : Prop := A M_there (256 * k + j) ≠ 0 ↔ ((j / 4 : Nat) : Int) < (if own k j = true then A M_opened (2 * k + wy j) else A M_theirs (2 * k + wy j))
/-- which streams were seen to be over -/
def OV (A : AM) (k j : Nat) : Prop := A M_over (256 * k + j) ≠ 0 ↔ own k j = false ∧ A M_there (256 * k + j) ≠ 0 ∧ ovr A k j = true
/-- a frame on the line -/
def LnOK (A : AM) (p k kind a b n : Nat) (c : Int) : Prop := A M_lineSide p = k ∧ k < 2 ∧ A M_lineKind p = kind ∧ A M_lineA p = a ∧ A M_lineB p = b ∧ A M_lineSize p = n ∧ A M_lineC p = c ∧ (a : Int) < 4611686018427387904 ∧ (b : Int) < 4611686018427387904 ∧ 0 ≤ c ∧ c < 4611686018427387904 ∧ n ≤ 1200 ∧ (kind = 4 ∨ kind = 5 ∨ kind = 8 ∨ (16 ≤ kind ∧ kind ≤ 23)) ∧ (kind ≠ 8 → n = 0)
  ∧ (kind = 4 ∨ kind = 5 ∨ kind = 8 ∨ kind = 17 ∨ kind = 21 → a < 256)
  ∧ (kind = 4 → A M_resets (256 * k + a) ≠ 0)
  ∧ (kind = 5 ∨ kind = 17 → A M_there (256 * k + a) ≠ 0 ∧ hr k a = true)
  ∧ (kind = 21 ∨ kind = 8 → A M_there (256 * k + a) ≠ 0 ∧ hs k a = true)
  ∧ (kind = 8 → b + n ≤ wl A k a ∧ (∀ o, b ≤ o → o < b + n → mkA A k a o = 1) ∧ (c = 0 ∨ c = 1) ∧ (c = 1 → A M_finished (256 * k + a) ≠ 0))
def TL (A : AM) (p : Nat) : Prop :=
  (A M_lineUsed p = 0 ∨ A M_lineUsed p = 1) ∧
  (A M_delivered p = 0 ∨ A M_delivered p = 1) ∧
  (A M_lineUsed p ≠ 0 → ∃ k kind a b n : Nat, ∃ c : Int, LnOK A p k kind a b n c) ∧
  (∀ i, i < 1200 → -128 ≤ A M_lineData (1200 * p + i) ∧ A M_lineData (1200 * p + i) < 128)
theorem TL.u01 {A : AM} {p : Nat} (h : TL A p) : A M_lineUsed p = 0 ∨ A M_lineUsed p = 1 := h.1
theorem TL.d01 {A : AM} {p : Nat} (h : TL A p) : A M_delivered p = 0 ∨ A M_delivered p = 1 := h.2.1
theorem TL.frm {A : AM} {p : Nat} (h : TL A p) : A M_lineUsed p ≠ 0 → ∃ k kind a b n : Nat, ∃ c : Int, LnOK A p k kind a b n c := h.2.2.1
theorem TL.dat {A : AM} {p : Nat} (h : TL A p) : ∀ i, i < 1200 → -128 ≤ A M_lineData (1200 * p + i) ∧ A M_lineData (1200 * p + i) < 128 := h.2.2.2
theorem TL.make {A : AM} {p : Nat} (u01 : A M_lineUsed p = 0 ∨ A M_lineUsed p = 1) (d01 : A M_delivered p = 0 ∨ A M_delivered p = 1) (frm : A M_lineUsed p ≠ 0 → ∃ k kind a b n : Nat, ∃ c : Int, LnOK A p k kind a b n c) (dat : ∀ i, i < 1200 → -128 ≤ A M_lineData (1200 * p + i) ∧ A M_lineData (1200 * p + i) < 128) : TL A p := ⟨u01, d01, frm, dat⟩
/-- frames of one stream on the line are apart -/
def TF (A : AM) : Prop := ∀ p q, p < 64 → q < 64 → p ≠ q → A M_lineUsed p ≠ 0 → A M_lineUsed q ≠ 0 → A M_lineKind p = 8 → A M_lineKind q = 8 → A M_lineSide p = A M_lineSide q → A M_lineA p = A M_lineA q → 0 < A M_lineSize p → 0 < A M_lineSize q → A M_lineB p + A M_lineSize p ≤ A M_lineB q ∨ A M_lineB q + A M_lineSize q ≤ A M_lineB p
/-- slots of what the other side has written, without a piece -/
def uns (A : AM) (k j : Nat) : Nat := (List.range' 0 ((wl A (1 - k) j + 63) / 64)).countP (fun n : Nat => (pa A k j (n : Int)).isNone)
def Psi (A : AM) (k : Nat) : Int := A M_pieces k + sumTo (fun j => (uns A k j : Int)) 256
def Cnt (A : AM) (n : Nat) : Prop := ∃ tc : Nat, A M_o 3 ≤ 8 * tc ∧ Psi A 0 + Psi A 1 + tc ≤ n
def Rel (P : Nat → Nat → Prop) (n : Nat) (E : L3 → Bool) (A B : AM) : Prop :=
  (TB A) ∧
  (PF A) ∧
  (∀ k j, k < 2 → j < 256 → TS A k j) ∧
  (∀ k j, k < 2 → j < 256 → TH A k j) ∧
  (∀ k j, k < 2 → j < 256 → P k j → OV A k j) ∧
  (∀ k, k < 2 → TK A k) ∧
  (∀ p, p < 64 → TL A p) ∧
  (TF A) ∧
  (Cnt A n) ∧
  (∀ k, k < 2 → B (T_o k) 5 ≤ n) ∧
  (∀ k, k < 2 → B (P_o k) 3 ≤ n) ∧
  (CEx E A) ∧
  (CTop A B) ∧
  (∀ k, k < 2 → CGr A B k) ∧
  (∀ k, k < 2 → CHl A B k) ∧
  (∀ k w, k < 2 → w < 2 → CWy A B k w) ∧
  (∀ k j, k < 2 → j < 256 → E (S_o k j) = true → CSd A B k j) ∧
  (∀ k j, k < 2 → j < 256 → E (R_o k j) = true → CRv A B k j) ∧
  (∀ k, k < 2 → ∃ ch, CSt E A B k ch) ∧
  (∀ k, k < 2 → ∃ ch fl, CSp E A B k ch fl) ∧
  (∀ k, k < 2 → ∃ ch fl, CBl E A B k ch fl) ∧
  (∀ p, p < 64 → CLn A B p)
theorem Rel.tb {P : Nat → Nat → Prop} {n : Nat} {E : L3 → Bool} {A B : AM} (h : Rel P n E A B) : TB A := h.1
theorem Rel.pf {P : Nat → Nat → Prop} {n : Nat} {E : L3 → Bool} {A B : AM} (h : Rel P n E A B) : PF A := h.2.1
theorem Rel.ts {P : Nat → Nat → Prop} {n : Nat} {E : L3 → Bool} {A B : AM} (h : Rel P n E A B) : ∀ k j, k < 2 → j < 256 → TS A k j := h.2.2.1
theorem Rel.th {P : Nat → Nat → Prop} {n : Nat} {E : L3 → Bool} {A B : AM} (h : Rel P n E A B) : ∀ k j, k < 2 → j < 256 → TH A k j := h.2.2.2.1
theorem Rel.ov {P : Nat → Nat → Prop} {n : Nat} {E : L3 → Bool} {A B : AM} (h : Rel P n E A B) : ∀ k j, k < 2 → j < 256 → P k j → OV A k j := h.2.2.2.2.1
theorem Rel.tk {P : Nat → Nat → Prop} {n : Nat} {E : L3 → Bool} {A B : AM} (h : Rel P n E A B) : ∀ k, k < 2 → TK A k := h.2.2.2.2.2.1
theorem Rel.tl {P : Nat → Nat → Prop} {n : Nat} {E : L3 → Bool} {A B : AM} (h : Rel P n E A B) : ∀ p, p < 64 → TL A p := h.2.2.2.2.2.2.1
theorem Rel.tf {P : Nat → Nat → Prop} {n : Nat} {E : L3 → Bool} {A B : AM} (h : Rel P n E A B) : TF A := h.2.2.2.2.2.2.2.1
theorem Rel.cnt {P : Nat → Nat → Prop} {n : Nat} {E : L3 → Bool} {A B : AM} (h : Rel P n E A B) : Cnt A n := h.2.2.2.2.2.2.2.2.1
theorem Rel.nst {P : Nat → Nat → Prop} {n : Nat} {E : L3 → Bool} {A B : AM} (h : Rel P n E A B) : ∀ k, k < 2 → B (T_o k) 5 ≤ n := h.2.2.2.2.2.2.2.2.2.1
theorem Rel.nsp {P : Nat → Nat → Prop} {n : Nat} {E : L3 → Bool} {A B : AM} (h : Rel P n E A B) : ∀ k, k < 2 → B (P_o k) 3 ≤ n := h.2.2.2.2.2.2.2.2.2.2.1
theorem Rel.ex {P : Nat → Nat → Prop} {n : Nat} {E : L3 → Bool} {A B : AM} (h : Rel P n E A B) : CEx E A := h.2.2.2.2.2.2.2.2.2.2.2.1
theorem Rel.top {P : Nat → Nat → Prop} {n : Nat} {E : L3 → Bool} {A B : AM} (h : Rel P n E A B) : CTop A B := h.2.2.2.2.2.2.2.2.2.2.2.2.1
theorem Rel.gr {P : Nat → Nat → Prop} {n : Nat} {E : L3 → Bool} {A B : AM} (h : Rel P n E A B) : ∀ k, k < 2 → CGr A B k := h.2.2.2.2.2.2.2.2.2.2.2.2.2.1
theorem Rel.hl {P : Nat → Nat → Prop} {n : Nat} {E : L3 → Bool} {A B : AM} (h : Rel P n E A B) : ∀ k, k < 2 → CHl A B k := h.2.2.2.2.2.2.2.2.2.2.2.2.2.2.1
theorem Rel.wys {P : Nat → Nat → Prop} {n : Nat} {E : L3 → Bool} {A B : AM} (h : Rel P n E A B) : ∀ k w, k < 2 → w < 2 → CWy A B k w := h.2.2.2.2.2.2.2.2.2.2.2.2.2.2.2.1
theorem Rel.sd {P : Nat → Nat → Prop} {n : Nat} {E : L3 → Bool} {A B : AM} (h : Rel P n E A B) : ∀ k j, k < 2 → j < 256 → E (S_o k j) = true → CSd A B k j := h.2.2.2.2.2.2.2.2.2.2.2.2.2.2.2.2.1
theorem Rel.rv {P : Nat → Nat → Prop} {n : Nat} {E : L3 → Bool} {A B : AM} (h : Rel P n E A B) : ∀ k j, k < 2 → j < 256 → E (R_o k j) = true → CRv A B k j := h.2.2.2.2.2.2.2.2.2.2.2.2.2.2.2.2.2.1
theorem Rel.st {P : Nat → Nat → Prop} {n : Nat} {E : L3 → Bool} {A B : AM} (h : Rel P n E A B) : ∀ k, k < 2 → ∃ ch, CSt E A B k ch := h.2.2.2.2.2.2.2.2.2.2.2.2.2.2.2.2.2.2.1
theorem Rel.sp {P : Nat → Nat → Prop} {n : Nat} {E : L3 → Bool} {A B : AM} (h : Rel P n E A B) : ∀ k, k < 2 → ∃ ch fl, CSp E A B k ch fl := h.2.2.2.2.2.2.2.2.2.2.2.2.2.2.2.2.2.2.2.1
theorem Rel.bl {P : Nat → Nat → Prop} {n : Nat} {E : L3 → Bool} {A B : AM} (h : Rel P n E A B) : ∀ k, k < 2 → ∃ ch fl, CBl E A B k ch fl := h.2.2.2.2.2.2.2.2.2.2.2.2.2.2.2.2.2.2.2.2.1
theorem Rel.ln {P : Nat → Nat → Prop} {n : Nat} {E : L3 → Bool} {A B : AM} (h : Rel P n E A B) : ∀ p, p < 64 → CLn A B p := h.2.2.2.2.2.2.2.2.2.2.2.2.2.2.2.2.2.2.2.2.2
theorem Rel.make {P : Nat → Nat → Prop} {n : Nat} {E : L3 → Bool} {A B : AM} (tb : TB A) (pf : PF A) (ts : ∀ k j, k < 2 → j < 256 → TS A k j) (th : ∀ k j, k < 2 → j < 256 → TH A k j) (ov : ∀ k j, k < 2 → j < 256 → P k j → OV A k j) (tk : ∀ k, k < 2 → TK A k) (tl : ∀ p, p < 64 → TL A p) (tf : TF A) (cnt : Cnt A n) (nst : ∀ k, k < 2 → B (T_o k) 5 ≤ n) (nsp : ∀ k, k < 2 → B (P_o k) 3 ≤ n) (ex : CEx E A) (top : CTop A B) (gr : ∀ k, k < 2 → CGr A B k) (hl : ∀ k, k < 2 → CHl A B k) (wys : ∀ k w, k < 2 → w < 2 → CWy A B k w) (sd : ∀ k j, k < 2 → j < 256 → E (S_o k j) = true → CSd A B k j) (rv : ∀ k j, k < 2 → j < 256 → E (R_o k j) = true → CRv A B k j) (st : ∀ k, k < 2 → ∃ ch, CSt E A B k ch) (sp : ∀ k, k < 2 → ∃ ch fl, CSp E A B k ch fl) (bl : ∀ k, k < 2 → ∃ ch fl, CBl E A B k ch fl) (ln : ∀ p, p < 64 → CLn A B p) : Rel P n E A B := ⟨tb, pf, ts, th, ov, tk, tl, tf, cnt, nst, nsp, ex, top, gr, hl, wys, sd, rv, st, sp, bl, ln⟩
