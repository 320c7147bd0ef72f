/-! THE TWIN: what bounds its numbers; writing, finishing, resets, stops -/
def TB (A : AM) : Prop :=
  (A M_o 1 = 0 ∨ A M_o 1 = 1) ∧
  (0 ≤ A M_o 3 ∧ A M_o 3 ≤ 2048) ∧
  (∀ i, 0 ≤ A M_tape i ∧ A M_tape i < 256) ∧
  (0 ≤ A M_o 5 ∧ A M_o 5 ≤ 2048) ∧
  (∀ k, k < 2 → 0 ≤ A M_total k ∧ A M_total k ≤ 65536) ∧
  (∀ i, 0 ≤ A M_mark i ∧ A M_mark i ≤ 3) ∧
  (∀ i, -128 ≤ A M_value i ∧ A M_value i < 128) ∧
  (∀ k, k < 2 → 0 ≤ A M_pieces k ∧ A M_pieces k ≤ 1400) ∧
  (∀ i, -128 ≤ A M_came i ∧ A M_came i < 128) ∧
  (∀ k j o, k < 2 → j < 256 → hasB A k j o = true → o < 65536) ∧
  (∀ k j, k < 2 → j < 256 → 0 ≤ A M_read (256 * k + j) ∧ A M_read (256 * k + j) ≤ 65536) ∧
  (∀ k j, k < 2 → j < 256 → 0 ≤ A M_resets (256 * k + j) ∧ A M_resets (256 * k + j) ≤ 2) ∧
  (∀ k j, k < 2 → j < 256 → 0 ≤ A M_highest (256 * k + j) ∧ A M_highest (256 * k + j) ≤ 65536) ∧
  (∀ k j, k < 2 → j < 256 → -1 ≤ A M_size (256 * k + j) ∧ A M_size (256 * k + j) ≤ 65536) ∧
  (∀ k j, k < 2 → j < 256 → A M_wasReset (256 * k + j) ≠ 0 → 0 ≤ A M_size (256 * k + j)) ∧
  (∀ k i, k < 2 → 4 ≤ i → i ≤ 9 → 0 ≤ A M_grants (16 * k + i) ∧ A M_grants (16 * k + i) ≤ 65536) ∧
  (∀ w, w < 4 → 0 ≤ A M_granted w ∧ A M_granted w ≤ 64) ∧
  (∀ w, w < 4 → 0 ≤ A M_opened w ∧ A M_opened w ≤ 64) ∧
  (∀ w, w < 4 → 0 ≤ A M_theirs w ∧ A M_theirs w ≤ 64) ∧
  (∀ k, k < 2 → 0 ≤ A M_dataGrant k ∧ A M_dataGrant k ≤ 65536) ∧
  (∀ k j, k < 2 → j < 256 → 0 ≤ A M_grant (256 * k + j) ∧ A M_grant (256 * k + j) ≤ 65536) ∧
  (∀ k j, k < 2 → j < 256 → 0 ≤ A M_limit (256 * k + j) ∧ A M_limit (256 * k + j) ≤ 4611686018427387903) ∧
  (∀ w, w < 6 → 0 ≤ A M_limits w ∧ A M_limits w ≤ 4611686018427387903) ∧
  (∀ k, k < 2 → -1 ≤ A M_lastStream k ∧ A M_lastStream k ≤ 255) ∧
  (∀ k j, k < 2 → j < 256 → 0 ≤ A M_stopCode (256 * k + j) ∧ A M_stopCode (256 * k + j) ≤ 4611686018427387903) ∧
  (∀ k j, k < 2 → j < 256 → 0 ≤ A M_code (256 * k + j) ∧ A M_code (256 * k + j) ≤ 4611686018427387903)
theorem TB.jnd {A : AM} (h : TB A) : A M_o 1 = 0 ∨ A M_o 1 = 1 := h.1
theorem TB.tap {A : AM} (h : TB A) : 0 ≤ A M_o 3 ∧ A M_o 3 ≤ 2048 := h.2.1
theorem TB.tpv {A : AM} (h : TB A) : ∀ i, 0 ≤ A M_tape i ∧ A M_tape i < 256 := h.2.2.1
theorem TB.out {A : AM} (h : TB A) : 0 ≤ A M_o 5 ∧ A M_o 5 ≤ 2048 := h.2.2.2.1
theorem TB.tot {A : AM} (h : TB A) : ∀ k, k < 2 → 0 ≤ A M_total k ∧ A M_total k ≤ 65536 := h.2.2.2.2.1
theorem TB.mrk {A : AM} (h : TB A) : ∀ i, 0 ≤ A M_mark i ∧ A M_mark i ≤ 3 := h.2.2.2.2.2.1
theorem TB.val {A : AM} (h : TB A) : ∀ i, -128 ≤ A M_value i ∧ A M_value i < 128 := h.2.2.2.2.2.2.1
theorem TB.pcs {A : AM} (h : TB A) : ∀ k, k < 2 → 0 ≤ A M_pieces k ∧ A M_pieces k ≤ 1400 := h.2.2.2.2.2.2.2.1
theorem TB.cam {A : AM} (h : TB A) : ∀ i, -128 ≤ A M_came i ∧ A M_came i < 128 := h.2.2.2.2.2.2.2.2.1
theorem TB.hsb {A : AM} (h : TB A) : ∀ k j o, k < 2 → j < 256 → hasB A k j o = true → o < 65536 := h.2.2.2.2.2.2.2.2.2.1
theorem TB.rds {A : AM} (h : TB A) : ∀ k j, k < 2 → j < 256 → 0 ≤ A M_read (256 * k + j) ∧ A M_read (256 * k + j) ≤ 65536 := h.2.2.2.2.2.2.2.2.2.2.1
theorem TB.res {A : AM} (h : TB A) : ∀ k j, k < 2 → j < 256 → 0 ≤ A M_resets (256 * k + j) ∧ A M_resets (256 * k + j) ≤ 2 := h.2.2.2.2.2.2.2.2.2.2.2.1
theorem TB.hig {A : AM} (h : TB A) : ∀ k j, k < 2 → j < 256 → 0 ≤ A M_highest (256 * k + j) ∧ A M_highest (256 * k + j) ≤ 65536 := h.2.2.2.2.2.2.2.2.2.2.2.2.1
theorem TB.siz {A : AM} (h : TB A) : ∀ k j, k < 2 → j < 256 → -1 ≤ A M_size (256 * k + j) ∧ A M_size (256 * k + j) ≤ 65536 := h.2.2.2.2.2.2.2.2.2.2.2.2.2.1
theorem TB.wrs {A : AM} (h : TB A) : ∀ k j, k < 2 → j < 256 → A M_wasReset (256 * k + j) ≠ 0 → 0 ≤ A M_size (256 * k + j) := h.2.2.2.2.2.2.2.2.2.2.2.2.2.2.1
theorem TB.gra {A : AM} (h : TB A) : ∀ k i, k < 2 → 4 ≤ i → i ≤ 9 → 0 ≤ A M_grants (16 * k + i) ∧ A M_grants (16 * k + i) ≤ 65536 := h.2.2.2.2.2.2.2.2.2.2.2.2.2.2.2.1
theorem TB.grt {A : AM} (h : TB A) : ∀ w, w < 4 → 0 ≤ A M_granted w ∧ A M_granted w ≤ 64 := h.2.2.2.2.2.2.2.2.2.2.2.2.2.2.2.2.1
theorem TB.opn {A : AM} (h : TB A) : ∀ w, w < 4 → 0 ≤ A M_opened w ∧ A M_opened w ≤ 64 := h.2.2.2.2.2.2.2.2.2.2.2.2.2.2.2.2.2.1
theorem TB.thr {A : AM} (h : TB A) : ∀ w, w < 4 → 0 ≤ A M_theirs w ∧ A M_theirs w ≤ 64 := h.2.2.2.2.2.2.2.2.2.2.2.2.2.2.2.2.2.2.1
theorem TB.dgr {A : AM} (h : TB A) : ∀ k, k < 2 → 0 ≤ A M_dataGrant k ∧ A M_dataGrant k ≤ 65536 := h.2.2.2.2.2.2.2.2.2.2.2.2.2.2.2.2.2.2.2.1
theorem TB.grs {A : AM} (h : TB A) : ∀ k j, k < 2 → j < 256 → 0 ≤ A M_grant (256 * k + j) ∧ A M_grant (256 * k + j) ≤ 65536 := h.2.2.2.2.2.2.2.2.2.2.2.2.2.2.2.2.2.2.2.2.1
theorem TB.lim {A : AM} (h : TB A) : ∀ k j, k < 2 → j < 256 → 0 ≤ A M_limit (256 * k + j) ∧ A M_limit (256 * k + j) ≤ 4611686018427387903 := h.2.2.2.2.2.2.2.2.2.2.2.2.2.2.2.2.2.2.2.2.2.1
theorem TB.lms {A : AM} (h : TB A) : ∀ w, w < 6 → 0 ≤ A M_limits w ∧ A M_limits w ≤ 4611686018427387903 := h.2.2.2.2.2.2.2.2.2.2.2.2.2.2.2.2.2.2.2.2.2.2.1
theorem TB.lst {A : AM} (h : TB A) : ∀ k, k < 2 → -1 ≤ A M_lastStream k ∧ A M_lastStream k ≤ 255 := h.2.2.2.2.2.2.2.2.2.2.2.2.2.2.2.2.2.2.2.2.2.2.2.1
theorem TB.stc {A : AM} (h : TB A) : ∀ k j, k < 2 → j < 256 → 0 ≤ A M_stopCode (256 * k + j) ∧ A M_stopCode (256 * k + j) ≤ 4611686018427387903 := h.2.2.2.2.2.2.2.2.2.2.2.2.2.2.2.2.2.2.2.2.2.2.2.2.1
theorem TB.cod {A : AM} (h : TB A) : ∀ k j, k < 2 → j < 256 → 0 ≤ A M_code (256 * k + j) ∧ A M_code (256 * k + j) ≤ 4611686018427387903 := h.2.2.2.2.2.2.2.2.2.2.2.2.2.2.2.2.2.2.2.2.2.2.2.2.2
theorem TB.make {A : AM} (jnd : A M_o 1 = 0 ∨ A M_o 1 = 1) (tap : 0 ≤ A M_o 3 ∧ A M_o 3 ≤ 2048) (tpv : ∀ i, 0 ≤ A M_tape i ∧ A M_tape i < 256) (out : 0 ≤ A M_o 5 ∧ A M_o 5 ≤ 2048) (tot : ∀ k, k < 2 → 0 ≤ A M_total k ∧ A M_total k ≤ 65536) (mrk : ∀ i, 0 ≤ A M_mark i ∧ A M_mark i ≤ 3) (val : ∀ i, -128 ≤ A M_value i ∧ A M_value i < 128) (pcs : ∀ k, k < 2 → 0 ≤ A M_pieces k ∧ A M_pieces k ≤ 1400) (cam : ∀ i, -128 ≤ A M_came i ∧ A M_came i < 128) (hsb : ∀ k j o, k < 2 → j < 256 → hasB A k j o = true → o < 65536) (rds : ∀ k j, k < 2 → j < 256 → 0 ≤ A M_read (256 * k + j) ∧ A M_read (256 * k + j) ≤ 65536) (res : ∀ k j, k < 2 → j < 256 → 0 ≤ A M_resets (256 * k + j) ∧ A M_resets (256 * k + j) ≤ 2) (hig : ∀ k j, k < 2 → j < 256 → 0 ≤ A M_highest (256 * k + j) ∧ A M_highest (256 * k + j) ≤ 65536) (siz : ∀ k j, k < 2 → j < 256 → -1 ≤ A M_size (256 * k + j) ∧ A M_size (256 * k + j) ≤ 65536) (wrs : ∀ k j, k < 2 → j < 256 → A M_wasReset (256 * k + j) ≠ 0 → 0 ≤ A M_size (256 * k + j)) (gra : ∀ k i, k < 2 → 4 ≤ i → i ≤ 9 → 0 ≤ A M_grants (16 * k + i) ∧ A M_grants (16 * k + i) ≤ 65536) (grt : ∀ w, w < 4 → 0 ≤ A M_granted w ∧ A M_granted w ≤ 64) (opn : ∀ w, w < 4 → 0 ≤ A M_opened w ∧ A M_opened w ≤ 64) (thr : ∀ w, w < 4 → 0 ≤ A M_theirs w ∧ A M_theirs w ≤ 64) (dgr : ∀ k, k < 2 → 0 ≤ A M_dataGrant k ∧ A M_dataGrant k ≤ 65536) (grs : ∀ k j, k < 2 → j < 256 → 0 ≤ A M_grant (256 * k + j) ∧ A M_grant (256 * k + j) ≤ 65536) (lim : ∀ k j, k < 2 → j < 256 → 0 ≤ A M_limit (256 * k + j) ∧ A M_limit (256 * k + j) ≤ 4611686018427387903) (lms : ∀ w, w < 6 → 0 ≤ A M_limits w ∧ A M_limits w ≤ 4611686018427387903) (lst : ∀ k, k < 2 → -1 ≤ A M_lastStream k ∧ A M_lastStream k ≤ 255) (stc : ∀ k j, k < 2 → j < 256 → 0 ≤ A M_stopCode (256 * k + j) ∧ A M_stopCode (256 * k + j) ≤ 4611686018427387903) (cod : ∀ k j, k < 2 → j < 256 → 0 ≤ A M_code (256 * k + j) ∧ A M_code (256 * k + j) ≤ 4611686018427387903) : TB A := ⟨jnd, tap, tpv, out, tot, mrk, val, pcs, cam, hsb, rds, res, hig, siz, wrs, gra, grt, opn, thr, dgr, grs, lim, lms, lst, stc, cod⟩
section TWR
variable {A : AM} {k j : Nat}
theorem TB.cob (h : TB A) (hk : k < 2) : ∀ j, j < 256 → 0 ≤ co A k j ∧ co A k j ≤ 65536 := by
  intro j hj
  unfold co
  have h1 := h.rds k j hk hj
  have h2 := h.siz k j hk hj
  have h3 := h.wrs k j hk hj
  split
  · exact h1
  · rename_i q; exact ⟨h3 q, h2.2⟩
theorem TB.snd (h : TB A) (hk : k < 2) (hj : j < 256) : g_X8_sending A k j = some (sst A k j) := t_sending hk hj (h.tot k hk) (h.res k j hk hj).2
theorem TB.rcv (h : TB A) (hk : k < 2) (hj : j < 256) : g_X8_receiving A k j = some (rst A k j) := t_receiving hk hj ⟨(h.pcs k hk).1, by have := (h.pcs k hk).2; omega⟩ (fun o => h.hsb k j o hk hj) (h.rds k j hk hj)
theorem TB.rdy (h : TB A) (hk : k < 2) (hj : j < 256) : g_X8_readyOf A k j = some ((rd A k j : Nat) : Int) := t_readyOf hk hj ⟨(h.pcs k hk).1, by have := (h.pcs k hk).2; omega⟩ (fun o => h.hsb k j o hk hj) (h.rds k j hk hj)
theorem TB.cns (h : TB A) (hk : k < 2) : g_X8_consumed A k = some (sco A k) := t_consumed hk (h.cob hk)
theorem TB.rcd (h : TB A) (hk : k < 2) : g_X8_received A k = some (shi A k) := t_received hk (fun j hj => h.hig k j hk hj)
theorem TB.snt (h : TB A) (hk : k < 2) (j : Nat) : g_X8_sent A k j = some ((sn A k j : Nat) : Int) := t_sent hk (h.tot k hk) (fun i => by have := h.mrk i; omega) j
theorem TB.wrt (h : TB A) (hk : k < 2) (j : Nat) : g_X8_written A k j = some ((wl A k j : Nat) : Int) := t_written hk (h.tot k hk) j
/-- one byte is written -/
def aW1 (A : AM) (k j : Nat) (b : Int) : AM := uA (uA (uA (uA A M_of (65536 * k + (A M_total k).toNat) j) M_value (65536 * k + (A M_total k).toNat) b) M_mark (65536 * k + (A M_total k).toNat) 0) M_total k (A M_total k + 1)
def aWrite (A : AM) (k j : Nat) : Nat → AM
  | 0 => A
  | m + 1 => aW1 (aWrite A k j m) k j (b8 (A M_tape m))
theorem aWrite_tot {m : Nat} : aWrite A k j m M_total k = A M_total k + m := by
  induction m with
  | zero => show A M_total k = A M_total k + 0; omega
  | succ m ih =>
    show aW1 (aWrite A k j m) k j (b8 (A M_tape m)) M_total k = _
    unfold aW1
    rw [uA_self, ih]
    omega
theorem aWrite_o {m : Nat} (r : L3) (f : Nat) (h1 : r ≠ M_of) (h2 : r ≠ M_value) (h3 : r ≠ M_mark) (h4 : r ≠ M_total) : aWrite A k j m r f = A r f := by
  induction m with
  | zero => rfl
  | succ m ih =>
    show aW1 (aWrite A k j m) k j (b8 (A M_tape m)) r f = _
    unfold aW1
    rw [uA_role _ _ _ _ h4, uA_role _ _ _ _ h3, uA_role _ _ _ _ h2, uA_role _ _ _ _ h1, ih]
theorem t_write_47 (hk : k < 2) (hj : j < 256) {n mm : Nat} (hn : n ≤ 2048) (ht : 0 ≤ A M_total k ∧ A M_total k ≤ 65536) (htp : ∀ i, 0 ≤ A M_tape i ∧ A M_tape i < 256) (hm : mm ≤ n) (hm2 : A M_total k + mm ≤ 65536) (hm3 : mm = n ∨ A M_total k + mm = 65536) : ∀ (m i f : Nat), i + m = mm → m < f → g_X8_write_47 f (aWrite A k j i) k j n i = some (aWrite A k j mm, (mm : Int)) := by
  intro m
  induction m with
  | zero =>
    intro i f h1 h2
    obtain ⟨f, rfl⟩ : ∃ f', f = f' + 1 := ⟨f - 1, by omega⟩
    unfold g_X8_write_47 g_X8_write_47_b
    rw [show i = mm by omega]
    by_cases h : mm = n
    · rw [if_pos (by omega)]
    · rw [if_neg (by omega), hA_ok (by omega) (by omega), tkN, aWrite_tot, if_pos (by omega)]
  | succ m ih =>
    intro i f h1 h2
    obtain ⟨f, rfl⟩ : ∃ f', f = f' + 1 := ⟨f - 1, by omega⟩
    have ih1 := ih (i + 1) f (by omega) (by omega)
    unfold g_X8_write_47 g_X8_write_47_b
    have e1 : aWrite A k j i M_tape i = A M_tape i := aWrite_o _ _ (by decide) (by decide) (by decide) (by decide)
    have e2 : (65536 * (k : Int) + (aWrite A k j i) M_total k).toNat = 65536 * k + ((aWrite A k j i) M_total k).toNat := by rw [aWrite_tot]; omega
    have e3 : s16 (s16 (j : Int)) = j := by unfold s16; omega
    have hb := htp i
    rw [tkN]
    rw [if_neg (by omega), hA_ok (by omega) (by omega), if_neg (by rw [aWrite_tot]; omega), hA_ok (by omega) (by omega), hA_ok (by rw [aWrite_tot]; omega) (by rw [aWrite_tot]; omega), gS_v, hA_ok (by omega) (by omega), hA_ok (by rw [aWrite_tot]; omega) (by rw [aWrite_tot]; omega), gS_v, hA_ok (by rw [aWrite_tot]; omega) (by rw [aWrite_tot]; omega), gS_v, hA_ok (by omega) (by omega), hA_ok (by omega) (by omega)]
    rw [e2, e3, tkN, b8_b8, show b8 0 = 0 from rfl]
    have e4 : uA (aWrite A k j i) M_of (65536 * k + ((aWrite A k j i) M_total k).toNat) (j : Int) M_tape i = A M_tape i := e1
    rw [e4]
    have e5 : (uA (uA (uA (aWrite A k j i) M_of (65536 * k + ((aWrite A k j i) M_total k).toNat) (j : Int)) M_value (65536 * k + ((aWrite A k j i) M_total k).toNat) (b8 (A M_tape i))) M_mark (65536 * k + ((aWrite A k j i) M_total k).toNat) 0) M_total k = aWrite A k j i M_total k := rfl
    rw [e5, c32_ok (by rw [aWrite_tot]; omega) (by rw [aWrite_tot]; omega), gS_v, c32_ok (by omega) (by omega), show (i : Int) + 1 = ((i + 1 : Nat) : Int) by omega]
    exact ih1
def aFinish (A : AM) (k j : Nat) : AM := uA (uA A M_finished (256 * k + j) 1) M_end (256 * k + j) 0
def aReset (A : AM) (k j : Nat) (c : Int) : AM := uA (uA (uA A M_resets (256 * k + j) 1) M_code (256 * k + j) c) M_tellReset (256 * k + j) 1
def aStop (A : AM) (k j : Nat) (c : Int) : AM := uA (uA (uA A M_stopped (256 * k + j) 1) M_tellStop (256 * k + j) 1) M_stopCode (256 * k + j) c
theorem t_doReset (hk : k < 2) (hj : j < 256) {c : Int} : g_X8_doReset A k j c = some (aReset A k j c) := by
  unfold g_X8_doReset aReset
  simp (disch := omega) only [t_at, bd_v, gS_v, hA_ok, tk_at]
/-- a sending part is there; a receiving part is there -/
def isS (A : AM) (k : Nat) (z : Int) : Prop := 0 ≤ z ∧ z < 256 ∧ A M_there (256 * k + z.toNat) ≠ 0 ∧ hs k z.toNat = true
def isR (A : AM) (k : Nat) (z : Int) : Prop := 0 ≤ z ∧ z < 256 ∧ A M_there (256 * k + z.toNat) ≠ 0 ∧ hr k z.toNat = true
theorem t_hS (hk : k < 2) {z : Int} (h : isS A k z) : g_X8_hasSending A k z = some 1 := by unfold isS at h; rw [t_hasSending hk, if_pos h]
theorem t_hSn (hk : k < 2) {z : Int} (h : ¬ isS A k z) : g_X8_hasSending A k z = some 0 := by unfold isS at h; rw [t_hasSending hk, if_neg h]
theorem t_hR (hk : k < 2) {z : Int} (h : isR A k z) : g_X8_hasReceiving A k z = some 1 := by unfold isR at h; rw [t_hasReceiving hk, if_pos h]
theorem t_hRn (hk : k < 2) {z : Int} (h : ¬ isR A k z) : g_X8_hasReceiving A k z = some 0 := by unfold isR at h; rw [t_hasReceiving hk, if_neg h]
theorem t_isOpenSending (h : TB A) (hk : k < 2) (hj : j < 256) : g_X8_isOpenSending A k j = some (if A M_there (256 * k + j) ≠ 0 ∧ hs k j = true ∧ sst A k j < 2 then 1 else 0) := by
  unfold g_X8_isOpenSending
  by_cases q : isS A k j
  · have q2 := q
    unfold isS at q2
    rw [tkN] at q2
    rw [t_hS hk q, bd_v, if_neg (by decide), h.snd hk hj, bd_v]
    by_cases g : sst A k j < 2
    · rw [if_neg (by omega), if_pos ⟨q2.2.2.1, q2.2.2.2, g⟩]
    · rw [if_pos (by omega), if_neg (fun z => g z.2.2)]
  · rw [t_hSn hk q, bd_v, if_pos rfl, if_neg]
    rintro ⟨a, b, -⟩
    exact q ⟨by omega, by omega, by rw [tkN]; exact a, by rw [tkN]; exact b⟩
end TWR
