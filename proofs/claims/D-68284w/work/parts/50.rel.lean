/-! THE RELATION between the twin's memory A and the component's memory B -/
def CTop (A B : AM) : Prop :=
  (B C_o 5 = A M_o 3) ∧
  (B C_o 6 = A M_o 5) ∧
  (B C_o 7 = A M_o 1) ∧
  (∀ i, i < 2048 → B C_tape i = b8 (A M_tape i)) ∧
  (∀ i, i < 2048 → B C_out i = b8 (A M_out i)) ∧
  (∀ i, 0 ≤ A M_out i ∧ A M_out i < 256)
theorem CTop.tap {A B : AM} (h : CTop A B) : B C_o 5 = A M_o 3 := h.1
theorem CTop.mad {A B : AM} (h : CTop A B) : B C_o 6 = A M_o 5 := h.2.1
theorem CTop.jnd {A B : AM} (h : CTop A B) : B C_o 7 = A M_o 1 := h.2.2.1
theorem CTop.tpe {A B : AM} (h : CTop A B) : ∀ i, i < 2048 → B C_tape i = b8 (A M_tape i) := h.2.2.2.1
theorem CTop.out {A B : AM} (h : CTop A B) : ∀ i, i < 2048 → B C_out i = b8 (A M_out i) := h.2.2.2.2.1
theorem CTop.ovl {A B : AM} (h : CTop A B) : ∀ i, 0 ≤ A M_out i ∧ A M_out i < 256 := h.2.2.2.2.2
theorem CTop.make {A B : AM} (tap : B C_o 5 = A M_o 3) (mad : B C_o 6 = A M_o 5) (jnd : B C_o 7 = A M_o 1) (tpe : ∀ i, i < 2048 → B C_tape i = b8 (A M_tape i)) (out : ∀ i, i < 2048 → B C_out i = b8 (A M_out i)) (ovl : ∀ i, 0 ≤ A M_out i ∧ A M_out i < 256) : CTop A B := ⟨tap, mad, jnd, tpe, out, ovl⟩
def CGr (A B : AM) (k : Nat) : Prop :=
  (∀ i, i < 6 → B (C_grow k) i = A M_grants (16 * k + 4 + i)) ∧
  (∀ i, i < 6 → B (H_grants k) i = A M_grants (16 * k + 4 + i)) ∧
  (A M_o 1 ≠ 0 → B (H_limits k) 1 = A M_grants (16 * (1 - k) + 5)) ∧
  (A M_o 1 ≠ 0 → B (H_limits k) 2 = A M_grants (16 * (1 - k) + 6)) ∧
  (A M_o 1 ≠ 0 → B (H_limits k) 3 = A M_grants (16 * (1 - k) + 7)) ∧
  (B (H_o k) 0 = k)
theorem CGr.gw {A B : AM} {k : Nat} (h : CGr A B k) : ∀ i, i < 6 → B (C_grow k) i = A M_grants (16 * k + 4 + i) := h.1
theorem CGr.gh {A B : AM} {k : Nat} (h : CGr A B k) : ∀ i, i < 6 → B (H_grants k) i = A M_grants (16 * k + 4 + i) := h.2.1
theorem CGr.l1 {A B : AM} {k : Nat} (h : CGr A B k) : A M_o 1 ≠ 0 → B (H_limits k) 1 = A M_grants (16 * (1 - k) + 5) := h.2.2.1
theorem CGr.l2 {A B : AM} {k : Nat} (h : CGr A B k) : A M_o 1 ≠ 0 → B (H_limits k) 2 = A M_grants (16 * (1 - k) + 6) := h.2.2.2.1
theorem CGr.l3 {A B : AM} {k : Nat} (h : CGr A B k) : A M_o 1 ≠ 0 → B (H_limits k) 3 = A M_grants (16 * (1 - k) + 7) := h.2.2.2.2.1
theorem CGr.sd {A B : AM} {k : Nat} (h : CGr A B k) : B (H_o k) 0 = k := h.2.2.2.2.2
theorem CGr.make {A B : AM} {k : Nat} (gw : ∀ i, i < 6 → B (C_grow k) i = A M_grants (16 * k + 4 + i)) (gh : ∀ i, i < 6 → B (H_grants k) i = A M_grants (16 * k + 4 + i)) (l1 : A M_o 1 ≠ 0 → B (H_limits k) 1 = A M_grants (16 * (1 - k) + 5)) (l2 : A M_o 1 ≠ 0 → B (H_limits k) 2 = A M_grants (16 * (1 - k) + 6)) (l3 : A M_o 1 ≠ 0 → B (H_limits k) 3 = A M_grants (16 * (1 - k) + 7)) (sd : B (H_o k) 0 = k) : CGr A B k := ⟨gw, gh, l1, l2, l3, sd⟩
def CHl (A B : AM) (k : Nat) : Prop :=
  (B (H_o k) 9 = A M_limits (3 * k)) ∧
  (B (H_o k) 10 = A M_toldBlocked (3 * k)) ∧
  (B (H_o k) 11 = sa A k) ∧
  (B (H_o k) 12 = shi A k) ∧
  (B (H_o k) 13 = sco A k) ∧
  (B (H_o k) 14 = A M_dataGrant k) ∧
  (B (H_o k) 15 = (A M_lastStream k + 256) % 256) ∧
  (B (H_o k) 16 = A M_tellData k)
theorem CHl.lal {A B : AM} {k : Nat} (h : CHl A B k) : B (H_o k) 9 = A M_limits (3 * k) := h.1
theorem CHl.bla {A B : AM} {k : Nat} (h : CHl A B k) : B (H_o k) 10 = A M_toldBlocked (3 * k) := h.2.1
theorem CHl.sal {A B : AM} {k : Nat} (h : CHl A B k) : B (H_o k) 11 = sa A k := h.2.2.1
theorem CHl.ral {A B : AM} {k : Nat} (h : CHl A B k) : B (H_o k) 12 = shi A k := h.2.2.2.1
theorem CHl.cal {A B : AM} {k : Nat} (h : CHl A B k) : B (H_o k) 13 = sco A k := h.2.2.2.2.1
theorem CHl.gal {A B : AM} {k : Nat} (h : CHl A B k) : B (H_o k) 14 = A M_dataGrant k := h.2.2.2.2.2.1
theorem CHl.lst {A B : AM} {k : Nat} (h : CHl A B k) : B (H_o k) 15 = (A M_lastStream k + 256) % 256 := h.2.2.2.2.2.2.1
theorem CHl.tel {A B : AM} {k : Nat} (h : CHl A B k) : B (H_o k) 16 = A M_tellData k := h.2.2.2.2.2.2.2
theorem CHl.make {A B : AM} {k : Nat} (lal : B (H_o k) 9 = A M_limits (3 * k)) (bla : B (H_o k) 10 = A M_toldBlocked (3 * k)) (sal : B (H_o k) 11 = sa A k) (ral : B (H_o k) 12 = shi A k) (cal : B (H_o k) 13 = sco A k) (gal : B (H_o k) 14 = A M_dataGrant k) (lst : B (H_o k) 15 = (A M_lastStream k + 256) % 256) (tel : B (H_o k) 16 = A M_tellData k) : CHl A B k := ⟨lal, bla, sal, ral, cal, gal, lst, tel⟩
def CWy (A B : AM) (k w : Nat) : Prop :=
  (B (W_o k w) 0 = A M_opened (2 * k + w)) ∧
  (B (W_o k w) 1 = A M_theirs (2 * k + w)) ∧
  (B (W_o k w) 2 = A M_granted (2 * k + w)) ∧
  (B (W_o k w) 3 = A M_limits (3 * k + 1 + w)) ∧
  (B (W_o k w) 4 = A M_limits (3 * k + 1 + w) ↔ A M_refused (2 * k + w) ≠ 0 ∧ A M_limits (3 * k + 1 + w) ≤ A M_opened (2 * k + w)) ∧
  (B (W_o k w) 4 ≤ A M_limits (3 * k + 1 + w)) ∧
  (B (W_o k w) 5 = A M_toldBlocked (3 * k + 1 + w)) ∧
  (B (W_o k w) 6 = A M_tellStreams (2 * k + w))
theorem CWy.opn {A B : AM} {k w : Nat} (h : CWy A B k w) : B (W_o k w) 0 = A M_opened (2 * k + w) := h.1
theorem CWy.thr {A B : AM} {k w : Nat} (h : CWy A B k w) : B (W_o k w) 1 = A M_theirs (2 * k + w) := h.2.1
theorem CWy.grt {A B : AM} {k w : Nat} (h : CWy A B k w) : B (W_o k w) 2 = A M_granted (2 * k + w) := h.2.2.1
theorem CWy.lim {A B : AM} {k w : Nat} (h : CWy A B k w) : B (W_o k w) 3 = A M_limits (3 * k + 1 + w) := h.2.2.2.1
theorem CWy.ref {A B : AM} {k w : Nat} (h : CWy A B k w) : B (W_o k w) 4 = A M_limits (3 * k + 1 + w) ↔ A M_refused (2 * k + w) ≠ 0 ∧ A M_limits (3 * k + 1 + w) ≤ A M_opened (2 * k + w) := h.2.2.2.2.1
theorem CWy.rle {A B : AM} {k w : Nat} (h : CWy A B k w) : B (W_o k w) 4 ≤ A M_limits (3 * k + 1 + w) := h.2.2.2.2.2.1
theorem CWy.tld {A B : AM} {k w : Nat} (h : CWy A B k w) : B (W_o k w) 5 = A M_toldBlocked (3 * k + 1 + w) := h.2.2.2.2.2.2.1
theorem CWy.tel {A B : AM} {k w : Nat} (h : CWy A B k w) : B (W_o k w) 6 = A M_tellStreams (2 * k + w) := h.2.2.2.2.2.2.2
theorem CWy.make {A B : AM} {k w : Nat} (opn : B (W_o k w) 0 = A M_opened (2 * k + w)) (thr : B (W_o k w) 1 = A M_theirs (2 * k + w)) (grt : B (W_o k w) 2 = A M_granted (2 * k + w)) (lim : B (W_o k w) 3 = A M_limits (3 * k + 1 + w)) (ref : B (W_o k w) 4 = A M_limits (3 * k + 1 + w) ↔ A M_refused (2 * k + w) ≠ 0 ∧ A M_limits (3 * k + 1 + w) ≤ A M_opened (2 * k + w)) (rle : B (W_o k w) 4 ≤ A M_limits (3 * k + 1 + w)) (tld : B (W_o k w) 5 = A M_toldBlocked (3 * k + 1 + w)) (tel : B (W_o k w) 6 = A M_tellStreams (2 * k + w)) : CWy A B k w := ⟨opn, thr, grt, lim, ref, rle, tld, tel⟩
def CSd (A B : AM) (k j : Nat) : Prop :=
  (B (S_o k j) 0 = sst A k j) ∧
  (B (S_o k j) 1 = wl A k j) ∧
  (B (S_o k j) 2 = sn A k j) ∧
  (B (S_o k j) 3 = if A M_finished (256 * k + j) ≠ 0 then 1 + A M_end (256 * k + j) else 0) ∧
  (B (S_o k j) 8 = A M_limit (256 * k + j)) ∧
  (B (S_o k j) 9 = if A M_resets (256 * k + j) ≤ 0 then 0 else A M_code (256 * k + j)) ∧
  (B (S_o k j) 10 = A M_toldLimit (256 * k + j)) ∧
  (A M_resets (256 * k + j) = 1 → B (S_o k j) 11 = A M_tellReset (256 * k + j))
theorem CSd.sta {A B : AM} {k j : Nat} (h : CSd A B k j) : B (S_o k j) 0 = sst A k j := h.1
theorem CSd.wri {A B : AM} {k j : Nat} (h : CSd A B k j) : B (S_o k j) 1 = wl A k j := h.2.1
theorem CSd.sen {A B : AM} {k j : Nat} (h : CSd A B k j) : B (S_o k j) 2 = sn A k j := h.2.2.1
theorem CSd.ende {A B : AM} {k j : Nat} (h : CSd A B k j) : B (S_o k j) 3 = if A M_finished (256 * k + j) ≠ 0 then 1 + A M_end (256 * k + j) else 0 := h.2.2.2.1
theorem CSd.lim {A B : AM} {k j : Nat} (h : CSd A B k j) : B (S_o k j) 8 = A M_limit (256 * k + j) := h.2.2.2.2.1
theorem CSd.cod {A B : AM} {k j : Nat} (h : CSd A B k j) : B (S_o k j) 9 = if A M_resets (256 * k + j) ≤ 0 then 0 else A M_code (256 * k + j) := h.2.2.2.2.2.1
theorem CSd.blk {A B : AM} {k j : Nat} (h : CSd A B k j) : B (S_o k j) 10 = A M_toldLimit (256 * k + j) := h.2.2.2.2.2.2.1
theorem CSd.rsf {A B : AM} {k j : Nat} (h : CSd A B k j) : A M_resets (256 * k + j) = 1 → B (S_o k j) 11 = A M_tellReset (256 * k + j) := h.2.2.2.2.2.2.2
theorem CSd.make {A B : AM} {k j : Nat} (sta : B (S_o k j) 0 = sst A k j) (wri : B (S_o k j) 1 = wl A k j) (sen : B (S_o k j) 2 = sn A k j) (ende : B (S_o k j) 3 = if A M_finished (256 * k + j) ≠ 0 then 1 + A M_end (256 * k + j) else 0) (lim : B (S_o k j) 8 = A M_limit (256 * k + j)) (cod : B (S_o k j) 9 = if A M_resets (256 * k + j) ≤ 0 then 0 else A M_code (256 * k + j)) (blk : B (S_o k j) 10 = A M_toldLimit (256 * k + j)) (rsf : A M_resets (256 * k + j) = 1 → B (S_o k j) 11 = A M_tellReset (256 * k + j)) : CSd A B k j := ⟨sta, wri, sen, ende, lim, cod, blk, rsf⟩
def CRv (A B : AM) (k j : Nat) : Prop :=
  (B (R_o k j) 0 = A M_grants (16 * k + gi k j)) ∧
  (B (R_o k j) 1 = rst A k j) ∧
  (B (R_o k j) 2 = A M_read (256 * k + j)) ∧
  (B (R_o k j) 3 = rd A k j) ∧
  (B (R_o k j) 4 = A M_highest (256 * k + j)) ∧
  (B (R_o k j) 5 = A M_size (256 * k + j)) ∧
  (B (R_o k j) 6 = A M_grant (256 * k + j)) ∧
  (B (R_o k j) 8 = if A M_wasReset (256 * k + j) = 0 then 0 else A M_theirCode (256 * k + j)) ∧
  (B (R_o k j) 9 = A M_stopCode (256 * k + j)) ∧
  (B (R_o k j) 10 = A M_tellGrant (256 * k + j)) ∧
  (B (R_o k j) 11 = A M_tellStop (256 * k + j)) ∧
  (B (R_o k j) 12 = A M_stopped (256 * k + j))
theorem CRv.win {A B : AM} {k j : Nat} (h : CRv A B k j) : B (R_o k j) 0 = A M_grants (16 * k + gi k j) := h.1
theorem CRv.sta {A B : AM} {k j : Nat} (h : CRv A B k j) : B (R_o k j) 1 = rst A k j := h.2.1
theorem CRv.rea {A B : AM} {k j : Nat} (h : CRv A B k j) : B (R_o k j) 2 = A M_read (256 * k + j) := h.2.2.1
theorem CRv.rdy {A B : AM} {k j : Nat} (h : CRv A B k j) : B (R_o k j) 3 = rd A k j := h.2.2.2.1
theorem CRv.hig {A B : AM} {k j : Nat} (h : CRv A B k j) : B (R_o k j) 4 = A M_highest (256 * k + j) := h.2.2.2.2.1
theorem CRv.siz {A B : AM} {k j : Nat} (h : CRv A B k j) : B (R_o k j) 5 = A M_size (256 * k + j) := h.2.2.2.2.2.1
theorem CRv.grt {A B : AM} {k j : Nat} (h : CRv A B k j) : B (R_o k j) 6 = A M_grant (256 * k + j) := h.2.2.2.2.2.2.1
theorem CRv.cod {A B : AM} {k j : Nat} (h : CRv A B k j) : B (R_o k j) 8 = if A M_wasReset (256 * k + j) = 0 then 0 else A M_theirCode (256 * k + j) := h.2.2.2.2.2.2.2.1
theorem CRv.stc {A B : AM} {k j : Nat} (h : CRv A B k j) : B (R_o k j) 9 = A M_stopCode (256 * k + j) := h.2.2.2.2.2.2.2.2.1
theorem CRv.tel {A B : AM} {k j : Nat} (h : CRv A B k j) : B (R_o k j) 10 = A M_tellGrant (256 * k + j) := h.2.2.2.2.2.2.2.2.2.1
theorem CRv.stp {A B : AM} {k j : Nat} (h : CRv A B k j) : B (R_o k j) 11 = A M_tellStop (256 * k + j) := h.2.2.2.2.2.2.2.2.2.2.1
theorem CRv.std {A B : AM} {k j : Nat} (h : CRv A B k j) : B (R_o k j) 12 = A M_stopped (256 * k + j) := h.2.2.2.2.2.2.2.2.2.2.2
theorem CRv.make {A B : AM} {k j : Nat} (win : B (R_o k j) 0 = A M_grants (16 * k + gi k j)) (sta : B (R_o k j) 1 = rst A k j) (rea : B (R_o k j) 2 = A M_read (256 * k + j)) (rdy : B (R_o k j) 3 = rd A k j) (hig : B (R_o k j) 4 = A M_highest (256 * k + j)) (siz : B (R_o k j) 5 = A M_size (256 * k + j)) (grt : B (R_o k j) 6 = A M_grant (256 * k + j)) (cod : B (R_o k j) 8 = if A M_wasReset (256 * k + j) = 0 then 0 else A M_theirCode (256 * k + j)) (stc : B (R_o k j) 9 = A M_stopCode (256 * k + j)) (tel : B (R_o k j) 10 = A M_tellGrant (256 * k + j)) (stp : B (R_o k j) 11 = A M_tellStop (256 * k + j)) (std : B (R_o k j) 12 = A M_stopped (256 * k + j)) : CRv A B k j := ⟨win, sta, rea, rdy, hig, siz, grt, cod, stc, tel, stp, std⟩
def CLn (A B : AM) (p : Nat) : Prop :=
  (B (L_o p) 0 = A M_lineUsed p) ∧
  (B (L_o p) 1 = A M_delivered p) ∧
  (B (L_o p) 2 = A M_lineSide p) ∧
  (B (L_o p) 3 = A M_lineKind p) ∧
  (B (L_o p) 4 = A M_lineSize p) ∧
  (B (L_o p) 5 = A M_lineBytes p) ∧
  (B (L_o p) 6 = A M_lineA p) ∧
  (B (L_o p) 7 = A M_lineB p) ∧
  (B (L_o p) 8 = A M_lineC p) ∧
  (∀ i, i < 1200 → B (L_row p) i = A M_lineData (1200 * p + i))
theorem CLn.tak {A B : AM} {p : Nat} (h : CLn A B p) : B (L_o p) 0 = A M_lineUsed p := h.1
theorem CLn.del {A B : AM} {p : Nat} (h : CLn A B p) : B (L_o p) 1 = A M_delivered p := h.2.1
theorem CLn.sid {A B : AM} {p : Nat} (h : CLn A B p) : B (L_o p) 2 = A M_lineSide p := h.2.2.1
theorem CLn.knd {A B : AM} {p : Nat} (h : CLn A B p) : B (L_o p) 3 = A M_lineKind p := h.2.2.2.1
theorem CLn.siz {A B : AM} {p : Nat} (h : CLn A B p) : B (L_o p) 4 = A M_lineSize p := h.2.2.2.2.1
theorem CLn.byt {A B : AM} {p : Nat} (h : CLn A B p) : B (L_o p) 5 = A M_lineBytes p := h.2.2.2.2.2.1
theorem CLn.la {A B : AM} {p : Nat} (h : CLn A B p) : B (L_o p) 6 = A M_lineA p := h.2.2.2.2.2.2.1
theorem CLn.lb {A B : AM} {p : Nat} (h : CLn A B p) : B (L_o p) 7 = A M_lineB p := h.2.2.2.2.2.2.2.1
theorem CLn.lc {A B : AM} {p : Nat} (h : CLn A B p) : B (L_o p) 8 = A M_lineC p := h.2.2.2.2.2.2.2.2.1
theorem CLn.row {A B : AM} {p : Nat} (h : CLn A B p) : ∀ i, i < 1200 → B (L_row p) i = A M_lineData (1200 * p + i) := h.2.2.2.2.2.2.2.2.2
theorem CLn.make {A B : AM} {p : Nat} (tak : B (L_o p) 0 = A M_lineUsed p) (del : B (L_o p) 1 = A M_delivered p) (sid : B (L_o p) 2 = A M_lineSide p) (knd : B (L_o p) 3 = A M_lineKind p) (siz : B (L_o p) 4 = A M_lineSize p) (byt : B (L_o p) 5 = A M_lineBytes p) (la : B (L_o p) 6 = A M_lineA p) (lb : B (L_o p) 7 = A M_lineB p) (lc : B (L_o p) 8 = A M_lineC p) (row : ∀ i, i < 1200 → B (L_row p) i = A M_lineData (1200 * p + i)) : CLn A B p := ⟨tak, del, sid, knd, siz, byt, la, lb, lc, row⟩
/-! chains -/
def Lk (nx : Nat → Int) : Int → List Nat → Prop
  | a, [] => a = -1
  | a, p :: l => a = (p : Int) ∧ Lk nx (nx p) l
theorem Lk_cg {nx nx' : Nat → Int} : ∀ {l : List Nat} {a : Int}, (∀ p ∈ l, nx' p = nx p) → Lk nx a l → Lk nx' a l := by
  intro l
  induction l with
  | nil => intro a _ h; exact h
  | cons p l ih =>
    intro a hq h
    refine ⟨h.1, ?_⟩
    rw [hq p List.mem_cons_self]
    exact ih (fun q hq' => hq q (List.mem_cons_of_mem _ hq')) h.2
/-- written bytes: pieces of the store -/
def Seg (at_ sz_ : Nat → Int) (l : List Nat) : List Nat := l.flatMap fun p => List.range' (at_ p).toNat (sz_ p).toNat
def CSt (E : L3 → Bool) (A B : AM) (k : Nat) (ch : Nat → List Nat) : Prop :=
  (B (T_o k) 1 = A M_total k) ∧
  (∀ i, i < (A M_total k).toNat → B (T_bytes k) i = A M_value (65536 * k + i)) ∧
  (0 ≤ B (T_o k) 5 ∧ B (T_o k) 5 ≤ 64) ∧
  (∀ j, j < 256 → E (S_o k j) = true → Lk (B (T_next k)) (B (S_o k j) 4) (ch j)) ∧
  (∀ j, j < 256 → E (S_o k j) = true → B (S_o k j) 5 = match (ch j).getLast? with | none => -1 | some p => (p : Int)) ∧
  (∀ j, ¬ (j < 256 ∧ E (S_o k j) = true) → ch j = []) ∧
  (∀ j, ∀ p ∈ ch j, (p : Int) < B (T_o k) 5 ∧ 0 ≤ B (T_at k) p ∧ 0 ≤ B (T_size k) p ∧ B (T_at k) p + B (T_size k) p ≤ A M_total k) ∧
  (∀ j, (ch j).Nodup) ∧
  (∀ j j', j ≠ j' → ∀ p ∈ ch j, p ∉ ch j') ∧
  (∀ j, j < 256 → E (S_o k j) = true → Seg (B (T_at k)) (B (T_size k)) (ch j) = pos A k j)
theorem CSt.use {E : L3 → Bool} {A B : AM} {k : Nat} {ch : Nat → List Nat} (h : CSt E A B k ch) : B (T_o k) 1 = A M_total k := h.1
theorem CSt.byt {E : L3 → Bool} {A B : AM} {k : Nat} {ch : Nat → List Nat} (h : CSt E A B k ch) : ∀ i, i < (A M_total k).toNat → B (T_bytes k) i = A M_value (65536 * k + i) := h.2.1
theorem CSt.npc {E : L3 → Bool} {A B : AM} {k : Nat} {ch : Nat → List Nat} (h : CSt E A B k ch) : 0 ≤ B (T_o k) 5 ∧ B (T_o k) 5 ≤ 64 := h.2.2.1
theorem CSt.lnk {E : L3 → Bool} {A B : AM} {k : Nat} {ch : Nat → List Nat} (h : CSt E A B k ch) : ∀ j, j < 256 → E (S_o k j) = true → Lk (B (T_next k)) (B (S_o k j) 4) (ch j) := h.2.2.2.1
theorem CSt.las {E : L3 → Bool} {A B : AM} {k : Nat} {ch : Nat → List Nat} (h : CSt E A B k ch) : ∀ j, j < 256 → E (S_o k j) = true → B (S_o k j) 5 = match (ch j).getLast? with | none => -1 | some p => (p : Int) := h.2.2.2.2.1
theorem CSt.emp {E : L3 → Bool} {A B : AM} {k : Nat} {ch : Nat → List Nat} (h : CSt E A B k ch) : ∀ j, ¬ (j < 256 ∧ E (S_o k j) = true) → ch j = [] := h.2.2.2.2.2.1
theorem CSt.mem {E : L3 → Bool} {A B : AM} {k : Nat} {ch : Nat → List Nat} (h : CSt E A B k ch) : ∀ j, ∀ p ∈ ch j, (p : Int) < B (T_o k) 5 ∧ 0 ≤ B (T_at k) p ∧ 0 ≤ B (T_size k) p ∧ B (T_at k) p + B (T_size k) p ≤ A M_total k := h.2.2.2.2.2.2.1
theorem CSt.ndp {E : L3 → Bool} {A B : AM} {k : Nat} {ch : Nat → List Nat} (h : CSt E A B k ch) : ∀ j, (ch j).Nodup := h.2.2.2.2.2.2.2.1
theorem CSt.dis {E : L3 → Bool} {A B : AM} {k : Nat} {ch : Nat → List Nat} (h : CSt E A B k ch) : ∀ j j', j ≠ j' → ∀ p ∈ ch j, p ∉ ch j' := h.2.2.2.2.2.2.2.2.1
theorem CSt.seg {E : L3 → Bool} {A B : AM} {k : Nat} {ch : Nat → List Nat} (h : CSt E A B k ch) : ∀ j, j < 256 → E (S_o k j) = true → Seg (B (T_at k)) (B (T_size k)) (ch j) = pos A k j := h.2.2.2.2.2.2.2.2.2
theorem CSt.make {E : L3 → Bool} {A B : AM} {k : Nat} {ch : Nat → List Nat} (use : B (T_o k) 1 = A M_total k) (byt : ∀ i, i < (A M_total k).toNat → B (T_bytes k) i = A M_value (65536 * k + i)) (npc : 0 ≤ B (T_o k) 5 ∧ B (T_o k) 5 ≤ 64) (lnk : ∀ j, j < 256 → E (S_o k j) = true → Lk (B (T_next k)) (B (S_o k j) 4) (ch j)) (las : ∀ j, j < 256 → E (S_o k j) = true → B (S_o k j) 5 = match (ch j).getLast? with | none => -1 | some p => (p : Int)) (emp : ∀ j, ¬ (j < 256 ∧ E (S_o k j) = true) → ch j = []) (mem : ∀ j, ∀ p ∈ ch j, (p : Int) < B (T_o k) 5 ∧ 0 ≤ B (T_at k) p ∧ 0 ≤ B (T_size k) p ∧ B (T_at k) p + B (T_size k) p ≤ A M_total k) (ndp : ∀ j, (ch j).Nodup) (dis : ∀ j j', j ≠ j' → ∀ p ∈ ch j, p ∉ ch j') (seg : ∀ j, j < 256 → E (S_o k j) = true → Seg (B (T_at k)) (B (T_size k)) (ch j) = pos A k j) : CSt E A B k ch := ⟨use, byt, npc, lnk, las, emp, mem, ndp, dis, seg⟩
/-- ranges: rising, apart -/
def Rng (fr to : Nat → Int) : Int → List Nat → Prop
  | _, [] => True
  | lo, p :: l => lo < fr p ∧ fr p < to p ∧ Rng fr to (to p) l
def InR (fr to : Nat → Int) (l : List Nat) (o : Nat) : Prop := ∃ p ∈ l, fr p ≤ o ∧ (o : Int) < to p
def CSp (E : L3 → Bool) (A B : AM) (k : Nat) (ch : Nat → List Nat) (fl : List Nat) : Prop :=
  (0 ≤ B (P_o k) 3 ∧ B (P_o k) 3 ≤ 64) ∧
  (Lk (B (P_next k)) (B (P_o k) 4) fl) ∧
  (∀ j, j < 256 → E (S_o k j) = true → Lk (B (P_next k)) (B (S_o k j) 6) (ch (2 * j))) ∧
  (∀ j, j < 256 → E (S_o k j) = true → Lk (B (P_next k)) (B (S_o k j) 7) (ch (2 * j + 1))) ∧
  (∀ j, ¬ (j < 256 ∧ E (S_o k j) = true) → ch (2 * j) = [] ∧ ch (2 * j + 1) = []) ∧
  (∀ c, ∀ p ∈ ch c, (p : Int) < B (P_o k) 3) ∧
  (∀ p ∈ fl, (p : Int) < B (P_o k) 3) ∧
  (∀ c, (ch c).Nodup) ∧
  (fl.Nodup) ∧
  (∀ c c', c ≠ c' → ∀ p ∈ ch c, p ∉ ch c') ∧
  (∀ c, ∀ p ∈ ch c, p ∉ fl) ∧
  (∀ c, Rng (B (P_from k)) (B (P_to k)) (-1) (ch c)) ∧
  (∀ j, j < 256 → E (S_o k j) = true → ∀ o : Nat, InR (B (P_from k)) (B (P_to k)) (ch (2 * j)) o ↔ o < wl A k j ∧ mkA A k j o = 2) ∧
  (∀ j, j < 256 → E (S_o k j) = true → ∀ o : Nat, InR (B (P_from k)) (B (P_to k)) (ch (2 * j + 1)) o ↔ o < wl A k j ∧ mkA A k j o = 3)
theorem CSp.mad {E : L3 → Bool} {A B : AM} {k : Nat} {ch : Nat → List Nat} {fl : List Nat} (h : CSp E A B k ch fl) : 0 ≤ B (P_o k) 3 ∧ B (P_o k) 3 ≤ 64 := h.1
theorem CSp.fre {E : L3 → Bool} {A B : AM} {k : Nat} {ch : Nat → List Nat} {fl : List Nat} (h : CSp E A B k ch fl) : Lk (B (P_next k)) (B (P_o k) 4) fl := h.2.1
theorem CSp.lnl {E : L3 → Bool} {A B : AM} {k : Nat} {ch : Nat → List Nat} {fl : List Nat} (h : CSp E A B k ch fl) : ∀ j, j < 256 → E (S_o k j) = true → Lk (B (P_next k)) (B (S_o k j) 6) (ch (2 * j)) := h.2.2.1
theorem CSp.lnh {E : L3 → Bool} {A B : AM} {k : Nat} {ch : Nat → List Nat} {fl : List Nat} (h : CSp E A B k ch fl) : ∀ j, j < 256 → E (S_o k j) = true → Lk (B (P_next k)) (B (S_o k j) 7) (ch (2 * j + 1)) := h.2.2.2.1
theorem CSp.emp {E : L3 → Bool} {A B : AM} {k : Nat} {ch : Nat → List Nat} {fl : List Nat} (h : CSp E A B k ch fl) : ∀ j, ¬ (j < 256 ∧ E (S_o k j) = true) → ch (2 * j) = [] ∧ ch (2 * j + 1) = [] := h.2.2.2.2.1
theorem CSp.mem {E : L3 → Bool} {A B : AM} {k : Nat} {ch : Nat → List Nat} {fl : List Nat} (h : CSp E A B k ch fl) : ∀ c, ∀ p ∈ ch c, (p : Int) < B (P_o k) 3 := h.2.2.2.2.2.1
theorem CSp.mef {E : L3 → Bool} {A B : AM} {k : Nat} {ch : Nat → List Nat} {fl : List Nat} (h : CSp E A B k ch fl) : ∀ p ∈ fl, (p : Int) < B (P_o k) 3 := h.2.2.2.2.2.2.1
theorem CSp.ndc {E : L3 → Bool} {A B : AM} {k : Nat} {ch : Nat → List Nat} {fl : List Nat} (h : CSp E A B k ch fl) : ∀ c, (ch c).Nodup := h.2.2.2.2.2.2.2.1
theorem CSp.ndf {E : L3 → Bool} {A B : AM} {k : Nat} {ch : Nat → List Nat} {fl : List Nat} (h : CSp E A B k ch fl) : fl.Nodup := h.2.2.2.2.2.2.2.2.1
theorem CSp.dis {E : L3 → Bool} {A B : AM} {k : Nat} {ch : Nat → List Nat} {fl : List Nat} (h : CSp E A B k ch fl) : ∀ c c', c ≠ c' → ∀ p ∈ ch c, p ∉ ch c' := h.2.2.2.2.2.2.2.2.2.1
theorem CSp.dif {E : L3 → Bool} {A B : AM} {k : Nat} {ch : Nat → List Nat} {fl : List Nat} (h : CSp E A B k ch fl) : ∀ c, ∀ p ∈ ch c, p ∉ fl := h.2.2.2.2.2.2.2.2.2.2.1
theorem CSp.rng {E : L3 → Bool} {A B : AM} {k : Nat} {ch : Nat → List Nat} {fl : List Nat} (h : CSp E A B k ch fl) : ∀ c, Rng (B (P_from k)) (B (P_to k)) (-1) (ch c) := h.2.2.2.2.2.2.2.2.2.2.2.1
theorem CSp.los {E : L3 → Bool} {A B : AM} {k : Nat} {ch : Nat → List Nat} {fl : List Nat} (h : CSp E A B k ch fl) : ∀ j, j < 256 → E (S_o k j) = true → ∀ o : Nat, InR (B (P_from k)) (B (P_to k)) (ch (2 * j)) o ↔ o < wl A k j ∧ mkA A k j o = 2 := h.2.2.2.2.2.2.2.2.2.2.2.2.1
theorem CSp.her {E : L3 → Bool} {A B : AM} {k : Nat} {ch : Nat → List Nat} {fl : List Nat} (h : CSp E A B k ch fl) : ∀ j, j < 256 → E (S_o k j) = true → ∀ o : Nat, InR (B (P_from k)) (B (P_to k)) (ch (2 * j + 1)) o ↔ o < wl A k j ∧ mkA A k j o = 3 := h.2.2.2.2.2.2.2.2.2.2.2.2.2
theorem CSp.make {E : L3 → Bool} {A B : AM} {k : Nat} {ch : Nat → List Nat} {fl : List Nat} (mad : 0 ≤ B (P_o k) 3 ∧ B (P_o k) 3 ≤ 64) (fre : Lk (B (P_next k)) (B (P_o k) 4) fl) (lnl : ∀ j, j < 256 → E (S_o k j) = true → Lk (B (P_next k)) (B (S_o k j) 6) (ch (2 * j))) (lnh : ∀ j, j < 256 → E (S_o k j) = true → Lk (B (P_next k)) (B (S_o k j) 7) (ch (2 * j + 1))) (emp : ∀ j, ¬ (j < 256 ∧ E (S_o k j) = true) → ch (2 * j) = [] ∧ ch (2 * j + 1) = []) (mem : ∀ c, ∀ p ∈ ch c, (p : Int) < B (P_o k) 3) (mef : ∀ p ∈ fl, (p : Int) < B (P_o k) 3) (ndc : ∀ c, (ch c).Nodup) (ndf : fl.Nodup) (dis : ∀ c c', c ≠ c' → ∀ p ∈ ch c, p ∉ ch c') (dif : ∀ c, ∀ p ∈ ch c, p ∉ fl) (rng : ∀ c, Rng (B (P_from k)) (B (P_to k)) (-1) (ch c)) (los : ∀ j, j < 256 → E (S_o k j) = true → ∀ o : Nat, InR (B (P_from k)) (B (P_to k)) (ch (2 * j)) o ↔ o < wl A k j ∧ mkA A k j o = 2) (her : ∀ j, j < 256 → E (S_o k j) = true → ∀ o : Nat, InR (B (P_from k)) (B (P_to k)) (ch (2 * j + 1)) o ↔ o < wl A k j ∧ mkA A k j o = 3) : CSp E A B k ch fl := ⟨mad, fre, lnl, lnh, emp, mem, mef, ndc, ndf, dis, dif, rng, los, her⟩
/-- the bit of a mark -/
def mbit (m : Int) (q : Nat) : Bool := (BitVec.ofInt 64 m).getLsbD q
def CBl (E : L3 → Bool) (A B : AM) (k : Nat) (ch : Nat → List Nat) (fl : List Nat) : Prop :=
  (0 ≤ B (B_o k) 4 ∧ B (B_o k) 4 ≤ A M_pieces k) ∧
  (Lk (B (B_next k)) (B (B_o k) 5) fl) ∧
  (∀ j, j < 256 → E (R_o k j) = true → Lk (B (B_next k)) (B (R_o k j) 7) (ch j)) ∧
  (∀ j, ¬ (j < 256 ∧ E (R_o k j) = true ∧ A M_wasReset (256 * k + j) = 0) → ch j = []) ∧
  (∀ c, ∀ p ∈ ch c, (p : Int) < B (B_o k) 4) ∧
  (∀ p ∈ fl, (p : Int) < B (B_o k) 4) ∧
  (∀ c, (ch c).Nodup) ∧
  (fl.Nodup) ∧
  (∀ c c', c ≠ c' → ∀ p ∈ ch c, p ∉ ch c') ∧
  (∀ c, ∀ p ∈ ch c, p ∉ fl) ∧
  (∀ j, (ch j).Pairwise (fun p q => B (B_index k) p < B (B_index k) q)) ∧
  (∀ j, ∀ p ∈ ch j, ∃ n : Nat, B (B_index k) p = (n : Int) ∧ (A M_read (256 * k + j)).toNat / 64 ≤ n ∧ n < 1024 ∧ ∃ q, pa A k j (n : Int) = some q) ∧
  (∀ j, j < 256 → E (R_o k j) = true → A M_wasReset (256 * k + j) = 0 → ∀ n q : Nat, (A M_read (256 * k + j)).toNat / 64 ≤ n → pa A k j (n : Int) = some q → ∃ p ∈ ch j, B (B_index k) p = (n : Int)) ∧
  (∀ j, ∀ p ∈ ch j, ∀ n q : Nat, B (B_index k) p = (n : Int) → q < 64 → (mbit (B (B_marks k) p) q = hasB A k j (64 * n + q))) ∧
  (∀ j, ∀ p ∈ ch j, ∀ n q : Nat, B (B_index k) p = (n : Int) → q < 64 → hasB A k j (64 * n + q) = true → B (B_bytes k) (64 * p + q) = bt A k j (64 * n + q)) ∧
  (∀ j, j < 256 → ∀ (n : Int) (q : Nat), pa A k j n = some q → E (R_o k j) = true)
theorem CBl.mad {E : L3 → Bool} {A B : AM} {k : Nat} {ch : Nat → List Nat} {fl : List Nat} (h : CBl E A B k ch fl) : 0 ≤ B (B_o k) 4 ∧ B (B_o k) 4 ≤ A M_pieces k := h.1
theorem CBl.fre {E : L3 → Bool} {A B : AM} {k : Nat} {ch : Nat → List Nat} {fl : List Nat} (h : CBl E A B k ch fl) : Lk (B (B_next k)) (B (B_o k) 5) fl := h.2.1
theorem CBl.lnk {E : L3 → Bool} {A B : AM} {k : Nat} {ch : Nat → List Nat} {fl : List Nat} (h : CBl E A B k ch fl) : ∀ j, j < 256 → E (R_o k j) = true → Lk (B (B_next k)) (B (R_o k j) 7) (ch j) := h.2.2.1
theorem CBl.emp {E : L3 → Bool} {A B : AM} {k : Nat} {ch : Nat → List Nat} {fl : List Nat} (h : CBl E A B k ch fl) : ∀ j, ¬ (j < 256 ∧ E (R_o k j) = true ∧ A M_wasReset (256 * k + j) = 0) → ch j = [] := h.2.2.2.1
theorem CBl.mem {E : L3 → Bool} {A B : AM} {k : Nat} {ch : Nat → List Nat} {fl : List Nat} (h : CBl E A B k ch fl) : ∀ c, ∀ p ∈ ch c, (p : Int) < B (B_o k) 4 := h.2.2.2.2.1
theorem CBl.mef {E : L3 → Bool} {A B : AM} {k : Nat} {ch : Nat → List Nat} {fl : List Nat} (h : CBl E A B k ch fl) : ∀ p ∈ fl, (p : Int) < B (B_o k) 4 := h.2.2.2.2.2.1
theorem CBl.ndc {E : L3 → Bool} {A B : AM} {k : Nat} {ch : Nat → List Nat} {fl : List Nat} (h : CBl E A B k ch fl) : ∀ c, (ch c).Nodup := h.2.2.2.2.2.2.1
theorem CBl.ndf {E : L3 → Bool} {A B : AM} {k : Nat} {ch : Nat → List Nat} {fl : List Nat} (h : CBl E A B k ch fl) : fl.Nodup := h.2.2.2.2.2.2.2.1
theorem CBl.dis {E : L3 → Bool} {A B : AM} {k : Nat} {ch : Nat → List Nat} {fl : List Nat} (h : CBl E A B k ch fl) : ∀ c c', c ≠ c' → ∀ p ∈ ch c, p ∉ ch c' := h.2.2.2.2.2.2.2.2.1
theorem CBl.dif {E : L3 → Bool} {A B : AM} {k : Nat} {ch : Nat → List Nat} {fl : List Nat} (h : CBl E A B k ch fl) : ∀ c, ∀ p ∈ ch c, p ∉ fl := h.2.2.2.2.2.2.2.2.2.1
theorem CBl.ris {E : L3 → Bool} {A B : AM} {k : Nat} {ch : Nat → List Nat} {fl : List Nat} (h : CBl E A B k ch fl) : ∀ j, (ch j).Pairwise (fun p q => B (B_index k) p < B (B_index k) q) := h.2.2.2.2.2.2.2.2.2.2.1
theorem CBl.idx {E : L3 → Bool} {A B : AM} {k : Nat} {ch : Nat → List Nat} {fl : List Nat} (h : CBl E A B k ch fl) : ∀ j, ∀ p ∈ ch j, ∃ n : Nat, B (B_index k) p = (n : Int) ∧ (A M_read (256 * k + j)).toNat / 64 ≤ n ∧ n < 1024 ∧ ∃ q, pa A k j (n : Int) = some q := h.2.2.2.2.2.2.2.2.2.2.2.1
theorem CBl.all {E : L3 → Bool} {A B : AM} {k : Nat} {ch : Nat → List Nat} {fl : List Nat} (h : CBl E A B k ch fl) : ∀ j, j < 256 → E (R_o k j) = true → A M_wasReset (256 * k + j) = 0 → ∀ n q : Nat, (A M_read (256 * k + j)).toNat / 64 ≤ n → pa A k j (n : Int) = some q → ∃ p ∈ ch j, B (B_index k) p = (n : Int) := h.2.2.2.2.2.2.2.2.2.2.2.2.1
theorem CBl.bit {E : L3 → Bool} {A B : AM} {k : Nat} {ch : Nat → List Nat} {fl : List Nat} (h : CBl E A B k ch fl) : ∀ j, ∀ p ∈ ch j, ∀ n q : Nat, B (B_index k) p = (n : Int) → q < 64 → (mbit (B (B_marks k) p) q = hasB A k j (64 * n + q)) := h.2.2.2.2.2.2.2.2.2.2.2.2.2.1
theorem CBl.byt {E : L3 → Bool} {A B : AM} {k : Nat} {ch : Nat → List Nat} {fl : List Nat} (h : CBl E A B k ch fl) : ∀ j, ∀ p ∈ ch j, ∀ n q : Nat, B (B_index k) p = (n : Int) → q < 64 → hasB A k j (64 * n + q) = true → B (B_bytes k) (64 * p + q) = bt A k j (64 * n + q) := h.2.2.2.2.2.2.2.2.2.2.2.2.2.2.1
theorem CBl.pth {E : L3 → Bool} {A B : AM} {k : Nat} {ch : Nat → List Nat} {fl : List Nat} (h : CBl E A B k ch fl) : ∀ j, j < 256 → ∀ (n : Int) (q : Nat), pa A k j n = some q → E (R_o k j) = true := h.2.2.2.2.2.2.2.2.2.2.2.2.2.2.2
theorem CBl.make {E : L3 → Bool} {A B : AM} {k : Nat} {ch : Nat → List Nat} {fl : List Nat} (mad : 0 ≤ B (B_o k) 4 ∧ B (B_o k) 4 ≤ A M_pieces k) (fre : Lk (B (B_next k)) (B (B_o k) 5) fl) (lnk : ∀ j, j < 256 → E (R_o k j) = true → Lk (B (B_next k)) (B (R_o k j) 7) (ch j)) (emp : ∀ j, ¬ (j < 256 ∧ E (R_o k j) = true ∧ A M_wasReset (256 * k + j) = 0) → ch j = []) (mem : ∀ c, ∀ p ∈ ch c, (p : Int) < B (B_o k) 4) (mef : ∀ p ∈ fl, (p : Int) < B (B_o k) 4) (ndc : ∀ c, (ch c).Nodup) (ndf : fl.Nodup) (dis : ∀ c c', c ≠ c' → ∀ p ∈ ch c, p ∉ ch c') (dif : ∀ c, ∀ p ∈ ch c, p ∉ fl) (ris : ∀ j, (ch j).Pairwise (fun p q => B (B_index k) p < B (B_index k) q)) (idx : ∀ j, ∀ p ∈ ch j, ∃ n : Nat, B (B_index k) p = (n : Int) ∧ (A M_read (256 * k + j)).toNat / 64 ≤ n ∧ n < 1024 ∧ ∃ q, pa A k j (n : Int) = some q) (all : ∀ j, j < 256 → E (R_o k j) = true → A M_wasReset (256 * k + j) = 0 → ∀ n q : Nat, (A M_read (256 * k + j)).toNat / 64 ≤ n → pa A k j (n : Int) = some q → ∃ p ∈ ch j, B (B_index k) p = (n : Int)) (bit : ∀ j, ∀ p ∈ ch j, ∀ n q : Nat, B (B_index k) p = (n : Int) → q < 64 → (mbit (B (B_marks k) p) q = hasB A k j (64 * n + q))) (byt : ∀ j, ∀ p ∈ ch j, ∀ n q : Nat, B (B_index k) p = (n : Int) → q < 64 → hasB A k j (64 * n + q) = true → B (B_bytes k) (64 * p + q) = bt A k j (64 * n + q)) (pth : ∀ j, j < 256 → ∀ (n : Int) (q : Nat), pa A k j n = some q → E (R_o k j) = true) : CBl E A B k ch fl := ⟨mad, fre, lnk, emp, mem, mef, ndc, ndf, dis, dif, ris, idx, all, bit, byt, pth⟩
/-- which streams have parts -/
def CEx (E : L3 → Bool) (A : AM) : Prop := ∀ k j, k < 2 → j < 256 → E (S_o k j) = (decide (A M_there (256 * k + j) ≠ 0) && hs k j) ∧ E (R_o k j) = (decide (A M_there (256 * k + j) ≠ 0) && hr k j)
