/-! CONTRACTS OF METHODS THAT MAY THROW -/
def FrX (s t : State) (L : List Loc) (k n : Nat) : Prop := s.WarmedH t.vm ∧ s.sameButNew ({ t with vm := s.vm } : State) L k n
def MetX (l : Launch) (y : MethodName) (ws : List Cond) (rm : Room) (Pc : Array Value → State → Prop) (Qc : Array Value → State → Outcome → State → Prop) (mc ms : Nat) (free : Addr → Prop) : Prop :=
  MetFree l y (headSpec ws rm) Pc (fun _ _ _ _ _ => True) (fun a st o t => Qc a st o t ∧ ∃ L, FrX st t L mc ms ∧ ∀ q ∈ L, free q.base)
def MQX (below : List Frame) (Qc : Array Value → State → Outcome → State → Prop) (a : Array Value) (s : State) (mc ms : Nat) (free : Addr → Prop) : State → Prop := fun t =>
  ∃ o, t.status = .running ∧ Ended t below o ∧ Qc a s o t ∧ ∃ L, FrX s t L mc ms ∧ ∀ q ∈ L, free q.base
section XC
variable {p : Program} {l : Launch} {e : Env} {R : Room} {s : State} {m : MethodId} {args : Array Value} {below : List Frame} {meth : Method} {c : Code} {H : Heap} {locs : List Loc} {cells slots : Nat} {Q Q' : State → Prop}
theorem W.mono {g : JFrame} (h : ∀ t, Q t → Q' t) (k : W p l e R s m args below meth c H locs cells slots Q g) : W p l e R s m args below meth c H locs cells slots Q' g := by
  intro T hT X
  obtain ⟨t, a, b⟩ := k T hT X
  exact ⟨t, a, h t b⟩
theorem MQ.toX {Qc : Array Value → State → Outcome → State → Prop} {a : Array Value} {mc ms : Nat} {free : Addr → Prop} {t : State} (h : MQ below Qc a s mc ms free t) : MQX below Qc a s mc ms free t := by
  obtain ⟨o, h1, h2, h3, L, ⟨-, hW, hf⟩, hL⟩ := h
  exact ⟨o, h1, h2, h3, L, ⟨hW, hf⟩, hL⟩
theorem MetX.ofW {y : MethodName} {ws ws' : List Cond} {rm : Room} {Pc : Array Value → State → Prop} {Qc : Array Value → State → Outcome → State → Prop} {mc ms : Nat} {free : Addr → Prop} {cc : ByteArray} {maxL : Nat} {ret : Option FieldType}
    (hy : plainName y.cls = true) (hw : ws = Cond.code y cc maxL ret :: ws')
    (body : ∀ p e s m args below meth c s₁, BodyLoose p l y (headSpec ws rm) cc maxL ret e s m args below meth c s₁ → c.maxLocals = maxL → c.exceptionTable.isEmpty = true → Pc args s →
      W p l e (headSpec ws rm).room s m args below meth c s.heap [] 0 0 (MQX below Qc args s mc ms free) (entryFrame m args maxL)) : MetX l y ws rm Pc Qc mc ms free := by
  refine MetFree.of_bodyS (code := cc) (maxLocals := maxL) (ret := ret) hy ?_ ?_
  · intro args s m h hn
    obtain ⟨meth, c, h1, h2, h3, h4, h5, h6, -, -⟩ := Cond.code_spec hn (atoms_spec (ws := ws) h _ (by rw [hw]; exact List.mem_cons_self))
    exact ⟨meth, c, h1, h2, h3, h4, h5, h6⟩
  · intro p e s m args below meth c s₁ B hml hP _
    have hh0 : s₁.heap = s.heap := by rw [B.state]; rfl
    have hex : c.exceptionTable.isEmpty = true := B.noHandlers (atoms_spec (ws := ws) B.pre _ (by rw [hw]; exact List.mem_cons_self))
    obtain ⟨t, a1, o, b1, b2, b3⟩ := body p e s m args below meth c s₁ B hml hex hP s₁ hh0 (Stand.of_body B)
    exact ⟨t, o, a1, b1, b2, ⟨b3.1, b3.2⟩⟩
/-- the callee's end, returned or thrown, behind the call -/
theorem callX {y : MethodName} {ws : List Cond} {rm : Room} {Pc : Array Value → State → Prop} {Qc : Array Value → State → Outcome → State → Prop} {mc ms : Nat} {free : Addr → Prop} {bytes : ByteArray} {maxL : Nat} {ret : Option FieldType}
    (hM : MetX l y ws rm Pc Qc mc ms free) (hblind : FrameBlind Pc) (hrc : rm.cells = mc) (hrs : rm.slots = ms) (hframes : rm.frames + 1 ≤ R.frames) (hlocals : 8 + (maxL + 11) + rm.locals ≤ R.locals)
    (hws : ∀ w ∈ ws, ∀ (a' : Array Value) (U : State), s.WarmedH U.vm → w.before a' U = true) (hcode : Cond.code y bytes maxL ret ∈ ws) (hini : ∀ (a' : Array Value) (U : State), s.WarmedH U.vm → (Cond.initialized y.cls).before a' U = true)
    {U : State} (X : Stand p l e R s m args below meth c U locs cells slots) {g : JFrame} {ig : Instr} {mk : MethodId} {a : Array Value} (hg : g.method = m) (hsize : g.locals.size = c.maxLocals) (hdg : decode c.code g.pc = .ok (ig, 3))
    (hW : 2 * g.monitorRoom + (g.stack.map fun v => v.category).sum ≤ 8) (hn : U.methodNamed? y = some mk) (hfit : cells + mc ≤ R.cells ∧ slots + ms ≤ R.slots) (hp : Pc a U) :
    ∃ (o : Outcome) (t T' : State) (L : List Loc), Stand p l e R s m args below meth c T' (locs ++ L) (cells + mc) (slots + ms) ∧ T'.heap = t.heap ∧ T'.vm = t.vm ∧ (∀ q ∈ L, free q.base) ∧ Qc a (U.calling g mk a) o t ∧
      ((∃ v, o = .returned v ∧ Steps p.tables e below (doInvoke e (U.setTop g) [] mk a).1 (T'.setTop { g with pc := g.pc + 3, stack := v.toList ++ g.stack })) ∨
       (∃ x, o = .threw x ∧ Steps p.tables e below (doInvoke e (U.setTop g) [] mk a).1 ((T'.setTop g).pushFrame (.throwing x)))) := by
  have h1 : (headSpec ws rm).pre.before a U = true := atoms_intro fun w hw => hws w hw _ _ X.warmed
  have h2 := hws _ hcode a U X.warmed
  obtain ⟨methY, cY, hmY, hcY, -, hlY, -, -, -, -⟩ := Cond.code_spec hn h2
  obtain ⟨kY, hkY, -⟩ := className_of_methodNamed hn
  have hinitY : kY.init = .initialized := Cond.initialized_spec (findClass_of_methodNamed hn) hkY (hini a U X.warmed)
  have h : At U g.method c below := by rw [hg]; exact X.here
  have happ : (headSpec ws rm).appliesLoose y e.platform (U.calling g mk a) = true :=
    Spec.appliesLoose_calling (g := g) h hdg hn hkY hinitY
      (X.room_calling (g := g) (R' := (headSpec ws rm).room) hsize hmY hcY hframes (by rw [hlY]; show _ + (maxL + 11) + rm.locals ≤ _; omega) (by show cells + rm.cells ≤ _; rw [hrc]; exact hfit.1) (by show slots + rm.slots ≤ _; rw [hrs]; exact hfit.2)) h1
  obtain ⟨mid, hmid⟩ := h.above
  have hfr : (U.setTop g).frames = (.java g :: mid) ++ below := by rw [State.frames_setTop' g h.top, hmid]; rfl
  obtain ⟨o, s₂, hsteps, -, hend, hq⟩ := Steps.callFree hM p X.admits X.cas X.clock (acts := []) hfr happ (hblind _ _ _ _ hp) trivial
  have hq' : Qc a (U.calling g mk a) o s₂ ∧ ∃ L, FrX (U.calling g mk a) s₂ L mc ms ∧ ∀ q ∈ L, free q.base := hq
  obtain ⟨hq1, L, ⟨hW₂, hsame⟩, hL⟩ := hq'
  rw [State.frames_setTop' g h.top] at hend
  cases o with
  | threw x =>
    have hend' : Ended s₂ (.java g :: below) (.threw x) := by
      have := X.tail
      rw [this] at hend
      exact hend
    obtain ⟨T', X', -, -, ht⟩ := X.outOfThrown hg hend' hW₂ hsame
    subst ht
    refine ⟨.threw x, _, T', L, X', ?_, ?_, hL, hq1, Or.inr ⟨x, rfl, hsteps⟩⟩
    · exact (Stand.throwing_heap T' g x).symm
    · exact (Stand.throwing_vm T' g x).symm
  | returned v =>
    obtain ⟨e2, q2, q3, q4, q5, q6⟩ := hsame
    have e3 : s₂ = ({ (U.calling g mk a).setFrames s₂.frames with heap := s₂.heap, slotsUsed := s₂.slotsUsed } : State).setVm s₂.vm := by
      have : s₂ = ({ s₂ with vm := (U.calling g mk a).vm } : State).setVm s₂.vm := rfl
      rw [e2] at this
      exact this
    obtain ⟨c₂, i₂, len₂, hc₂, hd₂, hf₂⟩ := hend
    have hW' : U.WarmedH s₂.vm := hW₂
    have hcc : c₂ = c := by
      have h1 : s₂.code? g.method = U.code? g.method := by
        rw [State.code?_eq, State.code?_eq, hW'.alike.method?]
      exact Option.some.inj (hc₂.symm.trans (h1.trans h.code))
    subst hcc
    have hlen : len₂ = 3 := by rw [hdg] at hd₂; cases hd₂; rfl
    subst hlen
    obtain ⟨g₀, hg0⟩ := Option.isSome_iff_exists.mp h.top
    obtain ⟨r, hr⟩ := State.topJava?_eq_some.mp hg0
    have hs₂ : s₂ = (({ U with heap := s₂.heap, slotsUsed := s₂.slotsUsed } : State).setVm s₂.vm).setTop { g with pc := g.pc + 3, stack := v.toList ++ g.stack } := by
      have hr' : (({ U with heap := s₂.heap, slotsUsed := s₂.slotsUsed } : State).setVm s₂.vm).frames = .java g₀ :: r := hr
      refine e3.trans ?_
      rw [hf₂, State.calling_eq h.top, State.setFrames_setFrames, State.setTop_of_frames _ hr', hr]
      rfl
    have hsame : U.sameButNew ({ U with heap := s₂.heap, slotsUsed := s₂.slotsUsed } : State) L mc ms := by
      refine ⟨?_, q2, q3, q4, q5, q6⟩
      obtain ⟨t, ht, -⟩ := State.frames_cons hr
      show ({ U with heap := s₂.heap, slotsUsed := s₂.slotsUsed } : State) = { U.setFrames U.frames with heap := s₂.heap, slotsUsed := s₂.slotsUsed }
      rw [State.setFrames_self ht]
    subst hg
    refine ⟨.returned v, s₂, ({ U with heap := s₂.heap, slotsUsed := s₂.slotsUsed } : State).setVm s₂.vm, L,
      ⟨X.admits, X.cas, X.clock, X.frames, X.room, X.hears, X.method, X.code, (X.here.setHeapUsed s₂.heap s₂.slotsUsed).setVm hW'.alike, X.tail, State.WarmedH.trans X.warmed hW', X.limits, X.bytes, X.same.trans (hsame.setVm s.vm)⟩,
      rfl, rfl, hL, hq1, Or.inl ⟨v, rfl, ?_⟩⟩
    show Steps p.tables e below _ ((({ U with heap := s₂.heap, slotsUsed := s₂.slotsUsed } : State).setVm s₂.vm).setTop { g with pc := g.pc + 3, stack := v.toList ++ g.stack })
    rw [← hs₂]
    exact hsteps
end XC
/-- a thrown object lies over the frame -/
def WT (p : Program) (l : Launch) (e : Env) (R : Room) (s : State) (m : MethodId) (args : Array Value) (below : List Frame) (meth : Method) (c : Code) (H : Heap) (locs : List Loc) (cells slots : Nat) (Q : State → Prop) (x : Addr) (g : JFrame) : Prop :=
  ∀ T : State, T.heap = H → Stand p l e R s m args below meth c T locs cells slots → ∃ t, Steps p.tables e below ((T.setTop g).pushFrame (.throwing x)) t ∧ Q t
section XR
variable {p : Program} {l : Launch} {e : Env} {R : Room} {s : State} {m : MethodId} {args : Array Value} {below : List Frame} {meth : Method} {c : Code} {H : Heap} {locs : List Loc} {cells slots : Nat} {Q : State → Prop}
  {Ts ws ws' : List Cond} {cc bytes : ByteArray} {nL maxL index n mc ms pc : Nat} {own C : String} {y : MethodName} {ret : Option FieldType} {rm : Room} {Pc : Array Value → State → Prop} {Qc : Array Value → State → Outcome → State → Prop} {A : Nat → Prop} {b : Addr} {As st rest : List Value} {ls : Array Slot}
theorem va_S.callF {A : Nat → Prop} {H0 H H1 : Heap} {locs L : List Loc} {st t : State} (hS : va_S A H0 H locs) (h0 : st.heap = H) (h1 : t.heap = H1) (hF : va_F A st t) (hL : ∀ q ∈ L, A q.base) : va_S A H0 H1 (locs ++ L) := by
  subst h0; subst h1
  refine ⟨Nat.le_trans hS.1 hF.1, fun q g1 g2 => (hF.2 q (Nat.lt_of_lt_of_le g1 hS.1) g2).trans (hS.2.1 q g1 g2), fun q hq => ?_⟩
  rcases List.mem_append.mp hq with h | h
  · exact hS.2.2 q h
  · exact hL q h
theorem wx_V (S : CallFix p m c cc nL s args Ts own) (hM : MetX l y ws rm Pc Qc mc ms A) (cw : CallW R s args own C index y bytes maxL ret ws rm mc ms n) (hp : PreV s H C b Pc As) (hQF : ∀ a st o t, Qc a st o t → va_F A st t) (hS : va_S A s.heap H locs)
    (hn : As.length = n) (hsize : ls.size = nL) (hst : st = As.reverse ++ .ref b :: rest) (hcat : (rest.map fun v => v.category).sum ≤ 8) (hdg : decode cc pc = .ok (.invokevirtual index, 3)) (hf : cells + mc ≤ R.cells ∧ slots + ms ≤ R.slots)
    (kr : ∀ (v : Option Value) (st0 t : State) (H1 : Heap) (locs1 : List Loc), t.heap = H1 → s.WarmedH t.vm → Qc (Value.ref b :: As).toArray st0 (.returned v) t → va_S A s.heap H1 locs1 → W p l e R s m args below meth c H1 locs1 (cells + mc) (slots + ms) Q (F0 m (pc + 3) ls (v.toList ++ rest)))
    (kt : ∀ (x : Addr) (st0 t : State) (H1 : Heap) (locs1 : List Loc), t.heap = H1 → s.WarmedH t.vm → Qc (Value.ref b :: As).toArray st0 (.threw x) t → va_S A s.heap H1 locs1 → WT p l e R s m args below meth c H1 locs1 (cells + mc) (slots + ms) Q x (F0 m pc ls rest)) :
    W p l e R s m args below meth c H locs cells slots Q (F0 m pc ls st) := by
  obtain ⟨⟨hrc, hrs, hfr, hlo, hws, hcw, hcode, hini, hy, hlen, hl⟩, hin, hse⟩ := cw
  obtain ⟨hx, hb, hml, ho, -⟩ := S
  obtain ⟨hbl, ⟨cellB, hcB, hoB, hclB⟩, hPc⟩ := hp
  subst hst
  intro T hT X
  obtain ⟨mk, methM, hnamed, hmethM, hstM, habM⟩ := Cond.instanceMethod_spec hin
  obtain ⟨methM', cM, hmethM', -, -, -, -, -, -, hsigM⟩ := Cond.code_spec hnamed hcode
  cases hmethM.symm.trans hmethM'
  obtain ⟨c2, r2, m2, q1, q2, q3, q4, kP, hkP, hkPi⟩ := Cond.selects_spec hse
  cases hclB.symm.trans q1
  cases (State.methodFound?_of_named hnamed hy).symm.trans q2
  cases hnamed.symm.trans q3
  have hselP : selectMethod e.platform s.vm cellB.cls mk = .method mk := by rw [Launch.admits_selectMethod X.admits]; exact q4
  obtain ⟨vm₁, X₁, hstep₁⟩ := X.invokevirtual hx ho hl hnamed hmethM hstM hkP hkPi hy (a := b) (cell := cellB) (by rw [hT]; exact hcB)
    (fun z h => by rw [h] at hoB; cases hoB) hselP hmethM habM hkP hkPi (g := F0 m pc ls (As.reverse ++ .ref b :: rest)) rfl (argsL := As) (rest := rest) (hn.trans (hlen _ hsigM)) rfl (by rw [hb]; exact hdg)
  obtain ⟨o, t, T', L, X', e1, e2, hL, hq, hor⟩ := callX (R := R) hM hbl hrc hrs hfr hlo hws hcw (fun a' U hW => word_at hW (Or.inl (by first | rfl | simp [Cond.onTables, Cond.keeps, Cond.steady])) hini) X₁ (g := F0 m pc ls rest) (mk := mk) (a := (Value.ref b :: As).toArray) rfl (hsize.trans hml.symm) (by rw [hb]; exact hdg) (lv_room hcat) (X₁.named hnamed) hf (hPc (T.setVm vm₁) hT X₁.warmed)
  have hS1 : va_S A s.heap T'.heap (locs ++ L) := hS.callF (st := (T.setVm vm₁).calling (F0 m pc ls rest) mk (Value.ref b :: As).toArray) hT e1.symm (hQF _ _ _ _ hq) hL
  have hW1 : s.WarmedH t.vm := by rw [← e2]; exact X'.warmed
  rcases hor with ⟨v, rfl, hst⟩ | ⟨x, rfl, hst⟩
  · obtain ⟨t2, a1, b1⟩ := kr v _ t T'.heap (locs ++ L) e1.symm hW1 hq hS1 T' rfl X'
    exact ⟨t2, hstep₁ _ fun acts => by rw [doInvoke_state]; exact hst.trans a1, b1⟩
  · obtain ⟨t2, a1, b1⟩ := kt x _ t T'.heap (locs ++ L) e1.symm hW1 hq hS1 T' rfl X'
    exact ⟨t2, hstep₁ _ fun acts => by rw [doInvoke_state]; exact hst.trans a1, b1⟩
theorem wx_S (S : CallFix p m c cc nL s args Ts own) (hM : MetX l y ws rm Pc Qc mc ms A) (cw : CallB R s args own index y bytes maxL ret ws rm mc ms n ∧ (Cond.static y).before args s = true) (hp : PreS s H Pc As) (hQF : ∀ a st o t, Qc a st o t → va_F A st t) (hS : va_S A s.heap H locs)
    (hn : As.length = n) (hsize : ls.size = nL) (hst : st = As.reverse ++ rest) (hcat : (rest.map fun v => v.category).sum ≤ 8) (hdg : decode cc pc = .ok (.invokestatic index, 3)) (hf : cells + mc ≤ R.cells ∧ slots + ms ≤ R.slots)
    (kr : ∀ (v : Option Value) (st0 t : State) (H1 : Heap) (locs1 : List Loc), t.heap = H1 → s.WarmedH t.vm → Qc As.toArray st0 (.returned v) t → va_S A s.heap H1 locs1 → W p l e R s m args below meth c H1 locs1 (cells + mc) (slots + ms) Q (F0 m (pc + 3) ls (v.toList ++ rest)))
    (kt : ∀ (x : Addr) (st0 t : State) (H1 : Heap) (locs1 : List Loc), t.heap = H1 → s.WarmedH t.vm → Qc As.toArray st0 (.threw x) t → va_S A s.heap H1 locs1 → WT p l e R s m args below meth c H1 locs1 (cells + mc) (slots + ms) Q x (F0 m pc ls rest)) :
    W p l e R s m args below meth c H locs cells slots Q (F0 m pc ls st) := by
  obtain ⟨⟨hrc, hrs, hfr, hlo, hws, hcw, hcode, hini, hy, hlen, hl⟩, hstt⟩ := cw
  obtain ⟨hx, hb, hml, ho, -⟩ := S
  obtain ⟨hbl, hPc⟩ := hp
  subst hst
  intro T hT X
  obtain ⟨mk, hnamed⟩ := Cond.code_named hcode
  obtain ⟨methM, cM, hmethM, -, -, -, -, -, -, hsigM⟩ := Cond.code_spec hnamed hcode
  have hstatic : methM.isStatic = true := Cond.static_spec hnamed hmethM hstt
  obtain ⟨kP, hkP, -⟩ := className_of_methodNamed hnamed
  have hinitP : kP.init = .initialized := Cond.initialized_spec (findClass_of_methodNamed hnamed) hkP hini
  obtain ⟨vm₁, X₁, hstep₁⟩ := X.invokestatic hx ho hl hnamed hmethM hstatic hkP hinitP hy (g := F0 m pc ls (As.reverse ++ rest)) rfl (argsL := As) (rest := rest) (hn.trans (hlen _ hsigM)) rfl (by rw [hb]; exact hdg)
  obtain ⟨o, t, T', L, X', e1, e2, hL, hq, hor⟩ := callX (R := R) hM hbl hrc hrs hfr hlo hws hcw (fun a' U hW => word_at hW (Or.inl (by first | rfl | simp [Cond.onTables, Cond.keeps, Cond.steady])) hini) X₁ (g := F0 m pc ls rest) (mk := mk) (a := As.toArray) rfl (hsize.trans hml.symm) (by rw [hb]; exact hdg) (lv_room hcat) (X₁.named hnamed) hf (hPc (T.setVm vm₁) hT X₁.warmed)
  have hS1 : va_S A s.heap T'.heap (locs ++ L) := hS.callF (st := (T.setVm vm₁).calling (F0 m pc ls rest) mk As.toArray) hT e1.symm (hQF _ _ _ _ hq) hL
  have hW1 : s.WarmedH t.vm := by rw [← e2]; exact X'.warmed
  rcases hor with ⟨v, rfl, hst⟩ | ⟨x, rfl, hst⟩
  · obtain ⟨t2, a1, b1⟩ := kr v _ t T'.heap (locs ++ L) e1.symm hW1 hq hS1 T' rfl X'
    exact ⟨t2, hstep₁ _ fun acts => by rw [doInvoke_state]; exact hst.trans a1, b1⟩
  · obtain ⟨t2, a1, b1⟩ := kt x _ t T'.heap (locs ++ L) e1.symm hW1 hq hS1 T' rfl X'
    exact ⟨t2, hstep₁ _ fun acts => by rw [doInvoke_state]; exact hst.trans a1, b1⟩
/-- no handler: the method throws on -/
theorem WT.leave {x : Addr} {Qx : Array Value → State → Outcome → State → Prop} (hlk : meth.locks = false) (hex : c.exceptionTable.isEmpty = true) (hS : va_S A s.heap H locs) (hq : ∀ t : State, t.heap = H → s.WarmedH t.vm → Qx args s (.threw x) t) :
    WT p l e R s m args below meth c H locs cells slots (MQX below Qx args s cells slots A) x (F0 m pc ls rest) := by
  intro T hT X
  obtain ⟨h1, h2, h3, h4, h5⟩ := X.leaveThrown x (g := F0 m pc ls rest) rfl rfl rfl (fun z hz => by
    have : c.exceptionTable = #[] := Array.isEmpty_iff.mp hex
    rw [this] at hz
    cases hz) hlk
  exact ⟨_, h1, .threw x, h2, h3, hq _ hT h4, locs, ⟨h4, h5⟩, hS.2.2⟩
end XR
