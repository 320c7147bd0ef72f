/-! A WORLD BY ROLES: a memory of ints and longs by role and number; a role's cell is a shape of its rows; roles have addresses -/
abbrev L3 : Type := Nat × Nat × Nat
abbrev Mem : Type := (L3 → Nat → Int32) × (L3 → Nat → Int64)
def sI (S : Mem) (r : L3) (f : Nat) (v : Int32) : Mem := (fun r' f' => if r' = r ∧ f' = f then v else S.1 r' f', S.2)
def sJ (S : Mem) (r : L3) (f : Nat) (v : Int64) : Mem := (S.1, fun r' f' => if r' = r ∧ f' = f then v else S.2 r' f')
theorem sI_1 (S : Mem) (r r' : L3) (f f' : Nat) (v : Int32) : (sI S r f v).1 r' f' = if r' = r ∧ f' = f then v else S.1 r' f' := rfl
theorem sI_2 (S : Mem) (r : L3) (f : Nat) (v : Int32) : (sI S r f v).2 = S.2 := rfl
theorem sJ_2 (S : Mem) (r r' : L3) (f f' : Nat) (v : Int64) : (sJ S r f v).2 r' f' = if r' = r ∧ f' = f then v else S.2 r' f' := rfl
theorem sJ_1 (S : Mem) (r : L3) (f : Nat) (v : Int64) : (sJ S r f v).1 = S.1 := rfl
theorem sI_self (S : Mem) (r : L3) (f : Nat) (v : Int32) : (sI S r f v).1 r = upd (S.1 r) f v := by
  funext g
  show (if r = r ∧ g = f then v else S.1 r g) = if g = f then v else S.1 r g
  by_cases h : g = f <;> simp [h]
theorem sI_ne (S : Mem) {r r' : L3} (f : Nat) (v : Int32) (h : r' ≠ r) : (sI S r f v).1 r' = S.1 r' := by
  funext g
  show (if r' = r ∧ g = f then v else S.1 r' g) = _
  rw [if_neg (fun q => h q.1)]
theorem sJ_self (S : Mem) (r : L3) (f : Nat) (v : Int64) : (sJ S r f v).2 r = vp_updL (S.2 r) f v := by
  funext g
  show (if r = r ∧ g = f then v else S.2 r g) = if g = f then v else S.2 r g
  by_cases h : g = f <;> simp [h]
theorem sJ_ne (S : Mem) {r r' : L3} (f : Nat) (v : Int64) (h : r' ≠ r) : (sJ S r f v).2 r' = S.2 r' := by
  funext g
  show (if r' = r ∧ g = f then v else S.2 r' g) = _
  rw [if_neg (fun q => h q.1)]
abbrev Shp : Type := (L3 → Nat) → L3 → (Nat → Int32) → (Nat → Int64) → va_E
def Wd (D : va_G) (cl : List vw_C) (sh : Shp) (ex : Mem → L3 → Prop) (A : Nat → Prop) (ad : L3 → Nat) (S : Mem) (H : Heap) : Prop :=
  (∀ r, ex S r → va_at D cl (ad r, sh ad r (S.1 r) (S.2 r)) H ∧ A (ad r)) ∧ ∀ r r', ex S r → ex S r' → ad r = ad r' → r = r'
theorem Wd.one {D : va_G} {cl : List vw_C} {sh : Shp} {ex : Mem → L3 → Prop} {A : Nat → Prop} {ad : L3 → Nat} {S : Mem} {H : Heap} (h : Wd D cl sh ex A ad S H) {r : L3} (hr : ex S r) {e : va_E} (he : sh ad r (S.1 r) (S.2 r) = e) : va_P D cl [(ad r, e)] H := by
  intro k q hk
  cases k with
  | zero => cases hk; subst he; exact (h.1 r hr).1
  | succ k => simp at hk
theorem Wd.kept {D : va_G} {cl : List vw_C} {sh : Shp} {ex : Mem → L3 → Prop} {A : Nat → Prop} {ad : L3 → Nat} {S : Mem} {H H1 : Heap} (h : Wd D cl sh ex A ad S H) (hq : ∀ r, ex S r → H1[ad r]? = H[ad r]?) : Wd D cl sh ex A ad S H1 :=
  ⟨fun r hr => ⟨(h.1 r hr).1.kept (hq r hr), (h.1 r hr).2⟩, h.2⟩
/-- one role's rows are new -/
theorem Wd.up {D : va_G} {cl : List vw_C} {sh : Shp} {ex : Mem → L3 → Prop} {A : Nat → Prop} {ad : L3 → Nat} {S S' : Mem} {H H1 : Heap} (h : Wd D cl sh ex A ad S H) {r : L3} (hr : ex S r) (hex : ∀ r', ex S' r' → ex S r') (hI : ∀ r', r' ≠ r → S'.1 r' = S.1 r') (hJ : ∀ r', r' ≠ r → S'.2 r' = S.2 r') (hat : va_at D cl (ad r, sh ad r (S'.1 r) (S'.2 r)) H1) (oq : ∀ q : Nat, q ≠ ad r → H1[q]? = H[q]?) : Wd D cl sh ex A ad S' H1 := by
  refine ⟨fun r' hr' => ?_, fun a b ha hb => h.2 a b (hex a ha) (hex b hb)⟩
  by_cases e : r' = r
  · subst e
    exact ⟨hat, (h.1 r' hr).2⟩
  · rw [hI r' e, hJ r' e]
    exact ⟨(h.1 r' (hex r' hr')).1.kept (oq _ (fun z => e (h.2 r' r (hex r' hr') hr z))), (h.1 r' (hex r' hr')).2⟩
/-- what a walk knows of its method -/
def CX (own : String) (cc : ByteArray) (nL : Nat) (ret : Option FieldType) (K : State → Prop) (p : Program) (s : State) (m : MethodId) (args : Array Value) (meth : Method) (c : Code) (A : Nat → Prop) : Prop :=
  p.tables.exec = Jvm.exec ∧ c.code = cc ∧ c.maxLocals = nL ∧ meth.sig.returnType = ret ∧ meth.locks = false ∧ s.vm.findClass own = some m.cls ∧ (∀ w ∈ lw_all, w.before args s = true) ∧ K s ∧ ∀ q, s.heap.size ≤ q → A q
section GX
variable {own : String} {cc : ByteArray} {nL : Nat} {ret : Option FieldType} {K : State → Prop} {p : Program} {s : State} {m : MethodId} {args : Array Value} {meth : Method} {c : Code} {A : Nat → Prop}
theorem CX.hx (X : CX own cc nL ret K p s m args meth c A) : p.tables.exec = Jvm.exec := X.1
theorem CX.hb (X : CX own cc nL ret K p s m args meth c A) : c.code = cc := X.2.1
theorem CX.hml (X : CX own cc nL ret K p s m args meth c A) : c.maxLocals = nL := X.2.2.1
theorem CX.hr (X : CX own cc nL ret K p s m args meth c A) : meth.sig.returnType = ret := X.2.2.2.1
theorem CX.hlk (X : CX own cc nL ret K p s m args meth c A) : meth.locks = false := X.2.2.2.2.1
theorem CX.hown (X : CX own cc nL ret K p s m args meth c A) : s.vm.findClass own = some m.cls := X.2.2.2.2.2.1
theorem CX.hts (X : CX own cc nL ret K p s m args meth c A) : ∀ w ∈ lw_all, w.before args s = true := X.2.2.2.2.2.2.1
theorem CX.hK (X : CX own cc nL ret K p s m args meth c A) : K s := X.2.2.2.2.2.2.2.1
theorem CX.hA (X : CX own cc nL ret K p s m args meth c A) : ∀ q, s.heap.size ≤ q → A q := X.2.2.2.2.2.2.2.2
end GX
section GR
variable {p : Program} {l : Launch} {e : Env} {R : Room} {s : State} {m : MethodId} {args : Array Value} {below : List Frame} {meth : Method} {c : Code} {H : Heap} {locs : List Loc} {cells slots : Nat} {Q : State → Prop}
variable {cc : ByteArray} {pc : Nat} {ls : Array Slot} {rest : List Value} {D : va_G} {cl : List vw_C} {A : Nat → Prop} {tys : List (ClassId × FieldType)} {H0 : Heap} {sh : Shp} {ex : Mem → L3 → Prop} {ad : L3 → Nat} {S : Mem} {r : L3}
theorem wd_put (hexec : p.tables.exec = Jvm.exec) (hb : c.code = cc) {own ref C : String} {T : u_T} {N ci index : Nat} {Ts : List Cond} (hts : ∀ w ∈ Ts, w.before args s = true) (hin : ∀ w ∈ u_ws C T N, w ∈ Ts) (ty0 : Nat → FieldType) (hty : ∀ k, k < N → parseFieldDescriptor (T k).2.2.1 = some (ty0 k)) (hnm : ∀ a, a < N → ∀ b, b < N → a ≠ b → (T a).2.1 ≠ (T b).2.1) (hown : s.vm.findClass own = some m.cls) (hK : va_K D cl tys s) (hP : Wd D cl sh ex A ad S H) (hS0 : va_S A H0 H locs) (hr : ex S r) {fs : List Value} (he : sh ad r (S.1 r) (S.2 r) = .inr (ci, fs)) (hc : cl[ci]? = some (C, T, N)) (k : Nat) (hk : k < N) (hlink : (Cond.fieldLink own index ref (T k).2.1 (T k).2.2.1).before args s = true) (hsame : ∀ x, s.fieldFound? (T k).1 (T k).2.1 (T k).2.2.1 = some x → s.fieldFound? ref (T k).2.1 (T k).2.2.1 = some x) (hfin : (T k).2.2.2 = false) {ty : FieldType} {v : Value} (hd : parseFieldDescriptor (T k).2.2.1 = some ty) (hn : narrow ty v = v) (hfit : fits ty v = true) (hl : k < fs.length)
    {S' : Mem} (hex : ∀ r', ex S' r' → ex S r') (hI : ∀ r', r' ≠ r → S'.1 r' = S.1 r') (hJ : ∀ r', r' ≠ r → S'.2 r' = S.2 r') (he' : sh ad r (S'.1 r) (S'.2 r) = .inr (ci, fs.set k v))
    (hdg : decode cc pc = .ok (.putfield index, 3)) (kk : ∀ (H1 : Heap) (locs1 : List Loc), Wd D cl sh ex A ad S' H1 → va_S A H0 H1 locs1 → W p l e R s m args below meth c H1 locs1 cells slots Q (F0 m (pc + 3) ls rest)) : W p l e R s m args below meth c H locs cells slots Q (F0 m pc ls (v :: .ref (ad r) :: rest)) := by
  have hap := va_apart (own := own) hts hin ty0 hty hnm hK hc
  obtain ⟨r0, h1, cell, q1, q2, q3, q4⟩ := (hP.one hr he) 0 _ rfl
  have hr0 : r0 = (C, T, N) := Option.some.inj (h1.symm.trans hc)
  subst hr0
  obtain ⟨hS, hfc, kC, hkC, hkind⟩ := hK.1 ci _ hc
  obtain ⟨cf, kf, fi, f, hi, hsl⟩ := hS k hk
  have hlay := hts _ (hin _ (u_in_lay hk))
  unfold u_lay at hlay
  rw [if_neg (by rw [hfin]; decide)] at hlay
  have hst := (u_facts hfc hkC (u_lays hts hin hk) hi).1
  have h6 := u_store hfc hkC hkind hlay hi hd hn hfit
  refine W.putK hexec hb (f := f) ⟨hown, hlink, ⟨_, _, _, hsame _ hi⟩, hst⟩ (by rw [q2]; exact h6) q1 q3 (by rw [hsl]; exact k2_hasslot (q4 k hk)) rfl rfl hdg fun H' e1 e2 e3 => ?_
  rw [hsl] at e1 ⊢
  refine kk H' _ (hP.up hr hex hI hJ ?_ e3) (hS0.put e2 e3 (hP.1 r hr).2)
  rw [he']
  exact ⟨_, hc, t_OB.to (V := updV (vp_V fs) k v) ⟨_, e1, q2, q3, t_set q4 hap hk v⟩ (fun j _ => vp_updV_set hl v j)⟩
theorem wd_putN (hexec : p.tables.exec = Jvm.exec) (hb : c.code = cc) {own ref C host : String} {T : u_T} {N ci index : Nat} {Ts : List Cond} (hts : ∀ w ∈ Ts, w.before args s = true) (hin : ∀ w ∈ u_ws C T N, w ∈ Ts) (ty0 : Nat → FieldType) (hty : ∀ k, k < N → parseFieldDescriptor (T k).2.2.1 = some (ty0 k)) (hnm : ∀ a, a < N → ∀ b, b < N → a ≠ b → (T a).2.1 ≠ (T b).2.1) (hown : s.vm.findClass own = some m.cls) (hK : va_K D cl tys s) (hP : Wd D cl sh ex A ad S H) (hS0 : va_S A H0 H locs) (hr : ex S r) {fs : List Value} (he : sh ad r (S.1 r) (S.2 r) = .inr (ci, fs)) (hc : cl[ci]? = some (C, T, N)) (k : Nat) (hk : k < N) (hlink : (Cond.fieldLinkNest own index ref (T k).2.1 (T k).2.2.1 host).before args s = true) (hsame : ∀ x, s.fieldFound? (T k).1 (T k).2.1 (T k).2.2.1 = some x → s.fieldFound? ref (T k).2.1 (T k).2.2.1 = some x) (hfin : (T k).2.2.2 = false) {ty : FieldType} {v : Value} (hd : parseFieldDescriptor (T k).2.2.1 = some ty) (hn : narrow ty v = v) (hfit : fits ty v = true) (hl : k < fs.length)
    {S' : Mem} (hex : ∀ r', ex S' r' → ex S r') (hI : ∀ r', r' ≠ r → S'.1 r' = S.1 r') (hJ : ∀ r', r' ≠ r → S'.2 r' = S.2 r') (he' : sh ad r (S'.1 r) (S'.2 r) = .inr (ci, fs.set k v))
    (hdg : decode cc pc = .ok (.putfield index, 3)) (kk : ∀ (H1 : Heap) (locs1 : List Loc), Wd D cl sh ex A ad S' H1 → va_S A H0 H1 locs1 → W p l e R s m args below meth c H1 locs1 cells slots Q (F0 m (pc + 3) ls rest)) : W p l e R s m args below meth c H locs cells slots Q (F0 m pc ls (v :: .ref (ad r) :: rest)) := by
  have hap := va_apart (own := own) hts hin ty0 hty hnm hK hc
  obtain ⟨r0, h1, cell, q1, q2, q3, q4⟩ := (hP.one hr he) 0 _ rfl
  have hr0 : r0 = (C, T, N) := Option.some.inj (h1.symm.trans hc)
  subst hr0
  obtain ⟨hS, hfc, kC, hkC, hkind⟩ := hK.1 ci _ hc
  obtain ⟨cf, kf, fi, f, hi, hsl⟩ := hS k hk
  have hlay := hts _ (hin _ (u_in_lay hk))
  unfold u_lay at hlay
  rw [if_neg (by rw [hfin]; decide)] at hlay
  have hst := (u_facts hfc hkC (u_lays hts hin hk) hi).1
  have h6 := u_store hfc hkC hkind hlay hi hd hn hfit
  refine va_WputK hexec hb (f := f) hown hlink (hsame _ hi) hst (by rw [q2]; exact h6) q1 q3 (by rw [hsl]; exact k2_hasslot (q4 k hk)) rfl rfl hdg fun H' e1 e2 e3 => ?_
  rw [hsl] at e1 ⊢
  refine kk H' _ (hP.up hr hex hI hJ ?_ e3) (hS0.put e2 e3 (hP.1 r hr).2)
  rw [he']
  exact ⟨_, hc, t_OB.to (V := updV (vp_V fs) k v) ⟨_, e1, q2, q3, t_set q4 hap hk v⟩ (fun j _ => vp_updV_set hl v j)⟩
theorem wd_iast (hexec : p.tables.exec = Jvm.exec) (hb : c.code = cc) (hK : va_K D cl tys s) (hP : Wd D cl sh ex A ad S H) (hS : va_S A H0 H locs) (hr : ex S r) (t0 : Nat) {cA : ClassId} {n : Nat} (hf : ∀ f g, sh ad r f g = .inl (cA, n, .inl f)) (ht : tys[t0]? = some (cA, .int)) {i : Int32} {x : Int32} (hin : vp_in i n) (hex : ∀ r', ex (sI S r i.toNatClampNeg x) r' → ex S r') (hdg : decode cc pc = .ok (.iastore, 1))
    (kk : ∀ (H1 : Heap) (locs1 : List Loc), Wd D cl sh ex A ad (sI S r i.toNatClampNeg x) H1 → va_S A H0 H1 locs1 → W p l e R s m args below meth c H1 locs1 cells slots Q (F0 m (pc + 1) ls rest)) : W p l e R s m args below meth c H locs cells slots Q (F0 m pc ls (.int x :: .int i :: .ref (ad r) :: rest)) := by
  have h0 : H[ad r]? = some (vp_cell cA (n, .inl (S.1 r))) := (hP.one hr (hf _ _)) 0 _ rfl
  refine W.iast hexec hb h0 ((hK.2 t0 _ ht).1 n (fun j => .int (S.1 r j))) (fun q => by cases q) (by show ¬ (i < 0 ∨ (arrV _ _ _).slots.size ≤ _); rw [arrV_size]; exact hin) rfl rfl hdg fun H1 e z oq => ?_
  refine kk H1 _ (hP.up hr hex (fun r' h => sI_ne S _ _ h) (fun _ _ => rfl) ?_ oq) (hS.put z oq (hP.1 r hr).2)
  rw [sI_self, hf]
  show H1[ad r]? = some (vp_cell _ _)
  rw [e]
  rw [vp_cell_i, vp_cell_i, arrV_store]
  congr 2
  funext q
  by_cases hq : q = i.toNatClampNeg
  · subst hq
    simp [updV, upd, vp_nar]
    try rfl
  · simp [updV, upd, hq]
theorem wd_bast (hexec : p.tables.exec = Jvm.exec) (hb : c.code = cc) (hK : va_K D cl tys s) (hP : Wd D cl sh ex A ad S H) (hS : va_S A H0 H locs) (hr : ex S r) (t0 : Nat) {cA : ClassId} {n : Nat} (hf : ∀ f g, sh ad r f g = .inl (cA, n, .inl f)) (ht : tys[t0]? = some (cA, .byte)) {i : Int32} {x : Int32} (hin : vp_in i n) (hex : ∀ r', ex (sI S r i.toNatClampNeg (vp_nar .byte x)) r' → ex S r') (hdg : decode cc pc = .ok (.bastore, 1))
    (kk : ∀ (H1 : Heap) (locs1 : List Loc), Wd D cl sh ex A ad (sI S r i.toNatClampNeg (vp_nar .byte x)) H1 → va_S A H0 H1 locs1 → W p l e R s m args below meth c H1 locs1 cells slots Q (F0 m (pc + 1) ls rest)) : W p l e R s m args below meth c H locs cells slots Q (F0 m pc ls (.int x :: .int i :: .ref (ad r) :: rest)) := by
  have h0 : H[ad r]? = some (vp_cell cA (n, .inl (S.1 r))) := (hP.one hr (hf _ _)) 0 _ rfl
  refine W.bast hexec hb h0 ((hK.2 t0 _ ht).1 n (fun j => .int (S.1 r j))) (fun q => by cases q) (by show ¬ (i < 0 ∨ (arrV _ _ _).slots.size ≤ _); rw [arrV_size]; exact hin) rfl rfl hdg fun H1 e z oq => ?_
  refine kk H1 _ (hP.up hr hex (fun r' h => sI_ne S _ _ h) (fun _ _ => rfl) ?_ oq) (hS.put z oq (hP.1 r hr).2)
  rw [sI_self, hf]
  show H1[ad r]? = some (vp_cell _ _)
  rw [e]
  rw [vp_cell_i, vp_cell_i, arrV_store]
  congr 2
  funext q
  by_cases hq : q = i.toNatClampNeg
  · subst hq
    simp [updV, upd, vp_nar]
    try rfl
  · simp [updV, upd, hq]
theorem wd_zast (hexec : p.tables.exec = Jvm.exec) (hb : c.code = cc) (hK : va_K D cl tys s) (hP : Wd D cl sh ex A ad S H) (hS : va_S A H0 H locs) (hr : ex S r) (t0 : Nat) {cA : ClassId} {n : Nat} (hf : ∀ f g, sh ad r f g = .inl (cA, n, .inl f)) (ht : tys[t0]? = some (cA, .boolean)) {i : Int32} {x : Int32} (hin : vp_in i n) (hex : ∀ r', ex (sI S r i.toNatClampNeg (vp_nar .boolean x)) r' → ex S r') (hdg : decode cc pc = .ok (.bastore, 1))
    (kk : ∀ (H1 : Heap) (locs1 : List Loc), Wd D cl sh ex A ad (sI S r i.toNatClampNeg (vp_nar .boolean x)) H1 → va_S A H0 H1 locs1 → W p l e R s m args below meth c H1 locs1 cells slots Q (F0 m (pc + 1) ls rest)) : W p l e R s m args below meth c H locs cells slots Q (F0 m pc ls (.int x :: .int i :: .ref (ad r) :: rest)) := by
  have h0 : H[ad r]? = some (vp_cell cA (n, .inl (S.1 r))) := (hP.one hr (hf _ _)) 0 _ rfl
  refine W.zast hexec hb h0 ((hK.2 t0 _ ht).1 n (fun j => .int (S.1 r j))) (fun q => by cases q) (by show ¬ (i < 0 ∨ (arrV _ _ _).slots.size ≤ _); rw [arrV_size]; exact hin) rfl rfl hdg fun H1 e z oq => ?_
  refine kk H1 _ (hP.up hr hex (fun r' h => sI_ne S _ _ h) (fun _ _ => rfl) ?_ oq) (hS.put z oq (hP.1 r hr).2)
  rw [sI_self, hf]
  show H1[ad r]? = some (vp_cell _ _)
  rw [e]
  rw [vp_cell_i, vp_cell_i, arrV_store]
  congr 2
  funext q
  by_cases hq : q = i.toNatClampNeg
  · subst hq
    simp [updV, upd, vp_nar]
    try rfl
  · simp [updV, upd, hq]
theorem wd_sast (hexec : p.tables.exec = Jvm.exec) (hb : c.code = cc) (hK : va_K D cl tys s) (hP : Wd D cl sh ex A ad S H) (hS : va_S A H0 H locs) (hr : ex S r) (t0 : Nat) {cA : ClassId} {n : Nat} (hf : ∀ f g, sh ad r f g = .inl (cA, n, .inl f)) (ht : tys[t0]? = some (cA, .short)) {i : Int32} {x : Int32} (hin : vp_in i n) (hex : ∀ r', ex (sI S r i.toNatClampNeg (vp_nar .short x)) r' → ex S r') (hdg : decode cc pc = .ok (.sastore, 1))
    (kk : ∀ (H1 : Heap) (locs1 : List Loc), Wd D cl sh ex A ad (sI S r i.toNatClampNeg (vp_nar .short x)) H1 → va_S A H0 H1 locs1 → W p l e R s m args below meth c H1 locs1 cells slots Q (F0 m (pc + 1) ls rest)) : W p l e R s m args below meth c H locs cells slots Q (F0 m pc ls (.int x :: .int i :: .ref (ad r) :: rest)) := by
  have h0 : H[ad r]? = some (vp_cell cA (n, .inl (S.1 r))) := (hP.one hr (hf _ _)) 0 _ rfl
  refine W.sast hexec hb h0 ((hK.2 t0 _ ht).1 n (fun j => .int (S.1 r j))) (fun q => by cases q) (by show ¬ (i < 0 ∨ (arrV _ _ _).slots.size ≤ _); rw [arrV_size]; exact hin) rfl rfl hdg fun H1 e z oq => ?_
  refine kk H1 _ (hP.up hr hex (fun r' h => sI_ne S _ _ h) (fun _ _ => rfl) ?_ oq) (hS.put z oq (hP.1 r hr).2)
  rw [sI_self, hf]
  show H1[ad r]? = some (vp_cell _ _)
  rw [e]
  rw [vp_cell_i, vp_cell_i, arrV_store]
  congr 2
  funext q
  by_cases hq : q = i.toNatClampNeg
  · subst hq
    simp [updV, upd, vp_nar]
    try rfl
  · simp [updV, upd, hq]
theorem wd_last (hexec : p.tables.exec = Jvm.exec) (hb : c.code = cc) (hK : va_K D cl tys s) (hP : Wd D cl sh ex A ad S H) (hS : va_S A H0 H locs) (hr : ex S r) (t0 : Nat) {cA : ClassId} {n : Nat} (hf : ∀ f g, sh ad r f g = .inl (cA, n, .inr (.inl g))) (ht : tys[t0]? = some (cA, .long)) {i : Int32} {x : Int64} (hin : vp_in i n) (hex : ∀ r', ex (sJ S r i.toNatClampNeg x) r' → ex S r') (hdg : decode cc pc = .ok (.lastore, 1))
    (kk : ∀ (H1 : Heap) (locs1 : List Loc), Wd D cl sh ex A ad (sJ S r i.toNatClampNeg x) H1 → va_S A H0 H1 locs1 → W p l e R s m args below meth c H1 locs1 cells slots Q (F0 m (pc + 1) ls rest)) : W p l e R s m args below meth c H locs cells slots Q (F0 m pc ls (.long x :: .int i :: .ref (ad r) :: rest)) := by
  have h0 : H[ad r]? = some (vp_cell cA (n, .inr (.inl (S.2 r)))) := (hP.one hr (hf _ _)) 0 _ rfl
  refine W.last hexec hb h0 ((hK.2 t0 _ ht).1 n (fun j => .long (S.2 r j))) (fun q => by cases q) (by show ¬ (i < 0 ∨ (arrV _ _ _).slots.size ≤ _); rw [arrV_size]; exact hin) rfl rfl hdg fun H1 e z oq => ?_
  refine kk H1 _ (hP.up hr hex (fun _ _ => rfl) (fun r' h => sJ_ne S _ _ h) ?_ oq) (hS.put z oq (hP.1 r hr).2)
  rw [sJ_self, hf]
  show H1[ad r]? = some (vp_cell _ _)
  rw [e]
  rw [vp_cell_l, vp_cell_l, arrV_store]
  congr 2
  funext q
  by_cases hq : q = i.toNatClampNeg
  · subst hq
    simp [updV, vp_updL]
  · simp [updV, vp_updL, hq]
theorem wd_iald (hexec : p.tables.exec = Jvm.exec) (hb : c.code = cc) (hK : va_K D cl tys s) (hP : Wd D cl sh ex A ad S H) (hr : ex S r) (t0 : Nat) {cA : ClassId} {n : Nat} (hf : ∀ f g, sh ad r f g = .inl (cA, n, .inl f)) (ht : tys[t0]? = some (cA, .int)) {i : Int32} (hin : vp_in i n) (hdg : decode cc pc = .ok (.iaload, 1))
    (kk : W p l e R s m args below meth c H locs cells slots Q (F0 m (pc + 1) ls (.int (S.1 r i.toNatClampNeg) :: rest))) : W p l e R s m args below meth c H locs cells slots Q (F0 m pc ls (.int i :: .ref (ad r) :: rest)) :=
  va_iald hexec hb hK (hP.one hr (hf _ _)) 0 t0 rfl ht hin hdg kk
theorem wd_bald (hexec : p.tables.exec = Jvm.exec) (hb : c.code = cc) (hK : va_K D cl tys s) (hP : Wd D cl sh ex A ad S H) (hr : ex S r) (t0 : Nat) {cA : ClassId} {n : Nat} (hf : ∀ f g, sh ad r f g = .inl (cA, n, .inl f)) (ht : tys[t0]? = some (cA, .byte)) {i : Int32} (hin : vp_in i n) (hdg : decode cc pc = .ok (.baload, 1))
    (kk : W p l e R s m args below meth c H locs cells slots Q (F0 m (pc + 1) ls (.int (S.1 r i.toNatClampNeg) :: rest))) : W p l e R s m args below meth c H locs cells slots Q (F0 m pc ls (.int i :: .ref (ad r) :: rest)) :=
  va_bald hexec hb hK (hP.one hr (hf _ _)) 0 t0 rfl ht hin hdg kk
theorem wd_zald (hexec : p.tables.exec = Jvm.exec) (hb : c.code = cc) (hK : va_K D cl tys s) (hP : Wd D cl sh ex A ad S H) (hr : ex S r) (t0 : Nat) {cA : ClassId} {n : Nat} (hf : ∀ f g, sh ad r f g = .inl (cA, n, .inl f)) (ht : tys[t0]? = some (cA, .boolean)) {i : Int32} (hin : vp_in i n) (hdg : decode cc pc = .ok (.baload, 1))
    (kk : W p l e R s m args below meth c H locs cells slots Q (F0 m (pc + 1) ls (.int (S.1 r i.toNatClampNeg) :: rest))) : W p l e R s m args below meth c H locs cells slots Q (F0 m pc ls (.int i :: .ref (ad r) :: rest)) :=
  va_zald hexec hb hK (hP.one hr (hf _ _)) 0 t0 rfl ht hin hdg kk
theorem wd_sald (hexec : p.tables.exec = Jvm.exec) (hb : c.code = cc) (hK : va_K D cl tys s) (hP : Wd D cl sh ex A ad S H) (hr : ex S r) (t0 : Nat) {cA : ClassId} {n : Nat} (hf : ∀ f g, sh ad r f g = .inl (cA, n, .inl f)) (ht : tys[t0]? = some (cA, .short)) {i : Int32} (hin : vp_in i n) (hdg : decode cc pc = .ok (.saload, 1))
    (kk : W p l e R s m args below meth c H locs cells slots Q (F0 m (pc + 1) ls (.int (S.1 r i.toNatClampNeg) :: rest))) : W p l e R s m args below meth c H locs cells slots Q (F0 m pc ls (.int i :: .ref (ad r) :: rest)) :=
  va_sald hexec hb hK (hP.one hr (hf _ _)) 0 t0 rfl ht hin hdg kk
theorem wd_lald (hexec : p.tables.exec = Jvm.exec) (hb : c.code = cc) (hK : va_K D cl tys s) (hP : Wd D cl sh ex A ad S H) (hr : ex S r) (t0 : Nat) {cA : ClassId} {n : Nat} (hf : ∀ f g, sh ad r f g = .inl (cA, n, .inr (.inl g))) (ht : tys[t0]? = some (cA, .long)) {i : Int32} (hin : vp_in i n) (hdg : decode cc pc = .ok (.laload, 1))
    (kk : W p l e R s m args below meth c H locs cells slots Q (F0 m (pc + 1) ls (.long (S.2 r i.toNatClampNeg) :: rest))) : W p l e R s m args below meth c H locs cells slots Q (F0 m pc ls (.int i :: .ref (ad r) :: rest)) :=
  va_lald hexec hb hK (hP.one hr (hf _ _)) 0 t0 rfl ht hin hdg kk
theorem wd_get (hexec : p.tables.exec = Jvm.exec) (hb : c.code = cc) {own ref C : String} {T : u_T} {N ci index : Nat} {Ts : List Cond} (hts : ∀ w ∈ Ts, w.before args s = true) (hin : ∀ w ∈ u_ws C T N, w ∈ Ts) (hown : s.vm.findClass own = some m.cls) (hK : va_K D cl tys s) (hP : Wd D cl sh ex A ad S H) (hr : ex S r) {fs : List Value} (he : sh ad r (S.1 r) (S.2 r) = .inr (ci, fs)) (hc : cl[ci]? = some (C, T, N)) (k : Nat) (hk : k < N) (hlink : (Cond.fieldLink own index ref (T k).2.1 (T k).2.2.1).before args s = true) (hsame : ∀ x, s.fieldFound? (T k).1 (T k).2.1 (T k).2.2.1 = some x → s.fieldFound? ref (T k).2.1 (T k).2.2.1 = some x) {v : Value} (hv : fs[k]? = some v) (hdg : decode cc pc = .ok (.getfield index, 3))
    (kk : W p l e R s m args below meth c H locs cells slots Q (F0 m (pc + 3) ls (v :: rest))) : W p l e R s m args below meth c H locs cells slots Q (F0 m pc ls (.ref (ad r) :: rest)) :=
  va_get hexec hb hts hin hown hK (hP.one hr he) 0 rfl hc k hk hlink hsame hv hdg kk
theorem wd_getN (hexec : p.tables.exec = Jvm.exec) (hb : c.code = cc) {own ref C host : String} {T : u_T} {N ci index : Nat} {Ts : List Cond} (hts : ∀ w ∈ Ts, w.before args s = true) (hin : ∀ w ∈ u_ws C T N, w ∈ Ts) (hown : s.vm.findClass own = some m.cls) (hK : va_K D cl tys s) (hP : Wd D cl sh ex A ad S H) (hr : ex S r) {fs : List Value} (he : sh ad r (S.1 r) (S.2 r) = .inr (ci, fs)) (hc : cl[ci]? = some (C, T, N)) (k : Nat) (hk : k < N) (hlink : (Cond.fieldLinkNest own index ref (T k).2.1 (T k).2.2.1 host).before args s = true) (hsame : ∀ x, s.fieldFound? (T k).1 (T k).2.1 (T k).2.2.1 = some x → s.fieldFound? ref (T k).2.1 (T k).2.2.1 = some x) {v : Value} (hv : fs[k]? = some v) (hdg : decode cc pc = .ok (.getfield index, 3))
    (kk : W p l e R s m args below meth c H locs cells slots Q (F0 m (pc + 3) ls (v :: rest))) : W p l e R s m args below meth c H locs cells slots Q (F0 m pc ls (.ref (ad r) :: rest)) :=
  va_getN hexec hb hts hin hown hK (hP.one hr he) 0 rfl hc k hk hlink hsame hv hdg kk
theorem wd_recv (hK : va_K D cl tys s) (hP : Wd D cl sh ex A ad S H) (hr : ex S r) {ci : Nat} {q : vw_C} {fs : List Value} (hc : cl[ci]? = some q) (he : sh ad r (S.1 r) (S.2 r) = .inr (ci, fs)) : ∃ cell : Cell, H[ad r]? = some cell ∧ cell.vm.isStatics = false ∧ s.vm.findClass q.1 = some cell.cls :=
  va_recv hK (hP.one hr he) hc (q0 := 0) rfl
end GR

/-! the classes and array classes of both sides; nest mates' words -/
abbrev clA : List vw_C := [(RX8, TX8, 61), (RX1, TX1, 8), (RX2, TX2, 23), (RX3, TX3, 7), (RX4, TX4, 5), (RX5, TX5, 6), (RX6, TX6, 6), (RX7, TX7, 10), (RX9, TX9, 12), (RX10, TX10, 13)]
abbrev tysA (dA : Nat → ClassId) : List (ClassId × FieldType) := [(dA 0, .int), (dA 1, .long), (dA 2, .byte), (dA 3, .boolean), (dA 4, .short), (dA 5, .object "StreamHall$Hall"), (dA 6, .object "StreamHall$Place"), (dA 7, .object "StreamHall$Sending"), (dA 8, .object "StreamHall$Receiving"), (dA 9, .object "StreamHall$Way"), (dA 10, .array .int)]
def isNest : Cond → Bool
  | .fieldLinkNest .. => true
  | .methodLinkNest .. => true
  | .castable .. => true
  | .declares .. => true
  | _ => false
def nw_all : List Cond := lw_tbl.filter isNest
theorem nw_in {w : Cond} (h : w ∈ lw_tbl) (g : isNest w = true) : w ∈ nw_all := List.mem_filter.mpr ⟨h, g⟩
def NW (U : State) : Prop := ∀ w ∈ nw_all, va_Nw w U
theorem NW.warm {s U : State} (hW : s.WarmedH U.vm) (h : NW s) : NW U := by
  intro w hw
  have h1 := h w hw
  have h2 := (List.mem_filter.mp hw).2
  cases w with
  | fieldLinkNest a i b n d h => exact va_Nw.warmF hW h1
  | methodLinkNest a i x h => exact va_Nw.warmM hW h1
  | castable a b => exact va_Nw.warmC hW h1
  | declares x => exact va_Nw.warmD hW h1
  | _ => cases h2
theorem NW.same {s U : State} (hv : s.vm = U.vm) (h : NW s) : NW U := by
  intro w hw
  have h1 := h w hw
  have h2 := (List.mem_filter.mp hw).2
  cases w with
  | fieldLinkNest a i b n d h => exact va_Nw.same rfl hv h1
  | methodLinkNest a i x h => exact va_Nw.same rfl hv h1
  | castable a b => exact va_Nw.same rfl hv h1
  | declares x => exact va_Nw.same rfl hv h1
  | _ => cases h2
theorem NW.use {s : State} {args : Array Value} (h : NW s) {w : Cond} (hw : w ∈ lw_tbl) (g : isNest w = true) : w.before args s = true := by
  have h1 := h w (nw_in hw g)
  cases w with
  | fieldLinkNest a i b n d h => exact va_Nw.use rfl h1
  | methodLinkNest a i x h => exact va_Nw.use rfl h1
  | castable a b => exact va_Nw.use rfl h1
  | declares x => exact va_Nw.use rfl h1
  | _ => cases g
def KA (D : va_G) (dA : Nat → ClassId) (U : State) : Prop := va_K D clA (tysA dA) U ∧ NW U
theorem KA.warm {D : va_G} {dA : Nat → ClassId} {s U : State} (hW : s.WarmedH U.vm) (h : KA D dA s) : KA D dA U := ⟨va_K.moved hW.alike h.1, h.2.warm hW⟩
theorem KA.same {D : va_G} {dA : Nat → ClassId} {s U : State} (hv : s.vm = U.vm) (h : KA D dA s) : KA D dA U := ⟨va_K.moved (by rw [← hv]; exact Vm.Alike.refl s.vm) h.1, h.2.same hv⟩
def PreW (D : va_G) (dA : Nat → ClassId) (sh : Shp) (ex : Mem → L3 → Prop) (A : Nat → Prop) (ad : L3 → Nat) (S : Mem) (U : State) : Prop := (∀ q, U.heap.size ≤ q → A q) ∧ Wd D clA sh ex A ad S U.heap ∧ KA D dA U
theorem PreW.blind {D : va_G} {dA : Nat → ClassId} {sh : Shp} {ex : Mem → L3 → Prop} {A : Nat → Prop} {ad : L3 → Nat} {S : Mem} {As : List Value} : FrameBlind (va_Pc As (PreW D dA sh ex A ad S)) :=
  fun a U g mk h => ⟨h.1, h.2.1, h.2.2.1, KA.same (s := U) (U := U.calling g mk a) rfl h.2.2.2⟩
theorem PreW.pre {D : va_G} {dA : Nat → ClassId} {sh : Shp} {ex : Mem → L3 → Prop} {A : Nat → Prop} {ad : L3 → Nat} {S : Mem} {As : List Value} {s : State} {H : Heap} {locs : List Loc} (hA : ∀ q, s.heap.size ≤ q → A q) (hK : KA D dA s) (hP : Wd D clA sh ex A ad S H) (hS : va_S A s.heap H locs) : PreS s H (va_Pc As (PreW D dA sh ex A ad S)) As :=
  ⟨PreW.blind, fun U hU hW => ⟨rfl, fun q h => hA q (Nat.le_trans hS.1 (by rw [← hU]; exact h)), by rw [hU]; exact hP, hK.warm hW⟩⟩
/-! pure forms: a bound, a name -/
def gin (i : Int32) (n : Nat) : Bool := !decide (i < 0) && decide (i.toNatClampNeg < n)
theorem gin_in {i : Int32} {n : Nat} (h : gin i n = true) : vp_in i n := by
  simp only [gin, Bool.and_eq_true, Bool.not_eq_true', decide_eq_false_iff_not, decide_eq_true_eq] at h
  intro q
  rcases q with q | q
  · exact h.1 q
  · omega
def gA {α : Type} (i : Int32) (n : Nat) (k : Option α) : Option α := if gin i n = true then k else none
theorem gA_some {α : Type} {i : Int32} {n : Nat} {k : Option α} {r : α} (h : gA i n k = some r) : vp_in i n ∧ k = some r := by
  unfold gA at h
  by_cases g : gin i n = true
  · rw [if_pos g] at h; exact ⟨gin_in g, h⟩
  · rw [if_neg g] at h; cases h
def gS {α β : Type} (x : α) (k : α → β) : β := k x
/-- a value that a small type keeps -/
def gN {α : Type} (ty : FieldType) (x : Int32) (k : Option α) : Option α := if vp_nar ty x = x then k else none
theorem gN_some {α : Type} {ty : FieldType} {x : Int32} {k : Option α} {r : α} (h : gN ty x k = some r) : vp_nar ty x = x ∧ k = some r := by
  unfold gN at h
  by_cases g : vp_nar ty x = x
  · rw [if_pos g] at h; exact ⟨g, h⟩
  · rw [if_neg g] at h; cases h
/-- not zero: a divisor -/
def gZ {α : Type} (x : Int32) (k : Option α) : Option α := if x = 0 then none else k
theorem gZ_some {α : Type} {x : Int32} {k : Option α} {r : α} (h : gZ x k = some r) : ¬ x = 0 ∧ k = some r := by
  unfold gZ at h
  by_cases g : x = 0
  · rw [if_pos g] at h; cases h
  · rw [if_neg g] at h; exact ⟨g, h⟩
theorem gB_some {α β : Type} {x : Option α} {F : α → Option β} {r : β} (h : x.bind F = some r) : ∃ q, x = some q ∧ F q = some r := by
  cases x with
  | none => cases h
  | some q => exact ⟨q, rfl, h⟩
theorem nar_z {x : Int32} (h : vp_nar .boolean x = x) : narrow .boolean (.int x) = .int x ∧ fits .boolean (.int x) = true := by
  have e : narrow .boolean (.int x) = .int (vp_nar .boolean x) := rfl
  rw [h] at e
  refine ⟨e, ?_⟩
  rw [← e]
  have h2 : x &&& 1 = 0 ∨ x &&& 1 = 1 := by
    rw [pk_and x (m := 1) 1 (by decide)]
    rcases Nat.mod_two_eq_zero_or_one (x.toBitVec.toNat) with z | z
    · left; rw [show (2 : Nat) ^ 1 = 2 from rfl, z]; decide
    · right; rw [show (2 : Nat) ^ 1 = 2 from rfl, z]; decide
  simp [narrow, fits, h2]
theorem nar_b {x : Int32} (h : vp_nar .byte x = x) : narrow .byte (.int x) = .int x := by
  have e : narrow .byte (.int x) = .int (vp_nar .byte x) := rfl
  rw [h] at e
  exact e
section GB
variable {p : Program} {l : Launch} {e : Env} {R : Room} {s : State} {m : MethodId} {args : Array Value} {below : List Frame} {meth : Method} {c : Code} {H : Heap} {locs : List Loc} {cells slots : Nat} {Q : State → Prop}
variable {cc : ByteArray} {pc : Nat} {ls : Array Slot} {rest : List Value} {α : Type} {F G RES : α}
theorem gb_icmp_eq (hexec : p.tables.exec = Jvm.exec) (hb : c.code = cc) {x y : Int32} {off : Int} {tgt : Nat} (hdg : decode cc pc = .ok (.if_icmp .eq off, 3)) (ht : (pc : Int) + off = (tgt : Int)) (hf : (if x = y then F else G) = RES)
    (kt : F = RES → W p l e R s m args below meth c H locs cells slots Q (F0 m tgt ls rest)) (kf : G = RES → W p l e R s m args below meth c H locs cells slots Q (F0 m (pc + 3) ls rest)) : W p l e R s m args below meth c H locs cells slots Q (F0 m pc ls (.int y :: .int x :: rest)) :=
  lv_icmp_eq hexec hb hdg ht (fun h => kt ((if_pos h).symm.trans hf)) (fun h => kf ((if_neg h).symm.trans hf))
theorem gb_icmp_ne (hexec : p.tables.exec = Jvm.exec) (hb : c.code = cc) {x y : Int32} {off : Int} {tgt : Nat} (hdg : decode cc pc = .ok (.if_icmp .ne off, 3)) (ht : (pc : Int) + off = (tgt : Int)) (hf : (if x ≠ y then F else G) = RES)
    (kt : F = RES → W p l e R s m args below meth c H locs cells slots Q (F0 m tgt ls rest)) (kf : G = RES → W p l e R s m args below meth c H locs cells slots Q (F0 m (pc + 3) ls rest)) : W p l e R s m args below meth c H locs cells slots Q (F0 m pc ls (.int y :: .int x :: rest)) :=
  lv_icmp_ne hexec hb hdg ht (fun h => kt ((if_pos h).symm.trans hf)) (fun h => kf ((if_neg (fun z => z h)).symm.trans hf))
theorem gb_icmp_lt (hexec : p.tables.exec = Jvm.exec) (hb : c.code = cc) {x y : Int32} {off : Int} {tgt : Nat} (hdg : decode cc pc = .ok (.if_icmp .lt off, 3)) (ht : (pc : Int) + off = (tgt : Int)) (hf : (if x < y then F else G) = RES)
    (kt : F = RES → W p l e R s m args below meth c H locs cells slots Q (F0 m tgt ls rest)) (kf : G = RES → W p l e R s m args below meth c H locs cells slots Q (F0 m (pc + 3) ls rest)) : W p l e R s m args below meth c H locs cells slots Q (F0 m pc ls (.int y :: .int x :: rest)) :=
  lv_icmp_lt hexec hb hdg ht (fun h => kt ((if_pos h).symm.trans hf)) (fun h => kf ((if_neg h).symm.trans hf))
theorem gb_icmp_ge (hexec : p.tables.exec = Jvm.exec) (hb : c.code = cc) {x y : Int32} {off : Int} {tgt : Nat} (hdg : decode cc pc = .ok (.if_icmp .ge off, 3)) (ht : (pc : Int) + off = (tgt : Int)) (hf : (if y ≤ x then F else G) = RES)
    (kt : F = RES → W p l e R s m args below meth c H locs cells slots Q (F0 m tgt ls rest)) (kf : G = RES → W p l e R s m args below meth c H locs cells slots Q (F0 m (pc + 3) ls rest)) : W p l e R s m args below meth c H locs cells slots Q (F0 m pc ls (.int y :: .int x :: rest)) :=
  lv_icmp_ge hexec hb hdg ht (fun h => kt ((if_pos h).symm.trans hf)) (fun h => kf ((if_neg h).symm.trans hf))
theorem gb_icmp_gt (hexec : p.tables.exec = Jvm.exec) (hb : c.code = cc) {x y : Int32} {off : Int} {tgt : Nat} (hdg : decode cc pc = .ok (.if_icmp .gt off, 3)) (ht : (pc : Int) + off = (tgt : Int)) (hf : (if y < x then F else G) = RES)
    (kt : F = RES → W p l e R s m args below meth c H locs cells slots Q (F0 m tgt ls rest)) (kf : G = RES → W p l e R s m args below meth c H locs cells slots Q (F0 m (pc + 3) ls rest)) : W p l e R s m args below meth c H locs cells slots Q (F0 m pc ls (.int y :: .int x :: rest)) :=
  lv_icmp_gt hexec hb hdg ht (fun h => kt ((if_pos h).symm.trans hf)) (fun h => kf ((if_neg h).symm.trans hf))
theorem gb_icmp_le (hexec : p.tables.exec = Jvm.exec) (hb : c.code = cc) {x y : Int32} {off : Int} {tgt : Nat} (hdg : decode cc pc = .ok (.if_icmp .le off, 3)) (ht : (pc : Int) + off = (tgt : Int)) (hf : (if x ≤ y then F else G) = RES)
    (kt : F = RES → W p l e R s m args below meth c H locs cells slots Q (F0 m tgt ls rest)) (kf : G = RES → W p l e R s m args below meth c H locs cells slots Q (F0 m (pc + 3) ls rest)) : W p l e R s m args below meth c H locs cells slots Q (F0 m pc ls (.int y :: .int x :: rest)) :=
  lv_icmp_le hexec hb hdg ht (fun h => kt ((if_pos h).symm.trans hf)) (fun h => kf ((if_neg h).symm.trans hf))
theorem gb_if_eq (hexec : p.tables.exec = Jvm.exec) (hb : c.code = cc) {x : Int32} {off : Int} {tgt : Nat} (hdg : decode cc pc = .ok (.ifCond .eq off, 3)) (ht : (pc : Int) + off = (tgt : Int)) (hf : (if x = 0 then F else G) = RES)
    (kt : F = RES → W p l e R s m args below meth c H locs cells slots Q (F0 m tgt ls rest)) (kf : G = RES → W p l e R s m args below meth c H locs cells slots Q (F0 m (pc + 3) ls rest)) : W p l e R s m args below meth c H locs cells slots Q (F0 m pc ls (.int x :: rest)) :=
  lv_if_eq hexec hb hdg ht (fun h => kt ((if_pos h).symm.trans hf)) (fun h => kf ((if_neg h).symm.trans hf))
theorem gb_if_ne (hexec : p.tables.exec = Jvm.exec) (hb : c.code = cc) {x : Int32} {off : Int} {tgt : Nat} (hdg : decode cc pc = .ok (.ifCond .ne off, 3)) (ht : (pc : Int) + off = (tgt : Int)) (hf : (if x ≠ 0 then F else G) = RES)
    (kt : F = RES → W p l e R s m args below meth c H locs cells slots Q (F0 m tgt ls rest)) (kf : G = RES → W p l e R s m args below meth c H locs cells slots Q (F0 m (pc + 3) ls rest)) : W p l e R s m args below meth c H locs cells slots Q (F0 m pc ls (.int x :: rest)) :=
  lv_if_ne hexec hb hdg ht (fun h => kt ((if_pos h).symm.trans hf)) (fun h => kf ((if_neg (fun z => z h)).symm.trans hf))
theorem gb_if_lt (hexec : p.tables.exec = Jvm.exec) (hb : c.code = cc) {x : Int32} {off : Int} {tgt : Nat} (hdg : decode cc pc = .ok (.ifCond .lt off, 3)) (ht : (pc : Int) + off = (tgt : Int)) (hf : (if x < 0 then F else G) = RES)
    (kt : F = RES → W p l e R s m args below meth c H locs cells slots Q (F0 m tgt ls rest)) (kf : G = RES → W p l e R s m args below meth c H locs cells slots Q (F0 m (pc + 3) ls rest)) : W p l e R s m args below meth c H locs cells slots Q (F0 m pc ls (.int x :: rest)) :=
  lv_if_lt hexec hb hdg ht (fun h => kt ((if_pos h).symm.trans hf)) (fun h => kf ((if_neg h).symm.trans hf))
theorem gb_if_ge (hexec : p.tables.exec = Jvm.exec) (hb : c.code = cc) {x : Int32} {off : Int} {tgt : Nat} (hdg : decode cc pc = .ok (.ifCond .ge off, 3)) (ht : (pc : Int) + off = (tgt : Int)) (hf : (if 0 ≤ x then F else G) = RES)
    (kt : F = RES → W p l e R s m args below meth c H locs cells slots Q (F0 m tgt ls rest)) (kf : G = RES → W p l e R s m args below meth c H locs cells slots Q (F0 m (pc + 3) ls rest)) : W p l e R s m args below meth c H locs cells slots Q (F0 m pc ls (.int x :: rest)) :=
  lv_if_ge hexec hb hdg ht (fun h => kt ((if_pos h).symm.trans hf)) (fun h => kf ((if_neg h).symm.trans hf))
theorem gb_if_gt (hexec : p.tables.exec = Jvm.exec) (hb : c.code = cc) {x : Int32} {off : Int} {tgt : Nat} (hdg : decode cc pc = .ok (.ifCond .gt off, 3)) (ht : (pc : Int) + off = (tgt : Int)) (hf : (if 0 < x then F else G) = RES)
    (kt : F = RES → W p l e R s m args below meth c H locs cells slots Q (F0 m tgt ls rest)) (kf : G = RES → W p l e R s m args below meth c H locs cells slots Q (F0 m (pc + 3) ls rest)) : W p l e R s m args below meth c H locs cells slots Q (F0 m pc ls (.int x :: rest)) :=
  lv_if_gt hexec hb hdg ht (fun h => kt ((if_pos h).symm.trans hf)) (fun h => kf ((if_neg h).symm.trans hf))
theorem gb_if_le (hexec : p.tables.exec = Jvm.exec) (hb : c.code = cc) {x : Int32} {off : Int} {tgt : Nat} (hdg : decode cc pc = .ok (.ifCond .le off, 3)) (ht : (pc : Int) + off = (tgt : Int)) (hf : (if x ≤ 0 then F else G) = RES)
    (kt : F = RES → W p l e R s m args below meth c H locs cells slots Q (F0 m tgt ls rest)) (kf : G = RES → W p l e R s m args below meth c H locs cells slots Q (F0 m (pc + 3) ls rest)) : W p l e R s m args below meth c H locs cells slots Q (F0 m pc ls (.int x :: rest)) :=
  lv_if_le hexec hb hdg ht (fun h => kt ((if_pos h).symm.trans hf)) (fun h => kf ((if_neg h).symm.trans hf))
theorem gb_lcmp_eq (hexec : p.tables.exec = Jvm.exec) (hb : c.code = cc) {x y : Int64} {off : Int} {tgt : Nat} (hd0 : decode cc pc = .ok (.lcmp, 1)) (hdg : decode cc (pc + 1) = .ok (.ifCond .eq off, 3)) (ht : ((pc + 1 : Nat) : Int) + off = (tgt : Int)) (hf : (if x = y then F else G) = RES)
    (kt : F = RES → W p l e R s m args below meth c H locs cells slots Q (F0 m tgt ls rest)) (kf : G = RES → W p l e R s m args below meth c H locs cells slots Q (F0 m (pc + 4) ls rest)) : W p l e R s m args below meth c H locs cells slots Q (F0 m pc ls (.long y :: .long x :: rest)) := by
  refine W.lcmp hexec hb hd0 ?_
  have hi := lg_cmp_eq x y
  exact lv_if_eq hexec hb hdg ht (fun h => kt ((if_pos (hi.mp h)).symm.trans hf)) (fun h => kf ((if_neg (fun z => h (hi.mpr z))).symm.trans hf))
theorem gb_lcmp_ne (hexec : p.tables.exec = Jvm.exec) (hb : c.code = cc) {x y : Int64} {off : Int} {tgt : Nat} (hd0 : decode cc pc = .ok (.lcmp, 1)) (hdg : decode cc (pc + 1) = .ok (.ifCond .ne off, 3)) (ht : ((pc + 1 : Nat) : Int) + off = (tgt : Int)) (hf : (if x ≠ y then F else G) = RES)
    (kt : F = RES → W p l e R s m args below meth c H locs cells slots Q (F0 m tgt ls rest)) (kf : G = RES → W p l e R s m args below meth c H locs cells slots Q (F0 m (pc + 4) ls rest)) : W p l e R s m args below meth c H locs cells slots Q (F0 m pc ls (.long y :: .long x :: rest)) := by
  refine W.lcmp hexec hb hd0 ?_
  have hi := (not_congr (lg_cmp_eq x y))
  exact lv_if_ne hexec hb hdg ht (fun h => kt ((if_pos (hi.mp h)).symm.trans hf)) (fun h => kf ((if_neg (fun z => hi.mpr z h)).symm.trans hf))
theorem gb_lcmp_lt (hexec : p.tables.exec = Jvm.exec) (hb : c.code = cc) {x y : Int64} {off : Int} {tgt : Nat} (hd0 : decode cc pc = .ok (.lcmp, 1)) (hdg : decode cc (pc + 1) = .ok (.ifCond .lt off, 3)) (ht : ((pc + 1 : Nat) : Int) + off = (tgt : Int)) (hf : (if x < y then F else G) = RES)
    (kt : F = RES → W p l e R s m args below meth c H locs cells slots Q (F0 m tgt ls rest)) (kf : G = RES → W p l e R s m args below meth c H locs cells slots Q (F0 m (pc + 4) ls rest)) : W p l e R s m args below meth c H locs cells slots Q (F0 m pc ls (.long y :: .long x :: rest)) := by
  refine W.lcmp hexec hb hd0 ?_
  have hi := lg_cmp_lt x y
  exact lv_if_lt hexec hb hdg ht (fun h => kt ((if_pos (hi.mp h)).symm.trans hf)) (fun h => kf ((if_neg (fun z => h (hi.mpr z))).symm.trans hf))
theorem gb_lcmp_ge (hexec : p.tables.exec = Jvm.exec) (hb : c.code = cc) {x y : Int64} {off : Int} {tgt : Nat} (hd0 : decode cc pc = .ok (.lcmp, 1)) (hdg : decode cc (pc + 1) = .ok (.ifCond .ge off, 3)) (ht : ((pc + 1 : Nat) : Int) + off = (tgt : Int)) (hf : (if y ≤ x then F else G) = RES)
    (kt : F = RES → W p l e R s m args below meth c H locs cells slots Q (F0 m tgt ls rest)) (kf : G = RES → W p l e R s m args below meth c H locs cells slots Q (F0 m (pc + 4) ls rest)) : W p l e R s m args below meth c H locs cells slots Q (F0 m pc ls (.long y :: .long x :: rest)) := by
  refine W.lcmp hexec hb hd0 ?_
  have hi := lg_cmp_ge x y
  exact lv_if_ge hexec hb hdg ht (fun h => kt ((if_pos (hi.mp h)).symm.trans hf)) (fun h => kf ((if_neg (fun z => h (hi.mpr z))).symm.trans hf))
theorem gb_lcmp_gt (hexec : p.tables.exec = Jvm.exec) (hb : c.code = cc) {x y : Int64} {off : Int} {tgt : Nat} (hd0 : decode cc pc = .ok (.lcmp, 1)) (hdg : decode cc (pc + 1) = .ok (.ifCond .gt off, 3)) (ht : ((pc + 1 : Nat) : Int) + off = (tgt : Int)) (hf : (if y < x then F else G) = RES)
    (kt : F = RES → W p l e R s m args below meth c H locs cells slots Q (F0 m tgt ls rest)) (kf : G = RES → W p l e R s m args below meth c H locs cells slots Q (F0 m (pc + 4) ls rest)) : W p l e R s m args below meth c H locs cells slots Q (F0 m pc ls (.long y :: .long x :: rest)) := by
  refine W.lcmp hexec hb hd0 ?_
  have hi := lg_cmp_gt x y
  exact lv_if_gt hexec hb hdg ht (fun h => kt ((if_pos (hi.mp h)).symm.trans hf)) (fun h => kf ((if_neg (fun z => h (hi.mpr z))).symm.trans hf))
theorem gb_lcmp_le (hexec : p.tables.exec = Jvm.exec) (hb : c.code = cc) {x y : Int64} {off : Int} {tgt : Nat} (hd0 : decode cc pc = .ok (.lcmp, 1)) (hdg : decode cc (pc + 1) = .ok (.ifCond .le off, 3)) (ht : ((pc + 1 : Nat) : Int) + off = (tgt : Int)) (hf : (if x ≤ y then F else G) = RES)
    (kt : F = RES → W p l e R s m args below meth c H locs cells slots Q (F0 m tgt ls rest)) (kf : G = RES → W p l e R s m args below meth c H locs cells slots Q (F0 m (pc + 4) ls rest)) : W p l e R s m args below meth c H locs cells slots Q (F0 m pc ls (.long y :: .long x :: rest)) := by
  refine W.lcmp hexec hb hd0 ?_
  have hi := lg_cmp_le x y
  exact lv_if_le hexec hb hdg ht (fun h => kt ((if_pos (hi.mp h)).symm.trans hf)) (fun h => kf ((if_neg (fun z => h (hi.mpr z))).symm.trans hf))
end GB
/-! calls of methods over a world; a method's head -/
section GC
variable {p : Program} {l : Launch} {e : Env} {R : Room} {s : State} {m : MethodId} {args : Array Value} {below : List Frame} {meth : Method} {c : Code} {H : Heap} {locs : List Loc} {cells slots : Nat} {Q : State → Prop}
variable {cc : ByteArray} {pc nL n index maxL : Nat} {own C : String} {ret rt : Option FieldType} {ls : Array Slot} {st rest As : List Value} {D : va_G} {dA : Nat → ClassId} {A : Nat → Prop} {sh : Shp} {ex : Mem → L3 → Prop} {ad : L3 → Nat} {S : Mem} {y : MethodName} {bytes : ByteArray} {rm : Room} {b : Nat}
theorem gc_fixV (X : CX own cc nL ret (KA D dA) p s m args meth c A) {Qc : Array Value → State → Outcome → State → Prop} (hM : Met l y (ws_ y bytes maxL rt) rm (va_Pc (Value.ref b :: As) (PreW D dA sh ex A ad S)) Qc 0 0 A) (good : GoodIn lw_all (wsV own index C y (ws_ y bytes maxL rt))) (hrm : rm.cells = 0 ∧ rm.slots = 0) (hd : y.cls = C ∧ y.cls ≠ "java/lang/invoke/MethodHandle" ∧ y.cls ≠ "java/lang/invoke/VarHandle" ∧ (parseMethodDescriptor y.desc).map (fun d => d.parameters.length) = some n) (hR : rm.frames + 1 ≤ R.frames ∧ 8 + (maxL + 11) + rm.locals ≤ R.locals) (hrecv : ∃ cell : Cell, H[b]? = some cell ∧ cell.vm.isStatics = false ∧ s.vm.findClass C = some cell.cls) (hP : Wd D clA sh ex A ad S H) (hS : va_S A s.heap H locs) (hcs : cells ≤ R.cells ∧ slots ≤ R.slots) (hn : As.length = n) (hsz : ls.size = nL) (hst : st = As.reverse ++ .ref b :: rest) (hcat : (rest.map fun v => v.category).sum ≤ 8) (hdg : decode cc pc = .ok (.invokevirtual index, 3)) :
    va_Run p l e R s m args below meth c H locs cells slots 0 0 (F0 m pc ls st) rest (Qc (Value.ref b :: As).toArray) A := by
  obtain ⟨hx, hb, hml, hr, hlk, hown, hts, hK, hA⟩ := X
  have hp := PreW.pre (As := Value.ref b :: As) hA hK hP hS
  exact va_runV (As := As) (rest := rest) ⟨hx, hb, hml, hown, hts⟩ hM (cwV n hts good rfl hrm.1 hrm.2 hd hR) ⟨hp.1, hrecv, hp.2⟩ rfl hn hsz hst (lv_room hcat) hdg hcs
theorem gc_fixS (X : CX own cc nL ret (KA D dA) p s m args meth c A) {Qc : Array Value → State → Outcome → State → Prop} (hM : Met l y (ws_ y bytes maxL rt) rm (va_Pc As (PreW D dA sh ex A ad S)) Qc 0 0 A) (good : GoodIn lw_all (va_wsS own index y (ws_ y bytes maxL rt))) (hrm : rm.cells = 0 ∧ rm.slots = 0) (hd : y.cls ≠ "java/lang/invoke/MethodHandle" ∧ y.cls ≠ "java/lang/invoke/VarHandle" ∧ (parseMethodDescriptor y.desc).map (fun d => d.parameters.length) = some n) (hR : rm.frames + 1 ≤ R.frames ∧ 8 + (maxL + 11) + rm.locals ≤ R.locals) (hP : Wd D clA sh ex A ad S H) (hS : va_S A s.heap H locs) (hcs : cells ≤ R.cells ∧ slots ≤ R.slots) (hn : As.length = n) (hsz : ls.size = nL) (hst : st = As.reverse ++ rest) (hcat : (rest.map fun v => v.category).sum ≤ 8) (hdg : decode cc pc = .ok (.invokestatic index, 3)) :
    va_Run p l e R s m args below meth c H locs cells slots 0 0 (F0 m pc ls st) rest (Qc As.toArray) A := by
  obtain ⟨hx, hb, hml, hr, hlk, hown, hts, hK, hA⟩ := X
  have hp := PreW.pre (As := As) hA hK hP hS
  exact va_runS (As := As) (rest := rest) ⟨hx, hb, hml, hown, hts⟩ hM (va_cwS n hts good rfl hrm.1 hrm.2 hd hR) hp rfl hn hsz hst (lv_room hcat) hdg hcs
variable {a : Array Value}
theorem gc_i {post : Int32 → Mem → Prop} (hr : va_Run p l e R s m args below meth c H locs cells slots 0 0 (F0 m pc ls st) rest (va_Qi post (fun u t => Wd D clA sh ex A ad u t.heap) A a) A) (hS : va_S A s.heap H locs) (kk : ∀ (v : Int32) (u : Mem) (H1 : Heap) (locs1 : List Loc), post v u → Wd D clA sh ex A ad u H1 → va_S A s.heap H1 locs1 → W p l e R s m args below meth c H1 locs1 cells slots Q (F0 m (pc + 3) ls (.int v :: rest))) : W p l e R s m args below meth c H locs cells slots Q (F0 m pc ls st) :=
  va_calli hr hS (fun _ _ h => h) (fun _ h => h) (fun v u t H1 locs1 ht _ hp hB _ _ hS1 => kk v u H1 locs1 hp (by rw [← ht]; exact hB) hS1)
theorem gc_l {post : Int64 → Mem → Prop} (hr : va_Run p l e R s m args below meth c H locs cells slots 0 0 (F0 m pc ls st) rest (va_Ql post (fun u t => Wd D clA sh ex A ad u t.heap) A a) A) (hS : va_S A s.heap H locs) (kk : ∀ (v : Int64) (u : Mem) (H1 : Heap) (locs1 : List Loc), post v u → Wd D clA sh ex A ad u H1 → va_S A s.heap H1 locs1 → W p l e R s m args below meth c H1 locs1 cells slots Q (F0 m (pc + 3) ls (.long v :: rest))) : W p l e R s m args below meth c H locs cells slots Q (F0 m pc ls st) :=
  va_calll hr hS (fun _ _ h => h) (fun _ h => h) (fun v u t H1 locs1 ht _ hp hB _ _ hS1 => kk v u H1 locs1 hp (by rw [← ht]; exact hB) hS1)
theorem gc_v {post : Mem → Prop} (hr : va_Run p l e R s m args below meth c H locs cells slots 0 0 (F0 m pc ls st) rest (va_Qv post (fun u t => Wd D clA sh ex A ad u t.heap) A a) A) (hS : va_S A s.heap H locs) (kk : ∀ (u : Mem) (H1 : Heap) (locs1 : List Loc), post u → Wd D clA sh ex A ad u H1 → va_S A s.heap H1 locs1 → W p l e R s m args below meth c H1 locs1 cells slots Q (F0 m (pc + 3) ls rest)) : W p l e R s m args below meth c H locs cells slots Q (F0 m pc ls st) :=
  va_callv hr hS (fun _ _ h => h) (fun _ h => h) (fun u t H1 locs1 ht _ hp hB _ _ hS1 => kk u H1 locs1 hp (by rw [← ht]; exact hB) hS1)
/-- a method's contract out of its body -/
theorem gx_head {vs : List Value} (hy : plainName y.cls = true) {Qc : Array Value → State → Outcome → State → Prop} (hlen : (lg_sl vs).length ≤ maxL)
    (body : ∀ (p : Program) (e : Env) (s : State) (m : MethodId) (below : List Frame) (meth : Method) (c : Code) (ls : Array Slot), CX y.cls bytes maxL rt (KA D dA) p s m vs.toArray meth c A → Wd D clA sh ex A ad S s.heap → lv_has ls maxL (lv_args 0 vs) → W p l e (headSpec (ws_ y bytes maxL rt) rm).room s m vs.toArray below meth c s.heap [] 0 0 (MQ below Qc vs.toArray s 0 0 A) (F0 m 0 ls [])) :
    Met l y (ws_ y bytes maxL rt) rm (va_Pc vs (PreW D dA sh ex A ad S)) Qc 0 0 A := by
  refine Met.ofW (cc := bytes) (maxL := maxL) (ret := rt) hy rfl ?_
  intro p e s m args below meth c s₁ B hml hv
  obtain ⟨rfl, hA, hP, hK⟩ := hv
  have hts := atoms_spec (ws := ws_ y bytes maxL rt) B.pre
  have hts : ∀ w ∈ lw_all, w.before _ s = true := fun w h => hts w (List.mem_cons_of_mem _ h)
  have hl := lv_entry vs (n := maxL) hlen
  rw [lg_entry_eq]
  exact body p e s m below meth c _ ⟨B.exec, B.bytes, hml, B.returns, B.notSynchronized, findClass_of_methodNamed B.named, hts, hK, hA⟩ hP hl
end GC
