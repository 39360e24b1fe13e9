/-! rows of the walk: calls; from a walk to a contract -/
section Calls
variable {E : AE} {l : Launch} {y : MethodName} {bytes : ByteArray} {maxL d : Nat} {rt : Option FieldType} {as : List AV} {σ σ' : St} {r : Option AV}
variable {p : Program} {e : Env} {R : Room} {s : State} {args : Array Value} {below : List Frame}
abbrev aPre (E : AE) (R : Room) (as : List AV) (σ : St) : Pt → Array Value → Prop := fun A a => A.cells + (CAPN - sn σ) ≤ R.cells ∧ A.slots + (CAPZ - sz σ) ≤ R.slots ∧ a = (as.map (cv E)).toArray ∧ Rep E σ A.U.heap
abbrev aPost (E : AE) (σ : St) (r : Option AV) (σ' : St) : Pt → Array Value → Option Value → Pt → Prop := fun A _ v B => v = r.map (cv E) ∧ Rep E σ' B.U.heap ∧ ∃ (L : List Loc) (k n : Nat), B.locs = A.locs ++ L ∧ (∀ q ∈ L, b0 E ≤ q.base) ∧ B.cells = A.cells + k ∧ B.slots = A.slots + n ∧ k + sn σ = sn σ' ∧ n + sz σ = sz σ'
theorem back_am (hM : AMet E l y (ws_ y bytes maxL rt) d as σ r σ') (hW0 : E.1.WarmedH s.vm) (hts : ∀ w ∈ lw_all, w.before args s = true) (hcode : Cond.code y bytes maxL rt ∈ lw_all) (hini : Cond.initialized y.cls ∈ lw_all) (hfr : d + 21 ≤ R.frames) (hlo : 8 + (maxL + 11) + (100 * d + LOCB) ≤ R.locals) :
    Back l R p e below s args y 3 8 (aPre E R as σ) (aPost E σ r σ') := by
  have hws : ∀ w ∈ ws_ y bytes maxL rt, ∀ (a' : Array Value) (U : State), s.WarmedH U.vm → w.before a' U = true := pay_in hts (lw_meth hcode)
  refine Back.of_free (S := headSpec (ws_ y bytes maxL rt) (roomOf d σ)) (bytes := bytes) (maxL := maxL) (ret := rt)
    (E := fun a st o t L k n => k + sn σ = sn σ' ∧ n + sz σ = sz σ' ∧ ∀ q ∈ L, b0 E ≤ q.base) hM (by show d + 20 + 1 ≤ _; omega) (by show 8 + (maxL + 11) + (100 * d + LOCB) ≤ _; exact hlo) ?_ ?_ (fun _ _ _ _ _ _ _ _ _ => trivial) ?_ ?_
  · intro m meth c A a X hp
    exact ⟨atoms_intro fun w hw => hws w hw _ _ X.warmed, hws _ List.mem_cons_self _ _ X.warmed, hws _ (List.mem_cons_of_mem _ hini) _ _ X.warmed, hp.1, hp.2.1⟩
  · intro m meth c A a g mk X hp
    exact ⟨hp.2.2.1, hp.2.2.2, State.WarmedH.trans hW0 X.warmed⟩
  · rintro a st o t ⟨hq, L, k, n, hF, h1, h2, hL⟩
    exact ⟨L, k, n, hF, h1, h2, hL⟩
  · rintro m meth c A a g mk v t L k n X hp ⟨⟨hv, hRep⟩, -⟩ hF ⟨e1, e2, hL⟩
    exact ⟨Outcome.returned.inj hv, hRep, L, k, n, rfl, hL, rfl, rfl, e1, e2⟩
theorem back_amW {hh : List (Nat × Nat × Nat × Nat)} (hM : AMet E l y (wsW_ y bytes maxL rt hh) d as σ r σ') (hW0 : E.1.WarmedH s.vm) (hts : ∀ w ∈ lw_all, w.before args s = true) (hcode : Cond.codeWith y bytes maxL rt hh ∈ lw_all) (hini : Cond.initialized y.cls ∈ lw_all) (hfr : d + 21 ≤ R.frames) (hlo : 8 + (maxL + 11) + (100 * d + LOCB) ≤ R.locals) :
    Back l R p e below s args y 3 8 (aPre E R as σ) (aPost E σ r σ') := by
  have hws : ∀ w ∈ wsW_ y bytes maxL rt hh, ∀ (a' : Array Value) (U : State), s.WarmedH U.vm → w.before a' U = true := pay_in hts (lw_methW hcode)
  refine va_ofFreeW (hh := hh) (S := headSpec (wsW_ y bytes maxL rt hh) (roomOf d σ)) (bytes := bytes) (maxL := maxL) (ret := rt)
    (E := fun a st o t L k n => k + sn σ = sn σ' ∧ n + sz σ = sz σ' ∧ ∀ q ∈ L, b0 E ≤ q.base) hM (by show d + 20 + 1 ≤ _; omega) (by show 8 + (maxL + 11) + (100 * d + LOCB) ≤ _; exact hlo) ?_ ?_ (fun _ _ _ _ _ _ _ _ _ => trivial) ?_ ?_
  · intro m meth c A a X hp
    exact ⟨atoms_intro fun w hw => hws w hw _ _ X.warmed, hws _ List.mem_cons_self _ _ X.warmed, hws _ (List.mem_cons_of_mem _ hini) _ _ X.warmed, hp.1, hp.2.1⟩
  · intro m meth c A a g mk X hp
    exact ⟨hp.2.2.1, hp.2.2.2, State.WarmedH.trans hW0 X.warmed⟩
  · rintro a st o t ⟨hq, L, k, n, hF, h1, h2, hL⟩
    exact ⟨L, k, n, hF, h1, h2, hL⟩
  · rintro m meth c A a g mk v t L k n X hp ⟨⟨hv, hRep⟩, -⟩ hF ⟨e1, e2, hL⟩
    exact ⟨Outcome.returned.inj hv, hRep, L, k, n, rfl, hL, rfl, rfl, e1, e2⟩
end Calls
/-- the arguments as locals -/
def lvs : Nat → List AV → List (Nat × AV)
  | _, [] => []
  | i, v :: t => (i, v) :: lvs (if isL v then i + 2 else i + 1) t
section CallRows
variable {C : CT} {cc : ByteArray} {own : String} {ret : Option FieldType} {nL d pc : Nat} {lv : List (Nat × AV)} {st stk : List AV} {σ σ' : St} {Z : State → Prop}
def notMH (y : MethodName) : Prop := y.cls ≠ "java/lang/invoke/MethodHandle" ∧ y.cls ≠ "java/lang/invoke/VarHandle"
def nPar (y : MethodName) (n : Nat) : Prop := (parseMethodDescriptor y.desc).map (fun d => d.parameters.length) = some n
/-- a method's link: entry idx of the class own is the method y, called on objects of the class C -/
def MLk (own : String) (idx : Nat) (K : String) (y : MethodName) (bytes : ByteArray) (maxL : Nat) (rt : Option FieldType) (n : Nat) : Prop :=
  Cond.methodLink own idx y ∈ lw_all ∧ Cond.instanceMethod y ∈ lw_all ∧ Cond.selects K y y ∈ lw_all ∧ Cond.initialized y.cls ∈ lw_all ∧ Cond.code y bytes maxL rt ∈ lw_all ∧ notMH y ∧ nPar y n ∧ maxL ≤ 80
def MLkW (own : String) (idx : Nat) (K : String) (y : MethodName) (bytes : ByteArray) (maxL : Nat) (rt : Option FieldType) (hh : List (Nat × Nat × Nat × Nat)) (n : Nat) : Prop :=
  Cond.methodLink own idx y ∈ lw_all ∧ Cond.instanceMethod y ∈ lw_all ∧ Cond.selects K y y ∈ lw_all ∧ Cond.initialized y.cls ∈ lw_all ∧ Cond.codeWith y bytes maxL rt hh ∈ lw_all ∧ notMH y ∧ nPar y n ∧ maxL ≤ 80
def MLkS (own : String) (idx : Nat) (y : MethodName) (bytes : ByteArray) (maxL : Nat) (rt : Option FieldType) (n : Nat) : Prop :=
  Cond.methodLink own idx y ∈ lw_all ∧ Cond.static y ∈ lw_all ∧ Cond.initialized y.cls ∈ lw_all ∧ Cond.code y bytes maxL rt ∈ lw_all ∧ notMH y ∧ nPar y n ∧ maxL ≤ 80
def MLkI (own : String) (idx : Nat) (y : MethodName) (bytes : ByteArray) (maxL : Nat) (n : Nat) : Prop :=
  Cond.methodLink own idx y ∈ lw_all ∧ Cond.instanceMethod y ∈ lw_all ∧ Cond.initialized y.cls ∈ lw_all ∧ Cond.code y bytes maxL none ∈ lw_all ∧ y.name = "<init>" ∧ notMH y ∧ nPar y n ∧ maxL ≤ 80
theorem nPar.len {y : MethodName} {n : Nat} (h : nPar y n) : ∀ sig, parseMethodDescriptor y.desc = some sig → n = sig.parameters.length := by
  intro sig hs
  unfold nPar at h
  rw [hs] at h
  exact (Option.some.inj h).symm
/-- the words on the stack below a call's arguments -/
def wts (st : List AV) : Nat := (st.map fun v => if isL v then 2 else 1).sum
theorem wts_le {E : AE} {m : MethodId} {pc : Nat} {ls : Array Slot} {rest : List Value} {st : List AV} (h : wts st ≤ 8) : 2 * (F0 m pc ls rest).monitorRoom + ((st.map (cv E)).map fun v => v.category).sum ≤ 8 := by
  refine lv_room ?_
  have : ((st.map (cv E)).map fun v => v.category) = st.map fun v => if isL v then 2 else 1 := by
    rw [List.map_map]
    apply List.map_congr_left
    intro v _
    rcases v with x | x | r
    · rfl
    · rfl
    · cases r <;> rfl
  rw [this]; exact h
theorem cv_rev {E : AE} (as : List AV) (t st : List AV) : ((as.reverse ++ (t ++ st)).map (cv E)) = (as.map (cv E)).reverse ++ (t.map (cv E) ++ st.map (cv E)) := by simp
/-- behind a call -/
theorem aw_back {E : AE} {p : Program} {l : Launch} {e : Env} {R : Room} {s : State} {m : MethodId} {args : Array Value} {below : List Frame} {meth : Method} {c : Code} {H : Heap} {locs : List Loc} {cells slots n0 z0 : Nat} {ls : Array Slot} {g : JFrame} {rr : Option AV} {a : Array Value}
    (hn : cells + n0 = sn σ) (hz : slots + z0 = sz σ) (hq : ∀ q ∈ locs, b0 E ≤ q.base) (hl : lv_has ls nL (lv.map fun q => (q.1, cv E q.2)))
    (hk : AW (E, p, l, e, R, s, m, args, below, meth, c, nL, n0, z0) (pc + 3) lv (rr.toList ++ st) σ' Z)
    (hcall : ∀ T : State, T.heap = H → Stand p l e R s m args below meth c T locs cells slots → ∃ (v : Option Value) (vm₁ : Vm) (B : Pt), s.WarmedH vm₁ ∧ Stand p l e R s m args below meth c B.U B.locs B.cells B.slots ∧ aPost E σ rr σ' ⟨T.setVm vm₁, locs, cells, slots⟩ a v B ∧
      ∀ target, Steps p.tables e below (B.U.setTop (F0 m (pc + 3) ls (v.toList ++ st.map (cv E)))) target → Steps p.tables e below (T.setTop g) target) : W p l e R s m args below meth c H locs cells slots Z g := by
  intro T hT X
  obtain ⟨v, vm₁, ⟨U', l2, c2, s2⟩, hW₁, X', ⟨hv, hRep, L, k, n, h1, hL, h2, h3, h4, h5⟩, stp⟩ := hcall T hT X
  dsimp only [Pt.U, Pt.locs, Pt.cells, Pt.slots] at X' hRep h1 h2 h3 stp
  subst h1; subst h2; subst h3; subst hv
  have hk' := hk U'.heap (locs ++ L) (cells + k) (slots + n) ls hRep (fun q h => by
    rcases List.mem_append.mp h with h | h
    · exact hq q h
    · exact hL q h) (by omega) (by omega) hl
  obtain ⟨t, a1, b1⟩ := hk' U' rfl X'
  refine ⟨t, stp t ?_, b1⟩
  have e1 : List.map (cv E) (rr.toList ++ st) = (Option.map (cv E) rr).toList ++ List.map (cv E) st := by cases rr <;> rfl
  rw [e1] at a1
  exact a1
theorem aw_callV (X : Cx C cc own ret nL (d + 1)) {y : MethodName} {bytes : ByteArray} {maxL idx ci : Nat} {rt : Option FieldType} {q : vw_C} {o : Nat} {r : Option AV} (as : List AV) (hs : as.reverse ++ .inr (.inr (some o)) :: st = stk) (hko : sK σ o = 8 + ci) (hq0 : vwCl[ci]? = some q) (hml0 : MLk own idx q.1 y bytes maxL rt as.length)
    (hM : AMet C.1 C.2.2.1 y (ws_ y bytes maxL rt) d (.inr (.inr (some o)) :: as) σ r σ') (hd : decode cc pc = .ok (.invokevirtual idx, 3)) (hw : wts st ≤ 8) (kk : AW C (pc + 3) lv (r.toList ++ st) σ' Z) : AW C pc lv stk σ Z := by
  subst hs
  obtain ⟨E, p, l, e, R, s, m, args, below, meth, c, nL', n0, z0⟩ := C
  obtain ⟨hx, hb, hr, hlk, hml, hnl, hown, hts, hW0, hE, hR1, hR2, hR3, hR4, hR5⟩ := X
  obtain ⟨m1, m2, m3, m4, m5, m6, m7, m8⟩ := hml0
  subst hnl
  intro H locs cells slots ls hR hq hc hs hl
  obtain ⟨-, cellB, hcB, hcl, hoB, -⟩ := hR.obj hko
  have hcap := hR.2.2.2.2.2
  refine aw_back (a := (((.inr (.inr (some o)) :: as : List AV).map (cv E))).toArray) hc hs hq hl kk fun T hT X => ?_
  have hf1 : d + 21 ≤ R.frames := by omega
  have hf2 : 8 + (maxL + 11) + (100 * d + LOCB) ≤ R.locals := by omega
  have hB : Back l R p e below s args y 3 8 (aPre E R (.inr (.inr (some o)) :: as) σ) (aPost E σ r σ') := back_am hM hW0 hts m5 m4 hf1 hf2
  have hst : (F0 m pc ls ((as.reverse ++ .inr (.inr (some o)) :: st).map (cv E))).stack = (as.map (cv E)).reverse ++ .ref (b0 E + o) :: st.map (cv E) := cv_rev as [.inr (.inr (some o))] st
  have hpre : ∀ vm₁, s.WarmedH vm₁ → aPre E R (.inr (.inr (some o)) :: as) σ ⟨T.setVm vm₁, locs, cells, slots⟩ (Value.ref (b0 E + o) :: as.map (cv E)).toArray := fun vm₁ hW₁ => ⟨by show cells + (CAPN - sn σ) ≤ R.cells; omega, by show slots + (CAPZ - sz σ) ≤ R.slots; omega, rfl, by show Rep E σ T.heap; rw [hT]; exact hR⟩
  exact callV X hx (C := q.1) (bytes := bytes) (maxL := maxL) (ret := rt) hown (hts _ m1) (hts _ m2) (hts _ m3) (hts _ m5) m6 hB (by rw [hT]; exact hcB) (by rw [hoB]; rfl) (by rw [hcl]; exact (u_Kn_at hE hW0.alike hq0).2.1) rfl (hl.1.trans hml.symm) (argsL := as.map (cv E)) (rest := st.map (cv E)) (fun sig h => by rw [List.length_map]; exact m7.len sig h) hst (wts_le hw) (by rw [hb]; exact hd) hpre
/-- invokevirtual of a method with handlers -/
theorem callVx {p : Program} {l : Launch} {e : Env} {R : Room} {s : State} {m : MethodId} {args : Array Value} {below : List Frame} {meth : Method} {c : Code} {T : State} {locs : List Loc} {cells slots : Nat} (X : Stand p l e R s m args below meth c T locs cells slots) (hexec : p.tables.exec = Jvm.exec) {own K : String} {index : Nat} {y : MethodName} {bytes : ByteArray} {maxL : Nat} {ret : Option FieldType} {hh : List (Nat × Nat × Nat × Nat)}
    (hown : s.vm.findClass own = some m.cls) (hlink : (Cond.methodLink own index y).before args s = true) (hinst : (Cond.instanceMethod y).before args s = true) (hsel : (Cond.selects K y y).before args s = true)
    (hcode : (Cond.codeWith y bytes maxL ret hh).before args s = true) (hy : y.cls ≠ "java/lang/invoke/MethodHandle" ∧ y.cls ≠ "java/lang/invoke/VarHandle")
    {W : Nat} {Pre : Pt → Array Value → Prop} {Post : Pt → Array Value → Option Value → Pt → Prop} (hK : Back l R p e below s args y 3 W Pre Post)
    {b : Addr} {cellB : Cell} (hcell : T.heap[b]? = some cellB) (hobj : cellB.vm.isStatics = false) (hcls : s.vm.findClass K = some cellB.cls)
    {g : JFrame} (hg : g.method = m) (hsize : g.locals.size = c.maxLocals) {argsL rest : List Value} (hlen : ∀ sig, parseMethodDescriptor y.desc = some sig → argsL.length = sig.parameters.length)
    (hstack : g.stack = argsL.reverse ++ .ref b :: rest) (hW : 2 * g.monitorRoom + (rest.map fun v => v.category).sum ≤ W) (hdg : decode c.code g.pc = .ok (.invokevirtual index, 3))
    (hpre : ∀ vm₁, s.WarmedH vm₁ → Pre ⟨T.setVm vm₁, locs, cells, slots⟩ (Value.ref b :: argsL).toArray) :
    ∃ (v : Option Value) (vm₁ : Vm) (B : Pt), s.WarmedH vm₁ ∧ Stand p l e R s m args below meth c B.U B.locs B.cells B.slots ∧ Post ⟨T.setVm vm₁, locs, cells, slots⟩ (Value.ref b :: argsL).toArray v B ∧
      ∀ target, Steps p.tables e below (B.U.setTop { g with pc := g.pc + 3, stack := v.toList ++ rest }) target → Steps p.tables e below (T.setTop g) target := by
  obtain ⟨mk, methM, hnamed, hmethM, hstM, habM⟩ := Cond.instanceMethod_spec hinst
  obtain ⟨m9, methM', cM, hn9, hmethM', -, -, -, -, -, -, hsigM⟩ := Cond.codeWith_spec hcode
  cases hnamed.symm.trans hn9
  cases hmethM.symm.trans hmethM'
  obtain ⟨c2, r2, m2, q1, q2, q3, q4, kP, hkP, hkPi⟩ := Cond.selects_spec hsel
  cases hcls.symm.trans q1
  cases (State.methodFound?_of_named hnamed hy).symm.trans q2
  cases hnamed.symm.trans q3
  have hselP : selectMethod e.platform s.vm cellB.cls mk = .method mk := by rw [Launch.admits_selectMethod X.admits]; exact q4
  obtain ⟨vm₁, X₁, hstep₁⟩ := X.invokevirtual hexec hown hlink hnamed hmethM hstM hkP hkPi hy (a := b) (cell := cellB) hcell
    (fun z h => by rw [h] at hobj; cases hobj) hselP hmethM habM hkP hkPi (g := g) hg (argsL := argsL) (rest := rest) (hlen _ hsigM) hstack hdg
  obtain ⟨v, B, X', hpost, hsteps⟩ := hK m meth c ⟨T.setVm vm₁, locs, cells, slots⟩ { g with stack := rest } (.invokevirtual index) mk (Value.ref b :: argsL).toArray X₁ hg hsize hdg hW (X₁.named hnamed) (hpre vm₁ X₁.warmed)
  exact ⟨v, vm₁, B, X₁.warmed, X', hpost, fun target h => hstep₁ _ fun acts => by rw [doInvoke_state]; exact hsteps.trans h⟩
theorem aw_callVW (X : Cx C cc own ret nL (d + 1)) {y : MethodName} {bytes : ByteArray} {maxL idx ci : Nat} {rt : Option FieldType} {hh : List (Nat × Nat × Nat × Nat)} {q : vw_C} {o : Nat} {r : Option AV} (as : List AV) (hs : as.reverse ++ .inr (.inr (some o)) :: st = stk) (hko : sK σ o = 8 + ci) (hq0 : vwCl[ci]? = some q) (hml0 : MLkW own idx q.1 y bytes maxL rt hh as.length)
    (hM : AMet C.1 C.2.2.1 y (wsW_ y bytes maxL rt hh) d (.inr (.inr (some o)) :: as) σ r σ') (hd : decode cc pc = .ok (.invokevirtual idx, 3)) (hw : wts st ≤ 8) (kk : AW C (pc + 3) lv (r.toList ++ st) σ' Z) : AW C pc lv stk σ Z := by
  subst hs
  obtain ⟨E, p, l, e, R, s, m, args, below, meth, c, nL', n0, z0⟩ := C
  obtain ⟨hx, hb, hr, hlk, hml, hnl, hown, hts, hW0, hE, hR1, hR2, hR3, hR4, hR5⟩ := X
  obtain ⟨m1, m2, m3, m4, m5, m6, m7, m8⟩ := hml0
  subst hnl
  intro H locs cells slots ls hR hq hc hs hl
  obtain ⟨-, cellB, hcB, hcl, hoB, -⟩ := hR.obj hko
  have hcap := hR.2.2.2.2.2
  refine aw_back (a := (((.inr (.inr (some o)) :: as : List AV).map (cv E))).toArray) hc hs hq hl kk fun T hT X => ?_
  have hf1 : d + 21 ≤ R.frames := by omega
  have hf2 : 8 + (maxL + 11) + (100 * d + LOCB) ≤ R.locals := by omega
  have hB : Back l R p e below s args y 3 8 (aPre E R (.inr (.inr (some o)) :: as) σ) (aPost E σ r σ') := back_amW hM hW0 hts m5 m4 hf1 hf2
  have hst : (F0 m pc ls ((as.reverse ++ .inr (.inr (some o)) :: st).map (cv E))).stack = (as.map (cv E)).reverse ++ .ref (b0 E + o) :: st.map (cv E) := cv_rev as [.inr (.inr (some o))] st
  have hpre : ∀ vm₁, s.WarmedH vm₁ → aPre E R (.inr (.inr (some o)) :: as) σ ⟨T.setVm vm₁, locs, cells, slots⟩ (Value.ref (b0 E + o) :: as.map (cv E)).toArray := fun vm₁ hW₁ => ⟨by show cells + (CAPN - sn σ) ≤ R.cells; omega, by show slots + (CAPZ - sz σ) ≤ R.slots; omega, rfl, by show Rep E σ T.heap; rw [hT]; exact hR⟩
  exact callVx X hx (K := q.1) (bytes := bytes) (maxL := maxL) (ret := rt) hown (hts _ m1) (hts _ m2) (hts _ m3) (hts _ m5) m6 hB (by rw [hT]; exact hcB) (by rw [hoB]; rfl) (by rw [hcl]; exact (u_Kn_at hE hW0.alike hq0).2.1) rfl (hl.1.trans hml.symm) (argsL := as.map (cv E)) (rest := st.map (cv E)) (fun sig h => by rw [List.length_map]; exact m7.len sig h) hst (wts_le hw) (by rw [hb]; exact hd) hpre
theorem aw_callS (X : Cx C cc own ret nL (d + 1)) {y : MethodName} {bytes : ByteArray} {maxL idx : Nat} {rt : Option FieldType} {r : Option AV} (as : List AV) (hs : as.reverse ++ st = stk) (hml0 : MLkS own idx y bytes maxL rt as.length)
    (hM : AMet C.1 C.2.2.1 y (ws_ y bytes maxL rt) d as σ r σ') (hd : decode cc pc = .ok (.invokestatic idx, 3)) (hw : wts st ≤ 8) (kk : AW C (pc + 3) lv (r.toList ++ st) σ' Z) : AW C pc lv stk σ Z := by
  subst hs
  obtain ⟨E, p, l, e, R, s, m, args, below, meth, c, nL', n0, z0⟩ := C
  obtain ⟨hx, hb, hr, hlk, hml, hnl, hown, hts, hW0, hE, hR1, hR2, hR3, hR4, hR5⟩ := X
  obtain ⟨m1, m2, m4, m5, m6, m7, m8⟩ := hml0
  subst hnl
  intro H locs cells slots ls hR hq hc hs hl
  have hcap := hR.2.2.2.2.2
  refine aw_back (a := (as.map (cv E)).toArray) hc hs hq hl kk fun T hT X => ?_
  have hf1 : d + 21 ≤ R.frames := by omega
  have hf2 : 8 + (maxL + 11) + (100 * d + LOCB) ≤ R.locals := by omega
  have hB : Back l R p e below s args y 3 8 (aPre E R as σ) (aPost E σ r σ') := back_am hM hW0 hts m5 m4 hf1 hf2
  have hst : (F0 m pc ls ((as.reverse ++ st).map (cv E))).stack = (as.map (cv E)).reverse ++ st.map (cv E) := cv_rev as [] st
  have hpre : ∀ vm₁, s.WarmedH vm₁ → aPre E R as σ ⟨T.setVm vm₁, locs, cells, slots⟩ (as.map (cv E)).toArray := fun vm₁ hW₁ => ⟨by show cells + (CAPN - sn σ) ≤ R.cells; omega, by show slots + (CAPZ - sz σ) ≤ R.slots; omega, rfl, by show Rep E σ T.heap; rw [hT]; exact hR⟩
  exact callS X hx (bytes := bytes) (maxL := maxL) (ret := rt) hown (hts _ m1) (hts _ m2) (hts _ m4) (hts _ m5) m6 hB rfl (hl.1.trans hml.symm) (argsL := as.map (cv E)) (rest := st.map (cv E)) (fun sig h => by rw [List.length_map]; exact m7.len sig h) hst (wts_le hw) (by rw [hb]; exact hd) hpre
theorem aw_callI (X : Cx C cc own ret nL (d + 1)) {y : MethodName} {bytes : ByteArray} {maxL idx : Nat} {o : Nat} (as : List AV) (hs : as.reverse ++ .inr (.inr (some o)) :: st = stk) (hml0 : MLkI own idx y bytes maxL as.length)
    (hM : AMet C.1 C.2.2.1 y (ws_ y bytes maxL none) d (.inr (.inr (some o)) :: as) σ none σ') (hd : decode cc pc = .ok (.invokespecial idx, 3)) (hw : wts st ≤ 8) (kk : AW C (pc + 3) lv st σ' Z) : AW C pc lv stk σ Z := by
  subst hs
  obtain ⟨E, p, l, e, R, s, m, args, below, meth, c, nL', n0, z0⟩ := C
  obtain ⟨hx, hb, hr, hlk, hml, hnl, hown, hts, hW0, hE, hR1, hR2, hR3, hR4, hR5⟩ := X
  obtain ⟨m1, m2, m4, m5, m9, m6, m7, m8⟩ := hml0
  subst hnl
  intro H locs cells slots ls hR hq hc hs hl
  have hcap := hR.2.2.2.2.2
  refine aw_back (rr := none) (a := (((.inr (.inr (some o)) :: as : List AV).map (cv E))).toArray) hc hs hq hl kk fun T hT X => ?_
  have hf1 : d + 21 ≤ R.frames := by omega
  have hf2 : 8 + (maxL + 11) + (100 * d + LOCB) ≤ R.locals := by omega
  have hB : Back l R p e below s args y 3 8 (aPre E R (.inr (.inr (some o)) :: as) σ) (aPost E σ none σ') := back_am hM hW0 hts m5 m4 hf1 hf2
  have hst : (F0 m pc ls ((as.reverse ++ .inr (.inr (some o)) :: st).map (cv E))).stack = (as.map (cv E)).reverse ++ .ref (b0 E + o) :: st.map (cv E) := cv_rev as [.inr (.inr (some o))] st
  have hpre : ∀ vm₁, s.WarmedH vm₁ → aPre E R (.inr (.inr (some o)) :: as) σ ⟨T.setVm vm₁, locs, cells, slots⟩ (Value.ref (b0 E + o) :: as.map (cv E)).toArray := fun vm₁ hW₁ => ⟨by show cells + (CAPN - sn σ) ≤ R.cells; omega, by show slots + (CAPZ - sz σ) ≤ R.slots; omega, rfl, by show Rep E σ T.heap; rw [hT]; exact hR⟩
  exact callI X hx (bytes := bytes) (maxL := maxL) hown m9 (hts _ m1) (hts _ m2) (hts _ m5) m6 hB rfl (hl.1.trans hml.symm) (a := b0 E + o) (argsL := as.map (cv E)) (rest := st.map (cv E)) (fun sig h => by rw [List.length_map]; exact m7.len sig h) hst (wts_le hw) (by rw [hb]; exact hd) hpre
/-- Object's constructor -/
theorem aw_objI (X : Cx C cc own ret nL d) {idx o : Nat} (hl0 : Cond.methodLink own idx Lib.objectInit ∈ lw_all) (h1 : Cond.instanceMethod Lib.objectInit ∈ lw_all) (h2 : Cond.code Lib.objectInit ⟨#[0xb1]⟩ 1 none ∈ lw_all) (hd : decode cc pc = .ok (.invokespecial idx, 3)) (hw : wts st ≤ 8) (kk : AW C (pc + 3) lv st σ Z) : AW C pc lv (.inr (.inr (some o)) :: st) σ Z := by
  obtain ⟨E, p, l, e, R, s, m, args, below, meth, c, nL', n0, z0⟩ := C
  obtain ⟨hx, hb, hr, hlk, hml, hnl, hown, hts, hW0, hE, hR1, hR2, hR3, hR4, hR5⟩ := X
  subst hnl
  intro H locs cells slots ls hR hq hc hs hl
  have h8 := wts_le (E := E) (m := m) (pc := pc) (ls := ls) (rest := []) hw
  have hL : 12 + 8 ≤ LOCB := by decide
  refine W.objInit hx hb hown (hts _ hl0) (hts _ h1) (hts _ h2) rfl (by rw [hml]; exact hl.1) rfl hd (by omega) ?_ (kk H locs cells slots ls hR hq hc hs hl)
  have h9 : 2 * (F0 m pc ls (List.map (cv E) (.inr (.inr (some o)) :: st))).monitorRoom + ((List.map (cv E) st).map fun v => v.category).sum ≤ 8 := wts_le hw
  omega
theorem wts_sl (E : AE) (as : List AV) : (lg_sl (as.map (cv E))).length = wts as := by
  induction as with
  | nil => rfl
  | cons v t ih =>
    have e1 : lg_sl (List.map (cv E) (v :: t)) = (if (cv E v).category = 2 then [.val (cv E v), .second] else [.val (cv E v)]) ++ lg_sl (t.map (cv E)) := rfl
    have e2 : wts (v :: t) = (if isL v then 2 else 1) + wts t := rfl
    rw [e1, e2, List.length_append, ih]
    rcases v with x | x | r
    · rfl
    · rfl
    · cases r <;> rfl
theorem lvs_map (E : AE) (as : List AV) : ∀ i, lv_args i (as.map (cv E)) = (lvs i as).map fun q => (q.1, cv E q.2) := by
  induction as with
  | nil => intro i; rfl
  | cons v t ih =>
    intro i
    have e1 : lv_args i (List.map (cv E) (v :: t)) = (i, cv E v) :: lv_args (if (cv E v).category = 2 then i + 2 else i + 1) (t.map (cv E)) := rfl
    have e2 : lvs i (v :: t) = (i, v) :: lvs (if isL v then i + 2 else i + 1) t := rfl
    rw [e1, e2, ih, List.map_cons]
    have e3 : (if (cv E v).category = 2 then i + 2 else i + 1) = (if isL v then i + 2 else i + 1) := by
      rcases v with x | x | r
      · rfl
      · rfl
      · cases r <;> rfl
    rw [e3]
/-- from a walk to a contract -/
theorem amet_body {E : AE} {l : Launch} {y : MethodName} {ws : List Cond} {w0 : Cond} {bytes : ByteArray} {maxL d : Nat} {rt : Option FieldType} {as : List AV} {σ σ' : St} {r : Option AV} (hE : EOK E l) (hws : ws = w0 :: lw_all) (hmx : wts as ≤ maxL)
    {hh : List (Nat × Nat × Nat × Nat)} {useH : Prop} (hH : ∀ (s : State) (args : Array Value) (m : MethodId) (meth : Method) (c : Code), w0.before args s = true → s.methodNamed? y = some m → s.vm.method? m = some meth → meth.code = some c → useH → c.exceptionTable.toList.map (fun h => (h.startPc, h.endPc, h.handlerPc, h.catchType)) = hh)
    (body : ∀ C : CT, C.1 = E → C.2.2.1 = l → Cx C bytes y.cls rt maxL d → (y.name = "<init>" → CxI C) → (useH → CxH C hh) → AW C 0 (lvs 0 as) [] σ (AQ C r σ'))
    {p : Program} {e : Env} {s : State} {m : MethodId} {args : Array Value} {below : List Frame} {meth : Method} {c : Code} {s₁ : State} (B : BodyLoose p l y (headSpec ws (roomOf d σ)) bytes maxL rt e s m args below meth c s₁) (hml : c.maxLocals = maxL) (hP : va_Pc (as.map (cv E)) (fun U => Rep E σ U.heap ∧ E.1.WarmedH U.vm) args s) :
    ∃ s₂ o, Steps p.tables e below (s₁.setTop (entryFrame m args maxL)) s₂ ∧ s₂.status = .running ∧ Ended s₂ below o ∧ ((o = .returned (r.map (cv E)) ∧ Rep E σ' s₂.heap) ∧ ∃ (L : List Loc) (k n : Nat), FrameEnd s o s₂ L k n ∧ k + sn σ = sn σ' ∧ n + sz σ = sz σ' ∧ ∀ q ∈ L, b0 E ≤ q.base) := by
  obtain ⟨rfl, hR, hW⟩ := hP
  have hcap := hR.2.2.2.2.2
  have hts0 := atoms_spec (ws := ws) B.pre
  have hts : ∀ w ∈ lw_all, w.before ((as.map (cv E)).toArray) s = true := fun w h => hts0 w (by rw [hws]; exact List.mem_cons_of_mem _ h)
  have hown : s.vm.findClass y.cls = some m.cls := findClass_of_methodNamed B.named
  have hin : meth.name = y.name := (name_of_methodNamed B.named B.method).1
  have hsz := hR.1
  have K := body (E, p, l, e, roomOf d σ, s, m, (as.map (cv E)).toArray, below, meth, c, maxL, sn σ, sz σ) rfl rfl
    ⟨B.exec, B.bytes, B.returns, B.notSynchronized, hml, rfl, hown, hts, hW, hE, Nat.le_refl _, Nat.sub_add_cancel hcap.1, Nat.sub_add_cancel hcap.2, Nat.le_refl _, hR.2.2.2.1⟩ (fun h => hin.trans h) (hH s _ m meth c (hts0 w0 (by rw [hws]; exact List.mem_cons_self)) B.named B.method (Stand.of_body B).code)
  have hl0 := lv_entry (as.map (cv E)) (n := maxL) (by rw [wts_sl]; exact hmx)
  rw [lvs_map] at hl0
  have hh0 : s₁.heap = s.heap := by rw [B.state]; rfl
  have K2 := K s.heap [] 0 0 _ hR (fun q h => by cases h) (Nat.zero_add _) (Nat.zero_add _) hl0
  rw [lg_entry_eq]
  obtain ⟨t, a1, o, b1, b2, b3, L, k, n, b4, b5, b6, b7⟩ := K2 s₁ hh0 (Stand.of_body B)
  exact ⟨t, o, a1, b1, b2, b3, L, k, n, b4, b5, b6, b7⟩
theorem amet_of {E : AE} {l : Launch} {y : MethodName} {bytes : ByteArray} {maxL d : Nat} {rt : Option FieldType} {as : List AV} {σ σ' : St} {r : Option AV} (hE : EOK E l) (hy : plainName y.cls = true) (hmx : wts as ≤ maxL)
    (body : ∀ C : CT, C.1 = E → C.2.2.1 = l → Cx C bytes y.cls rt maxL d → (y.name = "<init>" → CxI C) → AW C 0 (lvs 0 as) [] σ (AQ C r σ')) : AMet E l y (ws_ y bytes maxL rt) d as σ r σ' := by
  refine MetFree.of_bodyS (code := bytes) (maxLocals := maxL) (ret := rt) hy ?_ ?_
  · intro args s m h hn
    obtain ⟨meth, c, h1, h2, h3, h4, h5, h6, -, -⟩ := Cond.code_spec hn (atoms_spec (ws := ws_ y bytes maxL rt) h _ List.mem_cons_self)
    exact ⟨meth, c, h1, h2, h3, h4, h5, h6⟩
  · intro p e s m args below meth c s₁ B hml hP _
    exact amet_body (hh := []) (useH := False) hE rfl hmx (fun _ _ _ _ _ _ _ _ _ h => h.elim) (fun C a b c d _ => body C a b c d) B hml hP
theorem amet_ofW {E : AE} {l : Launch} {y : MethodName} {bytes : ByteArray} {maxL d : Nat} {rt : Option FieldType} {hh : List (Nat × Nat × Nat × Nat)} {as : List AV} {σ σ' : St} {r : Option AV} (hE : EOK E l) (hy : plainName y.cls = true) (hmx : wts as ≤ maxL)
    (body : ∀ C : CT, C.1 = E → C.2.2.1 = l → Cx C bytes y.cls rt maxL d → (y.name = "<init>" → CxI C) → CxH C hh → AW C 0 (lvs 0 as) [] σ (AQ C r σ')) : AMet E l y (wsW_ y bytes maxL rt hh) d as σ r σ' := by
  refine MetFree.of_bodyS (code := bytes) (maxLocals := maxL) (ret := rt) hy ?_ ?_
  · intro args s m h hn
    obtain ⟨m', meth, c, h0, h1, h2, h3, h4, -, h5, h6, -⟩ := Cond.codeWith_spec (atoms_spec (ws := wsW_ y bytes maxL rt hh) h _ List.mem_cons_self)
    cases hn.symm.trans h0
    exact ⟨meth, c, h1, h2, h3, h4, h5, h6⟩
  · intro p e s m args below meth c s₁ B hml hP _
    refine amet_body (hh := hh) (useH := True) hE rfl hmx (fun s a m meth c hw h1 h2 h3 _ => ?_) (fun C a b c d h => body C a b c d (h trivial)) B hml hP
    obtain ⟨m', meth', c', g0, g1, g2, -, -, g3, -⟩ := Cond.codeWith_spec hw
    cases h1.symm.trans g0
    cases h2.symm.trans g1
    cases h3.symm.trans g2
    exact g3
end CallRows
