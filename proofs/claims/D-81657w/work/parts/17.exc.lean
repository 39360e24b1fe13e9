/-! exceptions made inside a method, thrown, and caught there -/
section Exc
variable {p : Program} {l : Launch} {e : Env} {R : Room} {s : State} {m : MethodId} {args : Array Value} {below : List Frame} {meth : Method} {c : Code} {T' : State} {locs : List Loc} {cells slots : Nat}
/-- the cell of Throwable's statics is none of the places that the walk has written -/
def stFree (s : State) (locs : List Loc) : Prop := ∀ cT kT aS, s.vm.findClass Bundle.tN = some cT → s.vm.classes[cT]? = some kT → kT.statics = some aS → ∀ x ∈ locs, x.base ≠ aS
/-- what making an exception leaves: new cells behind, the exception the last of them; the note that it is thrown lies over the frame -/
def ExcMade (p : Program) (l : Launch) (e : Env) (R : Room) (s : State) (m : MethodId) (args : Array Value) (below : List Frame) (meth : Method) (c : Code) (T' : State) (locs : List Loc) (cells slots : Nat) (g : JFrame) (cls : String) (k : Nat) (nmax : Nat) (from_ : State) : Prop :=
  ∃ (U : State) (L : List Loc) (n : Nat) (cell : Cell) (cC : ClassId), n ≤ nmax ∧ Stand p l e R s m args below meth c U (locs ++ L) (cells + k) (slots + n) ∧ (∀ q ∈ L, T'.heap.size ≤ q.base) ∧ U.heap.size = T'.heap.size + k ∧ (∀ q, q < T'.heap.size → U.heap[q]? = T'.heap[q]?) ∧
    U.heap[T'.heap.size + k - 1]? = some cell ∧ s.vm.findClass cls = some cC ∧ cell.cls = cC ∧ cell.vm.isStatics = false ∧
    ∀ target, Steps p.tables e below ((U.setTop g).pushFrame (.throwing (T'.heap.size + k - 1))) target → Steps p.tables e below from_ target
/-- classes that are none of others (narrow_1 says so) -/
def nocast : List (String × String) := [("java/lang/ArrayIndexOutOfBoundsException", "java/lang/NullPointerException"), ("java/lang/ArithmeticException", "java/lang/NullPointerException"), ("WithinWords$Word", "WithinWords$Told"), ("WithinWords$Made", "WithinWords$Told"), ("WithinWords$Turned", "WithinWords$Told"), ("WithinWords$Dropped", "WithinWords$Told"), ("WithinWords$Word", "WithinWords$Made"), ("WithinWords$Told", "WithinWords$Made"), ("WithinWords$Word", "WithinWords$Turned"), ("WithinWords$Told", "WithinWords$Turned"), ("WithinWords$Made", "WithinWords$Turned"), ("WithinWords$Dropped", "WithinWords$Turned"), ("WithinWords$Word", "WithinWords$Dropped"), ("WithinWords$Told", "WithinWords$Dropped"), ("WithinWords$Made", "WithinWords$Dropped"), ("WithinWords$Turned", "WithinWords$Dropped")]
theorem npeIn (X : Stand p l e R s m args below meth c T' locs cells slots) (hexec : p.tables.exec = Jvm.exec) (htr : e.platform.stackTraces = false) (h : ∀ a ∈ Bundle.npeArmAtoms 8, a.before args s = true) (hlocs : stFree s locs)
    {g : JFrame} (hg : g.method = m) (hsize : g.locals.size = c.maxLocals) (hRframes : 7 < R.frames) (hRlocals : 2 * g.monitorRoom + (g.stack.map fun v => v.category).sum + 10240 ≤ R.locals) (hRcells : cells + 1 ≤ R.cells) (hRslots : slots + 8 ≤ R.slots) :
    ExcMade p l e R s m args below meth c T' locs cells slots g "java/lang/NullPointerException" 1 8 ((T'.setTop g).pushFrame (.throwNew "java/lang/NullPointerException" none none)) := by
  have howns : e.platform.frameOwnsMonitors = true := by rw [X.admits.platform]
  have hfin : e.platform.finalization = false := by rw [X.admits.platform]
  have hpl : e.platform.magicAccessors = ({} : Platform).magicAccessors := by rw [X.admits.platform]
  have hpl2 : e.platform.arrayCloneIsPublic = true := by rw [X.admits.platform]
  have a : ∀ x, x ∈ Bundle.npeArmAtoms 8 → x.holds args s none s [] = true := fun x hx => h x hx
  obtain ⟨T, Z, L, LZ, Y⟩ := ThrowableC.of_atoms (args := args) howns hfin hpl (fun x hx => h x (by simp [Bundle.npeArmAtoms, hx]))
  obtain ⟨N, LN, hcN, hnNF, hordN, hffS⟩ := NpeC.of_atoms (args := args) hpl hpl2 L Y (fun x hx => h x (by simp [Bundle.npeArmAtoms, hx]))
  obtain ⟨P1, L1, hP1m, hP1s⟩ := PassC.of_atoms (args := args) (s := s) hpl (X := Bundle.nN) (Y := Bundle.rN) (by decide) (by decide) LibCode.NullPointerException.Init0.at_0 LibCode.NullPointerException.Init0.at_1 LibCode.NullPointerException.Init0.at_4 (fun x hx => h x (by simp [Bundle.npeArmAtoms, hx]))
  obtain ⟨PR, LR, hPRm, hPRs⟩ := PassC.of_atoms (args := args) (s := s) hpl (X := Bundle.rN) (Y := Bundle.eN) (by decide) (by decide) LibCode.RuntimeException.Init0.at_0 LibCode.RuntimeException.Init0.at_1 LibCode.RuntimeException.Init0.at_4 (fun x hx => h x (by simp [Bundle.npeArmAtoms, hx]))
  obtain ⟨PE, LEx, hPEm, hPEs⟩ := PassC.of_atoms (args := args) (s := s) hpl (X := Bundle.eN) (Y := Bundle.tN) (by decide) (by decide) LibCode.Exception.Init0.at_0 LibCode.Exception.Init0.at_1 LibCode.Exception.Init0.at_4 (fun x hx => h x (by simp [Bundle.npeArmAtoms, hx]))
  have hfound : s.vm.findClass Bundle.nN = some P1.m.cls := findClass_of_methodNamed hP1m
  have ecls : N.cN = P1.m.cls := Option.some.inj (hcN.symm.trans hfound)
  have hk : s.vm.classes[P1.m.cls]? = some N.kN := by rw [← ecls]; exact LN.cls
  have hinit := Cond.initialized_spec hfound hk (a (.initialized Bundle.nN) (by simp [Bundle.npeArmAtoms]))
  have hctor : N.kN.findMethod "<init>" "()V" = some P1.m.idx := findMethod_of_methodNamed hP1m hk
  obtain ⟨c1, k1, hc1, hk1, -, -, -, hn⟩ := Cond.instantiable_spec (a (.instantiable Bundle.nN 8) (by simp [Bundle.npeArmAtoms]))
  cases Option.some.inj (hc1.symm.trans hfound)
  cases Option.some.inj (hk1.symm.trans hk)
  have hlink1 : P1.sup = PR.m := Option.some.inj (hP1s.symm.trans hPRm)
  have hlinkR : PR.sup = PE.m := Option.some.inj (hPRs.symm.trans hPEm)
  have hlinkE : PE.sup = Z.m T.toThrowableT := Option.some.inj (hPEs.symm.trans Y.init0)
  have hsel0 : selectMethod e.platform s.vm P1.m.cls T.fill0 = .method T.fill0 := by
    obtain ⟨c2, r2, m2, q1, q2, q3, q4, -⟩ := Cond.selects_spec (a (.selects Bundle.nN Bundle.tFill0 Bundle.tFill0) (by simp [Bundle.npeArmAtoms]))
    cases Option.some.inj (q1.symm.trans hfound)
    cases Option.some.inj (q2.symm.trans (State.methodFound?_of_named Y.fill0 (by decide)))
    cases Option.some.inj (q3.symm.trans Y.fill0)
    rw [Launch.admits_selectMethod X.admits]; exact q4
  have hselF : selectMethod e.platform s.vm P1.m.cls T.fill = .method N.fill := by
    obtain ⟨c2, r2, m2, q1, q2, q3, q4, -⟩ := Cond.selects_spec (a (.selects Bundle.nN Bundle.tFill Bundle.nFill) (by simp [Bundle.npeArmAtoms]))
    cases Option.some.inj (q1.symm.trans hfound)
    cases Option.some.inj (q2.symm.trans (State.methodFound?_of_named Y.fill (by decide)))
    cases Option.some.inj (q3.symm.trans hnNF)
    rw [Launch.admits_selectMethod X.admits]; exact q4
  obtain ⟨cellS0, hcS0, hiss⟩ := Y.statics
  obtain ⟨u0, hu0⟩ := Cond.staticRefV Y.unassigned L.unassignedStatic L.statics hcS0 hiss (a (.isRef (.static Bundle.tN "UNASSIGNED_STACK" Bundle.steD)) (by simp [Bundle.npeArmAtoms]))
  obtain ⟨sen, hsen⟩ := Cond.staticRefV Y.sentinel L.sentinelStatic L.statics hcS0 hiss (a (.isRef (.static Bundle.tN "SUPPRESSED_SENTINEL" Bundle.listD)) (by simp [Bundle.npeArmAtoms]))
  obtain ⟨ci198, i198, fB, hk198, hg198, ha198, hsB, -, hnB, htB, hffB⟩ := Cond.ownField (t := .object "java/lang/Object") Y.found L.cls (by decide +kernel) (a (.fieldLink Bundle.tN 198 Bundle.tN "backtrace" Bundle.objD) (by simp [Bundle.npeArmAtoms])) (a (.lays Bundle.tN Bundle.tN "backtrace" Bundle.objD) (by simp [Bundle.npeArmAtoms])) e.platform hpl
  obtain ⟨cellS, hcS', heS, -, hkeep⟩ := X.same.2.2.2.2.2 T.aS cellS0 hcS0
  have hcellS : T'.heap[T.aS]? = some cellS := hcS'
  have hout' : ∀ i, (⟨T.aS, i⟩ : Loc) ∉ locs := fun i hmem => hlocs _ _ _ Y.found L.cls L.statics _ hmem rfl
  have hknownS : cellS.vm ≠ .unknown := by
    rw [heS]; intro hu
    rw [show cellS0.vm = .unknown from hu] at hiss
    cases hiss
  obtain ⟨tyC, dC, hdC, hdnC⟩ := Cond.laysAt hfound hk Y.cause (a (.lays Bundle.nN Bundle.tN "cause" "Ljava/lang/Throwable;") (by simp [Bundle.npeArmAtoms]))
  obtain ⟨tyS, dS, hdS, hdnS⟩ := Cond.laysAt hfound hk Y.stack (a (.lays Bundle.nN Bundle.tN "stackTrace" Bundle.steD) (by simp [Bundle.npeArmAtoms]))
  obtain ⟨tyP, dP, hdP, hdnP⟩ := Cond.laysAt hfound hk Y.supp (a (.lays Bundle.nN Bundle.tN "suppressedExceptions" Bundle.listD) (by simp [Bundle.npeArmAtoms]))
  obtain ⟨tyX, dX, hdX, hdnX⟩ := Cond.laysAt hfound hk hffS (a (.lays Bundle.nN Bundle.nN "extendedMessageState" "I") (by simp [Bundle.npeArmAtoms, Bundle.npeAtoms]))
  have hnX : N.fState.name = "extendedMessageState" := (State.fieldFound?_type hffS (t := .int) (by decide +kernel)).1
  obtain ⟨tyB, dB, hdB, hdnB⟩ := Cond.laysAt hfound hk hffB (a (.lays Bundle.nN Bundle.tN "backtrace" Bundle.objD) (by simp [Bundle.npeArmAtoms]))
  have bC := Cond.laysApart hdB hdC hdnB hdnC (by rw [hnB, Y.causeName]; decide)
  have bS := Cond.laysApart hdB hdS hdnB hdnS (by rw [hnB, Y.stackName]; decide)
  have bP := Cond.laysApart hdB hdP hdnB hdnP (by rw [hnB, Y.suppName]; decide)
  have bX := Cond.laysApart hdB hdX hdnB hdnX (by rw [hnB, hnX]; decide)
  have hskip : SkipFacts T e.platform s (fun u => u) u0 ((npeCell N.toNpeT (preparedCellV T.toThrowableT (freshCell P1.m.cls N.kN) T'.heap.size u0 sen) T'.cur).withEntry T'.cur) :=
    ⟨{ ci198 := ci198, i198 := i198, fBack := fB }, ⟨hk198, hg198, ha198, hsB⟩, by
      have := fresh_default (c := P1.m.cls) tyB
      rw [htB] at this
      simpa [npeCell, preparedCellV, Cell.setSlot, Cell.withEntry, Array.getElem?_setIfInBounds, bC, bS, bP, bX, bC.symm, bS.symm, bP.symm, bX.symm, defaultValue] using this, fun _ _ => rfl⟩
  have hAt : At T' g.method c below := by rw [hg]; exact X.here
  obtain ⟨hbeyond, hfreeW⟩ := X.vmMayThrow hsize (.throwNew "java/lang/NullPointerException" none none) (fun f hf => by cases hf) rfl hRlocals
  have hfr' : T'.frames.length + [PR, PE].length + 5 < (e.platform.stackLimits T'.me).1 := by
    have := X.framesAbove (n := 7) (by omega)
    simp only [List.length_cons, List.length_nil]
    omega
  have hwd' : (stackUse (.java g :: T'.frames.tail)).2 + 13 * [PR, PE].length + 68 ≤ (e.platform.stackLimits T'.me).2 := by
    have := X.stackAbove hsize (K := 13 * 2 + 68) (by omega)
    simp only [List.length_cons, List.length_nil]
    omega
  obtain ⟨vm', hW', st⟩ := Steps.vmThrowsNpeColdByV p (s₀ := s) (S := T') (g := g) hAt hexec T L Z LZ N LN X.warmed (t := T'.cur) rfl P1 L1 [PR, PE] (fun P hP => by
      simp only [List.mem_cons, List.not_mem_nil, or_false] at hP
      rcases hP with rfl | rfl
      · exact LR
      · exact LEx) hlink1 ⟨hlinkR, hlinkE, trivial⟩ hfound hk hinit hordN hctor
    (Launch.admits_hotImplicitExceptions X.admits) hbeyond hfreeW (X.cellsAbove hRcells) (X.slotsAbove (by rw [hn]; exact hRslots))
    (Nn := fun u => u) heapOnly_id (fun _ _ => rfl) (fun _ => rfl) (fun u x y => setCell_twice _ _ _ _) (fun _ => Nat.le_refl _) (cN := ((npeCell N.toNpeT (preparedCellV T.toThrowableT (freshCell P1.m.cls N.kN) T'.heap.size u0 sen) T'.cur).withEntry T'.cur))
    hsel0 hcellS hknownS (by rw [hkeep _ (hout' _)]; exact hu0) (by rw [fresh_default tyX, LN.stateInt]; rfl)
    (Cond.laysApart hdC hdX hdnC hdnX (by rw [Y.causeName, hnX]; decide)) (Cond.laysApart hdS hdX hdnS hdnX (by rw [Y.stackName, hnX]; decide)) (Cond.laysApart hdP hdX hdnP hdnX (by rw [Y.suppName, hnX]; decide))
    (Takes.of_laid hk hordN tyS (by rw [Y.stackType]; exact fits_refV_array _ u0)) (Takes.of_laid hk hordN tyX (by rw [LN.stateInt]; rfl)) (fun _ hu => hu) (fun _ hu => hu) rfl rfl rfl (by simp [npeCell, preparedCellV, Cell.setSlot, Cell.withEntry]) hskip
    (fun _ _ hA hW _ hroom _ hrest => L.nativeOff p htr hA hW hroom hrest) hselF (by rw [hkeep _ (hout' _)]; exact hsen)
    (Takes.of_laid hk hordN tyC (by rw [Y.causeType]; rfl)) (Takes.of_laid hk hordN tyP (by rw [Y.suppType]; exact fits_refV_object _ sen)) Y.objLocals rfl hfr' hwd'
  rw [npeBareV_eq T.toThrowableT N.toNpeT T'.heap.size u0 sen T'.cur rfl rfl] at st
  have X2 := (X.pushed (freshCell P1.m.cls N.kN)).noted hW'
  have hsz : ((T'.pushCell (freshCell P1.m.cls N.kN)).setVm vm').heap.size = T'.heap.size + 1 := State.heap_size_pushCell _ _
  have ha : T'.heap.size < ((T'.pushCell (freshCell P1.m.cls N.kN)).setVm vm').heap.size := by rw [hsz]; omega
  have hcell : ((T'.pushCell (freshCell P1.m.cls N.kN)).setVm vm').heap[T'.heap.size]? = some (freshCell P1.m.cls N.kN) := State.heap_pushCell_size T' (freshCell P1.m.cls N.kN)
  have X3 := ((((X2.stored hcell T.fCause.slot (.ref T'.heap.size)).storedAgain ha T.fStack.slot u0.v).storedAgain ha T.fSupp.slot sen.v).storedAgain ha N.fState.slot (.int 1)).storedAgain ha T.fStack.slot u0.v
  have hsz8 : (freshCell P1.m.cls N.kN).slots.size = 8 := by simp [hn]
  rw [hsz8] at X3
  simp only [List.append_assoc, List.cons_append, List.nil_append] at X3
  refine ⟨_, _, 8, _, P1.m.cls, Nat.le_refl _, X3, fun q hq => ?_, ?_, fun q hq => ?_, heapAt_setCell_self (s := (T'.pushCell (freshCell P1.m.cls N.kN)).setVm vm') _ ha, hfound, rfl, rfl, fun target hrest => st _ ?_⟩
  · simp only [List.mem_cons, List.not_mem_nil, or_false] at hq
    rcases hq with rfl | rfl | rfl | rfl | rfl <;> exact Nat.le_refl _
  · show (((T'.pushCell (freshCell P1.m.cls N.kN)).setVm vm').heap.setIfInBounds _ _).size = _
    rw [Array.size_setIfInBounds, hsz]
  · show (((T'.pushCell (freshCell P1.m.cls N.kN)).setVm vm').heap.setIfInBounds _ _)[q]? = _
    rw [Array.getElem?_setIfInBounds_ne (by omega)]
    show (T'.heap.push _)[q]? = _
    rw [Array.getElem?_push, if_neg (by omega)]
  · obtain ⟨g₁, hfrM⟩ := X3.frames_eq
    have hU : ((((T'.pushCell (freshCell P1.m.cls N.kN)).setVm vm').setCell T'.heap.size (npeBareV T.toThrowableT N.toNpeT (freshCell P1.m.cls N.kN) T'.heap.size u0 sen)).setTop g).pushFrame (.throwing T'.heap.size) = (((T'.pushCell (freshCell P1.m.cls N.kN)).setVm vm').setCell T'.heap.size (npeBareV T.toThrowableT N.toNpeT (freshCell P1.m.cls N.kN) T'.heap.size u0 sen)).setFrames (.throwing T'.heap.size :: .java g :: below) := by
      rw [State.pushFrame, State.frames_setTop _ hfrM, State.setTop_of_frames _ hfrM, State.setFrames_setFrames]
    rw [X.tail, ← hU]
    exact hrest
theorem msgIn (X : Stand p l e R s m args below meth c T' locs cells slots) (hexec : p.tables.exec = Jvm.exec) (htr : e.platform.stackTraces = false) {cls : String} {names : List String} {text : String}
    (hcls : Bundle.fit cls = true) (hnames : ∀ n ∈ names, Bundle.fit n = true) (hsoe : (cls == "java/lang/StackOverflowError") = false) (hoom : (cls == "java/lang/OutOfMemoryError") = false)
    (h : ∀ a ∈ Bundle.messageArmAtoms cls names, a.before args s = true) (hlocs : stFree s locs)
    (htext : (text == notModelled) = false) (hlimit : ¬ (stringBytes (stringToUtf16 text)).size > e.platform.arrayLengthLimit) (hheap : ¬ (stringBytes (stringToUtf16 text)).size * componentBytes .byte > e.platform.maxHeapBytes)
    {g : JFrame} (hg : g.method = m) (hsize : g.locals.size = c.maxLocals) (hRframes : names.length + 4 < R.frames) (hRlocals : 2 * g.monitorRoom + (g.stack.map fun v => v.category).sum + 10240 ≤ R.locals) (hshort : 13 * names.length + 55 ≤ 10240)
    (hRcells : cells + 3 ≤ R.cells) (hRslots : slots + ((stringBytes (stringToUtf16 text)).size + 4 + 6) ≤ R.slots) :
    ExcMade p l e R s m args below meth c T' locs cells slots g cls 3 ((stringBytes (stringToUtf16 text)).size + 4 + 6) ((T'.setTop g).pushFrame (.throwNew cls (some text) none)) := by
  have howns : e.platform.frameOwnsMonitors = true := by rw [X.admits.platform]
  have hfin : e.platform.finalization = false := by rw [X.admits.platform]
  have hpl : e.platform.magicAccessors = ({} : Platform).magicAccessors := by rw [X.admits.platform]
  have a : ∀ x, x ∈ Bundle.messageArmAtoms cls names → x.holds args s none s [] = true := fun x hx => h x hx
  obtain ⟨T, Z0, L, -, Y⟩ := ThrowableC.of_atoms (args := args) howns hfin hpl (fun x hx => h x (by simp [Bundle.messageArmAtoms, hx]))
  obtain ⟨Z, M, LZ, LM, hnZ⟩ := Init0T.ofS_atoms (args := args) hpl L Y (fun x hx => h x (by simp [Bundle.messageArmAtoms, hx]))
  obtain ⟨P1, Ps, hlen, L1, hL, hP1m, hlink1, hlink⟩ := Bundle.chainS (args := args) hpl hnZ names cls hcls hnames (fun x hx => h x (by simp [Bundle.messageArmAtoms, hx]))
  obtain ⟨Zs, LZs, hn4, hfitv, hfitc⟩ := StringT.of_atoms (args := args) (fun x hx => h x (by simp [Bundle.messageArmAtoms, hx]))
  have hfound : s.vm.findClass cls = some P1.m.cls := findClass_of_methodNamed hP1m
  obtain ⟨c1, kX, hc1, hk, hord, -, -, hn6⟩ := Cond.instantiable_spec (a (.instantiable cls 6) (by simp [Bundle.messageArmAtoms]))
  cases Option.some.inj (hc1.symm.trans hfound)
  have hinit := Cond.initialized_spec hfound hk (a (.initialized cls) (by simp [Bundle.messageArmAtoms]))
  have hctor : kX.findMethod "<init>" "(Ljava/lang/String;)V" = some P1.m.idx := findMethod_of_methodNamed hP1m hk
  have hsel0 : selectMethod e.platform s.vm P1.m.cls T.fill0 = .method T.fill0 := by
    obtain ⟨c2, r2, m2, q1, q2, q3, q4, -⟩ := Cond.selects_spec (a (.selects cls Bundle.tFill0 Bundle.tFill0) (by simp [Bundle.messageArmAtoms]))
    cases Option.some.inj (q1.symm.trans hfound)
    cases Option.some.inj (q2.symm.trans (State.methodFound?_of_named Y.fill0 (by decide)))
    cases Option.some.inj (q3.symm.trans Y.fill0)
    rw [Launch.admits_selectMethod X.admits]; exact q4
  have hselF : selectMethod e.platform s.vm P1.m.cls T.fill = .method T.fill := by
    obtain ⟨c2, r2, m2, q1, q2, q3, q4, -⟩ := Cond.selects_spec (a (.selects cls Bundle.tFill Bundle.tFill) (by simp [Bundle.messageArmAtoms]))
    cases Option.some.inj (q1.symm.trans hfound)
    cases Option.some.inj (q2.symm.trans (State.methodFound?_of_named Y.fill (by decide)))
    cases Option.some.inj (q3.symm.trans Y.fill)
    rw [Launch.admits_selectMethod X.admits]; exact q4
  obtain ⟨cellS0, hcS0, hiss⟩ := Y.statics
  obtain ⟨u0, hu0⟩ := Cond.staticRefV Y.unassigned L.unassignedStatic L.statics hcS0 hiss (a (.isRef (.static Bundle.tN "UNASSIGNED_STACK" Bundle.steD)) (by simp [Bundle.messageArmAtoms]))
  obtain ⟨sen, hsen⟩ := Cond.staticRefV Y.sentinel L.sentinelStatic L.statics hcS0 hiss (a (.isRef (.static Bundle.tN "SUPPRESSED_SENTINEL" Bundle.listD)) (by simp [Bundle.messageArmAtoms]))
  obtain ⟨ci198, i198, fB, hk198, hg198, ha198, hsB, -, hnB, htB, hffB⟩ := Cond.ownField (t := .object "java/lang/Object") Y.found L.cls (by decide +kernel) (a (.fieldLink Bundle.tN 198 Bundle.tN "backtrace" "Ljava/lang/Object;") (by simp [Bundle.messageArmAtoms])) (a (.lays Bundle.tN Bundle.tN "backtrace" "Ljava/lang/Object;") (by simp [Bundle.messageArmAtoms])) e.platform hpl
  obtain ⟨cellS, hcS', heS, -, hkeep⟩ := X.same.2.2.2.2.2 T.aS cellS0 hcS0
  have hcellS : T'.heap[T.aS]? = some cellS := hcS'
  have hout' : ∀ i, (⟨T.aS, i⟩ : Loc) ∉ locs := fun i hmem => hlocs _ _ _ Y.found L.cls L.statics _ hmem rfl
  have hknownS : cellS.vm ≠ .unknown := by
    rw [heS]; intro hu
    rw [show cellS0.vm = .unknown from hu] at hiss
    cases hiss
  obtain ⟨iM, hffM⟩ := Y.msg
  obtain ⟨tyC, dC, hdC, hdnC⟩ := Cond.laysAt hfound hk Y.cause (a (.lays cls Bundle.tN "cause" "Ljava/lang/Throwable;") (by simp [Bundle.messageArmAtoms]))
  obtain ⟨tyS, dS, hdS, hdnS⟩ := Cond.laysAt hfound hk Y.stack (a (.lays cls Bundle.tN "stackTrace" Bundle.steD) (by simp [Bundle.messageArmAtoms]))
  obtain ⟨tyP, dP, hdP, hdnP⟩ := Cond.laysAt hfound hk Y.supp (a (.lays cls Bundle.tN "suppressedExceptions" Bundle.listD) (by simp [Bundle.messageArmAtoms]))
  obtain ⟨tyM, dM, hdM, hdnM⟩ := Cond.laysAt hfound hk hffM (a (.lays cls Bundle.tN "detailMessage" "Ljava/lang/String;") (by simp [Bundle.messageArmAtoms]))
  obtain ⟨tyB, dB, hdB, hdnB⟩ := Cond.laysAt hfound hk hffB (a (.lays cls Bundle.tN "backtrace" "Ljava/lang/Object;") (by simp [Bundle.messageArmAtoms]))
  have bC := Cond.laysApart hdB hdC hdnB hdnC (by rw [hnB, Y.causeName]; decide)
  have bS := Cond.laysApart hdB hdS hdnB hdnS (by rw [hnB, Y.stackName]; decide)
  have bP := Cond.laysApart hdB hdP hdnB hdnP (by rw [hnB, Y.suppName]; decide)
  have hskip : SkipFacts T e.platform s (fun u => u) u0 ((preparedCellV T.toThrowableT (freshCell P1.m.cls kX) (T'.heap.size + 2) u0 sen).withEntry T'.cur) :=
    ⟨{ ci198 := ci198, i198 := i198, fBack := fB }, ⟨hk198, hg198, ha198, hsB⟩, by
      have := fresh_default (c := P1.m.cls) tyB
      rw [htB] at this
      simpa [preparedCellV, Cell.setSlot, Cell.withEntry, Array.getElem?_setIfInBounds, bC, bS, bP, bC.symm, bS.symm, bP.symm, defaultValue] using this, fun _ _ => rfl⟩
  have hAt : At T' g.method c below := by rw [hg]; exact X.here
  obtain ⟨hbeyond, hfreeW⟩ := X.vmMayThrow hsize (.throwNew cls (some text) none) (fun f hf => by cases hf) rfl hRlocals
  have hfr' : T'.frames.length + Ps.length + 4 < (e.platform.stackLimits T'.me).1 := by
    have := X.framesAbove hRframes
    rw [hlen]
    omega
  have hwd' : (stackUse (.java g :: T'.frames.tail)).2 + 13 * Ps.length + 55 ≤ (e.platform.stackLimits T'.me).2 := by
    have := X.stackAbove hsize (K := 13 * names.length + 55) (by omega)
    rw [hlen]
    omega
  have hslots : T'.slotsUsed + (stringBytes (stringToUtf16 text)).size + Zs.kS.instanceTypes.size + kX.instanceTypes.size ≤ e.platform.maxSlots := by
    have := X.slotsAbove hRslots
    rw [hn4, hn6]
    omega
  obtain ⟨vm', hW', st⟩ := Steps.vmThrowsMessageColdByV p (s₀ := s) (S := T') (g := g) hAt hexec T L Z LZ M LM X.warmed (t := T'.cur) rfl Zs LZs P1 L1 Ps hL hlink1 hlink hsoe hoom hfound hk hinit hord hctor
    (Launch.admits_hotImplicitExceptions X.admits) hbeyond hfreeW htext hlimit hheap (X.cellsAbove hRcells) hslots (hfitv _) (hfitc _)
    (Nn := fun u => u) heapOnly_id (fun _ _ => rfl) (fun _ => rfl) (fun u x y => setCell_twice _ _ _ _) (fun _ => Nat.le_refl _) (cN := ((preparedCellV T.toThrowableT (freshCell P1.m.cls kX) (T'.heap.size + 2) u0 sen).withEntry T'.cur))
    hsel0 hcellS hknownS (by rw [hkeep _ (hout' _)]; exact hu0) (Takes.of_laid hk hord tyS (by rw [Y.stackType]; exact fits_refV_array _ u0)) (fun _ hu => hu) (fun _ hu => hu) rfl rfl rfl (by simp [preparedCellV, Cell.setSlot, Cell.withEntry]) hskip
    (fun _ _ hA hW _ hroom _ hrest => L.nativeOff p htr hA hW hroom hrest) hselF (by rw [hkeep _ (hout' _)]; exact hsen)
    (Takes.of_laid hk hord tyC (by rw [Y.causeType]; rfl)) (Takes.of_laid hk hord tyP (by rw [Y.suppType]; exact fits_refV_object _ sen)) (Takes.of_laid hk hord tyM (by rw [Y.msgType]; rfl)) Y.objLocals rfl hfr' hwd'
  rw [plainBareV_eq T.toThrowableT (T'.heap.size + 2) u0 sen (.ref (T'.heap.size + 1)) T'.cur rfl rfl] at st
  obtain ⟨-, -, w3, w4, -, -, -⟩ := withThrown_facts e.platform T' Zs text P1.m.cls kX
  have X3 := ((X.pushed (bytesOf Zs.cB (stringToUtf16 text))).pushed (stringAt Zs.cS Zs.kS Zs.fv Zs.fc (stringToUtf16 text) T'.heap.size)).pushed (freshCell P1.m.cls kX)
  rw [← withString_eq] at X3
  have X4 := X3.noted hW'
  have ha : (T'.heap.size + 2) < ((withThrown T' Zs text P1.m.cls kX).setVm vm').heap.size := by show _ < (withThrown T' Zs text P1.m.cls kX).heap.size; rw [w3]; omega
  have hcell : ((withThrown T' Zs text P1.m.cls kX).setVm vm').heap[(T'.heap.size + 2)]? = some (freshCell P1.m.cls kX) := w4
  have X5 := ((((X4.stored hcell T.fCause.slot (.ref (T'.heap.size + 2))).storedAgain ha T.fStack.slot u0.v).storedAgain ha T.fSupp.slot sen.v).storedAgain ha T.fStack.slot u0.v).storedAgain ha T.fMsg.slot (.ref (T'.heap.size + 1))
  have b1 : (bytesOf Zs.cB (stringToUtf16 text)).slots.size = (stringBytes (stringToUtf16 text)).size := by
    rw [(Cell.writeAll_facts _ _).2.2]; simp [bytes0]
  have b2 : (stringAt Zs.cS Zs.kS Zs.fv Zs.fc (stringToUtf16 text) T'.heap.size).slots.size = 4 := by simp [string0, Cell.setSlot, hn4]
  have b3 : (freshCell P1.m.cls kX).slots.size = 6 := by simp [hn6]
  rw [b1, b2, b3] at X5
  simp only [List.append_assoc, List.cons_append, List.nil_append] at X5
  have h2 : slots + (stringBytes (stringToUtf16 text)).size + 4 + 6 = slots + ((stringBytes (stringToUtf16 text)).size + 4 + 6) := by omega
  rw [show cells + 1 + 1 + 1 = cells + 3 from rfl, h2] at X5
  refine ⟨_, _, _, _, P1.m.cls, Nat.le_refl _, X5, fun q hq => ?_, ?_, fun q hq => ?_, heapAt_setCell_self (s := (withThrown T' Zs text P1.m.cls kX).setVm vm') _ ha, hfound, rfl, rfl, fun target hrest => st _ ?_⟩
  · simp only [List.mem_cons, List.not_mem_nil, or_false] at hq
    rcases hq with rfl | rfl | rfl | rfl | rfl <;> exact Nat.le_add_right _ _
  · show (((withThrown T' Zs text P1.m.cls kX).setVm vm').heap.setIfInBounds _ _).size = _
    rw [Array.size_setIfInBounds]
    exact w3
  · show (((withThrown T' Zs text P1.m.cls kX).setVm vm').heap.setIfInBounds _ _)[q]? = _
    rw [Array.getElem?_setIfInBounds_ne (by omega)]
    have e9 : ((withThrown T' Zs text P1.m.cls kX).setVm vm').heap = ((T'.heap.push (bytesOf Zs.cB (stringToUtf16 text))).push (stringAt Zs.cS Zs.kS Zs.fv Zs.fc (stringToUtf16 text) T'.heap.size)).push (freshCell P1.m.cls kX) := by
      show (State.pushCell _ _).heap = _
      rw [withString_eq]
      rfl
    rw [e9]
    rw [Array.getElem?_push, if_neg (by simp; omega), Array.getElem?_push, if_neg (by simp; omega), Array.getElem?_push, if_neg (by omega)]
  · obtain ⟨g₁, hfrM⟩ := X5.frames_eq
    have hU : ((((withThrown T' Zs text P1.m.cls kX).setVm vm').setCell (T'.heap.size + 2) (plainBareV T.toThrowableT (freshCell P1.m.cls kX) (T'.heap.size + 2) u0 sen (.ref (T'.heap.size + 1)))).setTop g).pushFrame (.throwing (T'.heap.size + 2)) = (((withThrown T' Zs text P1.m.cls kX).setVm vm').setCell (T'.heap.size + 2) (plainBareV T.toThrowableT (freshCell P1.m.cls kX) (T'.heap.size + 2) u0 sen (.ref (T'.heap.size + 1)))).setFrames (.throwing (T'.heap.size + 2) :: .java g :: below) := by
      rw [State.pushFrame, State.frames_setTop _ hfrM, State.setTop_of_frames _ hfrM, State.setFrames_setFrames]
    rw [X.tail, ← hU]
    exact hrest
/-! the search for a handler, where the catch class is not resolved yet -/
theorem go_cold {x : ClassFile.ExceptionTableEntry} {t : List ClassFile.ExceptionTableEntry} {f : JFrame} {a : Addr} {cC : ClassId} {vm' : Vm} {u : State} (hx : covers x f.pc = true) (h0 : x.catchType ≠ 0)
    (hg : (Jvm.resolveClass f.method.cls x.catchType).Gives e.toSetting u.vm (.ok cC) vm') (hr : vm'.classReady f.method.cls x.catchType cC) (hsz : vm'.classes.size ≤ u.vm.classes.size)
    {Q : Handler → Pre} {E : CtlPost} {d : Bool} {acts : List Action} : wp (findHandler.go f a (x :: t)) Q E e d acts u ↔ wp (findHandler.go f a (x :: t)) Q E e d acts (u.setVm vm') := by
  obtain ⟨ha, ht⟩ := hg.op (op := VmOp.resolveClass f.method.cls x.catchType) rfl
  obtain ⟨k, hkd, hres⟩ := hr
  simp only [covers] at hx
  simp [findHandler.go, hx, h0, ha, ht, hsz, resolveClass_memo e hkd hres, VmOp.dirties, VmOp.acts]
  exact Iff.rfl
/-- the search ends at the handler h -/
def Catch (own C : String) (pc : Nat) : List (Nat × Nat × Nat × Nat) → Nat → Prop
  | [], _ => False
  | (a, b, h, k) :: t, r => ((decide (a ≤ pc) && decide (pc < b)) = false ∧ Catch own C pc t r) ∨ ((decide (a ≤ pc) && decide (pc < b)) = true ∧ k ≠ 0 ∧ ∃ D, Cond.classLink own k D ∈ lw_all ∧ ((Cond.castable C D ∈ lw_tbl ∧ r = h) ∨ ((C, D) ∈ nocast ∧ Catch own C pc t r)))
/-- what is known of the classes at s -/
def CastOk (args : Array Value) (s : State) : Prop := (∀ w ∈ lw_all, w.before args s = true) ∧ (∀ C D, Cond.castable C D ∈ lw_tbl → ∀ c d, s.vm.findClass C = some c → s.vm.findClass D = some d → s.vm.assignable c d = true) ∧ ∀ C D, (C, D) ∈ nocast → ∀ c d, s.vm.findClass C = some c → s.vm.findClass D = some d → s.vm.assignable c d = false
theorem go_catch {own C : String} {U : State} {g : JFrame} {a : Addr} {cell : Cell} {cC : ClassId} (hpl : e.platform.magicAccessors = ({} : Platform).magicAccessors) (hown : s.vm.findClass own = some g.method.cls) (hk0 : CastOk args s) (hcell : U.heap[a]? = some cell) (hcls : s.vm.findClass C = some cC) (hcc : cell.cls = cC) (hns : cell.vm.isStatics = false) :
    ∀ (hs : List ClassFile.ExceptionTableEntry) {h : Nat} (v0 : Vm), s.WarmedH v0 → Catch own C g.pc (hs.map fun h => (h.startPc, h.endPc, h.handlerPc, h.catchType)) h →
    ∃ vm', s.WarmedH vm' ∧ ∀ (Q : Handler → Pre) (E : CtlPost) (d : Bool) (acts : List Action), wp (findHandler.go g a hs) Q E e d acts (U.setVm v0) ↔ Q (.found h) d acts (U.setVm vm')
  | [], _, _, _, hC => hC.elim
  | x :: t, h, v0, hW, hC => by
    rw [List.map_cons] at hC
    have hcold : ∀ D, Cond.classLink own x.catchType D ∈ lw_all → covers x g.pc = true → x.catchType ≠ 0 → ∃ cD vm', s.vm.findClass D = some cD ∧ s.WarmedH vm' ∧ ∀ (Q : Handler → Pre) (E : CtlPost) (d : Bool) (acts : List Action), wp (findHandler.go g a (x :: t)) Q E e d acts (U.setVm v0) ↔
        if s.vm.assignable cC cD = true then Q (.found x.handlerPc) d acts (U.setVm vm') else wp (findHandler.go g a t) Q E e d acts (U.setVm vm') := by
      intro D hl hx h0
      obtain ⟨cD, hfD, hcl⟩ := Cond.classLink_spec hown (hk0.1 _ hl) e.platform hpl
      have hW' : s.WarmedH (U.setVm v0).vm := hW
      obtain ⟨hg₁, hwarm₁, hready₁⟩ := State.classEntry (e := e) hW' hcl
      have hsz : ((U.setVm v0).vm.noted g.method.cls x.catchType (.cls cD)).classes.size ≤ (U.setVm v0).vm.classes.size := by no_record
      generalize (U.setVm v0).vm.noted g.method.cls x.catchType (.cls cD) = v1 at hg₁ hwarm₁ hready₁ hsz
      refine ⟨cD, v1, hfD, hwarm₁, fun Q E d acts => ?_⟩
      have hk1 : ∃ k, v1.classes[cell.cls]? = some k := by
        rw [hcc]
        obtain ⟨k, hk⟩ := Vm.classAt_of_findClass hcls
        obtain ⟨k', hk', -⟩ := hwarm₁.alike.2.2 _ _ hk
        exact ⟨k', hk'⟩
      have hk2 : ∃ k, v1.classes[cD]? = some k := by
        obtain ⟨k, hk⟩ := Vm.classAt_of_findClass hfD
        obtain ⟨k', hk', -⟩ := hwarm₁.alike.2.2 _ _ hk
        exact ⟨k', hk'⟩
      rw [go_cold hx h0 hg₁ hready₁ hsz]
      rw [W.findHandler_go_class (s := (U.setVm v0).setVm v1) hx h0 hready₁ (cell := cell) hcell (VmData.ne_statics_of hns) hk1 hk2]
      rw [hcc, show ((U.setVm v0).setVm v1).vm.assignable cC cD = s.vm.assignable cC cD from hwarm₁.alike.assignable _ _]
      exact Iff.rfl
    rcases hC with ⟨hn, ht⟩ | ⟨hn, hk, D, hl, ⟨hc, rfl⟩ | ⟨hc, ht⟩⟩
    · obtain ⟨vm', hW', hgo⟩ := go_catch hpl hown hk0 hcell hcls hcc hns t v0 hW ht
      exact ⟨vm', hW', fun Q E d acts => by rw [W.findHandler_go_skip (x := x) hn]; exact hgo Q E d acts⟩
    · obtain ⟨cD, vm', hfD, hW', hgo⟩ := hcold _ hl hn hk
      exact ⟨vm', hW', fun Q E d acts => by rw [hgo, if_pos (hk0.2.1 _ _ hc _ _ hcls hfD)]⟩
    · obtain ⟨cD, vm', hfD, hW', hgo⟩ := hcold _ hl hn hk
      obtain ⟨vm'', hW'', hgo'⟩ := go_catch hpl hown hk0 hcell hcls hcc hns t vm' hW' ht
      exact ⟨vm'', hW'', fun Q E d acts => by rw [hgo, if_neg (by rw [hk0.2.2 _ _ hc _ _ hcls hfD]; exact Bool.false_ne_true)]; exact hgo' Q E d acts⟩
theorem step_caught {u : State} {f : JFrame} {r : List Frame} {a : Addr} {pc : Nat} {vm' : Vm} (hfind : ∀ (Q : Handler → Pre) (E : CtlPost) (d : Bool) (acts : List Action), wp (findHandler f a) Q E e d acts u ↔ Q (.found pc) d acts (u.setVm vm')) :
    (stepThrowing e u a (.java f :: r)).Is ((u.setVm vm').setFrames (.java { f with pc := pc, stack := [.ref a] } :: r)) [] := by
  simp only [stepThrowing, searchFrame, vmDo]
  generalize hr : Sem.go _ e false [] u = res
  obtain ⟨as, rfl, ha⟩ := Sem.eq_ok_of hr (a := Handler.found pc) (s' := u.setVm vm') (acts' := []) (by simp [hfind _ _ _ _])
  exact ⟨rfl, ha⟩
/-- thrown and caught in the walked method -/
theorem caughtCold {own C : String} {U : State} {hh : List (Nat × Nat × Nat × Nat)} {h : Nat} (X : Stand p l e R s m args below meth c U locs cells slots) (hown : s.vm.findClass own = some m.cls) (hk0 : CastOk args s) (htab : c.exceptionTable.toList.map (fun h => (h.startPc, h.endPc, h.handlerPc, h.catchType)) = hh)
    {g : JFrame} (hg : g.method = m) {a : Addr} {cell : Cell} {cC : ClassId} (hcell : U.heap[a]? = some cell) (hcls : s.vm.findClass C = some cC) (hcc : cell.cls = cC) (hns : cell.vm.isStatics = false) (hC : Catch own C g.pc hh h) :
    ∃ vm', Stand p l e R s m args below meth c (U.setVm vm') locs cells slots ∧ ∀ target, Steps p.tables e below ((U.setVm vm').setTop { g with pc := h, stack := [.ref a] }) target → Steps p.tables e below ((U.setTop g).pushFrame (.throwing a)) target := by
  have hpl : e.platform.magicAccessors = ({} : Platform).magicAccessors := by rw [X.admits.platform]
  subst hg
  rw [← htab] at hC
  have hW0 : s.WarmedH U.vm := X.warmed
  have evm : ((U.setTop g).pushFrame (.throwing a)).vm = U.vm := Stand.throwing_vm U g a
  have ehp : ((U.setTop g).pushFrame (.throwing a)).heap = U.heap := Stand.throwing_heap U g a
  obtain ⟨vm', hW', hgo⟩ := go_catch (e := e) (U := (U.setTop g).pushFrame (.throwing a)) (a := a) (cell := cell) hpl hown hk0 (by rw [ehp]; exact hcell) hcls hcc hns c.exceptionTable.toList ((U.setTop g).pushFrame (.throwing a)).vm (by rw [evm]; exact hW0) hC
  refine ⟨vm', X.noted hW', fun target hrest => ?_⟩
  have hAt : At U g.method c below := X.here
  obtain ⟨hgo1, hw⟩ := hAt.throwing a
  refine Steps.head hgo1 hw ?_
  have hm1 : ((U.setTop g).pushFrame (.throwing a)).vm.method? g.method = some meth := by rw [evm]; exact X.method'
  rw [stepThread_throwing (frames_entered hAt.top _), (step_caught (u := (U.setTop g).pushFrame (.throwing a)) (vm' := vm') (pc := h) (fun Q E d acts => by
    rw [W.findHandler_eq hm1 X.code]
    exact hgo Q E d acts)).1]
  obtain ⟨g₀, hg⟩ := Option.isSome_iff_exists.mp hAt.top
  obtain ⟨r, hr⟩ := State.topJava?_eq_some.mp hg
  have hr' : (U.setVm vm').frames = .java g₀ :: r := hr
  have e1 : (((U.setTop g).pushFrame (.throwing a)).setVm vm').setFrames (.java { g with pc := h, stack := [.ref a] } :: U.frames.tail) = (U.setVm vm').setTop { g with pc := h, stack := [.ref a] } := by
    rw [State.setTop_of_frames _ hr', State.pushFrame, State.setTop_of_frames _ hr]
    rw [hr, State.setFrames_setFrames]
    show ((U.setVm vm').setFrames _).setFrames _ = _
    rw [State.setFrames_setFrames]
    rfl
  rw [e1]
  exact hrest
end Exc
