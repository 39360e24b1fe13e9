/-! a cast that fails -/
/-- short names of the unnamed package -/
def plainCl (C : String) : Prop := C.toList.length ≤ 30 ∧ packageOf C = ""
theorem mod_short {vm : Vm} {k : Class} (hm : (vm.modules.all fun m => m.loader.isSome || m.name == "java.base" || !(castPackages_1.any fun p => m.packages.contains p)) = true) (hl : k.loader = none) (hp : packageOf k.name = "") (m : ModuleInfo) (h : vm.moduleOf k = some m) : m.name = "java.base" := by
  unfold Vm.moduleOf at h
  split at h
  · have := List.find?_some h
    simpa using this
  · have h1 := List.find?_some h
    have h2 := List.mem_of_find?_eq_some h
    rw [List.all_eq_true] at hm
    have h3 := hm m h2
    rw [hl, hp] at h1
    simp only [Bool.and_eq_true, beq_iff_eq] at h1
    have h4 : (castPackages_1.any fun p => m.packages.contains p) = true := by
      unfold castPackages_1
      simp only [List.any_cons, h1.2, Bool.true_or]
    rw [h1.1, h4] at h3
    simpa using h3
theorem home_short {vm : Vm} {k : Class} (hm : (vm.modules.all fun m => m.loader.isSome || m.name == "java.base" || !(castPackages_1.any fun p => m.packages.contains p)) = true) (hl : k.loader = none) (hp : packageOf k.name = "") : (vm.home k).toList.length ≤ 40 := by
  unfold Vm.home
  rw [hl]
  have e : vm.loaderName none = "'bootstrap'" := rfl
  rw [e]
  cases h : vm.moduleOf k with
  | none => decide
  | some m =>
    have := mod_short hm hl hp m h
    simp only [this]
    decide
theorem shown_short {k : Class} (hh : k.hidden = none) (hn : k.name.toList.length ≤ 30) : k.shown.toList.length ≤ 30 := by
  unfold Class.shown
  rw [hh]
  unfold dotted turned
  rw [String.toList_ofList, List.length_map]
  exact hn
theorem cast_text {vm : Vm} {ks kt : Class} (hm : (vm.modules.all fun m => m.loader.isSome || m.name == "java.base" || !(castPackages_1.any fun p => m.packages.contains p)) = true) (h1 : ks.hidden = none) (h2 : ks.loader = none) (h3 : plainCl ks.name) (g1 : kt.hidden = none) (g2 : kt.loader = none) (g3 : plainCl kt.name) :
    ((checkcast.message vm ks kt) == notModelled) = false ∧ (stringBytes (stringToUtf16 (checkcast.message vm ks kt))).size ≤ 1900 := by
  have a1 := shown_short h1 h3.1
  have a2 := shown_short g1 g3.1
  have a3 := home_short hm h2 h3.2
  have a4 := home_short hm g2 g3.2
  have e : ∃ r, (checkcast.message vm ks kt).toList = 'c' :: r ∧ r.length ≤ 400 := by
    unfold checkcast.message
    simp only [String.toList_append]
    have hh : (vm.homes ks kt).toList.length ≤ 200 := by
      unfold Vm.homes
      split
      · simp only [String.toList_append, List.length_append]
        have c1 : (toString " and ").toList.length = 5 := by decide
        have c2 : (toString " are in ").toList.length = 8 := by decide
        have d1 : (toString ks.shown).toList.length ≤ 30 := a1
        have d2 : (toString kt.shown).toList.length ≤ 30 := a2
        have d3 : (toString (vm.home ks)).toList.length ≤ 40 := a3
        omega
      · simp only [String.toList_append, List.length_append]
        have c1 : (toString " is in ").toList.length = 7 := by decide
        have c2 : (toString "; ").toList.length = 2 := by decide
        have d1 : (toString ks.shown).toList.length ≤ 30 := a1
        have d2 : (toString kt.shown).toList.length ≤ 30 := a2
        have d3 : (toString (vm.home ks)).toList.length ≤ 40 := a3
        have d4 : (toString (vm.home kt)).toList.length ≤ 40 := a4
        omega
    have c0 : (toString "class ").toList = 'c' :: "lass ".toList := by decide
    simp only [c0, List.cons_append]
    refine ⟨_, rfl, ?_⟩
    simp only [List.length_append]
    have c1 : ("lass ").toList.length = 5 := by decide
    have c2 : (toString " cannot be cast to class ").toList.length = 25 := by decide
    have c3 : (toString " (").toList.length = 2 := by decide
    have c4 : (toString ")").toList.length = 1 := by decide
    have d1 : (toString ks.shown).toList.length ≤ 30 := a1
    have d2 : (toString kt.shown).toList.length ≤ 30 := a2
    have d3 : (toString (vm.homes ks kt)).toList.length ≤ 200 := hh
    omega
  obtain ⟨r, hr, hlen⟩ := e
  constructor
  · rw [beq_eq_false_iff_ne]
    intro h
    have h5 := congrArg String.toList h
    rw [hr] at h5
    have h4 : notModelled.toList = '\u0000' :: " a message that is not modelled".toList := by decide
    rw [h4] at h5
    simp at h5
  · have b1 := stringBytes_size_le (stringToUtf16 (checkcast.message vm ks kt))
    have b2 := utf16_size_le (checkcast.message vm ks kt)
    have b3 : (checkcast.message vm ks kt).toList.length ≤ 401 := by rw [hr]; simpa using hlen
    omega
theorem found_cl {vm : Vm} {C : String} {c : ClassId} {k : Class} (h : vm.findClass C = some c) (hk : vm.classes[c]? = some k) : k.name = C ∧ k.hidden = none ∧ k.loader = none := by
  unfold Vm.findClass at h
  obtain ⟨hlt, hp, -⟩ := Array.findIdx?_eq_some_iff_getElem.mp h
  have : vm.classes[c] = k := by
    rw [Array.getElem?_eq_getElem hlt] at hk
    exact Option.some.inj hk
  rw [this] at hp
  simp only [Bool.and_eq_true, beq_iff_eq, Option.isNone_iff_eq_none] at hp
  exact ⟨hp.1.1.1, hp.1.1.2, hp.2⟩
theorem castNo {p : Program} {l : Launch} {e : Env} {R : Room} {s : State} {m : MethodId} {args : Array Value} {below : List Frame} {meth : Method} {c : Code} {T : State} {locs : List Loc} {cells slots : Nat} (X : Stand p l e R s m args below meth c T locs cells slots) (hexec : p.tables.exec = Jvm.exec)
    {own C nm : String} {index : Nat} (hown : s.vm.findClass own = some m.cls) (hlink : (Cond.classLink own index nm).before args s = true) {a : Addr} {cell : Cell} (hcell : T.heap[a]? = some cell) (hobj : cell.vm.isStatics = false) (hC : s.vm.findClass C = some cell.cls)
    (hno : ∀ cT, s.vm.findClass nm = some cT → s.vm.assignable cell.cls cT = false) (hp1 : plainCl C) (hp2 : plainCl nm) (hm : (s.vm.modules.all fun m => m.loader.isSome || m.name == "java.base" || !(castPackages_1.any fun p => m.packages.contains p)) = true)
    {g : JFrame} (hg : g.method = m) {rest : List Value} (hstack : g.stack = .ref a :: rest) (hdg : decode c.code g.pc = .ok (.checkcast index, 3)) :
    ∃ vm' text, Stand p l e R s m args below meth c (T.setVm vm') locs cells slots ∧ (text == notModelled) = false ∧ (stringBytes (stringToUtf16 text)).size ≤ 1900 ∧
      ∀ target, Steps p.tables e below (((T.setVm vm').setTop g).pushFrame (.throwNew "java/lang/ClassCastException" (some text) none)) target → Steps p.tables e below (T.setTop g) target := by
  subst hg
  have hpl : e.platform.magicAccessors = ({} : Platform).magicAccessors := by rw [X.admits.platform]
  obtain ⟨cT, hcT, hcl⟩ := Cond.classLink_spec hown hlink e.platform hpl
  obtain ⟨hg₁, hwarm₁, hready₁⟩ := State.classEntry (e := e) X.warmed hcl
  have hsz : (T.vm.noted g.method.cls index (.cls cT)).classes.size ≤ T.vm.classes.size := by no_record
  generalize T.vm.noted g.method.cls index (.cls cT) = v1 at hg₁ hwarm₁ hready₁ hsz
  obtain ⟨ks0, hks0⟩ := Vm.classAt_of_findClass hC
  obtain ⟨kt0, hkt0⟩ := Vm.classAt_of_findClass hcT
  obtain ⟨ks, hks, eks⟩ := hwarm₁.alike.2.2 _ _ hks0
  obtain ⟨kt, hkt, ekt⟩ := hwarm₁.alike.2.2 _ _ hkt0
  obtain ⟨x1, x2, x3⟩ := found_cl hC hks0
  obtain ⟨y1, y2, y3⟩ := found_cl hcT hkt0
  have hmv : v1.modules = s.vm.modules := by rw [hwarm₁.alike.1]
  obtain ⟨t1, t2⟩ := cast_text (vm := v1) (ks := ks) (kt := kt) (by rw [hmv]; exact hm) (by rw [eks]; exact x2) (by rw [eks]; exact x3) (by rw [eks]; show plainCl ks0.name; rw [x1]; exact hp1) (by rw [ekt]; exact y2) (by rw [ekt]; exact y3) (by rw [ekt]; show plainCl kt0.name; rw [y1]; exact hp2)
  refine ⟨v1, checkcast.message v1 ks kt, X.noted hwarm₁, t1, t2, fun target hrest => ?_⟩
  jvm_step X.here [hexec, hdg, checkcast.wp_cold (e := e) (s := T) (f := g) X.here.top hstack hg₁ hready₁ hsz, checkcast.wp_ready (e := e) (s := T.setVm v1) (f := g) X.here.top hready₁ hstack]
  refine ⟨cell, hcell, VmData.noStatics_of hobj, ks, hks, kt, hkt, ?_⟩
  have h1 : v1.assignable cell.cls cT = false := by rw [hwarm₁.alike.assignable]; exact hno cT hcT
  simp only [h1, Bool.false_eq_true, if_false]
  exact hrest
section CastRows
variable {C : CT} {cc : ByteArray} {own : String} {ret : Option FieldType} {nL d pc : Nat} {lv : List (Nat × AV)} {st : List AV} {σ σ' : St} {Z : State → Prop} {hh : List (Nat × Nat × Nat × Nat)}
theorem aw_msg2 {i : Instr} {len : Nat} {stk : List AV} {cls : String} {names : List String} (X : Cx C cc own ret nL d) (XH : CxH C hh) {h : Nat} (hC : Catch own cls pc hh h) (hj : junk σ 3 2000 = some σ') (hd : decode cc pc = .ok (i, len)) (hw : wts st ≤ 8)
    (hcls : Bundle.fit cls = true) (hnames : ∀ n ∈ names, Bundle.fit n = true) (hsoe : (cls == "java/lang/StackOverflowError") = false) (hoom : (cls == "java/lang/OutOfMemoryError") = false) (hnl4 : names.length ≤ 3)
    (hat : ∀ {E : AE} {l : Launch} {args : Array Value} {s : State}, CxE E l args s → ∀ a ∈ Bundle.messageArmAtoms cls names, a.before args s = true)
    (hstep : ∀ {E : AE} {p : Program} {l : Launch} {e : Env} {R : Room} {s : State} {m : MethodId} {args : Array Value} {below : List Frame} {meth : Method} {c : Code} {T : State} {locs : List Loc} {cells slots : Nat} {ls : Array Slot}, EOK E l → E.1.WarmedH s.vm → s.vm.findClass own = some m.cls → (∀ w ∈ lw_all, w.before args s = true) → CastOk args s → Rep E σ T.heap → Stand p l e R s m args below meth c T locs cells slots → p.tables.exec = Jvm.exec → decode c.code pc = .ok (i, len) →
      ∃ vm' text, Stand p l e R s m args below meth c (T.setVm vm') locs cells slots ∧ (text == notModelled) = false ∧ (stringBytes (stringToUtf16 text)).size ≤ 1900 ∧
      ∀ target, Steps p.tables e below (((T.setVm vm').setTop (F0 m pc ls (st.map (cv E)))).pushFrame (.throwNew cls (some text) none)) target → Steps p.tables e below (T.setTop (F0 m pc ls (stk.map (cv E)))) target)
    (kk : AW C h lv [.inr (.inr (some (sn σ + 2)))] σ' Z) : AW C pc lv stk σ Z := by
  obtain ⟨E, p, l, e, R, s, m, args, below, meth, c, nL', n0, z0⟩ := C
  obtain ⟨hx, hb, hr, hlk, hml, hnl, hown, hts, hW0, hE, hR1, hR2, hR3, hR4, hR5⟩ := X
  subst hnl
  have hCE := cxe_of hE hts hW0 hR5
  have hCE2 := hCE
  obtain ⟨-, -, -, -, -, hK, htr, hst⟩ := hCE2
  intro H locs cells slots ls hR hq hc hs hl T hT XT
  obtain ⟨hcap, -⟩ := ite_none hj
  have h9 := wts_st (E := E) hw
  have hLB : 10240 + 8 ≤ LOCB := by decide
  have e0 : (F0 m pc ls (st.map (cv E))).monitorRoom = 0 := rfl
  have l1 := Launch.admits_arrayLengthLimit XT.admits
  have l2 := Launch.admits_maxHeapBytes XT.admits
  have l3 : componentBytes .byte = 1 := rfl
  subst hT
  obtain ⟨vm', text, X', htext, hby, step⟩ := hstep (ls := ls) hE hW0 hown hts hK hR XT hx (by rw [hb]; exact hd)
  have hm := msgIn X' hx (htr e XT.admits) hcls hnames hsoe hoom (hat hCE) (hst _ hq) htext (by rw [l1]; omega) (by rw [l2, l3]; omega) (g := F0 m pc ls (st.map (cv E))) rfl (hl.1.trans hml.symm) (by omega) (by rw [e0]; show 2 * 0 + (List.map (fun v => v.category) (st.map (cv E))).sum + 10240 ≤ R.locals; omega) (by omega) (by omega) (by omega)
  obtain ⟨t, a, b⟩ := exc_go (T := T.setVm vm') hown hK XH (by omega) (by decide) hm hj hR hq hc hs hl hC kk
  exact ⟨t, step t a, b⟩
/-- a cast's link -/
def CLk (own : String) (idx : Nat) (nm : String) (lo hi : Nat) : Prop := Cond.classLink own idx nm ∈ lw_all ∧ plainCl nm ∧ ∀ c, 2 ≤ c → c ≤ 6 → ∃ q, vwCl[c]? = some q ∧ plainCl q.1 ∧ ((lo ≤ c ∧ c ≤ hi) → q.1 = nm ∨ Cond.castable q.1 nm ∈ lw_tbl) ∧ (¬ (lo ≤ c ∧ c ≤ hi) → (q.1, nm) ∈ nocast)
theorem cst_some {r : Option Nat} {lo hi : Nat} {b : Bool} (h : cst σ r lo hi = some b) : ∃ o c, r = some o ∧ sK σ o = 8 + c ∧ 2 ≤ c ∧ c ≤ 6 ∧ (b = true ↔ (lo ≤ c ∧ c ≤ hi)) := by
  obtain ⟨o, rfl, h⟩ := bind_some h
  obtain ⟨h1, h2⟩ := ite_none h
  refine ⟨o, sK σ o - 8, rfl, by omega, by omega, by omega, ?_⟩
  cases h2
  rw [decide_eq_true_eq]
  omega
theorem aw_castY (X : Cx C cc own ret nL d) {r : Option Nat} {idx lo hi : Nat} {nm : String} (hl0 : CLk own idx nm lo hi) (hd : decode cc pc = .ok (.checkcast idx, 3)) (hv : cst σ r lo hi = some true) (kk : AW C (pc + 3) lv (.inr (.inr r) :: st) σ Z) : AW C pc lv (.inr (.inr r) :: st) σ Z := by
  obtain ⟨o, c, rfl, hk, h2, h6, hb⟩ := cst_some hv
  obtain ⟨g1, g2, g3⟩ := hl0
  obtain ⟨q, hq0, hpq, hyes, -⟩ := g3 c h2 h6
  have hyes := hyes (hb.mp rfl)
  obtain ⟨E, p, l, e, R, s, m, args, below, meth, c0, nL', n0, z0⟩ := C
  obtain ⟨hx, hb, hr, hlk, hml, hnl, hown, hts, hW0, hE, hR1, hR2, hR3, hR4, hR5⟩ := X
  subst hnl
  obtain ⟨-, -, -, -, -, hK, -, -⟩ := cxe_of hE hts hW0 hR5
  intro H locs cells slots ls hR hq hc hs hl T hT XT
  obtain ⟨-, cellB, hcB, hcl, hoB, -⟩ := hR.obj hk
  have hpl : e.platform.magicAccessors = ({} : Platform).magicAccessors := by rw [XT.admits.platform]
  obtain ⟨cT, hcT, -⟩ := Cond.classLink_spec hown (hts _ g1) e.platform hpl
  have hfq := (u_Kn_at hE hW0.alike hq0).2.1
  have hasg : s.vm.assignable cellB.cls cT = true := by
    rw [hcl]
    rcases hyes with h | h
    · rw [h] at hfq
      cases hfq.symm.trans hcT
      show s.vm.assignableAux (255 + 1) _ _ = true
      rw [Vm.assignableAux]
      simp
    · exact hK.2.1 _ _ h _ _ hfq hcT
  obtain ⟨vm', X', stp⟩ := XT.checkcastYes hx hown (hts _ g1) (by rw [hT]; exact hcB) (by rw [hoB]; rfl) hcT hasg (g := F0 m pc ls (.ref (b0 E + o) :: st.map (cv E))) rfl rfl (by rw [hb]; exact hd)
  obtain ⟨t, a, b⟩ := kk H locs cells slots ls hR hq hc hs hl (T.setVm vm') hT X'
  exact ⟨t, stp t a, b⟩
theorem aw_castN (X : Cx C cc own ret nL d) (XH : CxH C hh) {h : Nat} {r : Option Nat} {idx lo hi : Nat} {nm : String} (hl0 : CLk own idx nm lo hi) (hd : decode cc pc = .ok (.checkcast idx, 3)) (hv : cst σ r lo hi = some false) (hw : wts (.inr (.inr r) :: st) ≤ 8) (hC : Catch own "java/lang/ClassCastException" pc hh h) (hj : junk σ 3 2000 = some σ') (kk : AW C h lv [.inr (.inr (some (sn σ + 2)))] σ' Z) : AW C pc lv (.inr (.inr r) :: st) σ Z := by
  obtain ⟨o, c, rfl, hk, h2, h6, hb⟩ := cst_some hv
  obtain ⟨g1, g2, g3⟩ := hl0
  obtain ⟨q, hq0, hpq, -, hno⟩ := g3 c h2 h6
  have hno := hno (fun z => by have := hb.mpr z; cases this)
  refine aw_msg2 (cls := "java/lang/ClassCastException") (names := ups) (st := .inr (.inr (some o)) :: st) X XH hC hj hd hw (by decide) (by decide) (by decide) (by decide) (by decide) (fun h => h.2.2.2.2.1) ?_ kk
  intro E p l e R s m args below meth c0 T locs cells slots ls hE hW0 hown hts hK hR XT hx hd
  obtain ⟨-, cellB, hcB, hcl, hoB, -⟩ := hR.obj hk
  have hfq := (u_Kn_at hE hW0.alike hq0).2.1
  have hm : (s.vm.modules.all fun m => m.loader.isSome || m.name == "java.base" || !(castPackages_1.any fun p => m.packages.contains p)) = true := by
    rw [show s.vm.modules = E.1.vm.modules by rw [hW0.alike.1]]
    exact hE.2.2.2.2.1
  exact castNo XT hx (C := q.1) hown (hts _ g1) hcB (by rw [hoB]; rfl) (by rw [hcl]; exact hfq) (fun cT hcT => hK.2.2 _ _ hno _ _ (by rw [hcl]; exact hfq) hcT) hpq g2 hm (g := F0 m pc ls (.ref (b0 E + o) :: st.map (cv E))) rfl (rest := st.map (cv E)) rfl hd
end CastRows
