/-! THE PURE MACHINE AGAINST THE JVM: which heap holds which pure state (Rep); the walk over the pure state (AW) -/
abbrev AE : Type := State × (Nat → ClassId) × (Nat → Nat → Nat) × (Nat → ClassId)
abbrev eS (E : AE) : State := E.1
abbrev eC (E : AE) : Nat → ClassId := E.2.1
abbrev eI (E : AE) : Nat → Nat → Nat := E.2.2.1
abbrev eA (E : AE) : Nat → ClassId := E.2.2.2
abbrev b0 (E : AE) : Nat := E.1.heap.size
def rv (E : AE) (r : Option Nat) : Value := match r with
  | none => .null
  | some o => .ref (b0 E + o)
def cv (E : AE) (v : AV) : Value := match v with
  | .inl x => .int x
  | .inr (.inl x) => .long x
  | .inr (.inr r) => rv E r
abbrev vwCl : List vw_C := [(RX0, TX0, 33), (RX1, TX1, 44), (RX2, TX2, 1), (RX3, TX3, 2), (RX4, TX4, 2), (RX5, TX5, 3), (RX6, TX6, 3)]
def clTy (c k : Nat) : FieldType := match c with
  | 0 => tyX0 k
  | 1 => tyX1 k
  | 2 => tyX2 k
  | 3 => tyX3 k
  | 4 => tyX4 k
  | 5 => tyX5 k
  | _ => tyX6 k
def kty (k : Nat) : FieldType := match k with
  | 1 => .int
  | 2 => .byte
  | 3 => .long
  | 4 => .boolean
  | 5 => .array .int
  | 6 => .array .byte
  | _ => .object "WithinWords$Word"
/-- what field k of class c holds -/
def fv (E : AE) (σ : St) (i c k : Nat) : Value := match clTy c k with
  | .int => .int (sI σ i k)
  | .boolean => .int (sI σ i k)
  | .long => .long (sL σ i k)
  | _ => rv E (sR σ i k)
/-- what place j of an array of kind k holds -/
def av (E : AE) (σ : St) (i k j : Nat) : Value := match k with
  | 1 => .int (sI σ i j)
  | 2 => .int (sI σ i j)
  | 3 => .long (sL σ i j)
  | 4 => .int (sI σ i j)
  | _ => rv E (sR σ i j)
def nfl (c : Nat) : Nat := match c with
  | 0 => 33
  | 1 => 44
  | 2 => 1
  | 3 => 2
  | 4 => 2
  | _ => 3
def cellAt (E : AE) (σ : St) (i : Nat) (H : Heap) : Prop :=
  if sK σ i = 0 then True else if sK σ i < 8 then H[b0 E + i]? = some (arrV (eA E (sK σ i)) (sN σ i) (av E σ i (sK σ i)))
  else sK σ i - 8 < 7 ∧ t_OB (b0 E + i) (eC E (sK σ i - 8)) (nfl (sK σ i - 8)) (eI E (sK σ i - 8)) H (fv E σ i (sK σ i - 8))
/-- a byte -/
def bOk (x : Int32) : Prop := x.toInt8.toInt32 = x
def Rep (E : AE) (σ : St) (H : Heap) : Prop := H.size = b0 E + sn σ ∧ (∀ i, sK σ i ≠ 0 → i < sn σ) ∧ (∀ i, i < sn σ → cellAt E σ i H) ∧ (∀ q, q < b0 E → H[q]? = E.1.heap[q]?) ∧ (∀ i, sK σ i = 2 → ∀ j, bOk (sI σ i j)) ∧ sn σ ≤ CAPN ∧ sz σ ≤ CAPZ
/-- what the tables say of an array's class -/
def AKn (U : State) (cA : ClassId) (ty : FieldType) : Prop := ∃ (kA : Class) (comp : ClassId), U.vm.findClass ("[" ++ ty.toString) = some cA ∧ U.vm.classes[cA]? = some kA ∧ kA.kind = .array comp ty ∧ (∀ C, ty = .object C → U.vm.findClass C = some comp) ∧ ∀ t, ty = .array t → U.vm.findClass (FieldType.array t).toString = some comp
/-- what the state at the law's start says: the classes, the arrays' classes, the words; no traces; the modules; the premiss -/
def EOK (E : AE) (l : Launch) : Prop := (∀ (c : Nat) (q : vw_C), vwCl[c]? = some q → u_Kn E.1 q.1 q.2.1 q.2.2 (eC E c) (eI E c)) ∧ (∀ k, 1 ≤ k → k < 8 → AKn E.1 (eA E k) (kty k)) ∧ (∀ w ∈ lw_tbl, w.before #[] E.1 = true) ∧ l.flags = flags0 ∧ modulesRight_1 E.1 = true ∧ ∃ b, (Cond.and given_1 narrow_1).before #[.ref b] E.1 = true
abbrev CT : Type := AE × Program × Launch × Env × Room × State × MethodId × Array Value × List Frame × Method × Code × Nat × Nat × Nat
/-- THE WALK: from a frame at pc with locals lv, operand stack st and the pure state σ the machine comes to a state with Z -/
def AW (C : CT) (pc : Nat) (lv : List (Nat × AV)) (st : List AV) (σ : St) (Z : State → Prop) : Prop :=
  match C with
  | (E, p, l, e, R, s, m, args, below, meth, c, nL, n0, z0) => ∀ (H : Heap) (locs : List Loc) (cells slots : Nat) (ls : Array Slot), Rep E σ H → (∀ q ∈ locs, b0 E ≤ q.base) → cells + n0 = sn σ → slots + z0 = sz σ → lv_has ls nL (lv.map fun q => (q.1, cv E q.2)) →
    W p l e R s m args below meth c H locs cells slots Z (F0 m pc ls (st.map (cv E)))
/-- what a walk rests on: code cc of a method of the class own; room for d calls -/
def Cx (C : CT) (cc : ByteArray) (own : String) (ret : Option FieldType) (nL d : Nat) : Prop :=
  match C with
  | (E, p, l, e, R, s, m, args, below, meth, c, nL', n0, z0) => p.tables.exec = Jvm.exec ∧ c.code = cc ∧ meth.sig.returnType = ret ∧ meth.locks = false ∧ c.maxLocals = nL ∧ nL' = nL ∧ s.vm.findClass own = some m.cls ∧ (∀ w ∈ lw_all, w.before args s = true) ∧ E.1.WarmedH s.vm ∧ EOK E l ∧
    d + 20 ≤ R.frames ∧ R.cells + n0 = CAPN ∧ R.slots + z0 = CAPZ ∧ 100 * d + LOCB ≤ R.locals ∧ ∀ q, q < b0 E → s.heap[q]? = E.1.heap[q]?
/-- the method's table of handlers -/
def CxH (C : CT) (hh : List (Nat × Nat × Nat × Nat)) : Prop :=
  match C with
  | (E, p, l, e, R, s, m, args, below, meth, c, nL', n0, z0) => c.exceptionTable.toList.map (fun h => (h.startPc, h.endPc, h.handlerPc, h.catchType)) = hh
/-- the end of a method: it returns r, and the heap holds σ' -/
def AQ (C : CT) (r : Option AV) (σ' : St) : State → Prop :=
  match C with
  | (E, p, l, e, R, s, m, args, below, meth, c, nL, n0, z0) => fun t => ∃ o, t.status = .running ∧ Ended t below o ∧ (o = .returned (r.map (cv E)) ∧ Rep E σ' t.heap) ∧ ∃ (L : List Loc) (k n : Nat), FrameEnd s o t L k n ∧ k + n0 = sn σ' ∧ n + z0 = sz σ' ∧ ∀ q ∈ L, b0 E ≤ q.base
def roomOf (d : Nat) (σ : St) : Room := { frames := d + 20, cells := CAPN - sn σ, slots := CAPZ - sz σ, locals := 100 * d + LOCB }
/-- THE CONTRACT of the method y with the words ws: from σ with the arguments as it returns r and leaves σ'; room for d calls -/
def AMet (E : AE) (l : Launch) (y : MethodName) (ws : List Cond) (d : Nat) (as : List AV) (σ : St) (r : Option AV) (σ' : St) : Prop :=
  MetFree l y (headSpec ws (roomOf d σ)) (va_Pc (as.map (cv E)) (fun U => Rep E σ U.heap ∧ E.1.WarmedH U.vm)) (fun _ _ _ _ _ => True)
    (fun _ st o t => (o = .returned (r.map (cv E)) ∧ Rep E σ' t.heap) ∧ ∃ (L : List Loc) (k n : Nat), FrameEnd st o t L k n ∧ k + sn σ = sn σ' ∧ n + sz σ = sz σ' ∧ ∀ q ∈ L, b0 E ≤ q.base)
theorem W.imp {p : Program} {l : Launch} {e : Env} {R : Room} {s : State} {m : MethodId} {args : Array Value} {below : List Frame} {meth : Method} {c : Code} {H : Heap} {locs : List Loc} {cells slots : Nat} {Q Q' : State → Prop} {g : JFrame}
    (hq : ∀ t, Q t → Q' t) (h : W p l e R s m args below meth c H locs cells slots Q g) : W p l e R s m args below meth c H locs cells slots Q' g := by
  intro T hT X
  obtain ⟨t, a, b⟩ := h T hT X
  exact ⟨t, a, hq t b⟩
theorem cv_cat2 {E : AE} {v : AV} (h : (cv E v).category = 2) : ∃ x, v = .inr (.inl x) := by
  rcases v with x | x | r
  · simp [cv, Value.category] at h
  · exact ⟨x, rfl⟩
  · cases r <;> simp [cv, rv, Value.category] at h
