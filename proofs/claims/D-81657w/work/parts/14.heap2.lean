/-! rows of the walk: stores into arrays, new cells, copies -/
section HeapRows3
variable {C : CT} {cc : ByteArray} {own : String} {ret : Option FieldType} {nL d pc : Nat} {lv : List (Nat × AV)} {st : List AV} {σ σ' : St} {Z : State → Prop}
theorem aw_st (X : Cx C cc own ret nL d) {o kd : Nat} {i : Int32} {v : AV} (v' : AE → Value) (h1 : sK σ o = kd ∧ 0 ≤ i ∧ i.toNatClampNeg < sN σ o) (hk : 1 ≤ kd) (h8 : kd < 8)
    (hK : sK σ' = sK σ) (hN : sN σ' = sN σ) (hn : sn σ' = sn σ) (hz : sz σ' = sz σ) (hI : ∀ i, i ≠ o → sI σ' i = sI σ i) (hL : ∀ i, i ≠ o → sL σ' i = sL σ i) (hRr : ∀ i, i ≠ o → sR σ' i = sR σ i)
    (hv : ∀ E, av E σ' o kd = updV (av E σ o kd) i.toNatClampNeg (v' E)) (hbt : kd = 2 → (∀ j, bOk (sI σ o j)) → ∀ j, bOk (sI σ' o j))
    (hW : ∀ {E : AE} {p : Program} {l : Launch} {e : Env} {R : Room} {s : State} {m : MethodId} {args : Array Value} {below : List Frame} {meth : Method} {c : Code} {H : Heap} {locs : List Loc} {cells slots : Nat} {a : Addr} {cell : Cell} {g : JFrame} {rest : List Value}, Rep E σ H → EOK E l → E.1.vm.Alike s.vm → p.tables.exec = Jvm.exec → c.code = cc → a = b0 E + o → H[a]? = some cell → cell.cls = eA E kd → (∀ q, cell.vm ≠ .statics q) → s.isArrayOf cell (kty kd) → cell.vm ≠ .unknown → ¬ (i < 0 ∨ cell.slots.size ≤ i.toNatClampNeg) → g.method = m → g.stack = cv E v :: .int i :: .ref a :: rest → g.pc = pc → (∀ H' : Heap, H'[a]? = some (cell.setSlot i.toNatClampNeg (v' E)) → H'.size = H.size → (∀ q, q ≠ a → H'[q]? = H[q]?) → W p l e R s m args below meth c H' (locs ++ [⟨a, i.toNatClampNeg⟩]) cells slots Z { g with pc := g.pc + 1, stack := rest }) → W p l e R s m args below meth c H locs cells slots Z g)
    (kk : AW C (pc + 1) lv st σ' Z) : AW C pc lv (v :: .inl i :: .inr (.inr (some o)) :: st) σ Z := by
  obtain ⟨E, p, l, e, R, s, m, args, below, meth, c, nL', n0, z0⟩ := C
  obtain ⟨hx, hb, hr, hlk, hml, hnl, hown, hts, hW0, hE, hR1, hR2, hR3, hR4, hR5⟩ := X
  have hal := hW0.alike
  intro H locs cells slots ls hR hq hc hs hl
  have ha := hR.arr h1.1 hk h8
  refine hW hR hE hal hx hb rfl ha rfl (fun q h => by cases h) ((akn_at hE hal hk h8).of _ _) (fun q => by cases q) (by rw [arrV_size]; exact not_or_of h1.2.1 h1.2.2) rfl rfl rfl fun H' e1 e2 e3 => ?_
  refine kk H' _ cells slots ls (hR.upd o hK hN hn hz e2 e3 hI hL hRr (fun _ => ?_) (fun h2 => hbt (by omega) (hR.2.2.2.2.1 o h2))) (fun z hz => ?_) (by rw [hn]; exact hc) (by rw [hz]; exact hs) hl
  · have hk0 := h1.1
    unfold cellAt
    rw [hK, if_neg (by omega), if_pos (by omega), hN, hk0, hv E, e1, arrV_store]
  · rcases List.mem_append.mp hz with h | h
    · exact hq z h
    · rw [List.mem_singleton.mp h]; exact Nat.le_add_right _ _
theorem av_wI {E : AE} {σ : St} {o kd i : Nat} {x : Int32} (h : kd = 1 ∨ kd = 2 ∨ kd = 4) : av E (wI σ o i x) o kd = updV (av E σ o kd) i (.int x) := by
  funext j
  unfold updV
  by_cases e : j = i
  · subst e
    rw [if_pos rfl]
    have e1 : sI (wI σ o j x) o j = x := up2_same _ _ _ _
    rcases h with rfl | rfl | rfl <;> exact congrArg Value.int e1
  · rw [if_neg e]
    have e1 : sI (wI σ o i x) o j = sI σ o j := up2_ne _ _ _ e
    rcases h with rfl | rfl | rfl <;> exact congrArg Value.int e1
theorem av_wL {E : AE} {σ : St} {o i : Nat} {x : Int64} : av E (wL σ o i x) o 3 = updV (av E σ o 3) i (.long x) := by
  funext j
  unfold updV
  by_cases e : j = i
  · subst e
    rw [if_pos rfl]
    exact congrArg Value.long (up2_same (sL σ) o j x)
  · rw [if_neg e]
    exact congrArg Value.long (up2_ne (sL σ) o x e)
theorem av_wR {E : AE} {σ : St} {o kd i : Nat} {x : Option Nat} (h : 5 ≤ kd) : av E (wR σ o i x) o kd = updV (av E σ o kd) i (rv E x) := by
  funext j
  unfold updV
  rw [av_ref h]
  by_cases e : j = i
  · subst e
    rw [if_pos rfl]
    exact congrArg (rv E) (up2_same (sR σ) o j x)
  · rw [if_neg e, av_ref h]
    exact congrArg (rv E) (up2_ne (sR σ) o x e)
theorem aw_iast (X : Cx C cc own ret nL d) {r : Option Nat} {i x : Int32} (hd : decode cc pc = .ok (.iastore, 1)) (hv : stI σ r i x = some σ') (kk : AW C (pc + 1) lv st σ' Z) : AW C pc lv (.inl x :: .inl i :: .inr (.inr r) :: st) σ Z := by
  obtain ⟨o, rfl, h⟩ := bind_some hv
  obtain ⟨h1, h2⟩ := ite_none h
  cases h2
  exact aw_st (σ' := wI σ o i.toNatClampNeg x) (kd := 1) X (fun _ => .int x) h1 (by omega) (by omega) rfl rfl rfl rfl (fun i hi => up2_other _ _ _ hi) (fun _ _ => rfl) (fun _ _ => rfl) (fun E => av_wI (Or.inl rfl)) (fun h => by omega)
    (fun _ _ _ hx hb _ hc _ _ ha hk hin hg hs hp kk => W.iast hx hb hc ha hk hin hg hs (by rw [hp]; exact hd) kk) kk
theorem bOk_nar (x : Int32) : bOk x.toInt8.toInt32 := by
  unfold bOk
  simp
theorem aw_bast (X : Cx C cc own ret nL d) {r : Option Nat} {i x : Int32} (hd : decode cc pc = .ok (.bastore, 1)) (hv : stB σ r i x = some σ') (kk : AW C (pc + 1) lv st σ' Z) : AW C pc lv (.inl x :: .inl i :: .inr (.inr r) :: st) σ Z := by
  obtain ⟨o, rfl, h⟩ := bind_some hv
  obtain ⟨h1, h2⟩ := ite_none h
  cases h2
  exact aw_st (σ' := wI σ o i.toNatClampNeg x.toInt8.toInt32) (kd := 2) X (fun _ => .int x.toInt8.toInt32) h1 (by omega) (by omega) rfl rfl rfl rfl (fun i hi => up2_other _ _ _ hi) (fun _ _ => rfl) (fun _ _ => rfl) (fun E => av_wI (Or.inr (Or.inl rfl)))
    (fun _ hb j => by
      by_cases e : j = i.toNatClampNeg
      · subst e
        have e1 : sI (wI σ o i.toNatClampNeg x.toInt8.toInt32) o i.toNatClampNeg = x.toInt8.toInt32 := up2_same _ _ _ _
        rw [e1]; exact bOk_nar x
      · have e1 : sI (wI σ o i.toNatClampNeg x.toInt8.toInt32) o j = sI σ o j := up2_ne _ _ _ e
        rw [e1]; exact hb j)
    (fun _ _ _ hx hb _ hc _ _ ha hk hin hg hs hp kk => W.bast hx hb hc ha hk hin hg hs (by rw [hp]; exact hd) kk) kk
theorem aw_zast (X : Cx C cc own ret nL d) {r : Option Nat} {i x : Int32} (hd : decode cc pc = .ok (.bastore, 1)) (hv : stZ σ r i x = some σ') (kk : AW C (pc + 1) lv st σ' Z) : AW C pc lv (.inl x :: .inl i :: .inr (.inr r) :: st) σ Z := by
  obtain ⟨o, rfl, h⟩ := bind_some hv
  obtain ⟨h1, h2⟩ := ite_none h
  cases h2
  have hn : narrow .boolean (.int x) = .int x := by rcases h1.2.2.2 with rfl | rfl <;> decide
  exact aw_st (σ' := wI σ o i.toNatClampNeg x) (kd := 4) X (fun _ => .int x) ⟨h1.1, h1.2.1, h1.2.2.1⟩ (by omega) (by omega) rfl rfl rfl rfl (fun i hi => up2_other _ _ _ hi) (fun _ _ => rfl) (fun _ _ => rfl) (fun E => av_wI (Or.inr (Or.inr rfl))) (fun h => by omega)
    (fun _ _ _ hx hb _ hc _ _ ha hk hin hg hs hp kk => W.zast hx hb hc ha hk hin hg hs (by rw [hp]; exact hd) (by rw [hn]; exact kk)) kk
theorem aw_last (X : Cx C cc own ret nL d) {r : Option Nat} {i : Int32} {x : Int64} (hd : decode cc pc = .ok (.lastore, 1)) (hv : stL σ r i x = some σ') (kk : AW C (pc + 1) lv st σ' Z) : AW C pc lv (.inr (.inl x) :: .inl i :: .inr (.inr r) :: st) σ Z := by
  obtain ⟨o, rfl, h⟩ := bind_some hv
  obtain ⟨h1, h2⟩ := ite_none h
  cases h2
  exact aw_st (σ' := wL σ o i.toNatClampNeg x) (kd := 3) X (fun _ => .long x) h1 (by omega) (by omega) rfl rfl rfl rfl (fun _ _ => rfl) (fun i hi => up2_other _ _ _ hi) (fun _ _ => rfl) (fun E => av_wL) (fun h => by omega)
    (fun _ _ _ hx hb _ hc _ _ ha hk hin hg hs hp kk => W.last hx hb hc ha hk hin hg hs (by rw [hp]; exact hd) kk) kk
/-- null goes into an array of references -/
theorem W.aastN {p : Program} {l : Launch} {e : Env} {R : Room} {s : State} {m : MethodId} {args : Array Value} {below : List Frame} {meth : Method} {c : Code} {H : Heap} {locs : List Loc} {cells slots : Nat} {Q : State → Prop} (hexec : p.tables.exec = Jvm.exec) (hb : c.code = cc) {a : Addr} {cell : Cell} {t : FieldType} (ht : t.isReference = true) {j : Int32} (hcell : H[a]? = some cell) (harr : s.isArrayOf cell t) (hknown : cell.vm ≠ .unknown) (hin : ¬ (j < 0 ∨ cell.slots.size ≤ j.toNatClampNeg))
    {g : JFrame} (hg : g.method = m) {rest : List Value} (hstack : g.stack = .null :: .int j :: .ref a :: rest) (hdg : decode cc g.pc = .ok (.aastore, 1))
    (kk : ∀ H' : Heap, H'[a]? = some (cell.setSlot j.toNatClampNeg .null) → H'.size = H.size → (∀ q, q ≠ a → H'[q]? = H[q]?) → W p l e R s m args below meth c H' (locs ++ [⟨a, j.toNatClampNeg⟩]) cells slots Q { g with pc := g.pc + 1, stack := rest }) :
    W p l e R s m args below meth c H locs cells slots Q g := by
  intro T hT X
  have hT' : T.heap[a]? = some cell := by rw [hT]; exact hcell
  have hTa := State.isArrayOf_alike X.warmed.alike harr
  have hfit : T.fitsSlot cell.cls cell.vm j.toNatClampNeg .null = true := by
    obtain ⟨hobj, k, hk, comp, hkind⟩ := hTa
    cases t <;> simp [FieldType.isReference] at ht <;> (cases hvm : cell.vm <;> first | exact absurd hvm (hobj _) | simp [State.fitsSlot, State.slotType?, hk, hkind, fits])
  have hlt : a < T.heap.size := (Array.getElem?_eq_some_iff.mp hT').1
  obtain ⟨t', a1, b1⟩ := kk _ (heapAt_setCell_self _ hlt) (by rw [size_setCell, hT]) (fun q hq => by rw [heapAt_setCell_ne _ (Ne.symm hq), hT]) (T.setCell a (cell.setSlot j.toNatClampNeg .null)) rfl (X.stored hT' _ _)
  refine ⟨t', ?_, b1⟩
  subst hg; subst hb
  jvm_step X.here [hexec, hdg]
  refine aastore.wp_of_null (c := cell) (t := t) X.here.top hstack hT' hTa hin hknown (Nat.not_le.mp fun q => hin (Or.inr q)) hfit ?_
  intro acts
  rw [afterInstr_ok]
  exact a1
theorem Alike_castable {U0 U : State} (hal : U0.vm.Alike U.vm) {A B : String} {a : Array Value} (h : (Cond.castable A B).before a U0 = true) : ∃ ca cb, U.vm.findClass A = some ca ∧ U.vm.findClass B = some cb ∧ U.vm.assignable ca cb = true := by
  have h1 : (Cond.castable A B).before a (U0.setVm U.vm) = true := by rw [Cond.castable_setVm hal]; exact h
  obtain ⟨c0, t0, f1, f2, f3⟩ := Cond.castable_spec h1
  exact ⟨c0, t0, f1, f2, f3⟩
/-- the words' classes can be cast to Word -/
theorem asg_word {E : AE} {l : Launch} {s : State} (hE : EOK E l) (hal : E.1.vm.Alike s.vm) {c : Nat} (h2 : 2 ≤ c) (h7 : c < 7) : s.vm.assignable (eC E c) (eC E 2) = true := by
  have hW := (u_Kn_at hE hal (c := 2) (q := (RX2, TX2, 1)) rfl).2.1
  have fin : ∀ (q : vw_C), vwCl[c]? = some q → Cond.castable q.1 RX2 ∈ lw_tbl → s.vm.assignable (eC E c) (eC E 2) = true := by
    intro q hq hw
    obtain ⟨ca, cb, f1, f2, f3⟩ := Alike_castable hal (hE.2.2.1 _ hw)
    cases f1.symm.trans (u_Kn_at hE hal hq).2.1
    cases f2.symm.trans hW
    exact f3
  match c, h2, h7 with
  | 2, _, _ => exact va_asg _ _
  | 3, _, _ => exact fin _ rfl q1404
  | 4, _, _ => exact fin _ rfl q1405
  | 5, _, _ => exact fin _ rfl q1406
  | 6, _, _ => exact fin _ rfl q1407
  | c + 7, _, h => omega
theorem aw_aast (X : Cx C cc own ret nL d) {kd lo hi : Nat} {r x : Option Nat} {i : Int32} (hd : decode cc pc = .ok (.aastore, 1)) (hkd : (kd = 5 ∧ lo = 1 ∧ hi = 1) ∨ (kd = 6 ∧ lo = 2 ∧ hi = 2) ∨ (kd = 7 ∧ lo = 10 ∧ hi = 14)) (hv : stR σ r kd lo hi i x = some σ') (kk : AW C (pc + 1) lv st σ' Z) : AW C pc lv (.inr (.inr x) :: .inl i :: .inr (.inr r) :: st) σ Z := by
  obtain ⟨o, rfl, h⟩ := bind_some hv
  obtain ⟨h1, h2⟩ := ite_none h
  cases h2
  have h5 : 5 ≤ kd := by omega
  have h8 : kd < 8 := by omega
  refine aw_st (σ' := wR σ o i.toNatClampNeg x) (kd := kd) X (fun E => rv E x) ⟨h1.1, h1.2.1, h1.2.2.1⟩ (by omega) h8 rfl rfl rfl rfl (fun _ _ => rfl) (fun _ _ => rfl) (fun i hi => up2_other _ _ _ hi) (fun E => av_wR h5) (fun h => by omega) ?_ kk
  intro E p l e R s m args below meth c H locs cells slots a cell g rest hRep hE hal hx hb haa hc hcl hst ha hk hin hg hs hp kk
  cases x with
  | none => exact W.aastN hx hb (kty_ref h5 h8) hc ha hk hin hg hs (by rw [hp]; exact hd) kk
  | some u =>
    have hu := h1.2.2.2 u rfl
    obtain ⟨kA, comp, k1, k2, k3, k4, k5⟩ := akn_at hE hal (k := kd) (by omega) h8
    have hin2 : ¬ i < 0 ∧ i.toNatClampNeg < cell.slots.size := ⟨fun q => hin (Or.inl q), Nat.not_le.mp fun q => hin (Or.inr q)⟩
    rcases hkd with ⟨rfl, rfl, rfl⟩ | ⟨rfl, rfl, rfl⟩ | ⟨rfl, rfl, rfl⟩
    · obtain ⟨kB, compB, b1, b2, b3, -⟩ := akn_at hE hal (k := 1) (by omega) (by omega)
      have hcomp : comp = eA E 1 := Option.some.inj ((k5 .int rfl).symm.trans b1)
      subst hcomp
      refine W.aast hx hb hc hst hk (by rw [hcl]; exact k2) k3 rfl b2 hin2 (hRep.arr (o := u) (kd := 1) (by omega) (by omega) (by omega)) (fun q h => by cases h) b2 (va_asg _ _) hg hs (by rw [hp]; exact hd) kk
    · obtain ⟨kB, compB, b1, b2, b3, -⟩ := akn_at hE hal (k := 2) (by omega) (by omega)
      have hcomp : comp = eA E 2 := Option.some.inj ((k5 .byte rfl).symm.trans b1)
      subst hcomp
      refine W.aast hx hb hc hst hk (by rw [hcl]; exact k2) k3 rfl b2 hin2 (hRep.arr (o := u) (kd := 2) (by omega) (by omega) (by omega)) (fun q h => by cases h) b2 (va_asg _ _) hg hs (by rw [hp]; exact hd) kk
    · have hW := (u_Kn_at hE hal (c := 2) (q := (RX2, TX2, 1)) rfl).2
      have hcomp : comp = eC E 2 := Option.some.inj ((k4 _ rfl).symm.trans hW.1)
      subst hcomp
      obtain ⟨kW, hkW, -⟩ := hW.2
      obtain ⟨hu7, cellV, g1, g2, g3, -⟩ := hRep.obj (o := u) (c := sK σ u - 8) (by omega)
      obtain ⟨q, hq⟩ := cl_some hu7
      obtain ⟨kV, hkV, -⟩ := (u_Kn_at hE hal hq).2.2
      refine W.aast hx hb hc hst hk (by rw [hcl]; exact k2) k3 rfl hkW hin2 g1 (fun q h => by rw [g3] at h; cases h) (by rw [g2]; exact hkV) (by rw [g2]; exact asg_word hE hal (by omega) hu7) hg hs (by rw [hp]; exact hd) kk
theorem ge0 {n : Int32} (h : 0 ≤ n) : ¬ n < 0 := i32_le_not.mp h
theorem aw_newa (X : Cx C cc own ret nL d) {kd : Nat} {n : Int32} {r : Option Nat} {atype : ArrayType} (hd : decode cc pc = .ok (.newarray atype, 2)) (hat : newarray.typeOf atype = kty kd) (h1 : 1 ≤ kd) (h5 : kd < 5) (hw : Cond.arrayClass (kty kd) ∈ lw_all) (hv : newA σ kd n = some (r, σ')) (kk : AW C (pc + 2) lv (.inr (.inr r) :: st) σ' Z) : AW C pc lv (.inl n :: st) σ Z := by
  obtain ⟨⟨hn, hcn, hcz⟩, h2⟩ := ite_none hv
  cases h2
  obtain ⟨E, p, l, e, R, s, m, args, below, meth, c, nL', n0, z0⟩ := C
  obtain ⟨hx, hb, hr, hlk, hml, hnl, hown, hts, hW0, hE, hR1, hR2, hR3, hR4, hR5⟩ := X
  have hal := hW0.alike
  intro H locs cells slots ls hR hq hc hs hl
  unfold CAPN at hcn hR2
  unfold CAPZ at hcz hR3
  have hby : n.toNatClampNeg * componentBytes (newarray.typeOf atype) ≤ 536870912 := by
    have : componentBytes (newarray.typeOf atype) ≤ 8 := by cases atype <;> decide
    calc n.toNatClampNeg * componentBytes (newarray.typeOf atype) ≤ n.toNatClampNeg * 8 := Nat.mul_le_mul_left _ this
      _ ≤ 536870912 := by omega
  refine va_newaK hx hb (by rw [hat]; exact hts _ hw) rfl hd rfl (ge0 hn) rfl hby (by omega) (by omega) rfl fun H' cA e1 e2 e3 hA hf => ?_
  have hcA : cA = eA E kd := by
    obtain ⟨_, _, k1, -⟩ := akn_at hE hal (k := kd) h1 (by omega)
    rw [hat] at hf
    exact Option.some.inj (hf.symm.trans k1)
  subst hcA
  have hsz := hR.1
  have ek : sK (wNew σ kd n.toNatClampNeg) (sn σ) = kd := if_pos rfl
  have en : sN (wNew σ kd n.toNatClampNeg) (sn σ) = n.toNatClampNeg := if_pos rfl
  have hc0 : cellAt E (wNew σ kd n.toNatClampNeg) (sn σ) H' := by
    unfold cellAt
    rw [ek, en, if_neg (by omega), if_pos (by omega), ← hsz, e1]
    congr 2
    funext j
    have i0 : sI (wNew σ kd n.toNatClampNeg) (sn σ) j = 0 := if_pos rfl
    have i1 : sL (wNew σ kd n.toNatClampNeg) (sn σ) j = 0 := if_pos rfl
    rw [hat]
    unfold av
    rw [i0, i1]
    match kd, h1, h5 with
    | 1, _, _ => rfl
    | 2, _, _ => rfl
    | 3, _, _ => rfl
    | 4, _, _ => rfl
    | k + 5, _, h => omega
  have hk := kk H' locs (cells + 1) (slots + n.toNatClampNeg) ls (hR.push kd n.toNatClampNeg (by unfold CAPN; omega) (by unfold CAPZ; omega) e2 e3 hc0) hq (by show cells + 1 + n0 = sn σ + 1; omega) (by show slots + n.toNatClampNeg + z0 = sz σ + n.toNatClampNeg; omega) hl
  rw [hsz]
  exact hk
theorem aw_anew (X : Cx C cc own ret nL d) {kd idx : Nat} {n : Int32} {r : Option Nat} (hd : decode cc pc = .ok (.anewarray idx, 3)) (h5 : 5 ≤ kd) (h8 : kd < 8) (hw : (kd = 5 → Cond.classLink own idx "[I" ∈ lw_all) ∧ (kd = 6 → Cond.classLink own idx "[B" ∈ lw_all) ∧ (kd = 7 → Cond.classLink own idx "WithinWords$Word" ∈ lw_all)) (hv : newA σ kd n = some (r, σ')) (kk : AW C (pc + 3) lv (.inr (.inr r) :: st) σ' Z) : AW C pc lv (.inl n :: st) σ Z := by
  obtain ⟨⟨hn, hcn, hcz⟩, h2⟩ := ite_none hv
  cases h2
  obtain ⟨E, p, l, e, R, s, m, args, below, meth, c, nL', n0, z0⟩ := C
  obtain ⟨hx, hb, hr, hlk, hml, hnl, hown, hts, hW0, hE, hR1, hR2, hR3, hR4, hR5⟩ := X
  have hal := hW0.alike
  intro H locs cells slots ls hR hq hc hs hl
  unfold CAPN at hcn hR2
  unfold CAPZ at hcz hR3
  have hby : n.toNatClampNeg * 4 ≤ 536870912 := by omega
  have hsz := hR.1
  have ek : sK (wNew σ kd n.toNatClampNeg) (sn σ) = kd := if_pos rfl
  have en : sN (wNew σ kd n.toNatClampNeg) (sn σ) = n.toNatClampNeg := if_pos rfl
  have fin : ∀ cA : ClassId, s.vm.findClass ("[" ++ (kty kd).toString) = some cA → W p l e R s m args below meth c (H.push { cls := cA, slots := Array.replicate n.toNatClampNeg .null, vm := .none }) locs (cells + 1) (slots + n.toNatClampNeg) Z (F0 m (pc + 3) ls (.ref H.size :: st.map (cv E))) := by
    intro cA hf
    have hcA : cA = eA E kd := by
      obtain ⟨_, _, k1, -⟩ := akn_at hE hal (k := kd) (by omega) h8
      exact Option.some.inj (hf.symm.trans k1)
    subst hcA
    generalize hH1 : H.push ({ cls := eA E kd, slots := Array.replicate n.toNatClampNeg .null, vm := .none } : Cell) = H1
    have z1 : H1.size = H.size + 1 := by rw [← hH1, Array.size_push]
    have e1 : H1[H.size]? = some (arrV (eA E kd) n.toNatClampNeg (fun _ => .null)) := by rw [← hH1, Array.getElem?_push_size, ← arrV_new]
    have o1 : ∀ q : Nat, q < H.size → H1[q]? = H[q]? := fun q hq => by rw [← hH1, Array.getElem?_push, if_neg (Nat.ne_of_lt hq)]
    have hc0 : cellAt E (wNew σ kd n.toNatClampNeg) (sn σ) H1 := by
      unfold cellAt
      rw [ek, en, if_neg (by omega), if_pos (by omega), ← hsz, e1]
      congr 2
      funext j
      have i0 : sR (wNew σ kd n.toNatClampNeg) (sn σ) j = none := if_pos rfl
      rw [av_ref h5, i0]
      rfl
    have hk := kk H1 locs (cells + 1) (slots + n.toNatClampNeg) ls (hR.push kd n.toNatClampNeg (by unfold CAPN; omega) (by unfold CAPZ; omega) z1 o1 hc0) hq (by show cells + 1 + n0 = sn σ + 1; omega) (by show slots + n.toNatClampNeg + z0 = sz σ + n.toNatClampNeg; omega) hl
    rw [hsz]
    exact hk
  match kd, h5, h8, hw, fin with
  | 5, _, _, hw, fin => exact W.anewA (t := .int) hx hb hown (hts _ (hw.1 rfl)) (over_moved hal (hE.2.2.1 _ q110)) rfl hd rfl (ge0 hn) hby (by omega) (by omega) fun cA kA comp f1 f2 f3 f4 => fin cA f1
  | 6, _, _, hw, fin => exact W.anewA (t := .byte) hx hb hown (hts _ (hw.2.1 rfl)) (over_moved hal (hE.2.2.1 _ q112)) rfl hd rfl (ge0 hn) hby (by omega) (by omega) fun cA kA comp f1 f2 f3 f4 => fin cA f1
  | 7, _, _, hw, fin => exact W.anew (C := "WithinWords$Word") hx hb hown (hts _ (hw.2.2 rfl)) (va_AO.use (va_AO.moved hal (va_AO.of (hE.2.2.1 _ q114)))) rfl hd rfl (ge0 hn) hby (by omega) (by omega) fun cA kA comp f1 f2 f3 f4 => fin cA f1
  | k + 8, _, h, _, _ => omega
theorem fv_new {E : AE} {σ : St} {c k N j : Nat} (h : tyCode (clTy c j) ≠ 4) : fv E (wNew σ k N) (sn σ) c j = defaultValue (clTy c j) := by
  have i0 : sI (wNew σ k N) (sn σ) j = 0 := if_pos rfl
  have i1 : sL (wNew σ k N) (sn σ) j = 0 := if_pos rfl
  have i2 : sR (wNew σ k N) (sn σ) j = none := if_pos rfl
  unfold fv
  cases e : clTy c j <;> first | (rw [i0]; rfl) | (rw [i1]; rfl) | (rw [i2]; rfl) | exact absurd (by rw [e]; rfl) h
theorem clTy_ok : ∀ c, c < 7 → ∀ j, j < 44 → tyCode (clTy c j) ≠ 4 := by decide +kernel
theorem aw_new (X : Cx C cc own ret nL d) {ci idx : Nat} {q : vw_C} {r : Option Nat} (hd : decode cc pc = .ok (.new idx, 3)) (hq0 : vwCl[ci]? = some q) (hw1 : Cond.classLink own idx q.1 ∈ lw_all) (hw2 : Cond.instantiable q.1 q.2.2 ∈ lw_all) (hw3 : Cond.initialized q.1 ∈ lw_all) (hv : newO σ ci q.2.2 = some (r, σ')) (kk : AW C (pc + 3) lv (.inr (.inr r) :: st) σ' Z) : AW C pc lv st σ Z := by
  obtain ⟨⟨hcn, hcz⟩, h2⟩ := ite_none hv
  cases h2
  obtain ⟨E, p, l, e, R, s, m, args, below, meth, c, nL', n0, z0⟩ := C
  obtain ⟨hx, hb, hr, hlk, hml, hnl, hown, hts, hW0, hE, hR1, hR2, hR3, hR4, hR5⟩ := X
  have hal := hW0.alike
  intro H locs cells slots ls hR hq hc hs hl
  have hKn := u_Kn_at hE hal hq0
  have h7 := vwCl_lt hq0
  refine W.newcK hx hb hown (hts _ hw1) (hts _ hw2) (hts _ hw3) rfl hd (by omega) (by omega) hKn.2.1 rfl fun H1 kC hkC e1 z1 o1 => ?_
  have hsz := hR.1
  have ek : sK (wNew σ (8 + ci) q.2.2) (sn σ) = 8 + ci := if_pos rfl
  have hc0 : cellAt E (wNew σ (8 + ci) q.2.2) (sn σ) H1 := by
    unfold cellAt
    rw [ek, if_neg (by omega), if_neg (by omega), show 8 + ci - 8 = ci by omega, ← hsz]
    have hb := u_born (clTy ci) hts (cl_in hq0) hKn hkC e1 (cl_ty hq0)
    rw [cl_n hq0] at hb ⊢
    have h44 : nfl ci ≤ 44 := by unfold nfl; split <;> omega
    exact ⟨h7, hb.to (fun j hj => (fv_new (clTy_ok ci h7 j (by omega))).symm)⟩
  have hk := kk H1 locs (cells + 1) (slots + q.2.2) ls (hR.push (8 + ci) q.2.2 hcn hcz z1 o1 hc0) hq (by show cells + 1 + n0 = sn σ + 1; omega) (by show slots + q.2.2 + z0 = sz σ + q.2.2; omega) hl
  rw [hsz]
  exact hk
end HeapRows3
