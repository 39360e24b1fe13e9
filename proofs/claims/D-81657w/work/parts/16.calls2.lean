/-! rows of the walk: calls as the pure functions have them; copies; nest mates' fields -/
section CallRows2
variable {C : CT} {cc : ByteArray} {own : String} {ret : Option FieldType} {nL d pc : Nat} {lv : List (Nat × AV)} {st stk : List AV} {σ σ' : St} {Z : State → Prop}
theorem Cx.ok (X : Cx C cc own ret nL d) : EOK C.1 C.2.2.1 := by
  obtain ⟨E, p, l, e, R, s, m, args, below, meth, c, nL', n0, z0⟩ := C
  exact X.2.2.2.2.2.2.2.2.2.1
theorem cV_some {α : Type} {r : Option Nat} {c : Nat} {f : Nat → Option α} {a : α} (h : cV σ r c f = some a) : ∃ o, r = some o ∧ sK σ o = 8 + c ∧ f o = some a := by
  obtain ⟨o, ho, h⟩ := bind_some h
  obtain ⟨h1, h2⟩ := ite_none h
  exact ⟨o, ho, h1, h2⟩
theorem aw_cV {α : Type} (X : Cx C cc own ret nL (d + 1)) {y : MethodName} {bytes : ByteArray} {maxL idx ci : Nat} {rt : Option FieldType} {q : vw_C} {ro : Option Nat} {r : Option AV} {f : Nat → Option α} {a : α} (hv : cV σ ro ci f = some a) (as : List AV) (hs : as.reverse ++ .inr (.inr ro) :: st = stk) (hq0 : vwCl[ci]? = some q) (hml0 : MLk own idx q.1 y bytes maxL rt as.length)
    (hM : ∀ o, f o = some a → AMet C.1 C.2.2.1 y (ws_ y bytes maxL rt) d (.inr (.inr (some o)) :: as) σ r σ') (hd : decode cc pc = .ok (.invokevirtual idx, 3)) (hw : wts st ≤ 8) (kk : AW C (pc + 3) lv (r.toList ++ st) σ' Z) : AW C pc lv stk σ Z := by
  obtain ⟨o, rfl, hko, hf⟩ := cV_some hv
  exact aw_callV X as hs hko hq0 hml0 (hM o hf) hd hw kk
theorem aw_cVW {α : Type} (X : Cx C cc own ret nL (d + 1)) {y : MethodName} {bytes : ByteArray} {maxL idx ci : Nat} {rt : Option FieldType} {hh : List (Nat × Nat × Nat × Nat)} {q : vw_C} {ro : Option Nat} {r : Option AV} {f : Nat → Option α} {a : α} (hv : cV σ ro ci f = some a) (as : List AV) (hs : as.reverse ++ .inr (.inr ro) :: st = stk) (hq0 : vwCl[ci]? = some q) (hml0 : MLkW own idx q.1 y bytes maxL rt hh as.length)
    (hM : ∀ o, f o = some a → AMet C.1 C.2.2.1 y (wsW_ y bytes maxL rt hh) d (.inr (.inr (some o)) :: as) σ r σ') (hd : decode cc pc = .ok (.invokevirtual idx, 3)) (hw : wts st ≤ 8) (kk : AW C (pc + 3) lv (r.toList ++ st) σ' Z) : AW C pc lv stk σ Z := by
  obtain ⟨o, rfl, hko, hf⟩ := cV_some hv
  exact aw_callVW X as hs hko hq0 hml0 (hM o hf) hd hw kk
theorem aw_cI {α : Type} (X : Cx C cc own ret nL (d + 1)) {y : MethodName} {bytes : ByteArray} {maxL idx : Nat} {ro : Option Nat} {f : Nat → Option α} {a : α} (hv : ro.bind f = some a) (as : List AV) (hs : as.reverse ++ .inr (.inr ro) :: st = stk) (hml0 : MLkI own idx y bytes maxL as.length)
    (hM : ∀ o, f o = some a → AMet C.1 C.2.2.1 y (ws_ y bytes maxL none) d (.inr (.inr (some o)) :: as) σ none σ') (hd : decode cc pc = .ok (.invokespecial idx, 3)) (hw : wts st ≤ 8) (kk : AW C (pc + 3) lv st σ' Z) : AW C pc lv stk σ Z := by
  obtain ⟨o, rfl, hf⟩ := bind_some hv
  exact aw_callI X as hs hml0 (hM o hf) hd hw kk
/-- a nest mate's field -/
def FLkN (own : String) (idx lo hi k tc : Nat) : Prop := hi < 7 ∧ ∀ c, lo ≤ c → c ≤ hi → ∃ q, vwCl[c]? = some q ∧ k < q.2.2 ∧ tyCode (clTy c k) = tc ∧ Cond.fieldLinkNest own idx (q.2.1 k).1 (q.2.1 k).2.1 (q.2.1 k).2.2.1 "WithinWords" ∈ lw_tbl
theorem aw_gfN (X : Cx C cc own ret nL d) {idx lo hi k tc : Nat} (hf : FLkN own idx lo hi k tc) {o : Nat} (h1 : 8 + lo ≤ sK σ o ∧ sK σ o ≤ 8 + hi) (hd : decode cc pc = .ok (.getfield idx, 3)) {v : AV} (hv : ∀ E c, tyCode (clTy c k) = tc → cv E v = fv E σ o c k)
    (kk : AW C (pc + 3) lv (v :: st) σ Z) : AW C pc lv (.inr (.inr (some o)) :: st) σ Z := by
  obtain ⟨E, p, l, e, R, s, m, args, below, meth, c, nL', n0, z0⟩ := C
  obtain ⟨hx, hb, hr, hlk, hml, hnl, hown, hts, hW0, hE, hR1, hR2, hR3, hR4, hR5⟩ := X
  have hal := hW0.alike
  intro H locs cells slots ls hR hq hc hs hl
  obtain ⟨h7, hf⟩ := hf
  obtain ⟨q, hq1, hk, htc, hlink⟩ := hf (sK σ o - 8) (by omega) (by omega)
  obtain ⟨-, cell, q1, q2, q3, q4⟩ := hR.obj (o := o) (c := sK σ o - 8) (by omega)
  obtain ⟨hS, hfc, kC, hkC, hkind⟩ := u_Kn_at hE hal hq1
  obtain ⟨cf, kf, fi, f, hi, hsl⟩ := hS k hk
  refine va_Wgetf hx hb hown (va_Nw.use rfl (va_Nw.warmF hW0 (hE.2.2.1 _ hlink))) hi (u_facts hfc hkC (u_lays hts (cl_in hq1) hk) hi).1 q1 (by rw [q3]; exact fun h => by cases h) (v := cv E v) ?_ rfl rfl hd (kk H locs cells slots ls hR hq hc hs hl)
  rw [hsl, q4 k (by rw [← cl_n hq1]; exact hk), hv E _ htc]
theorem aw_gfIN (X : Cx C cc own ret nL d) {idx lo hi k : Nat} {r : Option Nat} {x : Int32} (hf : FLkN own idx lo hi k 0) (hd : decode cc pc = .ok (.getfield idx, 3)) (hv : gfI σ r lo hi k = some x) (kk : AW C (pc + 3) lv (.inl x :: st) σ Z) : AW C pc lv (.inr (.inr r) :: st) σ Z := by
  obtain ⟨o, rfl, h⟩ := bind_some hv
  obtain ⟨h1, h2⟩ := ite_none h
  cases h2
  exact aw_gfN (v := .inl _) X hf h1 hd (fun E c h => (fv_0 h).symm) kk
theorem aw_gfRN (X : Cx C cc own ret nL d) {idx lo hi k : Nat} {r x : Option Nat} (hf : FLkN own idx lo hi k 3) (hd : decode cc pc = .ok (.getfield idx, 3)) (hv : gfR σ r lo hi k = some x) (kk : AW C (pc + 3) lv (.inr (.inr x) :: st) σ Z) : AW C pc lv (.inr (.inr r) :: st) σ Z := by
  obtain ⟨o, rfl, h⟩ := bind_some hv
  obtain ⟨h1, h2⟩ := ite_none h
  cases h2
  exact aw_gfN (v := .inr (.inr _)) X hf h1 hd (fun E c h => (fv_3 h).symm) kk
theorem bOk_fits {x : Int32} (h : bOk x) : fits .byte (.int x) = true := by
  unfold bOk at h
  rw [← h]
  exact pk_fb x
theorem cl_int {z : Int32} (hz : 0 ≤ z) : z.toInt = (z.toNatClampNeg : Int) := by
  have hz0 : (0 : Int) ≤ z.toInt := by simpa using Int32.le_iff_toInt_le.mp hz
  show z.toInt = ((z.toInt.toNat : Nat) : Int)
  omega
theorem aw_acopy (X : Cx C cc own ret nL d) {idx : Nat} {r r2 : Option Nat} {i j n : Int32} (hlk0 : Cond.methodLink own idx arraycopyName ∈ lw_all) (hd : decode cc pc = .ok (.invokestatic idx, 3)) (hw : wts st ≤ 8) (hv : acopy σ r i r2 j n = some σ') (kk : AW C (pc + 3) lv st σ' Z) : AW C pc lv (.inl n :: .inl j :: .inr (.inr r2) :: .inl i :: .inr (.inr r) :: st) σ Z := by
  obtain ⟨a, rfl, h⟩ := bind_some hv
  obtain ⟨b, rfl, h⟩ := bind_some h
  obtain ⟨⟨hka, hkb, hi, hj, hn, h4, h5⟩, h2⟩ := ite_none h
  cases h2
  obtain ⟨E, p, l, e, R, s, m, args, below, meth, c, nL', n0, z0⟩ := C
  obtain ⟨hx, hb, hr, hlk, hml, hnl, hown, hts, hW0, hE, hR1, hR2, hR3, hR4, hR5⟩ := X
  have hal := hW0.alike
  subst hnl
  intro H locs cells slots ls hR hq hc hs hl
  have k1 : 1 ≤ sK σ a := by omega
  have k8 : sK σ a < 8 := by omega
  have hca := hR.arr (o := a) rfl k1 k8
  have hcb := hR.arr (o := b) hkb k1 k8
  obtain ⟨kA, comp, f1, f2, f3, -⟩ := akn_at hE hal k1 k8
  have hprim : refKind (kty (sK σ a)) = false := by rcases hka with q | q <;> rw [q] <;> rfl
  have hav : ∀ (o x : Nat), av E σ o (sK σ a) x = .int (sI σ o x) := fun o x => by rcases hka with q | q <;> rw [q] <;> rfl
  have hcp : copied (arrV (eA E (sK σ a)) (sN σ a) fun x => .int (sI σ a x)) (arrV (eA E (sK σ a)) (sN σ b) fun x => .int (sI σ b x)) i j n = arrV (eA E (sK σ a)) (sN σ b) fun x => .int (va_cpy (sI σ a) (sI σ b) i.toNatClampNeg j.toNatClampNeg n.toNatClampNeg x) := va_copied (fun z => Value.int z) _ _ (sI σ a) (sI σ b) h4
  have ea : (av E σ a (sK σ a)) = fun x => .int (sI σ a x) := funext (hav a)
  have eb : (av E σ b (sK σ a)) = fun x => .int (sI σ b x) := funext (hav b)
  rw [ea] at hca
  rw [eb] at hcb
  have hnw : nativeFrameWords "java/lang/System" "arraycopy" 5 + 11 + 8 ≤ LOCB := by decide
  have h9 : 2 * (F0 m pc ls (List.map (cv E) (.inl n :: .inl j :: .inr (.inr (some b)) :: .inl i :: .inr (.inr (some a)) :: st))).monitorRoom + ((List.map (cv E) st).map fun v => v.category).sum ≤ 8 := wts_le hw
  intro T hT X
  obtain ⟨vm', X', step⟩ := X.arraycopy hx hown (hts _ hlk0) (hts _ q385) (hts _ q384) (hts _ q90) (src := b0 E + a) (dst := b0 E + b) (cs := arrV (eA E (sK σ a)) (sN σ a) fun x => .int (sI σ a x)) (cd := arrV (eA E (sK σ a)) (sN σ b) fun x => .int (sI σ b x)) (srcPos := i) (destPos := j) (n := n) (by rw [hT]; exact hca) (by rw [hT]; exact hcb)
    (fun _ h => by cases h) (fun _ h => by cases h) (fun h => by cases h) (fun h => by cases h) f2 f2 f3 f3 (by simp [hprim]) (ge0 hi) (ge0 hj) (ge0 hn)
    (by rw [cl_int hi, cl_int hn, arrV_size]; omega) (by rw [cl_int hj, cl_int hn, arrV_size]; omega)
    (fun vm₁ _ x hx => by
      have e : (arrV (eA E (sK σ a)) (sN σ a) fun x => .int (sI σ a x)).slots.getD (i.toNatClampNeg + x) .null = .int (sI σ a (i.toNatClampNeg + x)) := by
        rw [Array.getD_eq_getD_getElem?, arrV_read _ _ (by omega)]
        rfl
      rw [e]
      refine ⟨?_, trivial⟩
      rcases hka with q | q
      · rw [q]; rfl
      · rw [q]; exact bOk_fits (hR.2.2.2.2.1 a q _))
    (g := F0 m pc ls (List.map (cv E) (.inl n :: .inl j :: .inr (.inr (some b)) :: .inl i :: .inr (.inr (some a)) :: st))) rfl (hl.1.trans hml.symm) (rest := st.map (cv E)) rfl (by rw [hb]; exact hd) (by omega) (by omega)
  rw [hcp] at X' step
  have hl2 : b0 E + b < H.size := (Array.getElem?_eq_some_iff.mp hcb).1
  have hheap : ((T.setVm vm').setCell (b0 E + b) (arrV (eA E (sK σ a)) (sN σ b) fun x => .int (va_cpy (sI σ a) (sI σ b) i.toNatClampNeg j.toNatClampNeg n.toNatClampNeg x))).heap = H.setIfInBounds (b0 E + b) (arrV (eA E (sK σ a)) (sN σ b) fun x => .int (va_cpy (sI σ a) (sI σ b) i.toNatClampNeg j.toNatClampNeg n.toNatClampNeg x)) := by rw [← hT]; rfl
  have hself : ∀ x, cpI (sI σ) a b i.toNatClampNeg j.toNatClampNeg n.toNatClampNeg b x = va_cpy (sI σ a) (sI σ b) i.toNatClampNeg j.toNatClampNeg n.toNatClampNeg x := fun x => by
    unfold cpI va_cpy
    by_cases hx : j.toNatClampNeg ≤ x ∧ x < j.toNatClampNeg + n.toNatClampNeg
    · rw [if_pos ⟨rfl, hx⟩, if_pos hx]
    · rw [if_neg (fun q => hx q.2), if_neg hx]
  have hoth : ∀ y, y ≠ b → cpI (sI σ) a b i.toNatClampNeg j.toNatClampNeg n.toNatClampNeg y = sI σ y := fun y hy => by
    funext x
    unfold cpI
    rw [if_neg (fun q => hy q.1)]
  have hRep : Rep E (cpI (sI σ) a b i.toNatClampNeg j.toNatClampNeg n.toNatClampNeg, sL σ, sR σ, sN σ, sK σ, sn σ, sz σ) (H.setIfInBounds (b0 E + b) (arrV (eA E (sK σ a)) (sN σ b) fun x => .int (va_cpy (sI σ a) (sI σ b) i.toNatClampNeg j.toNatClampNeg n.toNatClampNeg x))) := by
    refine hR.upd b rfl rfl rfl rfl (by simp) (fun q hq => by simp [Array.getElem?_setIfInBounds, Ne.symm hq]) hoth (fun _ _ => rfl) (fun _ _ => rfl) (fun _ => ?_) (fun h2 x => ?_)
    · show cellAt E (cpI (sI σ) a b i.toNatClampNeg j.toNatClampNeg n.toNatClampNeg, sL σ, sR σ, sN σ, sK σ, sn σ, sz σ) b _
      unfold cellAt
      have ek : sK (cpI (sI σ) a b i.toNatClampNeg j.toNatClampNeg n.toNatClampNeg, sL σ, sR σ, sN σ, sK σ, sn σ, sz σ) b = sK σ a := hkb
      rw [ek, if_neg (by omega), if_pos k8, Array.getElem?_setIfInBounds, if_pos rfl, if_pos hl2]
      congr 2
      funext x
      have : av E (cpI (sI σ) a b i.toNatClampNeg j.toNatClampNeg n.toNatClampNeg, sL σ, sR σ, sN σ, sK σ, sn σ, sz σ) b (sK σ a) x = .int (cpI (sI σ) a b i.toNatClampNeg j.toNatClampNeg n.toNatClampNeg b x) := by rcases hka with q | q <;> rw [q] <;> rfl
      rw [this, hself]
    · show bOk (cpI (sI σ) a b i.toNatClampNeg j.toNatClampNeg n.toNatClampNeg b x)
      rw [hself]
      unfold va_cpy
      split
      · exact hR.2.2.2.2.1 a (by omega) _
      · exact hR.2.2.2.2.1 b h2 _
  have hL : ∀ z ∈ (Cell.stretch (arrV (eA E (sK σ a)) (sN σ a) fun x => Value.int (sI σ a x)) i.toNatClampNeg n.toNatClampNeg).zipIdx.map (fun q => (⟨b0 E + b, j.toNatClampNeg + q.2⟩ : Loc)), b0 E ≤ z.base := fun z hz => by
    obtain ⟨w, -, hw⟩ := List.mem_map.mp hz
    rw [← hw]
    exact Nat.le_add_right _ _
  obtain ⟨t, a1, b1⟩ := kk _ _ cells slots ls hRep (fun z hz => by
    rcases List.mem_append.mp hz with h | h
    · exact hq z h
    · exact hL z h) hc hs hl _ hheap X'
  exact ⟨t, step t a1, b1⟩
theorem aw_mmin (X : Cx C cc own ret nL d) {idx : Nat} {x y : Int32} (hlk0 : Cond.methodLink own idx Lib.Math.min.name ∈ lw_all) (hd : decode cc pc = .ok (.invokestatic idx, 3)) (hw : wts st ≤ 8) (kk : AW C (pc + 3) lv (.inl (min32 x y) :: st) σ Z) : AW C pc lv (.inl y :: .inl x :: st) σ Z := by
  obtain ⟨E, p, l, e, R, s, m, args, below, meth, c, nL', n0, z0⟩ := C
  obtain ⟨hx, hb, hr, hlk, hml, hnl, hown, hts, hW0, hE, hR1, hR2, hR3, hR4, hR5⟩ := X
  subst hnl
  intro H locs cells slots ls hR hq hc hs hl
  have hcap := hR.2.2.2.2.2
  have h9 : 2 * (F0 m pc ls (List.map (cv E) st)).monitorRoom + ((List.map (cv E) st).map fun v => v.category).sum ≤ 8 := wts_le hw
  have hL : 13 + 8 ≤ LOCB := by decide
  exact va_mmin hx hb (by rw [hml]; exact hl.1.symm) hown (hts _ hlk0) (hts _ q461) (hts _ q93) (hts _ q462) (by omega) (by omega) (by omega) (by omega) hd (kk H locs cells slots ls hR hq hc hs hl)
/-- super.m(..) -/
def SLk (own : String) (idx : Nat) (y : MethodName) (bytes : ByteArray) (maxL : Nat) (rt : Option FieldType) (n : Nat) : Prop :=
  Cond.methodLink own idx y ∈ lw_all ∧ Cond.sameMethod y.cls y.cls y.name y.desc ∈ lw_all ∧ Cond.superclass own y.cls ∈ lw_all ∧ Cond.instanceMethod y ∈ lw_all ∧ Cond.initialized y.cls ∈ lw_all ∧ Cond.code y bytes maxL rt ∈ lw_all ∧ y.name ≠ "<init>" ∧ nPar y n ∧ maxL ≤ 80
theorem aw_cSU {α : Type} (X : Cx C cc own ret nL (d + 1)) {y : MethodName} {bytes : ByteArray} {maxL idx lo hi : Nat} {rt : Option FieldType} {ro : Option Nat} {r : Option AV} {f : Nat → Option α} {a : α} (hv : cW σ ro lo hi f = some a) (as : List AV) (hs : as.reverse ++ .inr (.inr ro) :: st = stk) (hml0 : SLk own idx y bytes maxL rt as.length)
    (hM : ∀ o, f o = some a → AMet C.1 C.2.2.1 y (ws_ y bytes maxL rt) d (.inr (.inr (some o)) :: as) σ r σ') (hd : decode cc pc = .ok (.invokespecial idx, 3)) (hw : wts st ≤ 8) (kk : AW C (pc + 3) lv (r.toList ++ st) σ' Z) : AW C pc lv stk σ Z := by
  obtain ⟨o, rfl, h⟩ := bind_some hv
  obtain ⟨hko, hf⟩ := ite_none h
  have hM := hM o hf
  subst hs
  obtain ⟨E, p, l, e, R, s, m, args, below, meth, c, nL', n0, z0⟩ := C
  obtain ⟨hx, hb, hr, hlk, hml, hnl, hown, hts, hW0, hE, hR1, hR2, hR3, hR4, hR5⟩ := X
  obtain ⟨m1, m2, m3, m4, m5, m6, m7, m8, m9⟩ := hml0
  subst hnl
  intro H locs cells slots ls hR hq hc hs hl
  obtain ⟨h7, cellB, hcB, hcl, hoB, -⟩ := hR.obj (o := o) (c := sK σ o - 8) (by omega)
  obtain ⟨q, hq0⟩ := cl_some h7
  obtain ⟨kB, hkB, -⟩ := (u_Kn_at hE hW0.alike hq0).2.2
  have hcap := hR.2.2.2.2.2
  refine aw_back (a := (((.inr (.inr (some o)) :: as : List AV).map (cv E))).toArray) hc hs hq hl kk fun T hT X => ?_
  have hf1 : d + 21 ≤ R.frames := by omega
  have hf2 : 8 + (maxL + 11) + (100 * d + LOCB) ≤ R.locals := by omega
  have hB : Back l R p e below s args y 3 8 (aPre E R (.inr (.inr (some o)) :: as) σ) (aPost E σ r σ') := back_am hM hW0 hts m6 m5 hf1 hf2
  have hst : (F0 m pc ls ((as.reverse ++ .inr (.inr (some o)) :: st).map (cv E))).stack = (as.map (cv E)).reverse ++ .ref (b0 E + o) :: st.map (cv E) := cv_rev as [.inr (.inr (some o))] st
  have hpre : ∀ vm₁, s.WarmedH vm₁ → aPre E R (.inr (.inr (some o)) :: as) σ ⟨T.setVm vm₁, locs, cells, slots⟩ (Value.ref (b0 E + o) :: as.map (cv E)).toArray := fun vm₁ hW₁ => ⟨by show cells + (CAPN - sn σ) ≤ R.cells; omega, by show slots + (CAPZ - sz σ) ≤ R.slots; omega, rfl, by show Rep E σ T.heap; rw [hT]; exact hR⟩
  exact va_callSU X hx (bytes := bytes) (maxL := maxL) (ret := rt) hown (hts _ m1) (hts _ m2) (hts _ m3) (hts _ m4) (hts _ m6) m7 hB (by rw [hT]; exact hcB) (by rw [hoB]; rfl) (by rw [hcl]; exact hkB) rfl (hl.1.trans hml.symm) (argsL := as.map (cv E)) (rest := st.map (cv E)) (fun sig h => by rw [List.length_map]; exact m8.len sig h) hst (wts_le hw) (by rw [hb]; exact hd) hpre
/-- a call that the object's class selects -/
def VLk (own : String) (idx : Nat) (K : String) (x y : MethodName) (bytes : ByteArray) (maxL : Nat) (rt : Option FieldType) (n : Nat) : Prop :=
  Cond.methodLink own idx x ∈ lw_all ∧ Cond.sameMethod x.cls x.cls x.name x.desc ∈ lw_all ∧ Cond.instanceMethod x ∈ lw_all ∧ (∃ b m r, Cond.code x b m r ∈ lw_all) ∧ Cond.selects K x y ∈ lw_all ∧ Cond.instanceMethod y ∈ lw_all ∧ Cond.initialized y.cls ∈ lw_all ∧ Cond.code y bytes maxL rt ∈ lw_all ∧ notMH x ∧ nPar x n ∧ maxL ≤ 80
theorem aw_callVU (X : Cx C cc own ret nL (d + 1)) {x y : MethodName} {bytes : ByteArray} {maxL idx ci : Nat} {rt : Option FieldType} {q : vw_C} {o : Nat} {r : Option AV} (as : List AV) (hs : as.reverse ++ .inr (.inr (some o)) :: st = stk) (hko : sK σ o = 8 + ci) (hq0 : vwCl[ci]? = some q) (hml0 : VLk own idx q.1 x y bytes maxL rt as.length)
    (hM : AMet C.1 C.2.2.1 y (ws_ y bytes maxL rt) d (.inr (.inr (some o)) :: as) σ r σ') (hd : decode cc pc = .ok (.invokevirtual idx, 3)) (hw : wts st ≤ 8) (kk : AW C (pc + 3) lv (r.toList ++ st) σ' Z) : AW C pc lv stk σ Z := by
  subst hs
  obtain ⟨E, p, l, e, R, s, m, args, below, meth, c, nL', n0, z0⟩ := C
  obtain ⟨hx, hb, hr, hlk, hml, hnl, hown, hts, hW0, hE, hR1, hR2, hR3, hR4, hR5⟩ := X
  obtain ⟨m1, m2, m3, ⟨xb, xm, xr, m4⟩, m5, m6, m7, m8, m9, m10, m11⟩ := hml0
  subst hnl
  intro H locs cells slots ls hR hq hc hs hl
  obtain ⟨-, cellB, hcB, hcl, hoB, -⟩ := hR.obj hko
  have hcap := hR.2.2.2.2.2
  refine aw_back (a := (((.inr (.inr (some o)) :: as : List AV).map (cv E))).toArray) hc hs hq hl kk fun T hT X => ?_
  have hf1 : d + 21 ≤ R.frames := by omega
  have hf2 : 8 + (maxL + 11) + (100 * d + LOCB) ≤ R.locals := by omega
  have hB : Back l R p e below s args y 3 8 (aPre E R (.inr (.inr (some o)) :: as) σ) (aPost E σ r σ') := back_am hM hW0 hts m8 m7 hf1 hf2
  have hst : (F0 m pc ls ((as.reverse ++ .inr (.inr (some o)) :: st).map (cv E))).stack = (as.map (cv E)).reverse ++ .ref (b0 E + o) :: st.map (cv E) := cv_rev as [.inr (.inr (some o))] st
  have hpre : ∀ vm₁, s.WarmedH vm₁ → aPre E R (.inr (.inr (some o)) :: as) σ ⟨T.setVm vm₁, locs, cells, slots⟩ (Value.ref (b0 E + o) :: as.map (cv E)).toArray := fun vm₁ hW₁ => ⟨by show cells + (CAPN - sn σ) ≤ R.cells; omega, by show slots + (CAPZ - sz σ) ≤ R.slots; omega, rfl, by show Rep E σ T.heap; rw [hT]; exact hR⟩
  exact va_callVU X hx (C := q.1) (owner := x.cls) (bytes := bytes) (maxL := maxL) (ret := rt) hown (hts _ m1) (hts _ m2) (va_Decl.of (hts _ m3) (hts _ m4)) m9 (hts _ m5) (hts _ m6) (hts _ m8) hB (by rw [hT]; exact hcB) (by rw [hoB]; rfl) (by rw [hcl]; exact (u_Kn_at hE hW0.alike hq0).2.1) rfl (hl.1.trans hml.symm) (argsL := as.map (cv E)) (rest := st.map (cv E)) (fun sig h => by rw [List.length_map]; exact m10.len sig h) hst (wts_le hw) (by rw [hb]; exact hd) hpre
end CallRows2
