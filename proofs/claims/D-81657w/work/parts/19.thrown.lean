/-! the rows: an instruction throws, the method's own handler takes it -/
theorem Rep.junk {E : AE} {σ σ' : St} {H H' : Heap} {k z : Nat} (h : Rep E σ H) (hj : junk σ k z = some σ') (hs : H'.size = H.size + k) (hq : ∀ q : Nat, q < H.size → H'[q]? = H[q]?) : Rep E σ' H' := by
  obtain ⟨hc, h2⟩ := ite_none hj
  cases h2
  obtain ⟨h1, h2, h3, h4, h5, h6, h7⟩ := h
  refine ⟨by rw [hs, h1]; show _ = b0 E + (sn σ + k); omega, fun i hi => Nat.lt_of_lt_of_le (h2 i hi) (Nat.le_add_right _ _), fun i hi => ?_, fun q hq0 => ?_, h5, hc.1, hc.2⟩
  · by_cases hk : sK σ i = 0
    · show cellAt E (wJunk σ k z) i H'
      unfold cellAt
      rw [if_pos (show sK (wJunk σ k z) i = 0 from hk)]
      trivial
    · have hlt := h2 i hk
      have hh := h3 i hlt
      have e := hq (b0 E + i) (by rw [h1]; omega)
      unfold cellAt at hh ⊢
      show (if sK σ i = 0 then True else if sK σ i < 8 then H'[b0 E + i]? = some (arrV (eA E (sK σ i)) (sN σ i) (av E (wJunk σ k z) i (sK σ i))) else sK σ i - 8 < 7 ∧ t_OB (b0 E + i) (eC E (sK σ i - 8)) (nfl (sK σ i - 8)) (eI E (sK σ i - 8)) H' (fv E (wJunk σ k z) i (sK σ i - 8)))
      rw [if_neg hk] at hh ⊢
      by_cases h8 : sK σ i < 8
      · rw [if_pos h8] at hh ⊢
        rw [e]
        exact hh
      · rw [if_neg h8] at hh ⊢
        refine ⟨hh.1, ?_⟩
        have := hh.2
        unfold t_OB at this ⊢
        rw [e]
        exact this
  · rw [hq q (by rw [h1]; omega)]
    exact h4 q hq0
section Thrown
variable {C : CT} {cc : ByteArray} {own : String} {ret : Option FieldType} {nL d pc : Nat} {lv : List (Nat × AV)} {st : List AV} {σ σ' : St} {Z : State → Prop} {hh : List (Nat × Nat × Nat × Nat)}
theorem exc_go {E : AE} {p : Program} {l : Launch} {e : Env} {R : Room} {s : State} {m : MethodId} {args : Array Value} {below : List Frame} {meth : Method} {c : Code} {nL n0 z0 : Nat} {T : State} {locs : List Loc} {cells slots : Nat} {ls : Array Slot} {stk : List Value} {cls : String} {k h z : Nat} {from_ : State}
    (hown : s.vm.findClass own = some m.cls) (hK : CastOk args s) (XH : CxH (E, p, l, e, R, s, m, args, below, meth, c, nL, n0, z0) hh) (hz : z ≤ 2000) (hk1 : 1 ≤ k)
    (hmade : ExcMade p l e R s m args below meth c T locs cells slots (F0 m pc ls stk) cls k z from_) (hj : junk σ k 2000 = some σ') (hR : Rep E σ T.heap) (hq : ∀ q ∈ locs, b0 E ≤ q.base) (hc : cells + n0 = sn σ) (hs : slots + z0 = sz σ)
    (hl : lv_has ls nL (lv.map fun q => (q.1, cv E q.2))) (hC : Catch own cls pc hh h) (kk : AW (E, p, l, e, R, s, m, args, below, meth, c, nL, n0, z0) h lv [.inr (.inr (some (sn σ + k - 1)))] σ' Z) : ∃ t, Steps p.tables e below from_ t ∧ Z t := by
  obtain ⟨U, L, n, cell, cC, hn, X, hL, hsz, hold, hcell, hcls, hcc, hns, step⟩ := hmade
  obtain ⟨vm', X', step2⟩ := caughtCold X hown hK XH (g := F0 m pc ls stk) rfl hcell hcls hcc hns hC
  have X2 := stand_widen X' (Nat.le_refl _) (show slots + n ≤ slots + 2000 by omega)
  have hsT : T.heap.size = b0 E + sn σ := hR.1
  obtain ⟨hcap, hσ⟩ := ite_none hj
  have kk' := kk U.heap (locs ++ L) (cells + k) (slots + 2000) ls (hR.junk hj hsz hold) (fun q hq' => by
    rcases List.mem_append.mp hq' with h | h
    · exact hq q h
    · have := hL q h
      omega) (by cases hσ; show cells + k + n0 = sn σ + k; omega) (by cases hσ; show slots + 2000 + z0 = sz σ + 2000; omega) hl
  have e1 : T.heap.size + k - 1 = b0 E + (sn σ + k - 1) := by omega
  rw [e1] at step step2
  obtain ⟨t, a, b⟩ := kk' (U.setVm vm') rfl X2
  exact ⟨t, step t (step2 t a), b⟩
theorem wts_st {E : AE} {st : List AV} (h : wts st ≤ 8) : (List.map (fun v => v.category) (st.map (cv E))).sum ≤ 8 := by
  have := wts_le (E := E) (m := ⟨0, 0⟩) (pc := 0) (ls := #[]) (rest := []) h
  have e : (F0 ⟨0, 0⟩ 0 #[] ([] : List Value)).monitorRoom = 0 := rfl
  rw [e] at this
  omega
theorem aw_npe {i : Instr} {len : Nat} {stk : List AV} (X : Cx C cc own ret nL d) (XH : CxH C hh) {h : Nat} (hC : Catch own "java/lang/NullPointerException" pc hh h) (hj : junk σ 1 2000 = some σ') (hd : decode cc pc = .ok (i, len)) (hw : wts st ≤ 8)
    (hstep : ∀ {E : AE} {p : Program} {l : Launch} {e : Env} {R : Room} {s : State} {m : MethodId} {args : Array Value} {below : List Frame} {meth : Method} {c : Code} {T : State} {locs : List Loc} {cells slots : Nat} {ls : Array Slot}, Stand p l e R s m args below meth c T locs cells slots → p.tables.exec = Jvm.exec → decode c.code pc = .ok (i, len) →
      ∀ target, Steps p.tables e below ((T.setTop (F0 m pc ls (st.map (cv E)))).pushFrame (.throwNew "java/lang/NullPointerException" none none)) target → Steps p.tables e below (T.setTop (F0 m pc ls (stk.map (cv E)))) target)
    (kk : AW C h lv [.inr (.inr (some (sn σ)))] σ' Z) : AW C pc lv stk σ Z := by
  obtain ⟨E, p, l, e, R, s, m, args, below, meth, c, nL', n0, z0⟩ := C
  obtain ⟨hx, hb, hr, hlk, hml, hnl, hown, hts, hW0, hE, hR1, hR2, hR3, hR4, hR5⟩ := X
  subst hnl
  obtain ⟨a1, -, -, -, -, hK, htr, hst⟩ := cxe_of hE hts hW0 hR5
  intro H locs cells slots ls hR hq hc hs hl T hT XT
  obtain ⟨hcap, -⟩ := ite_none hj
  have h9 := wts_st (E := E) hw
  have hLB : 10240 + 8 ≤ LOCB := by decide
  have e0 : (F0 m pc ls (st.map (cv E))).monitorRoom = 0 := rfl
  have hm := npeIn XT hx (htr e XT.admits) a1 (hst _ hq) (g := F0 m pc ls (st.map (cv E))) rfl (hl.1.trans hml.symm) (by omega) (by rw [e0]; show 2 * 0 + (List.map (fun v => v.category) (st.map (cv E))).sum + 10240 ≤ R.locals; omega) (by omega) (by omega)
  subst hT
  obtain ⟨t, a, b⟩ := exc_go hown hK XH (by decide) (by decide) hm hj hR hq hc hs hl hC kk
  exact ⟨t, hstep XT hx (by rw [hb]; exact hd) t a, b⟩
theorem aw_msg {i : Instr} {len : Nat} {stk : List AV} {cls : String} {names : List String} {text : String} (X : Cx C cc own ret nL d) (XH : CxH C hh) {h : Nat} (hC : Catch own cls pc hh h) (hj : junk σ 3 2000 = some σ') (hd : decode cc pc = .ok (i, len)) (hw : wts st ≤ 8)
    (hcls : Bundle.fit cls = true) (hnames : ∀ n ∈ names, Bundle.fit n = true) (hsoe : (cls == "java/lang/StackOverflowError") = false) (hoom : (cls == "java/lang/OutOfMemoryError") = false) (hnl4 : names.length ≤ 3)
    (hat : ∀ {E : AE} {l : Launch} {args : Array Value} {s : State}, CxE E l args s → ∀ a ∈ Bundle.messageArmAtoms cls names, a.before args s = true)
    (htext : (text == notModelled) = false) (hby : (stringBytes (stringToUtf16 text)).size ≤ 1900)
    (hstep : ∀ {E : AE} {p : Program} {l : Launch} {e : Env} {R : Room} {s : State} {m : MethodId} {args : Array Value} {below : List Frame} {meth : Method} {c : Code} {T : State} {locs : List Loc} {cells slots : Nat} {ls : Array Slot}, EOK E l → E.1.WarmedH s.vm → s.vm.findClass own = some m.cls → (∀ w ∈ lw_all, w.before args s = true) → Rep E σ T.heap → Stand p l e R s m args below meth c T locs cells slots → p.tables.exec = Jvm.exec → decode c.code pc = .ok (i, len) →
      ∀ target, Steps p.tables e below ((T.setTop (F0 m pc ls (st.map (cv E)))).pushFrame (.throwNew cls (some text) none)) target → Steps p.tables e below (T.setTop (F0 m pc ls (stk.map (cv E)))) target)
    (kk : AW C h lv [.inr (.inr (some (sn σ + 2)))] σ' Z) : AW C pc lv stk σ Z := by
  obtain ⟨E, p, l, e, R, s, m, args, below, meth, c, nL', n0, z0⟩ := C
  obtain ⟨hx, hb, hr, hlk, hml, hnl, hown, hts, hW0, hE, hR1, hR2, hR3, hR4, hR5⟩ := X
  subst hnl
  have hCE := cxe_of hE hts hW0 hR5
  have hCE2 := hCE
  obtain ⟨-, -, -, -, -, hK, htr, hst⟩ := hCE2
  intro H locs cells slots ls hR hq hc hs hl T hT XT
  obtain ⟨hcap, -⟩ := ite_none hj
  have h9 := wts_st (E := E) hw
  have hLB : 10240 + 8 ≤ LOCB := by decide
  have e0 : (F0 m pc ls (st.map (cv E))).monitorRoom = 0 := rfl
  have l1 := Launch.admits_arrayLengthLimit XT.admits
  have l2 := Launch.admits_maxHeapBytes XT.admits
  have l3 : componentBytes .byte = 1 := rfl
  have hm := msgIn XT hx (htr e XT.admits) hcls hnames hsoe hoom (hat hCE) (hst _ hq) htext (by rw [l1]; omega) (by rw [l2, l3]; omega) (g := F0 m pc ls (st.map (cv E))) rfl (hl.1.trans hml.symm) (by omega) (by rw [e0]; show 2 * 0 + (List.map (fun v => v.category) (st.map (cv E))).sum + 10240 ≤ R.locals; omega) (by omega) (by omega) (by omega)
  subst hT
  obtain ⟨t, a, b⟩ := exc_go hown hK XH (by omega) (by decide) hm hj hR hq hc hs hl hC kk
  exact ⟨t, hstep hE hW0 hown hts hR XT hx (by rw [hb]; exact hd) t a, b⟩
theorem aw_alenX {r : Option Nat} (X : Cx C cc own ret nL d) (XH : CxH C hh) {h : Nat} (hd : decode cc pc = .ok (.arraylength, 1)) (hr : r = none) (hw : wts st ≤ 8) (hC : Catch own "java/lang/NullPointerException" pc hh h) (hj : junk σ 1 2000 = some σ') (kk : AW C h lv [.inr (.inr (some (sn σ)))] σ' Z) : AW C pc lv (.inr (.inr r) :: st) σ Z := by
  subst hr
  refine aw_npe X XH hC hj hd hw ?_ kk
  intro E p l e R s m args below meth c T locs cells slots ls XT hx hd
  exact XT.arraylengthNull hx (g := F0 m pc ls (.null :: st.map (cv E))) rfl (rest := st.map (cv E)) rfl hd
theorem aw_ialdX {r : Option Nat} {i : Int32} (X : Cx C cc own ret nL d) (XH : CxH C hh) {h : Nat} (hd : decode cc pc = .ok (.iaload, 1)) (hr : r = none) (hw : wts st ≤ 8) (hC : Catch own "java/lang/NullPointerException" pc hh h) (hj : junk σ 1 2000 = some σ') (kk : AW C h lv [.inr (.inr (some (sn σ)))] σ' Z) : AW C pc lv (.inl i :: .inr (.inr r) :: st) σ Z := by
  subst hr
  refine aw_npe X XH hC hj hd hw ?_ kk
  intro E p l e R s m args below meth c T locs cells slots ls XT hx hd
  exact XT.ialoadNull hx (g := F0 m pc ls (.int i :: .null :: st.map (cv E))) rfl (rest := st.map (cv E)) rfl hd
theorem aw_baldX {r : Option Nat} {i : Int32} (X : Cx C cc own ret nL d) (XH : CxH C hh) {h : Nat} (hd : decode cc pc = .ok (.baload, 1)) (hr : r = none) (hw : wts st ≤ 8) (hC : Catch own "java/lang/NullPointerException" pc hh h) (hj : junk σ 1 2000 = some σ') (kk : AW C h lv [.inr (.inr (some (sn σ)))] σ' Z) : AW C pc lv (.inl i :: .inr (.inr r) :: st) σ Z := by
  subst hr
  refine aw_npe X XH hC hj hd hw ?_ kk
  intro E p l e R s m args below meth c T locs cells slots ls XT hx hd
  exact XT.baloadNull hx (g := F0 m pc ls (.int i :: .null :: st.map (cv E))) rfl (rest := st.map (cv E)) rfl hd
theorem isK_some {r : Option Nat} {k : Nat} (h : isK σ r k = true) : ∃ o, r = some o ∧ sK σ o = k ∧ sN σ o < 2147483648 := by
  cases r with
  | none => cases h
  | some o =>
    simp only [isK, Bool.and_eq_true, decide_eq_true_eq] at h
    exact ⟨o, rfl, h⟩
theorem isArr_of {E : AE} {l : Launch} {s : State} {σ : St} {o k : Nat} (hE : EOK E l) (hal : E.1.vm.Alike s.vm) (h1 : 1 ≤ k) (h8 : k < 8) : s.isArrayOf (arrV (eA E k) (sN σ o) (av E σ o k)) (kty k) := by
  obtain ⟨kA, comp, f1, f2, f3, -⟩ := akn_at hE hal h1 h8
  exact ⟨(fun _ h => by cases h), kA, f2, comp, f3⟩
theorem aw_ialdO {r : Option Nat} {i : Int32} (X : Cx C cc own ret nL d) (XH : CxH C hh) {h : Nat} (hd : decode cc pc = .ok (.iaload, 1)) (ho : outA σ r i = true) (hk : isK σ r 1 = true) (hw : wts st ≤ 8) (hC : Catch own "java/lang/ArrayIndexOutOfBoundsException" pc hh h) (hj : junk σ 3 2000 = some σ') (kk : AW C h lv [.inr (.inr (some (sn σ + 2)))] σ' Z) : AW C pc lv (.inl i :: .inr (.inr r) :: st) σ Z := by
  obtain ⟨o, rfl, hk1, hk2⟩ := isK_some hk
  have ho' : i < 0 ∨ sN σ o ≤ i.toNatClampNeg := by simpa [outA] using ho
  refine aw_msg (cls := Bundle.idxN) (names := Bundle.idxUp) X XH hC hj hd hw (by decide) (by decide) (by decide) (by decide) (by decide) (fun h => h.2.1) (index_text_modelled i (sN σ o)) (Nat.le_trans (index_text_bytes i hk2) (by decide)) ?_ kk
  intro E p l e R s m args below meth c T locs cells slots ls hE hW0 hown hts hR XT hx hd target hst
  have hcell := hR.arr hk1 (by decide) (by decide)
  have hsz : (arrV (eA E 1) (sN σ o) (av E σ o 1)).slots.size = sN σ o := arrV_size ..
  refine XT.ialoadOut hx hcell (isArr_of hE hW0.alike (by decide) (by decide)) (by rw [hsz]; exact ho') (g := F0 m pc ls (.int i :: .ref (b0 E + o) :: st.map (cv E))) rfl (rest := st.map (cv E)) rfl hd target ?_
  rw [hsz]
  exact hst
theorem aw_baldO {r : Option Nat} {i : Int32} (X : Cx C cc own ret nL d) (XH : CxH C hh) {h : Nat} (hd : decode cc pc = .ok (.baload, 1)) (ho : outA σ r i = true) (hk : isK σ r 2 = true) (hw : wts st ≤ 8) (hC : Catch own "java/lang/ArrayIndexOutOfBoundsException" pc hh h) (hj : junk σ 3 2000 = some σ') (kk : AW C h lv [.inr (.inr (some (sn σ + 2)))] σ' Z) : AW C pc lv (.inl i :: .inr (.inr r) :: st) σ Z := by
  obtain ⟨o, rfl, hk1, hk2⟩ := isK_some hk
  have ho' : i < 0 ∨ sN σ o ≤ i.toNatClampNeg := by simpa [outA] using ho
  refine aw_msg (cls := Bundle.idxN) (names := Bundle.idxUp) X XH hC hj hd hw (by decide) (by decide) (by decide) (by decide) (by decide) (fun h => h.2.1) (index_text_modelled i (sN σ o)) (Nat.le_trans (index_text_bytes i hk2) (by decide)) ?_ kk
  intro E p l e R s m args below meth c T locs cells slots ls hE hW0 hown hts hR XT hx hd target hst
  have hcell := hR.arr hk1 (by decide) (by decide)
  have hsz : (arrV (eA E 2) (sN σ o) (av E σ o 2)).slots.size = sN σ o := arrV_size ..
  refine XT.baloadOut hx hcell (isArr_of hE hW0.alike (by decide) (by decide)) (by rw [hsz]; exact ho') (g := F0 m pc ls (.int i :: .ref (b0 E + o) :: st.map (cv E))) rfl (rest := st.map (cv E)) rfl hd target ?_
  rw [hsz]
  exact hst
theorem aw_newaX {n : Int32} {ty : ArrayType} (X : Cx C cc own ret nL d) (XH : CxH C hh) {h : Nat} (hd : decode cc pc = .ok (.newarray ty, 2)) (hn : n < 0) (hw : wts st ≤ 8) (hC : Catch own "java/lang/NegativeArraySizeException" pc hh h) (hj : junk σ 3 2000 = some σ') (kk : AW C h lv [.inr (.inr (some (sn σ + 2)))] σ' Z) : AW C pc lv (.inl n :: st) σ Z :=
  aw_msg (cls := "java/lang/NegativeArraySizeException") (names := ups) (text := toString n) X XH hC hj hd hw (by decide) (by decide) (by decide) (by decide) (by decide) (fun h => h.2.2.1) (negative_text_modelled hn) (Nat.le_trans (negative_text_bytes n) (by decide)) (by
    intro E p l e R s m args below meth c T locs cells slots ls hE hW0 hown hts hR XT hx hd
    exact XT.newarrayNegative hx (g := F0 m pc ls (.int n :: st.map (cv E))) rfl hn (rest := st.map (cv E)) rfl hd) kk
theorem aw_ldivX {x y : Int64} (X : Cx C cc own ret nL d) (XH : CxH C hh) {h : Nat} (hd : decode cc pc = .ok (.ldiv, 1)) (hy : y = 0) (hw : wts st ≤ 8) (hC : Catch own "java/lang/ArithmeticException" pc hh h) (hj : junk σ 3 2000 = some σ') (kk : AW C h lv [.inr (.inr (some (sn σ + 2)))] σ' Z) : AW C pc lv (.inr (.inl y) :: .inr (.inl x) :: st) σ Z := by
  subst hy
  exact aw_msg (cls := "java/lang/ArithmeticException") (names := ups) (text := "/ by zero") X XH hC hj hd hw (by decide) (by decide) (by decide) (by decide) (by decide) (fun h => h.2.2.2.1) (by decide) (by decide +kernel) (by
    intro E p l e R s m args below meth c T locs cells slots ls hE hW0 hown hts hR XT hx hd
    exact XT.ldivZero hx (g := F0 m pc ls (.long 0 :: .long x :: st.map (cv E))) rfl (rest := st.map (cv E)) rfl hd) kk
end Thrown
