/-! rows of the walk: constants, locals, stack, arithmetic, branches, returns (written by gen_rows.py) -/
section
def isL (v : AV) : Bool := match v with
  | .inr (.inl _) => true
  | _ => false
theorem isL_cat (E : AE) (v : AV) : ((cv E v).category == 2) = isL v := by
  rcases v with x | x | r
  · rfl
  · rfl
  · cases r <;> rfl
theorem cat1 (E : AE) {v : AV} (h : isL v = false) : (cv E v).category = 1 := by
  rcases v with x | x | r
  · rfl
  · cases h
  · cases r <;> rfl
abbrev lf1 (lv : List (Nat × AV)) (i : Nat) : List (Nat × AV) := lv.filter (fun q => !(q.1 == i) && !(q.1 + 1 == i && isL q.2))
abbrev lf2 (lv : List (Nat × AV)) (i : Nat) : List (Nat × AV) := lv.filter (fun q => !(q.1 == i) && (!(q.1 == i + 1) && !(q.1 + 1 == i && isL q.2)))
theorem lf1_map (E : AE) (lv : List (Nat × AV)) (i : Nat) : (lv.map fun q => (q.1, cv E q.2)).filter (fun q => !(q.1 == i) && !(q.1 + 1 == i && q.2.category == 2)) = (lf1 lv i).map fun q => (q.1, cv E q.2) := by
  rw [List.filter_map]
  congr 1
  apply List.filter_congr
  intro q _
  simp only [Function.comp, isL_cat]
theorem lf2_map (E : AE) (lv : List (Nat × AV)) (i : Nat) : (lv.map fun q => (q.1, cv E q.2)).filter (fun q => !(q.1 == i) && (!(q.1 == i + 1) && !(q.1 + 1 == i && q.2.category == 2))) = (lf2 lv i).map fun q => (q.1, cv E q.2) := by
  rw [List.filter_map]
  congr 1
  apply List.filter_congr
  intro q _
  simp only [Function.comp, isL_cat]
theorem lv_got {E : AE} {ls : Array Slot} {nL : Nat} {lv : List (Nat × AV)} (h : lv_has ls nL (lv.map fun q => (q.1, cv E q.2))) {j i : Nat} {v : AV} (hj : lv[j]? = some (i, v)) : ls[i]? = some (.val (cv E v)) := lv_at h j (by rw [List.getElem?_map, hj]; rfl)
theorem aw_sub {C : CT} {pc : Nat} {lv : List (Nat × AV)} {st : List AV} {σ : St} {Z : State → Prop} (lv' : List (Nat × AV)) (ks : List Nat) (h : ks.map (fun j => lv[j]?) = lv'.map some) (k : AW C pc lv' st σ Z) : AW C pc lv st σ Z := by
  obtain ⟨E, p, l, e, R, s, m, args, below, meth, c, nL', n0, z0⟩ := C
  refine fun H locs cells slots ls hR hq hc hs hl => k H locs cells slots ls hR hq hc hs ⟨hl.1, hl.2.1, ?_⟩
  intro q hq
  obtain ⟨q0, hq0, rfl⟩ := List.mem_map.mp hq
  have h1 : some q0 ∈ lv'.map some := List.mem_map.mpr ⟨q0, hq0, rfl⟩
  rw [← h] at h1
  obtain ⟨j, -, hj⟩ := List.mem_map.mp h1
  exact hl.2.2 _ (List.mem_map.mpr ⟨q0, List.mem_of_getElem? hj, rfl⟩)
theorem aw_eq {C : CT} {pc : Nat} {lv : List (Nat × AV)} {st st' : List AV} {σ σ' : St} {Z : State → Prop} (h : st = st') (h2 : σ = σ') (k : AW C pc lv st' σ' Z) : AW C pc lv st σ Z := by
  subst h; subst h2; exact k
theorem aw_iconst {C : CT} {cc : ByteArray} {own : String} {ret : Option FieldType} {nL d pc : Nat} {lv : List (Nat × AV)} {st : List AV} {σ : St} {Z : State → Prop} (X : Cx C cc own ret nL d) {n : Int} (v : Int32) (hd : decode cc pc = .ok (.iconst n, 1)) (hv : Int32.ofInt n = v) (k : AW C (pc + 1) lv (.inl v :: st) σ Z) : AW C pc lv st σ Z := by
  obtain ⟨E, p, l, e, R, s, m, args, below, meth, c, nL', n0, z0⟩ := C
  obtain ⟨hx, hb, hr, hlk, hml, hnl, hown, hts, hal, hE, hR1, hR2, hR3, hR4, hR5⟩ := X
  exact fun H locs cells slots ls hR hq hc hs hl => lv_iconst hx hb hd hv (k H locs cells slots ls hR hq hc hs hl)
theorem aw_bipush {C : CT} {cc : ByteArray} {own : String} {ret : Option FieldType} {nL d pc : Nat} {lv : List (Nat × AV)} {st : List AV} {σ : St} {Z : State → Prop} (X : Cx C cc own ret nL d) {n : Int} (v : Int32) (hd : decode cc pc = .ok (.bipush n, 2)) (hv : (Int8.ofInt n).toInt32 = v) (k : AW C (pc + 2) lv (.inl v :: st) σ Z) : AW C pc lv st σ Z := by
  obtain ⟨E, p, l, e, R, s, m, args, below, meth, c, nL', n0, z0⟩ := C
  obtain ⟨hx, hb, hr, hlk, hml, hnl, hown, hts, hal, hE, hR1, hR2, hR3, hR4, hR5⟩ := X
  exact fun H locs cells slots ls hR hq hc hs hl => lv_bipush hx hb hd hv (k H locs cells slots ls hR hq hc hs hl)
theorem aw_sipush {C : CT} {cc : ByteArray} {own : String} {ret : Option FieldType} {nL d pc : Nat} {lv : List (Nat × AV)} {st : List AV} {σ : St} {Z : State → Prop} (X : Cx C cc own ret nL d) {n : Int} (v : Int32) (hd : decode cc pc = .ok (.sipush n, 3)) (hv : (Int16.ofInt n).toInt32 = v) (k : AW C (pc + 3) lv (.inl v :: st) σ Z) : AW C pc lv st σ Z := by
  obtain ⟨E, p, l, e, R, s, m, args, below, meth, c, nL', n0, z0⟩ := C
  obtain ⟨hx, hb, hr, hlk, hml, hnl, hown, hts, hal, hE, hR1, hR2, hR3, hR4, hR5⟩ := X
  exact fun H locs cells slots ls hR hq hc hs hl => lv_sipush hx hb hd hv (k H locs cells slots ls hR hq hc hs hl)
theorem aw_lconst {C : CT} {cc : ByteArray} {own : String} {ret : Option FieldType} {nL d pc : Nat} {lv : List (Nat × AV)} {st : List AV} {σ : St} {Z : State → Prop} (X : Cx C cc own ret nL d) {n : Fin 2} (v : Int64) (hd : decode cc pc = .ok (.lconst n, 1)) (hv : Int64.ofNat (n : Nat) = v) (k : AW C (pc + 1) lv (.inr (.inl v) :: st) σ Z) : AW C pc lv st σ Z := by
  obtain ⟨E, p, l, e, R, s, m, args, below, meth, c, nL', n0, z0⟩ := C
  obtain ⟨hx, hb, hr, hlk, hml, hnl, hown, hts, hal, hE, hR1, hR2, hR3, hR4, hR5⟩ := X
  exact fun H locs cells slots ls hR hq hc hs hl => lv_lconst hx hb hd hv (k H locs cells slots ls hR hq hc hs hl)
theorem aw_ldc2 {C : CT} {cc : ByteArray} {own : String} {ret : Option FieldType} {nL d pc : Nat} {lv : List (Nat × AV)} {st : List AV} {σ : St} {Z : State → Prop} (X : Cx C cc own ret nL d) {idx : Nat} {v : Int64} (hc : Cond.constantLong own idx v ∈ lw_all) (hd : decode cc pc = .ok (.ldc2_w idx, 3)) (k : AW C (pc + 3) lv (.inr (.inl v) :: st) σ Z) : AW C pc lv st σ Z := by
  obtain ⟨E, p, l, e, R, s, m, args, below, meth, c, nL', n0, z0⟩ := C
  obtain ⟨hx, hb, hr, hlk, hml, hnl, hown, hts, hal, hE, hR1, hR2, hR3, hR4, hR5⟩ := X
  exact fun H locs cells slots ls hR hq hcc hs hl => lv_ldc2 hx hb hown (hts _ hc) hd (k H locs cells slots ls hR hq hcc hs hl)
theorem aw_ldcw {C : CT} {cc : ByteArray} {own : String} {ret : Option FieldType} {nL d pc : Nat} {lv : List (Nat × AV)} {st : List AV} {σ : St} {Z : State → Prop} (X : Cx C cc own ret nL d) {idx : Nat} {v : Int32} (hc : Cond.constant own idx v ∈ lw_all) (hd : decode cc pc = .ok (.ldc_w idx, 3)) (k : AW C (pc + 3) lv (.inl v :: st) σ Z) : AW C pc lv st σ Z := by
  obtain ⟨E, p, l, e, R, s, m, args, below, meth, c, nL', n0, z0⟩ := C
  obtain ⟨hx, hb, hr, hlk, hml, hnl, hown, hts, hal, hE, hR1, hR2, hR3, hR4, hR5⟩ := X
  exact fun H locs cells slots ls hR hq hcc hs hl => lv_ldcw hx hb hown (hts _ hc) hd (k H locs cells slots ls hR hq hcc hs hl)
theorem aw_null {C : CT} {cc : ByteArray} {own : String} {ret : Option FieldType} {nL d pc : Nat} {lv : List (Nat × AV)} {st : List AV} {σ : St} {Z : State → Prop} (X : Cx C cc own ret nL d) (hd : decode cc pc = .ok (.aconst_null, 1)) (k : AW C (pc + 1) lv (.inr (.inr none) :: st) σ Z) : AW C pc lv st σ Z := by
  obtain ⟨E, p, l, e, R, s, m, args, below, meth, c, nL', n0, z0⟩ := C
  obtain ⟨hx, hb, hr, hlk, hml, hnl, hown, hts, hal, hE, hR1, hR2, hR3, hR4, hR5⟩ := X
  exact fun H locs cells slots ls hR hq hc hs hl => lv_null hx hb hd (k H locs cells slots ls hR hq hc hs hl)
theorem aw_iload_n {C : CT} {cc : ByteArray} {own : String} {ret : Option FieldType} {nL d pc : Nat} {lv : List (Nat × AV)} {st : List AV} {σ : St} {Z : State → Prop} (X : Cx C cc own ret nL d) {i : Fin 4} {x : Int32} (hd : decode cc pc = .ok (.iload_n i, 1)) (j i0 : Nat) (hi : (i : Nat) = i0) (hj : lv[j]? = some (i0, .inl x)) (k : AW C (pc + 1) lv (.inl x :: st) σ Z) : AW C pc lv st σ Z := by
  obtain ⟨E, p, l, e, R, s, m, args, below, meth, c, nL', n0, z0⟩ := C
  obtain ⟨hx, hb, hr, hlk, hml, hnl, hown, hts, hal, hE, hR1, hR2, hR3, hR4, hR5⟩ := X
  exact fun H locs cells slots ls hR hq hc hs hl => lv_iload_n hx hb hd hi (lv_got hl hj) (k H locs cells slots ls hR hq hc hs hl)
theorem aw_iload {C : CT} {cc : ByteArray} {own : String} {ret : Option FieldType} {nL d pc : Nat} {lv : List (Nat × AV)} {st : List AV} {σ : St} {Z : State → Prop} (X : Cx C cc own ret nL d) {i : Nat} {x : Int32} (hd : decode cc pc = .ok (.iload i, 2)) (j : Nat) (hj : lv[j]? = some (i, .inl x)) (k : AW C (pc + 2) lv (.inl x :: st) σ Z) : AW C pc lv st σ Z := by
  obtain ⟨E, p, l, e, R, s, m, args, below, meth, c, nL', n0, z0⟩ := C
  obtain ⟨hx, hb, hr, hlk, hml, hnl, hown, hts, hal, hE, hR1, hR2, hR3, hR4, hR5⟩ := X
  exact fun H locs cells slots ls hR hq hc hs hl => lv_iload hx hb hd (lv_got hl hj) (k H locs cells slots ls hR hq hc hs hl)
theorem aw_lload_n {C : CT} {cc : ByteArray} {own : String} {ret : Option FieldType} {nL d pc : Nat} {lv : List (Nat × AV)} {st : List AV} {σ : St} {Z : State → Prop} (X : Cx C cc own ret nL d) {i : Fin 4} {x : Int64} (hd : decode cc pc = .ok (.lload_n i, 1)) (j i0 : Nat) (hi : (i : Nat) = i0) (hj : lv[j]? = some (i0, .inr (.inl x))) (k : AW C (pc + 1) lv (.inr (.inl x) :: st) σ Z) : AW C pc lv st σ Z := by
  obtain ⟨E, p, l, e, R, s, m, args, below, meth, c, nL', n0, z0⟩ := C
  obtain ⟨hx, hb, hr, hlk, hml, hnl, hown, hts, hal, hE, hR1, hR2, hR3, hR4, hR5⟩ := X
  exact fun H locs cells slots ls hR hq hc hs hl => lv_lload_n hx hb hd hi (lv_got hl hj) (k H locs cells slots ls hR hq hc hs hl)
theorem aw_lload {C : CT} {cc : ByteArray} {own : String} {ret : Option FieldType} {nL d pc : Nat} {lv : List (Nat × AV)} {st : List AV} {σ : St} {Z : State → Prop} (X : Cx C cc own ret nL d) {i : Nat} {x : Int64} (hd : decode cc pc = .ok (.lload i, 2)) (j : Nat) (hj : lv[j]? = some (i, .inr (.inl x))) (k : AW C (pc + 2) lv (.inr (.inl x) :: st) σ Z) : AW C pc lv st σ Z := by
  obtain ⟨E, p, l, e, R, s, m, args, below, meth, c, nL', n0, z0⟩ := C
  obtain ⟨hx, hb, hr, hlk, hml, hnl, hown, hts, hal, hE, hR1, hR2, hR3, hR4, hR5⟩ := X
  exact fun H locs cells slots ls hR hq hc hs hl => lv_lload hx hb hd (lv_got hl hj) (k H locs cells slots ls hR hq hc hs hl)
theorem aw_aload_n {C : CT} {cc : ByteArray} {own : String} {ret : Option FieldType} {nL d pc : Nat} {lv : List (Nat × AV)} {st : List AV} {σ : St} {Z : State → Prop} (X : Cx C cc own ret nL d) {i : Fin 4} {r : Option Nat} (hd : decode cc pc = .ok (.aload_n i, 1)) (j i0 : Nat) (hi : (i : Nat) = i0) (hj : lv[j]? = some (i0, .inr (.inr r))) (k : AW C (pc + 1) lv (.inr (.inr r) :: st) σ Z) : AW C pc lv st σ Z := by
  obtain ⟨E, p, l, e, R, s, m, args, below, meth, c, nL', n0, z0⟩ := C
  obtain ⟨hx, hb, hr, hlk, hml, hnl, hown, hts, hal, hE, hR1, hR2, hR3, hR4, hR5⟩ := X
  cases r with
  | none => exact fun H locs cells slots ls hR hq hc hs hl => lv_aload_nN hx hb hd hi (lv_got hl hj) (k H locs cells slots ls hR hq hc hs hl)
  | some o => exact fun H locs cells slots ls hR hq hc hs hl => lv_aload_n hx hb hd hi (lv_got hl hj) (k H locs cells slots ls hR hq hc hs hl)
theorem aw_aload {C : CT} {cc : ByteArray} {own : String} {ret : Option FieldType} {nL d pc : Nat} {lv : List (Nat × AV)} {st : List AV} {σ : St} {Z : State → Prop} (X : Cx C cc own ret nL d) {i : Nat} {r : Option Nat} (hd : decode cc pc = .ok (.aload i, 2)) (j : Nat) (hj : lv[j]? = some (i, .inr (.inr r))) (k : AW C (pc + 2) lv (.inr (.inr r) :: st) σ Z) : AW C pc lv st σ Z := by
  obtain ⟨E, p, l, e, R, s, m, args, below, meth, c, nL', n0, z0⟩ := C
  obtain ⟨hx, hb, hr, hlk, hml, hnl, hown, hts, hal, hE, hR1, hR2, hR3, hR4, hR5⟩ := X
  cases r with
  | none => exact fun H locs cells slots ls hR hq hc hs hl => lv_aloadN hx hb hd (lv_got hl hj) (k H locs cells slots ls hR hq hc hs hl)
  | some o => exact fun H locs cells slots ls hR hq hc hs hl => lv_aload hx hb hd (lv_got hl hj) (k H locs cells slots ls hR hq hc hs hl)
theorem aw_istore_n {C : CT} {cc : ByteArray} {own : String} {ret : Option FieldType} {nL d pc : Nat} {lv : List (Nat × AV)} {st : List AV} {σ : St} {Z : State → Prop} (X : Cx C cc own ret nL d) {i : Fin 4} {x : Int32} (hd : decode cc pc = .ok (.istore_n i, 1)) (i0 : Nat) (hi : (i : Nat) = i0) (hn : i0 < nL) (lv' : List (Nat × AV)) (hl' : (i0, .inl x) :: lf1 lv i0 = lv') (k : AW C (pc + 1) lv' st σ Z) : AW C pc lv (.inl x :: st) σ Z := by
  obtain ⟨E, p, l, e, R, s, m, args, below, meth, c, nL', n0, z0⟩ := C
  obtain ⟨hx, hb, hr, hlk, hml, hnl, hown, hts, hal, hE, hR1, hR2, hR3, hR4, hR5⟩ := X
  subst hl'; subst hnl
  exact fun H locs cells slots ls hR hq hc hs hl => lv_istore_n hx hb hd hi hl hn (by rw [lf1_map]; rfl) (fun ls hl => k H locs cells slots ls hR hq hc hs hl)
theorem aw_istore {C : CT} {cc : ByteArray} {own : String} {ret : Option FieldType} {nL d pc : Nat} {lv : List (Nat × AV)} {st : List AV} {σ : St} {Z : State → Prop} (X : Cx C cc own ret nL d) {i0 : Nat} {x : Int32} (hd : decode cc pc = .ok (.istore i0, 2)) (hn : i0 < nL) (lv' : List (Nat × AV)) (hl' : (i0, .inl x) :: lf1 lv i0 = lv') (k : AW C (pc + 2) lv' st σ Z) : AW C pc lv (.inl x :: st) σ Z := by
  obtain ⟨E, p, l, e, R, s, m, args, below, meth, c, nL', n0, z0⟩ := C
  obtain ⟨hx, hb, hr, hlk, hml, hnl, hown, hts, hal, hE, hR1, hR2, hR3, hR4, hR5⟩ := X
  subst hl'; subst hnl
  exact fun H locs cells slots ls hR hq hc hs hl => lv_istore hx hb hd hl hn (by rw [lf1_map]; rfl) (fun ls hl => k H locs cells slots ls hR hq hc hs hl)
theorem aw_lstore_n {C : CT} {cc : ByteArray} {own : String} {ret : Option FieldType} {nL d pc : Nat} {lv : List (Nat × AV)} {st : List AV} {σ : St} {Z : State → Prop} (X : Cx C cc own ret nL d) {i : Fin 4} {x : Int64} (hd : decode cc pc = .ok (.lstore_n i, 1)) (i0 : Nat) (hi : (i : Nat) = i0) (hn : i0 + 1 < nL) (lv' : List (Nat × AV)) (hl' : (i0, .inr (.inl x)) :: lf2 lv i0 = lv') (k : AW C (pc + 1) lv' st σ Z) : AW C pc lv (.inr (.inl x) :: st) σ Z := by
  obtain ⟨E, p, l, e, R, s, m, args, below, meth, c, nL', n0, z0⟩ := C
  obtain ⟨hx, hb, hr, hlk, hml, hnl, hown, hts, hal, hE, hR1, hR2, hR3, hR4, hR5⟩ := X
  subst hl'; subst hnl
  exact fun H locs cells slots ls hR hq hc hs hl => lv_lstore_n hx hb hd hi hl hn (by rw [lf2_map]; rfl) (fun ls hl => k H locs cells slots ls hR hq hc hs hl)
theorem aw_lstore {C : CT} {cc : ByteArray} {own : String} {ret : Option FieldType} {nL d pc : Nat} {lv : List (Nat × AV)} {st : List AV} {σ : St} {Z : State → Prop} (X : Cx C cc own ret nL d) {i0 : Nat} {x : Int64} (hd : decode cc pc = .ok (.lstore i0, 2)) (hn : i0 + 1 < nL) (lv' : List (Nat × AV)) (hl' : (i0, .inr (.inl x)) :: lf2 lv i0 = lv') (k : AW C (pc + 2) lv' st σ Z) : AW C pc lv (.inr (.inl x) :: st) σ Z := by
  obtain ⟨E, p, l, e, R, s, m, args, below, meth, c, nL', n0, z0⟩ := C
  obtain ⟨hx, hb, hr, hlk, hml, hnl, hown, hts, hal, hE, hR1, hR2, hR3, hR4, hR5⟩ := X
  subst hl'; subst hnl
  exact fun H locs cells slots ls hR hq hc hs hl => lv_lstore hx hb hd hl hn (by rw [lf2_map]; rfl) (fun ls hl => k H locs cells slots ls hR hq hc hs hl)
theorem aw_astore_n {C : CT} {cc : ByteArray} {own : String} {ret : Option FieldType} {nL d pc : Nat} {lv : List (Nat × AV)} {st : List AV} {σ : St} {Z : State → Prop} (X : Cx C cc own ret nL d) {i : Fin 4} {r : Option Nat} (hd : decode cc pc = .ok (.astore_n i, 1)) (i0 : Nat) (hi : (i : Nat) = i0) (hn : i0 < nL) (lv' : List (Nat × AV)) (hl' : (i0, .inr (.inr r)) :: lf1 lv i0 = lv') (k : AW C (pc + 1) lv' st σ Z) : AW C pc lv (.inr (.inr r) :: st) σ Z := by
  obtain ⟨E, p, l, e, R, s, m, args, below, meth, c, nL', n0, z0⟩ := C
  obtain ⟨hx, hb, hr, hlk, hml, hnl, hown, hts, hal, hE, hR1, hR2, hR3, hR4, hR5⟩ := X
  subst hl'; subst hnl
  cases r with
  | none => exact fun H locs cells slots ls hR hq hc hs hl => lv_astore_nN hx hb hd hi hl hn (by rw [lf1_map]; rfl) (fun ls hl => k H locs cells slots ls hR hq hc hs hl)
  | some o => exact fun H locs cells slots ls hR hq hc hs hl => lv_astore_n hx hb hd hi hl hn (by rw [lf1_map]; rfl) (fun ls hl => k H locs cells slots ls hR hq hc hs hl)
theorem aw_astore {C : CT} {cc : ByteArray} {own : String} {ret : Option FieldType} {nL d pc : Nat} {lv : List (Nat × AV)} {st : List AV} {σ : St} {Z : State → Prop} (X : Cx C cc own ret nL d) {i0 : Nat} {r : Option Nat} (hd : decode cc pc = .ok (.astore i0, 2)) (hn : i0 < nL) (lv' : List (Nat × AV)) (hl' : (i0, .inr (.inr r)) :: lf1 lv i0 = lv') (k : AW C (pc + 2) lv' st σ Z) : AW C pc lv (.inr (.inr r) :: st) σ Z := by
  obtain ⟨E, p, l, e, R, s, m, args, below, meth, c, nL', n0, z0⟩ := C
  obtain ⟨hx, hb, hr, hlk, hml, hnl, hown, hts, hal, hE, hR1, hR2, hR3, hR4, hR5⟩ := X
  subst hl'; subst hnl
  cases r with
  | none => exact fun H locs cells slots ls hR hq hc hs hl => lv_astoreN hx hb hd hl hn (by rw [lf1_map]; rfl) (fun ls hl => k H locs cells slots ls hR hq hc hs hl)
  | some o => exact fun H locs cells slots ls hR hq hc hs hl => lv_astore hx hb hd hl hn (by rw [lf1_map]; rfl) (fun ls hl => k H locs cells slots ls hR hq hc hs hl)
theorem aw_iinc {C : CT} {cc : ByteArray} {own : String} {ret : Option FieldType} {nL d pc : Nat} {lv : List (Nat × AV)} {st : List AV} {σ : St} {Z : State → Prop} (X : Cx C cc own ret nL d) {i0 : Nat} {n : Int} {x : Int32} (hd : decode cc pc = .ok (.iinc i0 n, 3)) (j : Nat) (hj : lv[j]? = some (i0, .inl x)) (v : Int32) (hv : Int32.ofInt n = v) (hn : i0 < nL) (lv' : List (Nat × AV)) (hl' : (i0, .inl (x + v)) :: lf1 lv i0 = lv') (k : AW C (pc + 3) lv' st σ Z) : AW C pc lv st σ Z := by
  obtain ⟨E, p, l, e, R, s, m, args, below, meth, c, nL', n0, z0⟩ := C
  obtain ⟨hx, hb, hr, hlk, hml, hnl, hown, hts, hal, hE, hR1, hR2, hR3, hR4, hR5⟩ := X
  subst hl'; subst hnl; subst hv
  exact fun H locs cells slots ls hR hq hc hs hl => lv_iinc hx hb hd hl (k := j) (by rw [List.getElem?_map, hj]; rfl) rfl hn (by rw [lf1_map]; rfl) (fun ls hl => k H locs cells slots ls hR hq hc hs hl)
theorem aw_iadd {C : CT} {cc : ByteArray} {own : String} {ret : Option FieldType} {nL d pc : Nat} {lv : List (Nat × AV)} {st : List AV} {σ : St} {Z : State → Prop} (X : Cx C cc own ret nL d) {x y : Int32} (hd : decode cc pc = .ok (.iadd, 1)) (k : AW C (pc + 1) lv (.inl (x + y) :: st) σ Z) : AW C pc lv (.inl y :: .inl x :: st) σ Z := by
  obtain ⟨E, p, l, e, R, s, m, args, below, meth, c, nL', n0, z0⟩ := C
  obtain ⟨hx, hb, hr, hlk, hml, hnl, hown, hts, hal, hE, hR1, hR2, hR3, hR4, hR5⟩ := X
  exact fun H locs cells slots ls hR hq hc hs hl => lv_iadd hx hb hd (k H locs cells slots ls hR hq hc hs hl)
theorem aw_isub {C : CT} {cc : ByteArray} {own : String} {ret : Option FieldType} {nL d pc : Nat} {lv : List (Nat × AV)} {st : List AV} {σ : St} {Z : State → Prop} (X : Cx C cc own ret nL d) {x y : Int32} (hd : decode cc pc = .ok (.isub, 1)) (k : AW C (pc + 1) lv (.inl (x - y) :: st) σ Z) : AW C pc lv (.inl y :: .inl x :: st) σ Z := by
  obtain ⟨E, p, l, e, R, s, m, args, below, meth, c, nL', n0, z0⟩ := C
  obtain ⟨hx, hb, hr, hlk, hml, hnl, hown, hts, hal, hE, hR1, hR2, hR3, hR4, hR5⟩ := X
  exact fun H locs cells slots ls hR hq hc hs hl => lv_isub hx hb hd (k H locs cells slots ls hR hq hc hs hl)
theorem aw_imul {C : CT} {cc : ByteArray} {own : String} {ret : Option FieldType} {nL d pc : Nat} {lv : List (Nat × AV)} {st : List AV} {σ : St} {Z : State → Prop} (X : Cx C cc own ret nL d) {x y : Int32} (hd : decode cc pc = .ok (.imul, 1)) (k : AW C (pc + 1) lv (.inl (x * y) :: st) σ Z) : AW C pc lv (.inl y :: .inl x :: st) σ Z := by
  obtain ⟨E, p, l, e, R, s, m, args, below, meth, c, nL', n0, z0⟩ := C
  obtain ⟨hx, hb, hr, hlk, hml, hnl, hown, hts, hal, hE, hR1, hR2, hR3, hR4, hR5⟩ := X
  exact fun H locs cells slots ls hR hq hc hs hl => lv_imul hx hb hd (k H locs cells slots ls hR hq hc hs hl)
theorem aw_iand {C : CT} {cc : ByteArray} {own : String} {ret : Option FieldType} {nL d pc : Nat} {lv : List (Nat × AV)} {st : List AV} {σ : St} {Z : State → Prop} (X : Cx C cc own ret nL d) {x y : Int32} (hd : decode cc pc = .ok (.iand, 1)) (k : AW C (pc + 1) lv (.inl (x &&& y) :: st) σ Z) : AW C pc lv (.inl y :: .inl x :: st) σ Z := by
  obtain ⟨E, p, l, e, R, s, m, args, below, meth, c, nL', n0, z0⟩ := C
  obtain ⟨hx, hb, hr, hlk, hml, hnl, hown, hts, hal, hE, hR1, hR2, hR3, hR4, hR5⟩ := X
  exact fun H locs cells slots ls hR hq hc hs hl => lv_iand hx hb hd (k H locs cells slots ls hR hq hc hs hl)
theorem aw_ior {C : CT} {cc : ByteArray} {own : String} {ret : Option FieldType} {nL d pc : Nat} {lv : List (Nat × AV)} {st : List AV} {σ : St} {Z : State → Prop} (X : Cx C cc own ret nL d) {x y : Int32} (hd : decode cc pc = .ok (.ior, 1)) (k : AW C (pc + 1) lv (.inl (x ||| y) :: st) σ Z) : AW C pc lv (.inl y :: .inl x :: st) σ Z := by
  obtain ⟨E, p, l, e, R, s, m, args, below, meth, c, nL', n0, z0⟩ := C
  obtain ⟨hx, hb, hr, hlk, hml, hnl, hown, hts, hal, hE, hR1, hR2, hR3, hR4, hR5⟩ := X
  exact fun H locs cells slots ls hR hq hc hs hl => lv_ior hx hb hd (k H locs cells slots ls hR hq hc hs hl)
theorem aw_ixor {C : CT} {cc : ByteArray} {own : String} {ret : Option FieldType} {nL d pc : Nat} {lv : List (Nat × AV)} {st : List AV} {σ : St} {Z : State → Prop} (X : Cx C cc own ret nL d) {x y : Int32} (hd : decode cc pc = .ok (.ixor, 1)) (k : AW C (pc + 1) lv (.inl (x ^^^ y) :: st) σ Z) : AW C pc lv (.inl y :: .inl x :: st) σ Z := by
  obtain ⟨E, p, l, e, R, s, m, args, below, meth, c, nL', n0, z0⟩ := C
  obtain ⟨hx, hb, hr, hlk, hml, hnl, hown, hts, hal, hE, hR1, hR2, hR3, hR4, hR5⟩ := X
  exact fun H locs cells slots ls hR hq hc hs hl => lv_ixor hx hb hd (k H locs cells slots ls hR hq hc hs hl)
theorem aw_ishl {C : CT} {cc : ByteArray} {own : String} {ret : Option FieldType} {nL d pc : Nat} {lv : List (Nat × AV)} {st : List AV} {σ : St} {Z : State → Prop} (X : Cx C cc own ret nL d) {x y : Int32} (hd : decode cc pc = .ok (.ishl, 1)) (k : AW C (pc + 1) lv (.inl (x <<< (y &&& 31)) :: st) σ Z) : AW C pc lv (.inl y :: .inl x :: st) σ Z := by
  obtain ⟨E, p, l, e, R, s, m, args, below, meth, c, nL', n0, z0⟩ := C
  obtain ⟨hx, hb, hr, hlk, hml, hnl, hown, hts, hal, hE, hR1, hR2, hR3, hR4, hR5⟩ := X
  exact fun H locs cells slots ls hR hq hc hs hl => lv_ishl hx hb hd (k H locs cells slots ls hR hq hc hs hl)
theorem aw_ishr {C : CT} {cc : ByteArray} {own : String} {ret : Option FieldType} {nL d pc : Nat} {lv : List (Nat × AV)} {st : List AV} {σ : St} {Z : State → Prop} (X : Cx C cc own ret nL d) {x y : Int32} (hd : decode cc pc = .ok (.ishr, 1)) (k : AW C (pc + 1) lv (.inl (x >>> (y &&& 31)) :: st) σ Z) : AW C pc lv (.inl y :: .inl x :: st) σ Z := by
  obtain ⟨E, p, l, e, R, s, m, args, below, meth, c, nL', n0, z0⟩ := C
  obtain ⟨hx, hb, hr, hlk, hml, hnl, hown, hts, hal, hE, hR1, hR2, hR3, hR4, hR5⟩ := X
  exact fun H locs cells slots ls hR hq hc hs hl => lv_ishr hx hb hd (k H locs cells slots ls hR hq hc hs hl)
theorem aw_idiv {C : CT} {cc : ByteArray} {own : String} {ret : Option FieldType} {nL d pc : Nat} {lv : List (Nat × AV)} {st : List AV} {σ : St} {Z : State → Prop} (X : Cx C cc own ret nL d) {x y : Int32} (hd : decode cc pc = .ok (.idiv, 1)) (hne : ¬ y = 0) (k : AW C (pc + 1) lv (.inl (x / y) :: st) σ Z) : AW C pc lv (.inl y :: .inl x :: st) σ Z := by
  obtain ⟨E, p, l, e, R, s, m, args, below, meth, c, nL', n0, z0⟩ := C
  obtain ⟨hx, hb, hr, hlk, hml, hnl, hown, hts, hal, hE, hR1, hR2, hR3, hR4, hR5⟩ := X
  exact fun H locs cells slots ls hR hq hc hs hl => lv_idiv hx hb hd hne (k H locs cells slots ls hR hq hc hs hl)
theorem aw_irem {C : CT} {cc : ByteArray} {own : String} {ret : Option FieldType} {nL d pc : Nat} {lv : List (Nat × AV)} {st : List AV} {σ : St} {Z : State → Prop} (X : Cx C cc own ret nL d) {x y : Int32} (hd : decode cc pc = .ok (.irem, 1)) (hne : ¬ y = 0) (k : AW C (pc + 1) lv (.inl (x % y) :: st) σ Z) : AW C pc lv (.inl y :: .inl x :: st) σ Z := by
  obtain ⟨E, p, l, e, R, s, m, args, below, meth, c, nL', n0, z0⟩ := C
  obtain ⟨hx, hb, hr, hlk, hml, hnl, hown, hts, hal, hE, hR1, hR2, hR3, hR4, hR5⟩ := X
  rw [← irem_eq_mod] at k
  exact fun H locs cells slots ls hR hq hc hs hl => lv_irem hx hb hd hne (k H locs cells slots ls hR hq hc hs hl)
theorem aw_ladd {C : CT} {cc : ByteArray} {own : String} {ret : Option FieldType} {nL d pc : Nat} {lv : List (Nat × AV)} {st : List AV} {σ : St} {Z : State → Prop} (X : Cx C cc own ret nL d) {x y : Int64} (hd : decode cc pc = .ok (.ladd, 1)) (k : AW C (pc + 1) lv (.inr (.inl (x + y)) :: st) σ Z) : AW C pc lv (.inr (.inl y) :: .inr (.inl x) :: st) σ Z := by
  obtain ⟨E, p, l, e, R, s, m, args, below, meth, c, nL', n0, z0⟩ := C
  obtain ⟨hx, hb, hr, hlk, hml, hnl, hown, hts, hal, hE, hR1, hR2, hR3, hR4, hR5⟩ := X
  exact fun H locs cells slots ls hR hq hc hs hl => lv_ladd hx hb hd (k H locs cells slots ls hR hq hc hs hl)
theorem aw_lsub {C : CT} {cc : ByteArray} {own : String} {ret : Option FieldType} {nL d pc : Nat} {lv : List (Nat × AV)} {st : List AV} {σ : St} {Z : State → Prop} (X : Cx C cc own ret nL d) {x y : Int64} (hd : decode cc pc = .ok (.lsub, 1)) (k : AW C (pc + 1) lv (.inr (.inl (x - y)) :: st) σ Z) : AW C pc lv (.inr (.inl y) :: .inr (.inl x) :: st) σ Z := by
  obtain ⟨E, p, l, e, R, s, m, args, below, meth, c, nL', n0, z0⟩ := C
  obtain ⟨hx, hb, hr, hlk, hml, hnl, hown, hts, hal, hE, hR1, hR2, hR3, hR4, hR5⟩ := X
  exact fun H locs cells slots ls hR hq hc hs hl => lv_lsub hx hb hd (k H locs cells slots ls hR hq hc hs hl)
theorem aw_lmul {C : CT} {cc : ByteArray} {own : String} {ret : Option FieldType} {nL d pc : Nat} {lv : List (Nat × AV)} {st : List AV} {σ : St} {Z : State → Prop} (X : Cx C cc own ret nL d) {x y : Int64} (hd : decode cc pc = .ok (.lmul, 1)) (k : AW C (pc + 1) lv (.inr (.inl (x * y)) :: st) σ Z) : AW C pc lv (.inr (.inl y) :: .inr (.inl x) :: st) σ Z := by
  obtain ⟨E, p, l, e, R, s, m, args, below, meth, c, nL', n0, z0⟩ := C
  obtain ⟨hx, hb, hr, hlk, hml, hnl, hown, hts, hal, hE, hR1, hR2, hR3, hR4, hR5⟩ := X
  exact fun H locs cells slots ls hR hq hc hs hl => lv_lmul hx hb hd (k H locs cells slots ls hR hq hc hs hl)
theorem aw_land {C : CT} {cc : ByteArray} {own : String} {ret : Option FieldType} {nL d pc : Nat} {lv : List (Nat × AV)} {st : List AV} {σ : St} {Z : State → Prop} (X : Cx C cc own ret nL d) {x y : Int64} (hd : decode cc pc = .ok (.land, 1)) (k : AW C (pc + 1) lv (.inr (.inl (x &&& y)) :: st) σ Z) : AW C pc lv (.inr (.inl y) :: .inr (.inl x) :: st) σ Z := by
  obtain ⟨E, p, l, e, R, s, m, args, below, meth, c, nL', n0, z0⟩ := C
  obtain ⟨hx, hb, hr, hlk, hml, hnl, hown, hts, hal, hE, hR1, hR2, hR3, hR4, hR5⟩ := X
  exact fun H locs cells slots ls hR hq hc hs hl => lv_land hx hb hd (k H locs cells slots ls hR hq hc hs hl)
theorem aw_lor {C : CT} {cc : ByteArray} {own : String} {ret : Option FieldType} {nL d pc : Nat} {lv : List (Nat × AV)} {st : List AV} {σ : St} {Z : State → Prop} (X : Cx C cc own ret nL d) {x y : Int64} (hd : decode cc pc = .ok (.lor, 1)) (k : AW C (pc + 1) lv (.inr (.inl (x ||| y)) :: st) σ Z) : AW C pc lv (.inr (.inl y) :: .inr (.inl x) :: st) σ Z := by
  obtain ⟨E, p, l, e, R, s, m, args, below, meth, c, nL', n0, z0⟩ := C
  obtain ⟨hx, hb, hr, hlk, hml, hnl, hown, hts, hal, hE, hR1, hR2, hR3, hR4, hR5⟩ := X
  exact fun H locs cells slots ls hR hq hc hs hl => lv_lor hx hb hd (k H locs cells slots ls hR hq hc hs hl)
theorem aw_ldiv {C : CT} {cc : ByteArray} {own : String} {ret : Option FieldType} {nL d pc : Nat} {lv : List (Nat × AV)} {st : List AV} {σ : St} {Z : State → Prop} (X : Cx C cc own ret nL d) {x y : Int64} (hd : decode cc pc = .ok (.ldiv, 1)) (hne : ¬ y = 0) (k : AW C (pc + 1) lv (.inr (.inl (x / y)) :: st) σ Z) : AW C pc lv (.inr (.inl y) :: .inr (.inl x) :: st) σ Z := by
  obtain ⟨E, p, l, e, R, s, m, args, below, meth, c, nL', n0, z0⟩ := C
  obtain ⟨hx, hb, hr, hlk, hml, hnl, hown, hts, hal, hE, hR1, hR2, hR3, hR4, hR5⟩ := X
  exact fun H locs cells slots ls hR hq hc hs hl => lv_ldiv hx hb hd hne (k H locs cells slots ls hR hq hc hs hl)
theorem aw_lrem {C : CT} {cc : ByteArray} {own : String} {ret : Option FieldType} {nL d pc : Nat} {lv : List (Nat × AV)} {st : List AV} {σ : St} {Z : State → Prop} (X : Cx C cc own ret nL d) {x y : Int64} (hd : decode cc pc = .ok (.lrem, 1)) (hne : ¬ y = 0) (k : AW C (pc + 1) lv (.inr (.inl (x - x / y * y)) :: st) σ Z) : AW C pc lv (.inr (.inl y) :: .inr (.inl x) :: st) σ Z := by
  obtain ⟨E, p, l, e, R, s, m, args, below, meth, c, nL', n0, z0⟩ := C
  obtain ⟨hx, hb, hr, hlk, hml, hnl, hown, hts, hal, hE, hR1, hR2, hR3, hR4, hR5⟩ := X
  exact fun H locs cells slots ls hR hq hc hs hl => lv_lrem hx hb hd hne (k H locs cells slots ls hR hq hc hs hl)
theorem aw_i2l {C : CT} {cc : ByteArray} {own : String} {ret : Option FieldType} {nL d pc : Nat} {lv : List (Nat × AV)} {st : List AV} {σ : St} {Z : State → Prop} (X : Cx C cc own ret nL d) {x : Int32} (hd : decode cc pc = .ok (.i2l, 1)) (k : AW C (pc + 1) lv (.inr (.inl x.toInt64) :: st) σ Z) : AW C pc lv (.inl x :: st) σ Z := by
  obtain ⟨E, p, l, e, R, s, m, args, below, meth, c, nL', n0, z0⟩ := C
  obtain ⟨hx, hb, hr, hlk, hml, hnl, hown, hts, hal, hE, hR1, hR2, hR3, hR4, hR5⟩ := X
  exact fun H locs cells slots ls hR hq hc hs hl => lv_i2l hx hb hd rfl (k H locs cells slots ls hR hq hc hs hl)
theorem aw_l2i {C : CT} {cc : ByteArray} {own : String} {ret : Option FieldType} {nL d pc : Nat} {lv : List (Nat × AV)} {st : List AV} {σ : St} {Z : State → Prop} (X : Cx C cc own ret nL d) {x : Int64} (hd : decode cc pc = .ok (.l2i, 1)) (k : AW C (pc + 1) lv (.inl x.toInt32 :: st) σ Z) : AW C pc lv (.inr (.inl x) :: st) σ Z := by
  obtain ⟨E, p, l, e, R, s, m, args, below, meth, c, nL', n0, z0⟩ := C
  obtain ⟨hx, hb, hr, hlk, hml, hnl, hown, hts, hal, hE, hR1, hR2, hR3, hR4, hR5⟩ := X
  exact fun H locs cells slots ls hR hq hc hs hl => lv_l2i hx hb hd rfl (k H locs cells slots ls hR hq hc hs hl)
theorem aw_i2b {C : CT} {cc : ByteArray} {own : String} {ret : Option FieldType} {nL d pc : Nat} {lv : List (Nat × AV)} {st : List AV} {σ : St} {Z : State → Prop} (X : Cx C cc own ret nL d) {x : Int32} (hd : decode cc pc = .ok (.i2b, 1)) (k : AW C (pc + 1) lv (.inl x.toInt8.toInt32 :: st) σ Z) : AW C pc lv (.inl x :: st) σ Z := by
  obtain ⟨E, p, l, e, R, s, m, args, below, meth, c, nL', n0, z0⟩ := C
  obtain ⟨hx, hb, hr, hlk, hml, hnl, hown, hts, hal, hE, hR1, hR2, hR3, hR4, hR5⟩ := X
  exact fun H locs cells slots ls hR hq hc hs hl => lv_i2b hx hb hd rfl (k H locs cells slots ls hR hq hc hs hl)
theorem aw_iushr {C : CT} {cc : ByteArray} {own : String} {ret : Option FieldType} {nL d pc : Nat} {lv : List (Nat × AV)} {st : List AV} {σ : St} {Z : State → Prop} (X : Cx C cc own ret nL d) {x y : Int32} (hd : decode cc pc = .ok (.iushr, 1)) (k : AW C (pc + 1) lv (.inl (x.toUInt32 >>> (y.toUInt32 &&& Int32.toUInt32 31)).toInt32 :: st) σ Z) : AW C pc lv (.inl y :: .inl x :: st) σ Z := by
  obtain ⟨E, p, l, e, R, s, m, args, below, meth, c, nL', n0, z0⟩ := C
  obtain ⟨hx, hb, hr, hlk, hml, hnl, hown, hts, hal, hE, hR1, hR2, hR3, hR4, hR5⟩ := X
  exact fun H locs cells slots ls hR hq hc hs hl => lv_iushr hx hb hd rfl (k H locs cells slots ls hR hq hc hs hl)
theorem aw_lushr {C : CT} {cc : ByteArray} {own : String} {ret : Option FieldType} {nL d pc : Nat} {lv : List (Nat × AV)} {st : List AV} {σ : St} {Z : State → Prop} (X : Cx C cc own ret nL d) {x : Int64} {y : Int32} (hd : decode cc pc = .ok (.lushr, 1)) (k : AW C (pc + 1) lv (.inr (.inl (x.toUInt64 >>> (y.toInt64.toUInt64 &&& Int64.toUInt64 63)).toInt64) :: st) σ Z) : AW C pc lv (.inl y :: .inr (.inl x) :: st) σ Z := by
  obtain ⟨E, p, l, e, R, s, m, args, below, meth, c, nL', n0, z0⟩ := C
  obtain ⟨hx, hb, hr, hlk, hml, hnl, hown, hts, hal, hE, hR1, hR2, hR3, hR4, hR5⟩ := X
  exact fun H locs cells slots ls hR hq hc hs hl => lv_lushr hx hb hd rfl (k H locs cells slots ls hR hq hc hs hl)
theorem aw_lshl {C : CT} {cc : ByteArray} {own : String} {ret : Option FieldType} {nL d pc : Nat} {lv : List (Nat × AV)} {st : List AV} {σ : St} {Z : State → Prop} (X : Cx C cc own ret nL d) {x : Int64} {y : Int32} (hd : decode cc pc = .ok (.lshl, 1)) (k : AW C (pc + 1) lv (.inr (.inl (x <<< (y.toInt64 &&& 63))) :: st) σ Z) : AW C pc lv (.inl y :: .inr (.inl x) :: st) σ Z := by
  obtain ⟨E, p, l, e, R, s, m, args, below, meth, c, nL', n0, z0⟩ := C
  obtain ⟨hx, hb, hr, hlk, hml, hnl, hown, hts, hal, hE, hR1, hR2, hR3, hR4, hR5⟩ := X
  exact fun H locs cells slots ls hR hq hc hs hl => lv_lshl hx hb hd rfl (k H locs cells slots ls hR hq hc hs hl)
theorem aw_lcmp {C : CT} {cc : ByteArray} {own : String} {ret : Option FieldType} {nL d pc : Nat} {lv : List (Nat × AV)} {st : List AV} {σ : St} {Z : State → Prop} (X : Cx C cc own ret nL d) {x y : Int64} (hd : decode cc pc = .ok (.lcmp, 1)) (k : AW C (pc + 1) lv (.inl (lg_cmp x y) :: st) σ Z) : AW C pc lv (.inr (.inl y) :: .inr (.inl x) :: st) σ Z := by
  obtain ⟨E, p, l, e, R, s, m, args, below, meth, c, nL', n0, z0⟩ := C
  obtain ⟨hx, hb, hr, hlk, hml, hnl, hown, hts, hal, hE, hR1, hR2, hR3, hR4, hR5⟩ := X
  exact fun H locs cells slots ls hR hq hc hs hl => W.lcmp hx hb hd (k H locs cells slots ls hR hq hc hs hl)
theorem aw_dup {C : CT} {cc : ByteArray} {own : String} {ret : Option FieldType} {nL d pc : Nat} {lv : List (Nat × AV)} {st : List AV} {σ : St} {Z : State → Prop} (X : Cx C cc own ret nL d) {v : AV} (hd : decode cc pc = .ok (.dup, 1)) (hv : isL v = false) (k : AW C (pc + 1) lv (v :: v :: st) σ Z) : AW C pc lv (v :: st) σ Z := by
  obtain ⟨E, p, l, e, R, s, m, args, below, meth, c, nL', n0, z0⟩ := C
  obtain ⟨hx, hb, hr, hlk, hml, hnl, hown, hts, hal, hE, hR1, hR2, hR3, hR4, hR5⟩ := X
  exact fun H locs cells slots ls hR hq hc hs hl => lv_dup hx hb hd (cat1 E hv) (k H locs cells slots ls hR hq hc hs hl)
theorem aw_pop {C : CT} {cc : ByteArray} {own : String} {ret : Option FieldType} {nL d pc : Nat} {lv : List (Nat × AV)} {st : List AV} {σ : St} {Z : State → Prop} (X : Cx C cc own ret nL d) {v : AV} (hd : decode cc pc = .ok (.pop, 1)) (hv : isL v = false) (k : AW C (pc + 1) lv st σ Z) : AW C pc lv (v :: st) σ Z := by
  obtain ⟨E, p, l, e, R, s, m, args, below, meth, c, nL', n0, z0⟩ := C
  obtain ⟨hx, hb, hr, hlk, hml, hnl, hown, hts, hal, hE, hR1, hR2, hR3, hR4, hR5⟩ := X
  exact fun H locs cells slots ls hR hq hc hs hl => lv_pop hx hb hd (cat1 E hv) (k H locs cells slots ls hR hq hc hs hl)
theorem aw_dup2 {C : CT} {cc : ByteArray} {own : String} {ret : Option FieldType} {nL d pc : Nat} {lv : List (Nat × AV)} {st : List AV} {σ : St} {Z : State → Prop} (X : Cx C cc own ret nL d) {v w : AV} (hd : decode cc pc = .ok (.dup2, 1)) (hv : isL v = false) (hw : isL w = false) (k : AW C (pc + 1) lv (v :: w :: v :: w :: st) σ Z) : AW C pc lv (v :: w :: st) σ Z := by
  obtain ⟨E, p, l, e, R, s, m, args, below, meth, c, nL', n0, z0⟩ := C
  obtain ⟨hx, hb, hr, hlk, hml, hnl, hown, hts, hal, hE, hR1, hR2, hR3, hR4, hR5⟩ := X
  exact fun H locs cells slots ls hR hq hc hs hl => lv_dup2_11 hx hb hd (cat1 E hv) (cat1 E hw) (k H locs cells slots ls hR hq hc hs hl)
theorem aw_if_eq {C : CT} {cc : ByteArray} {own : String} {ret : Option FieldType} {nL d pc : Nat} {lv : List (Nat × AV)} {st : List AV} {σ : St} {Z : State → Prop} (X : Cx C cc own ret nL d) {x : Int32} {off : Int} (tgt : Nat) (hd : decode cc pc = .ok (.ifCond .eq off, 3)) (ht : (pc : Int) + off = (tgt : Int)) (kt : x = 0 → AW C tgt lv st σ Z) (kf : ¬ (x = 0) → AW C (pc + 3) lv st σ Z) : AW C pc lv (.inl x :: st) σ Z := by
  obtain ⟨E, p, l, e, R, s, m, args, below, meth, c, nL', n0, z0⟩ := C
  obtain ⟨hx, hb, hr, hlk, hml, hnl, hown, hts, hal, hE, hR1, hR2, hR3, hR4, hR5⟩ := X
  exact fun H locs cells slots ls hR hq hc hs hl => lv_if_eq hx hb hd ht (fun h => kt h H locs cells slots ls hR hq hc hs hl) (fun h => kf h H locs cells slots ls hR hq hc hs hl)
theorem aw_icmp_eq {C : CT} {cc : ByteArray} {own : String} {ret : Option FieldType} {nL d pc : Nat} {lv : List (Nat × AV)} {st : List AV} {σ : St} {Z : State → Prop} (X : Cx C cc own ret nL d) {x y : Int32} {off : Int} (tgt : Nat) (hd : decode cc pc = .ok (.if_icmp .eq off, 3)) (ht : (pc : Int) + off = (tgt : Int)) (kt : x = y → AW C tgt lv st σ Z) (kf : ¬ (x = y) → AW C (pc + 3) lv st σ Z) : AW C pc lv (.inl y :: .inl x :: st) σ Z := by
  obtain ⟨E, p, l, e, R, s, m, args, below, meth, c, nL', n0, z0⟩ := C
  obtain ⟨hx, hb, hr, hlk, hml, hnl, hown, hts, hal, hE, hR1, hR2, hR3, hR4, hR5⟩ := X
  exact fun H locs cells slots ls hR hq hc hs hl => lv_icmp_eq hx hb hd ht (fun h => kt h H locs cells slots ls hR hq hc hs hl) (fun h => kf h H locs cells slots ls hR hq hc hs hl)
theorem aw_if_ne {C : CT} {cc : ByteArray} {own : String} {ret : Option FieldType} {nL d pc : Nat} {lv : List (Nat × AV)} {st : List AV} {σ : St} {Z : State → Prop} (X : Cx C cc own ret nL d) {x : Int32} {off : Int} (tgt : Nat) (hd : decode cc pc = .ok (.ifCond .ne off, 3)) (ht : (pc : Int) + off = (tgt : Int)) (kt : ¬ x = 0 → AW C tgt lv st σ Z) (kf : x = 0 → AW C (pc + 3) lv st σ Z) : AW C pc lv (.inl x :: st) σ Z := by
  obtain ⟨E, p, l, e, R, s, m, args, below, meth, c, nL', n0, z0⟩ := C
  obtain ⟨hx, hb, hr, hlk, hml, hnl, hown, hts, hal, hE, hR1, hR2, hR3, hR4, hR5⟩ := X
  exact fun H locs cells slots ls hR hq hc hs hl => lv_if_ne hx hb hd ht (fun h => kt h H locs cells slots ls hR hq hc hs hl) (fun h => kf h H locs cells slots ls hR hq hc hs hl)
theorem aw_icmp_ne {C : CT} {cc : ByteArray} {own : String} {ret : Option FieldType} {nL d pc : Nat} {lv : List (Nat × AV)} {st : List AV} {σ : St} {Z : State → Prop} (X : Cx C cc own ret nL d) {x y : Int32} {off : Int} (tgt : Nat) (hd : decode cc pc = .ok (.if_icmp .ne off, 3)) (ht : (pc : Int) + off = (tgt : Int)) (kt : ¬ x = y → AW C tgt lv st σ Z) (kf : x = y → AW C (pc + 3) lv st σ Z) : AW C pc lv (.inl y :: .inl x :: st) σ Z := by
  obtain ⟨E, p, l, e, R, s, m, args, below, meth, c, nL', n0, z0⟩ := C
  obtain ⟨hx, hb, hr, hlk, hml, hnl, hown, hts, hal, hE, hR1, hR2, hR3, hR4, hR5⟩ := X
  exact fun H locs cells slots ls hR hq hc hs hl => lv_icmp_ne hx hb hd ht (fun h => kt h H locs cells slots ls hR hq hc hs hl) (fun h => kf h H locs cells slots ls hR hq hc hs hl)
theorem aw_if_lt {C : CT} {cc : ByteArray} {own : String} {ret : Option FieldType} {nL d pc : Nat} {lv : List (Nat × AV)} {st : List AV} {σ : St} {Z : State → Prop} (X : Cx C cc own ret nL d) {x : Int32} {off : Int} (tgt : Nat) (hd : decode cc pc = .ok (.ifCond .lt off, 3)) (ht : (pc : Int) + off = (tgt : Int)) (kt : x < 0 → AW C tgt lv st σ Z) (kf : ¬ (x < 0) → AW C (pc + 3) lv st σ Z) : AW C pc lv (.inl x :: st) σ Z := by
  obtain ⟨E, p, l, e, R, s, m, args, below, meth, c, nL', n0, z0⟩ := C
  obtain ⟨hx, hb, hr, hlk, hml, hnl, hown, hts, hal, hE, hR1, hR2, hR3, hR4, hR5⟩ := X
  exact fun H locs cells slots ls hR hq hc hs hl => lv_if_lt hx hb hd ht (fun h => kt h H locs cells slots ls hR hq hc hs hl) (fun h => kf h H locs cells slots ls hR hq hc hs hl)
theorem aw_icmp_lt {C : CT} {cc : ByteArray} {own : String} {ret : Option FieldType} {nL d pc : Nat} {lv : List (Nat × AV)} {st : List AV} {σ : St} {Z : State → Prop} (X : Cx C cc own ret nL d) {x y : Int32} {off : Int} (tgt : Nat) (hd : decode cc pc = .ok (.if_icmp .lt off, 3)) (ht : (pc : Int) + off = (tgt : Int)) (kt : x < y → AW C tgt lv st σ Z) (kf : ¬ (x < y) → AW C (pc + 3) lv st σ Z) : AW C pc lv (.inl y :: .inl x :: st) σ Z := by
  obtain ⟨E, p, l, e, R, s, m, args, below, meth, c, nL', n0, z0⟩ := C
  obtain ⟨hx, hb, hr, hlk, hml, hnl, hown, hts, hal, hE, hR1, hR2, hR3, hR4, hR5⟩ := X
  exact fun H locs cells slots ls hR hq hc hs hl => lv_icmp_lt hx hb hd ht (fun h => kt h H locs cells slots ls hR hq hc hs hl) (fun h => kf h H locs cells slots ls hR hq hc hs hl)
theorem aw_if_ge {C : CT} {cc : ByteArray} {own : String} {ret : Option FieldType} {nL d pc : Nat} {lv : List (Nat × AV)} {st : List AV} {σ : St} {Z : State → Prop} (X : Cx C cc own ret nL d) {x : Int32} {off : Int} (tgt : Nat) (hd : decode cc pc = .ok (.ifCond .ge off, 3)) (ht : (pc : Int) + off = (tgt : Int)) (kt : 0 ≤ x → AW C tgt lv st σ Z) (kf : ¬ (0 ≤ x) → AW C (pc + 3) lv st σ Z) : AW C pc lv (.inl x :: st) σ Z := by
  obtain ⟨E, p, l, e, R, s, m, args, below, meth, c, nL', n0, z0⟩ := C
  obtain ⟨hx, hb, hr, hlk, hml, hnl, hown, hts, hal, hE, hR1, hR2, hR3, hR4, hR5⟩ := X
  exact fun H locs cells slots ls hR hq hc hs hl => lv_if_ge hx hb hd ht (fun h => kt h H locs cells slots ls hR hq hc hs hl) (fun h => kf h H locs cells slots ls hR hq hc hs hl)
theorem aw_icmp_ge {C : CT} {cc : ByteArray} {own : String} {ret : Option FieldType} {nL d pc : Nat} {lv : List (Nat × AV)} {st : List AV} {σ : St} {Z : State → Prop} (X : Cx C cc own ret nL d) {x y : Int32} {off : Int} (tgt : Nat) (hd : decode cc pc = .ok (.if_icmp .ge off, 3)) (ht : (pc : Int) + off = (tgt : Int)) (kt : y ≤ x → AW C tgt lv st σ Z) (kf : ¬ (y ≤ x) → AW C (pc + 3) lv st σ Z) : AW C pc lv (.inl y :: .inl x :: st) σ Z := by
  obtain ⟨E, p, l, e, R, s, m, args, below, meth, c, nL', n0, z0⟩ := C
  obtain ⟨hx, hb, hr, hlk, hml, hnl, hown, hts, hal, hE, hR1, hR2, hR3, hR4, hR5⟩ := X
  exact fun H locs cells slots ls hR hq hc hs hl => lv_icmp_ge hx hb hd ht (fun h => kt h H locs cells slots ls hR hq hc hs hl) (fun h => kf h H locs cells slots ls hR hq hc hs hl)
theorem aw_if_gt {C : CT} {cc : ByteArray} {own : String} {ret : Option FieldType} {nL d pc : Nat} {lv : List (Nat × AV)} {st : List AV} {σ : St} {Z : State → Prop} (X : Cx C cc own ret nL d) {x : Int32} {off : Int} (tgt : Nat) (hd : decode cc pc = .ok (.ifCond .gt off, 3)) (ht : (pc : Int) + off = (tgt : Int)) (kt : 0 < x → AW C tgt lv st σ Z) (kf : ¬ (0 < x) → AW C (pc + 3) lv st σ Z) : AW C pc lv (.inl x :: st) σ Z := by
  obtain ⟨E, p, l, e, R, s, m, args, below, meth, c, nL', n0, z0⟩ := C
  obtain ⟨hx, hb, hr, hlk, hml, hnl, hown, hts, hal, hE, hR1, hR2, hR3, hR4, hR5⟩ := X
  exact fun H locs cells slots ls hR hq hc hs hl => lv_if_gt hx hb hd ht (fun h => kt h H locs cells slots ls hR hq hc hs hl) (fun h => kf h H locs cells slots ls hR hq hc hs hl)
theorem aw_icmp_gt {C : CT} {cc : ByteArray} {own : String} {ret : Option FieldType} {nL d pc : Nat} {lv : List (Nat × AV)} {st : List AV} {σ : St} {Z : State → Prop} (X : Cx C cc own ret nL d) {x y : Int32} {off : Int} (tgt : Nat) (hd : decode cc pc = .ok (.if_icmp .gt off, 3)) (ht : (pc : Int) + off = (tgt : Int)) (kt : y < x → AW C tgt lv st σ Z) (kf : ¬ (y < x) → AW C (pc + 3) lv st σ Z) : AW C pc lv (.inl y :: .inl x :: st) σ Z := by
  obtain ⟨E, p, l, e, R, s, m, args, below, meth, c, nL', n0, z0⟩ := C
  obtain ⟨hx, hb, hr, hlk, hml, hnl, hown, hts, hal, hE, hR1, hR2, hR3, hR4, hR5⟩ := X
  exact fun H locs cells slots ls hR hq hc hs hl => lv_icmp_gt hx hb hd ht (fun h => kt h H locs cells slots ls hR hq hc hs hl) (fun h => kf h H locs cells slots ls hR hq hc hs hl)
theorem aw_if_le {C : CT} {cc : ByteArray} {own : String} {ret : Option FieldType} {nL d pc : Nat} {lv : List (Nat × AV)} {st : List AV} {σ : St} {Z : State → Prop} (X : Cx C cc own ret nL d) {x : Int32} {off : Int} (tgt : Nat) (hd : decode cc pc = .ok (.ifCond .le off, 3)) (ht : (pc : Int) + off = (tgt : Int)) (kt : x ≤ 0 → AW C tgt lv st σ Z) (kf : ¬ (x ≤ 0) → AW C (pc + 3) lv st σ Z) : AW C pc lv (.inl x :: st) σ Z := by
  obtain ⟨E, p, l, e, R, s, m, args, below, meth, c, nL', n0, z0⟩ := C
  obtain ⟨hx, hb, hr, hlk, hml, hnl, hown, hts, hal, hE, hR1, hR2, hR3, hR4, hR5⟩ := X
  exact fun H locs cells slots ls hR hq hc hs hl => lv_if_le hx hb hd ht (fun h => kt h H locs cells slots ls hR hq hc hs hl) (fun h => kf h H locs cells slots ls hR hq hc hs hl)
theorem aw_icmp_le {C : CT} {cc : ByteArray} {own : String} {ret : Option FieldType} {nL d pc : Nat} {lv : List (Nat × AV)} {st : List AV} {σ : St} {Z : State → Prop} (X : Cx C cc own ret nL d) {x y : Int32} {off : Int} (tgt : Nat) (hd : decode cc pc = .ok (.if_icmp .le off, 3)) (ht : (pc : Int) + off = (tgt : Int)) (kt : x ≤ y → AW C tgt lv st σ Z) (kf : ¬ (x ≤ y) → AW C (pc + 3) lv st σ Z) : AW C pc lv (.inl y :: .inl x :: st) σ Z := by
  obtain ⟨E, p, l, e, R, s, m, args, below, meth, c, nL', n0, z0⟩ := C
  obtain ⟨hx, hb, hr, hlk, hml, hnl, hown, hts, hal, hE, hR1, hR2, hR3, hR4, hR5⟩ := X
  exact fun H locs cells slots ls hR hq hc hs hl => lv_icmp_le hx hb hd ht (fun h => kt h H locs cells slots ls hR hq hc hs hl) (fun h => kf h H locs cells slots ls hR hq hc hs hl)
theorem lgc_eq (x y : Int64) : lg_cmp x y = 0 ↔ x = y := by
  unfold lg_cmp
  split
  · rename_i h
    constructor
    · intro q; exact absurd q (by decide)
    · intro q; subst q; exact absurd h (by simp)
  · split
    · simp_all
    · rename_i h1 h2
      constructor
      · intro q; exact absurd q (by decide)
      · intro q; exact absurd q h2
theorem lgc_lt (x y : Int64) : lg_cmp x y < 0 ↔ x < y := by
  unfold lg_cmp
  split
  · rename_i h
    constructor
    · intro q; exact absurd q (by decide)
    · intro q; exact absurd (Int64.lt_trans h q) (by simp)
  · split
    · rename_i h1 h2
      subst h2
      simp
    · rename_i h1 h2
      constructor
      · intro _
        have h1 : ¬ y < x := h1
        rw [Int64.lt_iff_toInt_lt] at h1 ⊢
        have : x.toInt ≠ y.toInt := fun q => h2 (Int64.toInt_inj.mp q)
        omega
      · intro _; decide
theorem lgc_gt (x y : Int64) : 0 < lg_cmp x y ↔ y < x := by
  unfold lg_cmp
  split
  · rename_i h
    exact ⟨fun _ => h, fun _ => by decide⟩
  · rename_i h
    split
    · exact ⟨fun q => absurd q (by decide), fun q => absurd q h⟩
    · exact ⟨fun q => absurd q (by decide), fun q => absurd q h⟩
theorem i32_le_not {x y : Int32} : x ≤ y ↔ ¬ y < x := by
  rw [Int32.le_iff_toInt_le, Int32.lt_iff_toInt_lt]; omega
theorem i64_le_not {x y : Int64} : x ≤ y ↔ ¬ y < x := by
  rw [Int64.le_iff_toInt_le, Int64.lt_iff_toInt_lt]; omega
theorem lgc_le (x y : Int64) : lg_cmp x y ≤ 0 ↔ x ≤ y := by rw [i32_le_not, i64_le_not, lgc_gt]
theorem lgc_ge (x y : Int64) : 0 ≤ lg_cmp x y ↔ y ≤ x := by rw [i32_le_not, i64_le_not, lgc_lt]
theorem aw_lcmp_eq {C : CT} {cc : ByteArray} {own : String} {ret : Option FieldType} {nL d pc : Nat} {lv : List (Nat × AV)} {st : List AV} {σ : St} {Z : State → Prop} (X : Cx C cc own ret nL d) {x y : Int64} {off : Int} (tgt : Nat) (hd : decode cc pc = .ok (.lcmp, 1)) (hd2 : decode cc (pc + 1) = .ok (.ifCond .eq off, 3)) (ht : ((pc + 1 : Nat) : Int) + off = (tgt : Int)) (kt : x = y → AW C tgt lv st σ Z) (kf : ¬ (x = y) → AW C (pc + 1 + 3) lv st σ Z) : AW C pc lv (.inr (.inl y) :: .inr (.inl x) :: st) σ Z := by
  exact aw_lcmp X hd (aw_if_eq X tgt hd2 ht (fun h => kt ((lgc_eq x y).mp h)) (fun h => kf (fun q => h ((lgc_eq x y).mpr q))))
theorem aw_lcmp_ne {C : CT} {cc : ByteArray} {own : String} {ret : Option FieldType} {nL d pc : Nat} {lv : List (Nat × AV)} {st : List AV} {σ : St} {Z : State → Prop} (X : Cx C cc own ret nL d) {x y : Int64} {off : Int} (tgt : Nat) (hd : decode cc pc = .ok (.lcmp, 1)) (hd2 : decode cc (pc + 1) = .ok (.ifCond .ne off, 3)) (ht : ((pc + 1 : Nat) : Int) + off = (tgt : Int)) (kt : ¬ x = y → AW C tgt lv st σ Z) (kf : x = y → AW C (pc + 1 + 3) lv st σ Z) : AW C pc lv (.inr (.inl y) :: .inr (.inl x) :: st) σ Z := by
  exact aw_lcmp X hd (aw_if_ne X tgt hd2 ht (fun h => kt (fun q => h ((lgc_eq x y).mpr q))) (fun h => kf ((lgc_eq x y).mp h)))
theorem aw_lcmp_lt {C : CT} {cc : ByteArray} {own : String} {ret : Option FieldType} {nL d pc : Nat} {lv : List (Nat × AV)} {st : List AV} {σ : St} {Z : State → Prop} (X : Cx C cc own ret nL d) {x y : Int64} {off : Int} (tgt : Nat) (hd : decode cc pc = .ok (.lcmp, 1)) (hd2 : decode cc (pc + 1) = .ok (.ifCond .lt off, 3)) (ht : ((pc + 1 : Nat) : Int) + off = (tgt : Int)) (kt : x < y → AW C tgt lv st σ Z) (kf : ¬ (x < y) → AW C (pc + 1 + 3) lv st σ Z) : AW C pc lv (.inr (.inl y) :: .inr (.inl x) :: st) σ Z := by
  exact aw_lcmp X hd (aw_if_lt X tgt hd2 ht (fun h => kt ((lgc_lt x y).mp h)) (fun h => kf (fun q => h ((lgc_lt x y).mpr q))))
theorem aw_lcmp_ge {C : CT} {cc : ByteArray} {own : String} {ret : Option FieldType} {nL d pc : Nat} {lv : List (Nat × AV)} {st : List AV} {σ : St} {Z : State → Prop} (X : Cx C cc own ret nL d) {x y : Int64} {off : Int} (tgt : Nat) (hd : decode cc pc = .ok (.lcmp, 1)) (hd2 : decode cc (pc + 1) = .ok (.ifCond .ge off, 3)) (ht : ((pc + 1 : Nat) : Int) + off = (tgt : Int)) (kt : y ≤ x → AW C tgt lv st σ Z) (kf : ¬ (y ≤ x) → AW C (pc + 1 + 3) lv st σ Z) : AW C pc lv (.inr (.inl y) :: .inr (.inl x) :: st) σ Z := by
  exact aw_lcmp X hd (aw_if_ge X tgt hd2 ht (fun h => kt ((lgc_ge x y).mp h)) (fun h => kf (fun q => h ((lgc_ge x y).mpr q))))
theorem aw_lcmp_gt {C : CT} {cc : ByteArray} {own : String} {ret : Option FieldType} {nL d pc : Nat} {lv : List (Nat × AV)} {st : List AV} {σ : St} {Z : State → Prop} (X : Cx C cc own ret nL d) {x y : Int64} {off : Int} (tgt : Nat) (hd : decode cc pc = .ok (.lcmp, 1)) (hd2 : decode cc (pc + 1) = .ok (.ifCond .gt off, 3)) (ht : ((pc + 1 : Nat) : Int) + off = (tgt : Int)) (kt : y < x → AW C tgt lv st σ Z) (kf : ¬ (y < x) → AW C (pc + 1 + 3) lv st σ Z) : AW C pc lv (.inr (.inl y) :: .inr (.inl x) :: st) σ Z := by
  exact aw_lcmp X hd (aw_if_gt X tgt hd2 ht (fun h => kt ((lgc_gt x y).mp h)) (fun h => kf (fun q => h ((lgc_gt x y).mpr q))))
theorem aw_lcmp_le {C : CT} {cc : ByteArray} {own : String} {ret : Option FieldType} {nL d pc : Nat} {lv : List (Nat × AV)} {st : List AV} {σ : St} {Z : State → Prop} (X : Cx C cc own ret nL d) {x y : Int64} {off : Int} (tgt : Nat) (hd : decode cc pc = .ok (.lcmp, 1)) (hd2 : decode cc (pc + 1) = .ok (.ifCond .le off, 3)) (ht : ((pc + 1 : Nat) : Int) + off = (tgt : Int)) (kt : x ≤ y → AW C tgt lv st σ Z) (kf : ¬ (x ≤ y) → AW C (pc + 1 + 3) lv st σ Z) : AW C pc lv (.inr (.inl y) :: .inr (.inl x) :: st) σ Z := by
  exact aw_lcmp X hd (aw_if_le X tgt hd2 ht (fun h => kt ((lgc_le x y).mp h)) (fun h => kf (fun q => h ((lgc_le x y).mpr q))))
theorem aw_goto {C : CT} {cc : ByteArray} {own : String} {ret : Option FieldType} {nL d pc : Nat} {lv : List (Nat × AV)} {st : List AV} {σ : St} {Z : State → Prop} (X : Cx C cc own ret nL d) {off : Int} (tgt : Nat) (hd : decode cc pc = .ok (.goto off, 3)) (ht : (pc : Int) + off = (tgt : Int)) (k : AW C tgt lv st σ Z) : AW C pc lv st σ Z := by
  obtain ⟨E, p, l, e, R, s, m, args, below, meth, c, nL', n0, z0⟩ := C
  obtain ⟨hx, hb, hr, hlk, hml, hnl, hown, hts, hal, hE, hR1, hR2, hR3, hR4, hR5⟩ := X
  exact fun H locs cells slots ls hR hq hc hs hl => lv_goto hx hb hd ht (k H locs cells slots ls hR hq hc hs hl)
theorem aw_ifnull {C : CT} {cc : ByteArray} {own : String} {ret : Option FieldType} {nL d pc : Nat} {lv : List (Nat × AV)} {st : List AV} {σ : St} {Z : State → Prop} (X : Cx C cc own ret nL d) {r : Option Nat} {off : Int} (tgt : Nat) (hd : decode cc pc = .ok (.ifnull off, 3)) (ht : (pc : Int) + off = (tgt : Int)) (kt : r = none → AW C tgt lv st σ Z) (kf : ¬ r = none → AW C (pc + 3) lv st σ Z) : AW C pc lv (.inr (.inr r) :: st) σ Z := by
  obtain ⟨E, p, l, e, R, s, m, args, below, meth, c, nL', n0, z0⟩ := C
  obtain ⟨hx, hb, hr, hlk, hml, hnl, hown, hts, hal, hE, hR1, hR2, hR3, hR4, hR5⟩ := X
  cases r with
  | none => exact fun H locs cells slots ls hR hq hc hs hl => lv_ifnullN hx hb hd ht (kt rfl H locs cells slots ls hR hq hc hs hl)
  | some o => exact fun H locs cells slots ls hR hq hc hs hl => lv_ifnull hx hb hd (kf (by simp) H locs cells slots ls hR hq hc hs hl)
theorem aw_ifnonnull {C : CT} {cc : ByteArray} {own : String} {ret : Option FieldType} {nL d pc : Nat} {lv : List (Nat × AV)} {st : List AV} {σ : St} {Z : State → Prop} (X : Cx C cc own ret nL d) {r : Option Nat} {off : Int} (tgt : Nat) (hd : decode cc pc = .ok (.ifnonnull off, 3)) (ht : (pc : Int) + off = (tgt : Int)) (kt : ¬ r = none → AW C tgt lv st σ Z) (kf : r = none → AW C (pc + 3) lv st σ Z) : AW C pc lv (.inr (.inr r) :: st) σ Z := by
  obtain ⟨E, p, l, e, R, s, m, args, below, meth, c, nL', n0, z0⟩ := C
  obtain ⟨hx, hb, hr, hlk, hml, hnl, hown, hts, hal, hE, hR1, hR2, hR3, hR4, hR5⟩ := X
  cases r with
  | none => exact fun H locs cells slots ls hR hq hc hs hl => lv_ifnonnullN hx hb hd (kf rfl H locs cells slots ls hR hq hc hs hl)
  | some o => exact fun H locs cells slots ls hR hq hc hs hl => lv_ifnonnull hx hb hd ht (kt (by simp) H locs cells slots ls hR hq hc hs hl)
theorem aw_tabOut {C : CT} {cc : ByteArray} {own : String} {ret : Option FieldType} {nL d pc : Nat} {lv : List (Nat × AV)} {st : List AV} {σ : St} {Z : State → Prop} (X : Cx C cc own ret nL d) {dflt lo hi : Int} {offs : Array Int} {len : Nat} {x : Int32} (tgt : Nat) (hd : decode cc pc = .ok (.tableswitch dflt lo hi offs, len)) (h : x.toInt < lo ∨ hi < x.toInt) (ht : (pc : Int) + dflt = (tgt : Int)) (k : AW C tgt lv st σ Z) : AW C pc lv (.inl x :: st) σ Z := by
  obtain ⟨E, p, l, e, R, s, m, args, below, meth, c, nL', n0, z0⟩ := C
  obtain ⟨hx, hb, hr, hlk, hml, hnl, hown, hts, hal, hE, hR1, hR2, hR3, hR4, hR5⟩ := X
  exact fun H locs cells slots ls hR hq hc hs hl => lv_tableOut hx hb hd h ht (k H locs cells slots ls hR hq hc hs hl)
theorem aw_tabIn {C : CT} {cc : ByteArray} {own : String} {ret : Option FieldType} {nL d pc : Nat} {lv : List (Nat × AV)} {st : List AV} {σ : St} {Z : State → Prop} (X : Cx C cc own ret nL d) {dflt lo hi : Int} {offs : Array Int} {len : Nat} {x : Int32} {off : Int} (tgt : Nat) (hd : decode cc pc = .ok (.tableswitch dflt lo hi offs, len)) (h1 : ¬ x.toInt < lo) (h2 : ¬ hi < x.toInt) (ho : offs[(x.toInt - lo).toNat]? = some off) (ht : (pc : Int) + off = (tgt : Int)) (k : AW C tgt lv st σ Z) : AW C pc lv (.inl x :: st) σ Z := by
  obtain ⟨E, p, l, e, R, s, m, args, below, meth, c, nL', n0, z0⟩ := C
  obtain ⟨hx, hb, hr, hlk, hml, hnl, hown, hts, hal, hE, hR1, hR2, hR3, hR4, hR5⟩ := X
  exact fun H locs cells slots ls hR hq hc hs hl => lv_tableIn hx hb hd h1 h2 ho ht (k H locs cells slots ls hR hq hc hs hl)
theorem aw_iret {C : CT} {cc : ByteArray} {own : String} {nL d pc : Nat} {lv : List (Nat × AV)} {σ : St} {v : Int32} (X : Cx C cc own (some .int) nL d)  (hd : decode cc pc = .ok (.ireturn, 1)) : AW C pc lv [.inl v] σ (AQ C (some (.inl v)) σ) := by
  obtain ⟨E, p, l, e, R, s, m, args, below, meth, c, nL', n0, z0⟩ := C
  obtain ⟨hx, hb, hr, hlk, hml, hnl, hown, hts, hal, hE, hR1, hR2, hR3, hR4, hR5⟩ := X
  exact fun H locs cells slots ls hR hq hc hs hl => W.imp (fun t h => by obtain ⟨o, h1, h2, h3, L, h4, h5⟩ := h; exact ⟨o, h1, h2, h3, L, cells, slots, h4, hc, hs, h5⟩) (W.iret (Qc := fun _ _ o t => o = .returned (Option.map (cv E) ((some (.inl v)))) ∧ Rep E σ t.heap) (free := fun q => b0 E ≤ q) hx hb hr (fun t ht hW => ⟨rfl, by rw [ht]; exact hR⟩) hq hd hlk)
theorem aw_zret {C : CT} {cc : ByteArray} {own : String} {nL d pc : Nat} {lv : List (Nat × AV)} {σ : St} {v : Int32} (X : Cx C cc own (some .boolean) nL d) (hv : v = 0 ∨ v = 1) (hd : decode cc pc = .ok (.ireturn, 1)) : AW C pc lv [.inl v] σ (AQ C (some (.inl v)) σ) := by
  obtain ⟨E, p, l, e, R, s, m, args, below, meth, c, nL', n0, z0⟩ := C
  obtain ⟨hx, hb, hr, hlk, hml, hnl, hown, hts, hal, hE, hR1, hR2, hR3, hR4, hR5⟩ := X
  exact fun H locs cells slots ls hR hq hc hs hl => W.imp (fun t h => by obtain ⟨o, h1, h2, h3, L, h4, h5⟩ := h; exact ⟨o, h1, h2, h3, L, cells, slots, h4, hc, hs, h5⟩) (W.zret (Qc := fun _ _ o t => o = .returned (Option.map (cv E) ((some (.inl v)))) ∧ Rep E σ t.heap) (free := fun q => b0 E ≤ q) hx hb hr (by rcases hv with rfl | rfl <;> decide) (fun t ht hW => ⟨rfl, by rw [ht]; exact hR⟩) hq hd hlk)
theorem aw_lret {C : CT} {cc : ByteArray} {own : String} {nL d pc : Nat} {lv : List (Nat × AV)} {σ : St} {v : Int64} (X : Cx C cc own (some .long) nL d)  (hd : decode cc pc = .ok (.lreturn, 1)) : AW C pc lv [.inr (.inl v)] σ (AQ C (some (.inr (.inl v))) σ) := by
  obtain ⟨E, p, l, e, R, s, m, args, below, meth, c, nL', n0, z0⟩ := C
  obtain ⟨hx, hb, hr, hlk, hml, hnl, hown, hts, hal, hE, hR1, hR2, hR3, hR4, hR5⟩ := X
  exact fun H locs cells slots ls hR hq hc hs hl => W.imp (fun t h => by obtain ⟨o, h1, h2, h3, L, h4, h5⟩ := h; exact ⟨o, h1, h2, h3, L, cells, slots, h4, hc, hs, h5⟩) (W.lret (Qc := fun _ _ o t => o = .returned (Option.map (cv E) ((some (.inr (.inl v))))) ∧ Rep E σ t.heap) (free := fun q => b0 E ≤ q) hx hb hr (fun t ht hW => ⟨rfl, by rw [ht]; exact hR⟩) hq hd hlk)
theorem aw_vret {C : CT} {cc : ByteArray} {own : String} {nL d pc : Nat} {lv : List (Nat × AV)} {σ : St}  (X : Cx C cc own none nL d)  (hd : decode cc pc = .ok (.return_, 1)) : AW C pc lv [] σ (AQ C none σ) := by
  obtain ⟨E, p, l, e, R, s, m, args, below, meth, c, nL', n0, z0⟩ := C
  obtain ⟨hx, hb, hr, hlk, hml, hnl, hown, hts, hal, hE, hR1, hR2, hR3, hR4, hR5⟩ := X
  exact fun H locs cells slots ls hR hq hc hs hl => W.imp (fun t h => by obtain ⟨o, h1, h2, h3, L, h4, h5⟩ := h; exact ⟨o, h1, h2, h3, L, cells, slots, h4, hc, hs, h5⟩) (W.vret (Qc := fun _ _ o t => o = .returned (Option.map (cv E) (none)) ∧ Rep E σ t.heap) (free := fun q => b0 E ≤ q) hx hb hr (fun t ht hW => ⟨rfl, by rw [ht]; exact hR⟩) hq hd hlk)
theorem aw_aret {C : CT} {cc : ByteArray} {own : String} {nL d pc : Nat} {lv : List (Nat × AV)} {σ : St} {r : Option Nat} {ft : FieldType} (X : Cx C cc own (some (.array ft)) nL d)  (hd : decode cc pc = .ok (.areturn, 1)) : AW C pc lv [.inr (.inr r)] σ (AQ C (some (.inr (.inr r))) σ) := by
  obtain ⟨E, p, l, e, R, s, m, args, below, meth, c, nL', n0, z0⟩ := C
  obtain ⟨hx, hb, hr, hlk, hml, hnl, hown, hts, hal, hE, hR1, hR2, hR3, hR4, hR5⟩ := X
  exact fun H locs cells slots ls hR hq hc hs hl => W.imp (fun t h => by obtain ⟨o, h1, h2, h3, L, h4, h5⟩ := h; exact ⟨o, h1, h2, h3, L, cells, slots, h4, hc, hs, h5⟩) (W.aret (Qc := fun _ _ o t => o = .returned (Option.map (cv E) ((some (.inr (.inr r))))) ∧ Rep E σ t.heap) (free := fun q => b0 E ≤ q) hx hb hr (Or.inr ⟨_, rfl⟩) (by cases r; exact Or.inl rfl; exact Or.inr ⟨_, rfl⟩) (fun t ht hW => ⟨rfl, by rw [ht]; exact hR⟩) hq hd hlk)
/-- a loop of the pure machine is walked -/
theorem aw_it {S E : Type} {b : S → Option (S ⊕ E)} (fr : S → Prop) (ex : E → Prop)
    (hb : ∀ s r, b s = some r → (∀ s', r = .inl s' → fr s') → (∀ x, r = .inr x → ex x) → fr s) : ∀ (n : Nat) (s : S) (x : E), it b n s = some x → ex x → fr s := by
  intro n
  induction n with
  | zero => intro s x h; simp [it] at h
  | succ n ih =>
    intro s x h hx
    unfold it at h
    cases hbs : b s with
    | none => rw [hbs] at h; simp at h
    | some r =>
      rw [hbs] at h
      cases r with
      | inl s' => exact hb s _ hbs (fun s2 e2 => by cases e2; exact ih s' x h hx) (fun x2 e2 => by cases e2)
      | inr y => exact hb s _ hbs (fun s2 e2 => by cases e2) (fun x2 e2 => by cases e2; cases h; exact hx)
end
