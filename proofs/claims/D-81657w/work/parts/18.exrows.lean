/-! rows of the walk that throw, and are caught -/
def lf : List Bool → Cond → Cond
  | [], c => c
  | b :: t, .and x y => lf t (if b then y else x)
  | _ :: _, c => c
theorem lf_before {A : Array Value} {s : State} : ∀ (p : List Bool) {c : Cond}, c.before A s = true → (lf p c).before A s = true := by
  intro p
  induction p with
  | nil => intro c h; exact h
  | cons b t ih =>
    intro c h
    cases c with
    | and x y =>
      have h2 : x.before A s = true ∧ y.before A s = true := by
        revert h
        simp only [Cond.before, Cond.holds, Cond.value]
        generalize Cond.value A s none s [] x = vx
        generalize Cond.value A s none s [] y = vy
        rcases vx with _ | _ | _ <;> simp
      show (lf t (if b then y else x)).before A s = true
      cases b
      · exact ih h2.1
      · exact ih h2.2
    | _ => exact h
def noc : List (String × String × List Bool) := [("java/lang/ArrayIndexOutOfBoundsException", "java/lang/NullPointerException", [true, false, false, true, false, false, false, false]), ("java/lang/ArithmeticException", "java/lang/NullPointerException", [true, false, false, true, false, false, false, true]), ("WithinWords$Word", "WithinWords$Told", [true, true, false, false, false, false, true, false]), ("WithinWords$Made", "WithinWords$Told", [true, true, false, false, false, false, true, true]), ("WithinWords$Turned", "WithinWords$Told", [true, true, false, false, false, true, false, false]), ("WithinWords$Dropped", "WithinWords$Told", [true, true, false, false, false, true, false, true]), ("WithinWords$Word", "WithinWords$Made", [true, true, false, false, true, true, false, false]), ("WithinWords$Told", "WithinWords$Made", [true, true, false, false, true, true, false, true]), ("WithinWords$Word", "WithinWords$Turned", [true, true, false, true, false, true, false, false]), ("WithinWords$Told", "WithinWords$Turned", [true, true, false, true, false, true, false, true]), ("WithinWords$Made", "WithinWords$Turned", [true, true, false, true, false, true, true, false]), ("WithinWords$Dropped", "WithinWords$Turned", [true, true, false, true, false, true, true, true, false]), ("WithinWords$Word", "WithinWords$Dropped", [true, true, false, true, true, true, false, true]), ("WithinWords$Told", "WithinWords$Dropped", [true, true, false, true, true, true, true, false]), ("WithinWords$Made", "WithinWords$Dropped", [true, true, false, true, true, true, true, true, false]), ("WithinWords$Turned", "WithinWords$Dropped", [true, true, false, true, true, true, true, true, true])]
theorem noc_ok : ∀ q ∈ noc, lf q.2.2 (Cond.and given_1 narrow_1) = .not (.castable q.1 q.2.1) := by decide +kernel
theorem nocast_mem {C D : String} (h : (C, D) ∈ nocast) : ∃ p, (C, D, p) ∈ noc := by
  have : ∀ q ∈ nocast, ∃ z ∈ noc, z.1 = q.1 ∧ z.2.1 = q.2 := by decide +kernel
  obtain ⟨⟨a, b, p⟩, h1, h2, h3⟩ := this _ h
  cases h2
  cases h3
  exact ⟨p, h1⟩
theorem stat_at {E : AE} {s : State} {args b : Array Value} {C n d : String} (hal : E.1.vm.Alike s.vm) (hh : ∀ q, q < b0 E → s.heap[q]? = E.1.heap[q]?) (h : (Cond.laysStatic C n d).before b E.1 = true) :
    (Cond.laysStatic C n d).before args s = true ∧ (∀ b', (Cond.isRef (.static C n d)).before b' E.1 = true → (Cond.isRef (.static C n d)).before args s = true) ∧ ∀ cT kT aS, s.vm.findClass C = some cT → s.vm.classes[cT]? = some kT → kT.statics = some aS → aS < b0 E := by
  obtain ⟨c, k, i, f, a, cell, hc, hf, hst, hsta, hcell, hiss, hcls, hlt, hty⟩ := Cond.laysStatic_spec h
  obtain ⟨k', hf', hk'⟩ := State.fieldFound?_setVm hal hf
  have hf2 : s.fieldFound? C n d = some (c, k', i, f) := hf'
  have hc2 : s.vm.findClass C = some c := by rw [hal.findClass]; exact hc
  have hs2 : k'.statics = some a := by rw [hk']; exact hsta
  have ht2 : k'.staticTypes[f.slot]? = some f.type := by rw [hk']; exact hty
  have hlt0 : a < b0 E := (Array.getElem?_eq_some_iff.mp hcell).1
  have hcell2 : s.heap[a]? = some cell := by rw [hh a hlt0]; exact hcell
  refine ⟨?_, fun b' h' => ?_, fun cT kT aS g1 g2 g3 => ?_⟩
  · simp [Cond.before, Cond.holds, Cond.value, hc2, hf2, hst, hs2, ht2, hcell2, hiss, hcls, hlt]
  · simp only [Cond.before, Cond.holds, Cond.value] at h' ⊢
    have e1 : (Term.static C n d).eval b' E.1 none [] E.1 = cell.slots[f.slot]? := by simp [Term.eval, State.fieldNamed?, hf, hst, hsta, hcell, hiss]
    have e2 : (Term.static C n d).eval args s none [] s = cell.slots[f.slot]? := by simp [Term.eval, State.fieldNamed?, hf2, hst, hs2, hcell2, hiss]
    rw [e2]
    rw [e1] at h'
    exact h'
  · cases hc2.symm.trans g1
    have hkk := (State.fieldFound?_spec hf2).1
    cases hkk.symm.trans g2
    cases hs2.symm.trans g3
    exact hlt0
/-- words of the tables that a walk may use at its method's start -/
def useW : Cond → Bool
  | .castable _ _ => true
  | .declares _ => true
  | .laysStatic _ _ _ => true
  | w => goodWord w
theorem use_at {E : AE} {l : Launch} {s : State} {args : Array Value} (hE : EOK E l) (hts : ∀ w ∈ lw_all, w.before args s = true) (hW0 : E.1.WarmedH s.vm) (hh : ∀ q, q < b0 E → s.heap[q]? = E.1.heap[q]?) {w : Cond} (hw : w ∈ lw_tbl) (hu : useW w = true) : w.before args s = true := by
  by_cases hg : goodWord w = true
  · exact hts w (List.mem_filter.mpr ⟨hw, hg⟩)
  have hb := hE.2.2.1 w hw
  cases w with
  | castable a b => exact va_Nw.use rfl (va_Nw.warmC hW0 (va_Nw.of rfl hb))
  | declares a => exact va_Nw.use rfl (va_Nw.warmD hW0 (va_Nw.of rfl hb))
  | laysStatic a b c => exact (stat_at hW0.alike hh hb).1
  | _ => exact absurd hu hg
theorem use_in {E : AE} {l : Launch} {s : State} {args : Array Value} (hE : EOK E l) (hts : ∀ w ∈ lw_all, w.before args s = true) (hW0 : E.1.WarmedH s.vm) (hh : ∀ q, q < b0 E → s.heap[q]? = E.1.heap[q]?) (ws : List Cond) (a b : List Nat)
    (hp : ws = a.filterMap (fun i => lw_tbl[i]?) ++ [.isRef (.static Bundle.tN "UNASSIGNED_STACK" Bundle.steD), .isRef (.static Bundle.tN "SUPPRESSED_SENTINEL" Bundle.listD)] ++ b.filterMap (fun i => lw_tbl[i]?)) (hg : (a ++ b).all (fun i => (lw_tbl[i]?).all useW) = true) : ∀ w ∈ ws, w.before args s = true := by
  have htab : ∀ (q : List Nat), (∀ i ∈ q, (lw_tbl[i]?).all useW = true) → ∀ w ∈ q.filterMap (fun i => lw_tbl[i]?), w.before args s = true := by
    intro q hq w hw
    obtain ⟨i, hi, hw⟩ := List.mem_filterMap.mp hw
    have := hq i hi
    rw [hw] at this
    exact use_at hE hts hW0 hh (List.mem_of_getElem? hw) this
  rw [List.all_eq_true] at hg
  obtain ⟨x, hx⟩ := hE.2.2.2.2.2
  have i1 : (Cond.isRef (.static Bundle.tN "UNASSIGNED_STACK" Bundle.steD)).before args s = true := (stat_at (b := #[]) hW0.alike hh (hE.2.2.1 _ (List.mem_of_getElem? (i := 237) (by rfl)))).2.1 _ (lf_before [true, false, false, false, false, false, true, false] hx)
  have i2 : (Cond.isRef (.static Bundle.tN "SUPPRESSED_SENTINEL" Bundle.listD)).before args s = true := (stat_at (b := #[]) hW0.alike hh (hE.2.2.1 _ (List.mem_of_getElem? (i := 239) (by rfl)))).2.1 _ (lf_before [true, false, false, false, false, false, true, true] hx)
  intro w hw
  rw [hp] at hw
  rcases List.mem_append.mp hw with hw | hw
  · rcases List.mem_append.mp hw with hw | hw
    · exact htab a (fun i hi => hg i (List.mem_append_left _ hi)) w hw
    · simp only [List.mem_cons, List.not_mem_nil, or_false] at hw
      rcases hw with rfl | rfl
      · exact i1
      · exact i2
  · exact htab b (fun i hi => hg i (List.mem_append_right _ hi)) w hw
def ups : List String := ["java/lang/RuntimeException", "java/lang/Exception"]
section ExRows
variable {C : CT} {cc : ByteArray} {own : String} {ret : Option FieldType} {nL d pc : Nat} {lv : List (Nat × AV)} {st : List AV} {σ σ' : St} {Z : State → Prop} {hh : List (Nat × Nat × Nat × Nat)}
/-- what the rows that throw rest on -/
def CxE (E : AE) (l : Launch) (args : Array Value) (s : State) : Prop := (∀ a ∈ Bundle.npeArmAtoms 8, a.before args s = true) ∧ (∀ a ∈ Bundle.messageArmAtoms Bundle.idxN Bundle.idxUp, a.before args s = true) ∧ (∀ a ∈ Bundle.messageArmAtoms "java/lang/NegativeArraySizeException" ups, a.before args s = true) ∧
  (∀ a ∈ Bundle.messageArmAtoms "java/lang/ArithmeticException" ups, a.before args s = true) ∧ (∀ a ∈ Bundle.messageArmAtoms "java/lang/ClassCastException" ups, a.before args s = true) ∧ CastOk args s ∧ (∀ (e : Env), l.admits e → e.platform.stackTraces = false) ∧ ∀ locs : List Loc, (∀ q ∈ locs, b0 E ≤ q.base) → stFree s locs
theorem cxe_of {E : AE} {l : Launch} {s : State} {args : Array Value} (hE : EOK E l) (hts : ∀ w ∈ lw_all, w.before args s = true) (hW0 : E.1.WarmedH s.vm) (hh : ∀ q, q < b0 E → s.heap[q]? = E.1.heap[q]?) : CxE E l args s := by
  refine ⟨use_in hE hts hW0 hh _ [82, 299, 241, 261, 264, 266, 300, 301, 107, 108, 235, 240, 262, 269, 293, 270, 294, 271, 295, 236, 237, 238, 239, 296, 258, 248, 249, 335, 337, 255, 256, 349, 326, 327, 328, 329, 286, 329, 330, 331, 332, 288, 332, 333, 334, 300, 290, 87, 253, 347, 348, 247, 343, 344, 346] [267, 297, 341] (by decide +kernel) (by decide +kernel), use_in hE hts hW0 hh _ [82, 299, 241, 261, 264, 266, 300, 301, 107, 108, 235, 240, 262, 269, 293, 270, 294, 271, 295, 236, 237, 238, 239, 296, 233, 234, 268, 296, 352, 353, 354, 355, 367, 355, 356, 357, 227, 287, 227, 228, 229, 230, 289, 230, 231, 232, 233, 291, 86, 302, 216, 303, 305, 304, 306, 89, 351, 365, 368, 244, 360, 361, 363, 359] [267, 297, 358] (by decide +kernel) (by decide +kernel), use_in hE hts hW0 hh _ [82, 299, 241, 261, 264, 266, 300, 301, 107, 108, 235, 240, 262, 269, 293, 270, 294, 271, 295, 236, 237, 238, 239, 296, 233, 234, 268, 296, 224, 225, 226, 227, 287, 227, 228, 229, 230, 289, 230, 231, 232, 233, 291, 86, 302, 216, 303, 305, 304, 306, 85, 223, 285, 292, 246, 276, 278, 282, 274] [267, 297, 272] (by decide +kernel) (by decide +kernel), use_in hE hts hW0 hh _ [82, 299, 241, 261, 264, 266, 300, 301, 107, 108, 235, 240, 262, 269, 293, 270, 294, 271, 295, 236, 237, 238, 239, 296, 233, 234, 268, 296, 392, 393, 394, 227, 287, 227, 228, 229, 230, 289, 230, 231, 232, 233, 291, 86, 302, 216, 303, 305, 304, 306, 91, 391, 402, 403, 243, 397, 398, 400, 396] [267, 297, 395] (by decide +kernel) (by decide +kernel), use_in hE hts hW0 hh _ [82, 299, 241, 261, 264, 266, 300, 301, 107, 108, 235, 240, 262, 269, 293, 270, 294, 271, 295, 236, 237, 238, 239, 296, 233, 234, 268, 296, 602, 603, 604, 227, 287, 227, 228, 229, 230, 289, 230, 231, 232, 233, 291, 86, 302, 216, 303, 305, 304, 306, 98, 601, 612, 613, 245, 607, 608, 610, 606] [267, 297, 605] (by decide +kernel) (by decide +kernel), ⟨hts, fun C D hcd c d h1 h2 => ?_, fun C D hcd c d h1 h2 => ?_⟩, fun e ha => Launch.traces_off hE.2.2.2.1 ha, fun locs hq cT kT aS h1 h2 h3 x hx => ?_⟩
  · obtain ⟨c1, d1, g1, g2, g3⟩ := Cond.castable_spec (use_at hE hts hW0 hh hcd rfl)
    cases h1.symm.trans g1
    cases h2.symm.trans g2
    exact g3
  · obtain ⟨p, hp⟩ := nocast_mem hcd
    obtain ⟨x, hx⟩ := hE.2.2.2.2.2
    have h3 := lf_before p hx
    rw [noc_ok _ hp] at h3
    rw [hW0.alike.findClass] at h1 h2
    rw [hW0.alike.assignable]
    simpa [Cond.before, Cond.holds, Cond.value, h1, h2] using h3
  · have h4 := (stat_at (b := #[]) (args := args) hW0.alike hh (hE.2.2.1 _ (List.mem_of_getElem? (i := 237) (by rfl)))).2.2 cT kT aS h1 h2 h3
    have h5 := hq x hx
    exact fun q => by
      rw [q] at h5
      exact absurd h4 (Nat.not_lt.mpr h5)
end ExRows
