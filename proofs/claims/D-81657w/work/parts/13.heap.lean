/-! rows of the walk: the heap -/
theorem vwCl_lt {c : Nat} {q : vw_C} (h : vwCl[c]? = some q) : c < 7 := (List.getElem?_eq_some_iff.mp h).1
theorem cl_in {c : Nat} {q : vw_C} (h : vwCl[c]? = some q) : ∀ w ∈ u_ws q.1 q.2.1 q.2.2, w ∈ lw_all := by
  match c, h with
  | 0, h => cases h; exact in_X0
  | 1, h => cases h; exact in_X1
  | 2, h => cases h; exact in_X2
  | 3, h => cases h; exact in_X3
  | 4, h => cases h; exact in_X4
  | 5, h => cases h; exact in_X5
  | 6, h => cases h; exact in_X6
  | c + 7, h => exact absurd (vwCl_lt h) (by omega)
theorem cl_ty {c : Nat} {q : vw_C} (h : vwCl[c]? = some q) : ∀ k, k < q.2.2 → parseFieldDescriptor (q.2.1 k).2.2.1 = some (clTy c k) := by
  match c, h with
  | 0, h => cases h; exact tyX0_ok
  | 1, h => cases h; exact tyX1_ok
  | 2, h => cases h; exact tyX2_ok
  | 3, h => cases h; exact tyX3_ok
  | 4, h => cases h; exact tyX4_ok
  | 5, h => cases h; exact tyX5_ok
  | 6, h => cases h; exact tyX6_ok
  | c + 7, h => exact absurd (vwCl_lt h) (by omega)
theorem cl_nm {c : Nat} {q : vw_C} (h : vwCl[c]? = some q) : ∀ a, a < q.2.2 → ∀ b, b < q.2.2 → a ≠ b → (q.2.1 a).2.1 ≠ (q.2.1 b).2.1 := by
  match c, h with
  | 0, h => cases h; exact nmX0
  | 1, h => cases h; exact nmX1
  | 2, h => cases h; exact nmX2
  | 3, h => cases h; exact nmX3
  | 4, h => cases h; exact nmX4
  | 5, h => cases h; exact nmX5
  | 6, h => cases h; exact nmX6
  | c + 7, h => exact absurd (vwCl_lt h) (by omega)
theorem cl_n {c : Nat} {q : vw_C} (h : vwCl[c]? = some q) : q.2.2 = nfl c := by
  match c, h with
  | 0, h => cases h; rfl
  | 1, h => cases h; rfl
  | 2, h => cases h; rfl
  | 3, h => cases h; rfl
  | 4, h => cases h; rfl
  | 5, h => cases h; rfl
  | 6, h => cases h; rfl
  | c + 7, h => exact absurd (vwCl_lt h) (by omega)
theorem cl_some {c : Nat} (h : c < 7) : ∃ q, vwCl[c]? = some q := ⟨_, List.getElem?_eq_getElem (l := vwCl) h⟩
theorem Rep.arr {E : AE} {σ : St} {H : Heap} (h : Rep E σ H) {o kd : Nat} (hk : sK σ o = kd) (h1 : 1 ≤ kd) (h8 : kd < 8) : H[b0 E + o]? = some (arrV (eA E kd) (sN σ o) (av E σ o kd)) := by
  have hn : sK σ o ≠ 0 := by omega
  have hc := h.2.2.1 o (h.2.1 o hn)
  unfold cellAt at hc
  rw [if_neg hn, if_pos (by omega), hk] at hc
  exact hc
theorem Rep.obj {E : AE} {σ : St} {H : Heap} (h : Rep E σ H) {o c : Nat} (hk : sK σ o = 8 + c) : c < 7 ∧ t_OB (b0 E + o) (eC E c) (nfl c) (eI E c) H (fv E σ o c) := by
  have hn : sK σ o ≠ 0 := by omega
  have hc := h.2.2.1 o (h.2.1 o hn)
  unfold cellAt at hc
  rw [if_neg hn, if_neg (by omega), show sK σ o - 8 = c by omega] at hc
  exact hc
/-- one cell is written -/
theorem Rep.upd {E : AE} {σ σ' : St} {H H' : Heap} (h : Rep E σ H) (o : Nat) (hK : sK σ' = sK σ) (hN : sN σ' = sN σ) (hn : sn σ' = sn σ) (hz : sz σ' = sz σ) (hs : H'.size = H.size) (hq : ∀ q : Nat, q ≠ b0 E + o → H'[q]? = H[q]?)
    (hI : ∀ i, i ≠ o → sI σ' i = sI σ i) (hL : ∀ i, i ≠ o → sL σ' i = sL σ i) (hR : ∀ i, i ≠ o → sR σ' i = sR σ i) (hc : o < sn σ → cellAt E σ' o H') (hb : sK σ o = 2 → ∀ j, bOk (sI σ' o j)) : Rep E σ' H' := by
  refine ⟨by rw [hs, hn]; exact h.1, fun i hi => by rw [hn]; exact h.2.1 i (by rw [← hK]; exact hi), fun i hi => ?_, fun q hlt => ?_, fun i hi j => ?_, by rw [hn]; exact h.2.2.2.2.2.1, by rw [hz]; exact h.2.2.2.2.2.2⟩
  · by_cases hio : i = o
    · subst hio
      exact hc (by rw [← hn]; exact hi)
    · have hc0 := h.2.2.1 i (by rw [← hn]; exact hi)
      have e : H'[b0 E + i]? = H[b0 E + i]? := hq _ (by omega)
      have ea : av E σ' i (sK σ i) = av E σ i (sK σ i) := by
        funext j
        unfold av
        rw [hI i hio, hL i hio, hR i hio]
      have ef : fv E σ' i (sK σ i - 8) = fv E σ i (sK σ i - 8) := by
        funext j
        unfold fv
        rw [hI i hio, hL i hio, hR i hio]
      unfold cellAt at hc0 ⊢
      rw [hK, hN, ea, ef]
      split
      · trivial
      · split
        · rw [if_neg (by assumption), if_pos (by assumption)] at hc0
          rw [e]; exact hc0
        · rw [if_neg (by assumption), if_neg (by assumption)] at hc0
          exact ⟨hc0.1, hc0.2.kept e⟩
  · rw [hq q (by omega)]
    exact h.2.2.2.1 q hlt
  · rw [hK] at hi
    by_cases hio : i = o
    · subst hio; exact hb hi j
    · rw [hI i hio]; exact h.2.2.2.2.1 i hi j
/-- a cell comes -/
theorem Rep.push {E : AE} {σ : St} {H H' : Heap} (h : Rep E σ H) (k N : Nat) (hcn : sn σ < CAPN) (hcz : sz σ + N ≤ CAPZ) (hs : H'.size = H.size + 1) (hq : ∀ q : Nat, q < H.size → H'[q]? = H[q]?) (hc : cellAt E (wNew σ k N) (sn σ) H') : Rep E (wNew σ k N) H' := by
  have h1 := h.1
  refine ⟨by rw [hs]; show H.size + 1 = b0 E + (sn σ + 1); omega, fun i hi => ?_, fun i hi => ?_, fun q hlt => ?_, fun i hi j => ?_, hcn, hcz⟩
  · show i < sn σ + 1
    by_cases e : i = sn σ
    · omega
    · have : sK σ i ≠ 0 := by
        have hi' : (if i = sn σ then k else sK σ i) ≠ 0 := hi
        rw [if_neg e] at hi'
        exact hi'
      have := h.2.1 i this
      omega
  · have hi' : i < sn σ + 1 := hi
    by_cases e : i = sn σ
    · subst e
      exact hc
    · have hlt : i < sn σ := by omega
      have hc0 := h.2.2.1 i hlt
      have eh : H'[b0 E + i]? = H[b0 E + i]? := hq _ (by omega)
      have ek : sK (wNew σ k N) i = sK σ i := if_neg e
      have en : sN (wNew σ k N) i = sN σ i := if_neg e
      have ea : av E (wNew σ k N) i (sK σ i) = av E σ i (sK σ i) := by
        funext j
        unfold av
        have e1 : sI (wNew σ k N) i j = sI σ i j := if_neg e
        have e2 : sL (wNew σ k N) i j = sL σ i j := if_neg e
        have e3 : sR (wNew σ k N) i j = sR σ i j := if_neg e
        rw [e1, e2, e3]
      have ef : fv E (wNew σ k N) i (sK σ i - 8) = fv E σ i (sK σ i - 8) := by
        funext j
        unfold fv
        have e1 : sI (wNew σ k N) i j = sI σ i j := if_neg e
        have e2 : sL (wNew σ k N) i j = sL σ i j := if_neg e
        have e3 : sR (wNew σ k N) i j = sR σ i j := if_neg e
        rw [e1, e2, e3]
      unfold cellAt at hc0 ⊢
      rw [ek, en, ea, ef]
      split
      · trivial
      · split
        · rw [if_neg (by assumption), if_pos (by assumption)] at hc0
          rw [eh]; exact hc0
        · rw [if_neg (by assumption), if_neg (by assumption)] at hc0
          exact ⟨hc0.1, hc0.2.kept eh⟩
  · rw [hq q (by omega)]
    exact h.2.2.2.1 q hlt
  · by_cases e : i = sn σ
    · have e1 : sI (wNew σ k N) i j = 0 := if_pos e
      rw [e1]; show (0 : Int32).toInt8.toInt32 = 0; decide
    · have e1 : sI (wNew σ k N) i j = sI σ i j := if_neg e
      have ek : sK (wNew σ k N) i = sK σ i := if_neg e
      rw [e1]
      exact h.2.2.2.2.1 i (by rw [← ek]; exact hi) j
def tyCode (t : FieldType) : Nat := match t with
  | .int => 0
  | .boolean => 1
  | .long => 2
  | .object _ => 3
  | .array _ => 3
  | _ => 4
/-- a field's link: entry idx of the class own is field k of the classes lo to hi -/
def FLk (own : String) (idx lo hi k tc : Nat) (fin : Bool) : Prop := hi < 7 ∧ ∀ c, lo ≤ c → c ≤ hi → ∃ q, vwCl[c]? = some q ∧ k < q.2.2 ∧ tyCode (clTy c k) = tc ∧ (q.2.1 k).2.2.2 = fin ∧ Cond.fieldLink own idx (q.2.1 k).1 (q.2.1 k).2.1 (q.2.1 k).2.2.1 ∈ lw_all ∧ (fin = true → (q.2.1 k).1 = own)
theorem u_Kn_at {E : AE} {l : Launch} {s : State} (hE : EOK E l) (hal : E.1.vm.Alike s.vm) {c : Nat} {q : vw_C} (h : vwCl[c]? = some q) : u_Kn s q.1 q.2.1 q.2.2 (eC E c) (eI E c) := u_Kn_moved hal (hE.1 c q h)
section HeapRows
variable {C : CT} {cc : ByteArray} {own : String} {ret : Option FieldType} {nL d pc : Nat} {lv : List (Nat × AV)} {st : List AV} {σ : St} {Z : State → Prop}
theorem aw_gf (X : Cx C cc own ret nL d) {idx lo hi k tc : Nat} {fin : Bool} (hf : FLk own idx lo hi k tc fin) {o : Nat} (h1 : 8 + lo ≤ sK σ o ∧ sK σ o ≤ 8 + hi) (hd : decode cc pc = .ok (.getfield idx, 3)) {v : AV} (hv : ∀ E c, tyCode (clTy c k) = tc → cv E v = fv E σ o c k)
    (kk : AW C (pc + 3) lv (v :: st) σ Z) : AW C pc lv (.inr (.inr (some o)) :: st) σ Z := by
  obtain ⟨E, p, l, e, R, s, m, args, below, meth, c, nL', n0, z0⟩ := C
  obtain ⟨hx, hb, hr, hlk, hml, hnl, hown, hts, hW0, hE, hR1, hR2, hR3, hR4, hR5⟩ := X
  have hal := hW0.alike
  intro H locs cells slots ls hR hq hc hs hl
  obtain ⟨h7, hf⟩ := hf
  obtain ⟨q, hq1, hk, htc, -, hlink, -⟩ := hf (sK σ o - 8) (by omega) (by omega)
  obtain ⟨-, cell, q1, q2, q3, q4⟩ := hR.obj (o := o) (c := sK σ o - 8) (by omega)
  obtain ⟨hS, hfc, kC, hkC, hkind⟩ := u_Kn_at hE hal hq1
  obtain ⟨cf, kf, fi, f, hi, hsl⟩ := hS k hk
  refine W.getf hx hb hown (hts _ hlink) hi (u_facts hfc hkC (u_lays hts (cl_in hq1) hk) hi).1 q1 (by rw [q3]; exact fun h => by cases h) (v := cv E v) ?_ rfl rfl hd (kk H locs cells slots ls hR hq hc hs hl)
  rw [hsl, q4 k (by rw [← cl_n hq1]; exact hk), hv E _ htc]
theorem fv_0 {E : AE} {σ : St} {o c k : Nat} (h : tyCode (clTy c k) = 0) : fv E σ o c k = .int (sI σ o k) := by
  unfold fv
  cases e : clTy c k <;> rw [e] at h <;> first | rfl | (simp [tyCode] at h)
theorem fv_1 {E : AE} {σ : St} {o c k : Nat} (h : tyCode (clTy c k) = 1) : fv E σ o c k = .int (sI σ o k) := by
  unfold fv
  cases e : clTy c k <;> rw [e] at h <;> first | rfl | (simp [tyCode] at h)
theorem fv_2 {E : AE} {σ : St} {o c k : Nat} (h : tyCode (clTy c k) = 2) : fv E σ o c k = .long (sL σ o k) := by
  unfold fv
  cases e : clTy c k <;> rw [e] at h <;> first | rfl | (simp [tyCode] at h)
theorem fv_3 {E : AE} {σ : St} {o c k : Nat} (h : tyCode (clTy c k) = 3) : fv E σ o c k = rv E (sR σ o k) := by
  unfold fv
  cases e : clTy c k <;> rw [e] at h <;> first | rfl | (simp [tyCode] at h)
theorem aw_gfI (X : Cx C cc own ret nL d) {idx lo hi k : Nat} {fin : Bool} {r : Option Nat} {x : Int32} (hf : FLk own idx lo hi k 0 fin) (hd : decode cc pc = .ok (.getfield idx, 3)) (hv : gfI σ r lo hi k = some x) (kk : AW C (pc + 3) lv (.inl x :: st) σ Z) : AW C pc lv (.inr (.inr r) :: st) σ Z := by
  obtain ⟨o, rfl, h⟩ := bind_some hv
  obtain ⟨h1, h2⟩ := ite_none h
  cases h2
  exact aw_gf (v := .inl _) X hf h1 hd (fun E c h => (fv_0 h).symm) kk
theorem aw_gfZ (X : Cx C cc own ret nL d) {idx lo hi k : Nat} {fin : Bool} {r : Option Nat} {x : Int32} (hf : FLk own idx lo hi k 1 fin) (hd : decode cc pc = .ok (.getfield idx, 3)) (hv : gfI σ r lo hi k = some x) (kk : AW C (pc + 3) lv (.inl x :: st) σ Z) : AW C pc lv (.inr (.inr r) :: st) σ Z := by
  obtain ⟨o, rfl, h⟩ := bind_some hv
  obtain ⟨h1, h2⟩ := ite_none h
  cases h2
  exact aw_gf (v := .inl _) X hf h1 hd (fun E c h => (fv_1 h).symm) kk
theorem aw_gfL (X : Cx C cc own ret nL d) {idx lo hi k : Nat} {fin : Bool} {r : Option Nat} {x : Int64} (hf : FLk own idx lo hi k 2 fin) (hd : decode cc pc = .ok (.getfield idx, 3)) (hv : gfL σ r lo hi k = some x) (kk : AW C (pc + 3) lv (.inr (.inl x) :: st) σ Z) : AW C pc lv (.inr (.inr r) :: st) σ Z := by
  obtain ⟨o, rfl, h⟩ := bind_some hv
  obtain ⟨h1, h2⟩ := ite_none h
  cases h2
  exact aw_gf (v := .inr (.inl _)) X hf h1 hd (fun E c h => (fv_2 h).symm) kk
theorem aw_gfR (X : Cx C cc own ret nL d) {idx lo hi k : Nat} {fin : Bool} {r x : Option Nat} (hf : FLk own idx lo hi k 3 fin) (hd : decode cc pc = .ok (.getfield idx, 3)) (hv : gfR σ r lo hi k = some x) (kk : AW C (pc + 3) lv (.inr (.inr x) :: st) σ Z) : AW C pc lv (.inr (.inr r) :: st) σ Z := by
  obtain ⟨o, rfl, h⟩ := bind_some hv
  obtain ⟨h1, h2⟩ := ite_none h
  cases h2
  exact aw_gf (v := .inr (.inr _)) X hf h1 hd (fun E c h => (fv_3 h).symm) kk
/-- the field's type takes the value -/
def okFor (ty : FieldType) (v : Value) : Prop := narrow ty v = v ∧ fits ty v = true
theorem apart_at {E : AE} {l : Launch} {s : State} {args : Array Value} (hE : EOK E l) (hal : E.1.vm.Alike s.vm) (hts : ∀ w ∈ lw_all, w.before args s = true) {c : Nat} {q : vw_C} (hc : vwCl[c]? = some q) : ∀ x y, x < nfl c → y < nfl c → x ≠ y → eI E c x ≠ eI E c y := by
  intro x y hx hy hne
  rw [← cl_n hc] at hx hy
  obtain ⟨hS, -⟩ := u_Kn_at hE hal hc
  obtain ⟨_, _, _, fa, hia, ea⟩ := hS x hx
  obtain ⟨_, _, _, fb, hib, eb⟩ := hS y hy
  rw [← ea, ← eb]
  refine u_apart (u_lays hts (cl_in hc) hx) (u_lays hts (cl_in hc) hy) hia hib ?_
  rw [(State.fieldFound?_type hia (cl_ty hc x hx)).1, (State.fieldFound?_type hib (cl_ty hc y hy)).1]
  exact cl_nm hc x hx y hy hne
/-- putfield of a field that isn't final -/
theorem aw_pf (X : Cx C cc own ret nL d) {idx lo hi k tc : Nat} (hf : FLk own idx lo hi k tc false) {o : Nat} (h1 : 8 + lo ≤ sK σ o ∧ sK σ o ≤ 8 + hi) (hd : decode cc pc = .ok (.putfield idx, 3)) {v : AV} {σ' : St}
    (hK : sK σ' = sK σ) (hN : sN σ' = sN σ) (hn : sn σ' = sn σ) (hz : sz σ' = sz σ) (hI : ∀ i, i ≠ o → sI σ' i = sI σ i) (hL : ∀ i, i ≠ o → sL σ' i = sL σ i) (hRr : ∀ i, i ≠ o → sR σ' i = sR σ i)
    (hv : ∀ E c, c < 7 → tyCode (clTy c k) = tc → okFor (clTy c k) (cv E v) ∧ fv E σ' o c k = cv E v) (hv2 : ∀ E c j, j ≠ k → fv E σ' o c j = fv E σ o c j)
    (kk : AW C (pc + 3) lv st σ' Z) : AW C pc lv (v :: .inr (.inr (some o)) :: st) σ Z := by
  obtain ⟨E, p, l, e, R, s, m, args, below, meth, c, nL', n0, z0⟩ := C
  obtain ⟨hx, hb, hr, hlk, hml, hnl, hown, hts, hW0, hE, hR1, hR2, hR3, hR4, hR5⟩ := X
  have hal := hW0.alike
  intro H locs cells slots ls hR hq hc hs hl
  obtain ⟨h7, hf⟩ := hf
  obtain ⟨q, hq1, hk, htc, hfin, hlink, -⟩ := hf (sK σ o - 8) (by omega) (by omega)
  have hko : sK σ o = 8 + (sK σ o - 8) := by omega
  obtain ⟨-, cell, q1, q2, q3, q4⟩ := hR.obj hko
  obtain ⟨hS, hfc, kC, hkC, hkind⟩ := u_Kn_at hE hal hq1
  obtain ⟨cf, kf, fi, f, hi, hsl⟩ := hS k hk
  have hk' : k < nfl (sK σ o - 8) := by rw [← cl_n hq1]; exact hk
  have hlay := hts _ (cl_in hq1 _ (u_in_lay hk))
  unfold u_lay at hlay
  rw [if_neg (by rw [hfin]; decide)] at hlay
  have hst := (u_facts hfc hkC (u_lays hts (cl_in hq1) hk) hi).1
  obtain ⟨hok, hfv⟩ := hv E _ (vwCl_lt hq1) htc
  have h6 := u_store hfc hkC hkind hlay hi (cl_ty hq1 k hk) hok.1 hok.2
  refine W.putK hx hb (f := f) ⟨hown, hts _ hlink, ⟨_, _, _, hi⟩, hst⟩ (by rw [q2]; exact h6) q1 q3 (by rw [hsl]; exact k2_hasslot (q4 k hk')) rfl rfl hd fun H' e1 e2 e3 => ?_
  rw [hsl] at e1 ⊢
  refine kk H' _ cells slots ls (hR.upd o hK hN hn hz e2 e3 hI hL hRr (fun _ => ?_) (fun h2 => absurd h2 (by omega))) (fun z hz => ?_) (by rw [hn]; exact hc) (by rw [hz]; exact hs) hl
  · unfold cellAt
    rw [hK, if_neg (by omega), if_neg (by omega)]
    refine ⟨by omega, ?_⟩
    refine t_OB.to (V := updV (fv E σ o (sK σ o - 8)) k (cv E v)) ⟨_, e1, q2, q3, t_set q4 (apart_at hE hal hts hq1) hk' _⟩ (fun j hj => ?_)
    unfold updV
    by_cases hjk : j = k
    · subst hjk; rw [if_pos rfl, hfv]
    · rw [if_neg hjk, hv2 E _ j hjk]
  · rcases List.mem_append.mp hz with h | h
    · exact hq z h
    · rw [List.mem_singleton.mp h]; exact Nat.le_add_right _ _
/-- putfield of a final field, in a constructor of the class that declares it -/
def CxI (C : CT) : Prop := match C with
  | (E, p, l, e, R, s, m, args, below, meth, c, nL, n0, z0) => meth.name = "<init>"
theorem aw_pfF (X : Cx C cc own ret nL d) (XI : CxI C) {idx lo hi k tc : Nat} (hf : FLk own idx lo hi k tc true) {o : Nat} (h1 : 8 + lo ≤ sK σ o ∧ sK σ o ≤ 8 + hi) (hd : decode cc pc = .ok (.putfield idx, 3)) {v : AV} {σ' : St}
    (hK : sK σ' = sK σ) (hN : sN σ' = sN σ) (hn : sn σ' = sn σ) (hz : sz σ' = sz σ) (hI : ∀ i, i ≠ o → sI σ' i = sI σ i) (hL : ∀ i, i ≠ o → sL σ' i = sL σ i) (hRr : ∀ i, i ≠ o → sR σ' i = sR σ i)
    (hv : ∀ E c, c < 7 → tyCode (clTy c k) = tc → okFor (clTy c k) (cv E v) ∧ fv E σ' o c k = cv E v) (hv2 : ∀ E c j, j ≠ k → fv E σ' o c j = fv E σ o c j)
    (kk : AW C (pc + 3) lv st σ' Z) : AW C pc lv (v :: .inr (.inr (some o)) :: st) σ Z := by
  obtain ⟨E, p, l, e, R, s, m, args, below, meth, c, nL', n0, z0⟩ := C
  obtain ⟨hx, hb, hr, hlk, hml, hnl, hown, hts, hW0, hE, hR1, hR2, hR3, hR4, hR5⟩ := X
  have hal := hW0.alike
  intro H locs cells slots ls hR hq hc hs hl
  obtain ⟨h7, hf⟩ := hf
  obtain ⟨q, hq1, hk, htc, hfin, hlink, hdecl⟩ := hf (sK σ o - 8) (by omega) (by omega)
  have hko : sK σ o = 8 + (sK σ o - 8) := by omega
  obtain ⟨-, cell, q1, q2, q3, q4⟩ := hR.obj hko
  obtain ⟨hS, hfc, kC, hkC, hkind⟩ := u_Kn_at hE hal hq1
  obtain ⟨cf, kf, fi, f, hi, hsl⟩ := hS k hk
  have hk' : k < nfl (sK σ o - 8) := by rw [← cl_n hq1]; exact hk
  have hlay := hts _ (cl_in hq1 _ (u_in_lay hk))
  unfold u_lay at hlay
  rw [if_pos hfin] at hlay
  have hst := (u_facts hfc hkC (u_lays hts (cl_in hq1) hk) hi).1
  have hcf : m.cls = cf := by
    obtain ⟨_, _, c', _, _, _, -, -, hf', -, -, -, hown2, -⟩ := Cond.laysFinal_spec hlay
    have e1 : c' = cf := by have := hi.symm.trans hf'; simp at this; exact this.1.symm
    rw [hdecl rfl] at hown2
    rw [← e1]; exact Option.some.inj (hown.symm.trans hown2)
  obtain ⟨hok, hfv⟩ := hv E _ (vwCl_lt hq1) htc
  have h6 := u_fits hfc hkC hkind (Or.inr hlay) hi (cl_ty hq1 k hk) hok.1 hok.2
  refine W.putFinK hx hb hown (hts _ hlink) hi hst hcf XI (by rw [q2]; exact h6) q1 q3 (by rw [hsl]; exact k2_hasslot (q4 k hk')) rfl rfl hd fun H' e1 e2 e3 => ?_
  rw [hsl] at e1 ⊢
  refine kk H' _ cells slots ls (hR.upd o hK hN hn hz e2 e3 hI hL hRr (fun _ => ?_) (fun h2 => absurd h2 (by omega))) (fun z hz => ?_) (by rw [hn]; exact hc) (by rw [hz]; exact hs) hl
  · unfold cellAt
    rw [hK, if_neg (by omega), if_neg (by omega)]
    refine ⟨by omega, ?_⟩
    refine t_OB.to (V := updV (fv E σ o (sK σ o - 8)) k (cv E v)) ⟨_, e1, q2, q3, t_set q4 (apart_at hE hal hts hq1) hk' _⟩ (fun j hj => ?_)
    unfold updV
    by_cases hjk : j = k
    · subst hjk; rw [if_pos rfl, hfv]
    · rw [if_neg hjk, hv2 E _ j hjk]
  · rcases List.mem_append.mp hz with h | h
    · exact hq z h
    · rw [List.mem_singleton.mp h]; exact Nat.le_add_right _ _
theorem up2_same {α : Type} (f : Nat → Nat → α) (a i : Nat) (v : α) : up2 f a i v a i = v := if_pos ⟨rfl, rfl⟩
theorem up2_other {α : Type} (f : Nat → Nat → α) {a b : Nat} (i : Nat) (v : α) (h : b ≠ a) : up2 f a i v b = f b := by funext j; exact if_neg (fun q => h q.1)
theorem up2_ne {α : Type} (f : Nat → Nat → α) (a : Nat) {i j : Nat} (v : α) (h : j ≠ i) : up2 f a i v a j = f a j := if_neg (fun q => h q.2)
theorem fv_wI {E : AE} {σ : St} {o c k j : Nat} {v : Int32} (h : j ≠ k) : fv E (wI σ o k v) o c j = fv E σ o c j := by
  unfold fv
  have e1 : sI (wI σ o k v) o j = sI σ o j := up2_ne _ _ _ h
  have e2 : sL (wI σ o k v) o j = sL σ o j := rfl
  have e3 : sR (wI σ o k v) o j = sR σ o j := rfl
  rw [e1, e2, e3]
theorem fv_wL {E : AE} {σ : St} {o c k j : Nat} {v : Int64} (h : j ≠ k) : fv E (wL σ o k v) o c j = fv E σ o c j := by
  unfold fv
  have e1 : sI (wL σ o k v) o j = sI σ o j := rfl
  have e2 : sL (wL σ o k v) o j = sL σ o j := up2_ne _ _ _ h
  have e3 : sR (wL σ o k v) o j = sR σ o j := rfl
  rw [e1, e2, e3]
theorem fv_wR {E : AE} {σ : St} {o c k j : Nat} {v : Option Nat} (h : j ≠ k) : fv E (wR σ o k v) o c j = fv E σ o c j := by
  unfold fv
  have e1 : sI (wR σ o k v) o j = sI σ o j := rfl
  have e2 : sL (wR σ o k v) o j = sL σ o j := rfl
  have e3 : sR (wR σ o k v) o j = sR σ o j := up2_ne _ _ _ h
  rw [e1, e2, e3]
theorem ok_0 {t : FieldType} {x : Int32} (h : tyCode t = 0) : okFor t (.int x) := by
  cases t <;> first | exact ⟨rfl, rfl⟩ | (simp [tyCode] at h)
theorem ok_1 {t : FieldType} {x : Int32} (h : tyCode t = 1) (hx : x = 0 ∨ x = 1) : okFor t (.int x) := by
  cases t <;> first | (rcases hx with rfl | rfl <;> exact ⟨by decide, by decide⟩) | (simp [tyCode] at h)
theorem ok_2 {t : FieldType} {x : Int64} (h : tyCode t = 2) : okFor t (.long x) := by
  cases t <;> first | exact ⟨rfl, rfl⟩ | (simp [tyCode] at h)
theorem ok_3 {E : AE} {t : FieldType} {r : Option Nat} (h : tyCode t = 3) : okFor t (rv E r) := by
  cases t <;> first | (cases r <;> exact ⟨rfl, rfl⟩) | (simp [tyCode] at h)
end HeapRows
section HeapRows2
variable {C : CT} {cc : ByteArray} {own : String} {ret : Option FieldType} {nL d pc : Nat} {lv : List (Nat × AV)} {st : List AV} {σ σ' : St} {Z : State → Prop}
theorem aw_pfI (X : Cx C cc own ret nL d) {idx lo hi k : Nat} {r : Option Nat} {x : Int32} (hf : FLk own idx lo hi k 0 false) (hd : decode cc pc = .ok (.putfield idx, 3)) (hv : pfI σ r lo hi k x = some σ') (kk : AW C (pc + 3) lv st σ' Z) : AW C pc lv (.inl x :: .inr (.inr r) :: st) σ Z := by
  obtain ⟨o, rfl, h⟩ := bind_some hv
  obtain ⟨h1, h2⟩ := ite_none h
  cases h2
  exact aw_pf (v := .inl _) (σ' := wI σ o k x) X hf h1 hd rfl rfl rfl rfl (fun i hi => up2_other _ _ _ hi) (fun _ _ => rfl) (fun _ _ => rfl) (fun E c _ h => ⟨ok_0 h, by rw [fv_0 h]; exact congrArg _ (up2_same _ _ _ _)⟩) (fun E c j hj => fv_wI hj) kk
theorem aw_pfZ (X : Cx C cc own ret nL d) {idx lo hi k : Nat} {r : Option Nat} {x : Int32} (hf : FLk own idx lo hi k 1 false) (hd : decode cc pc = .ok (.putfield idx, 3)) (hv : pfZ σ r lo hi k x = some σ') (kk : AW C (pc + 3) lv st σ' Z) : AW C pc lv (.inl x :: .inr (.inr r) :: st) σ Z := by
  obtain ⟨o, rfl, h⟩ := bind_some hv
  obtain ⟨h1, h2⟩ := ite_none h
  cases h2
  exact aw_pf (v := .inl _) (σ' := wI σ o k x) X hf ⟨h1.1, h1.2.1⟩ hd rfl rfl rfl rfl (fun i hi => up2_other _ _ _ hi) (fun _ _ => rfl) (fun _ _ => rfl) (fun E c _ h => ⟨ok_1 h h1.2.2, by rw [fv_1 h]; exact congrArg _ (up2_same _ _ _ _)⟩) (fun E c j hj => fv_wI hj) kk
theorem aw_pfL (X : Cx C cc own ret nL d) {idx lo hi k : Nat} {r : Option Nat} {x : Int64} (hf : FLk own idx lo hi k 2 false) (hd : decode cc pc = .ok (.putfield idx, 3)) (hv : pfL σ r lo hi k x = some σ') (kk : AW C (pc + 3) lv st σ' Z) : AW C pc lv (.inr (.inl x) :: .inr (.inr r) :: st) σ Z := by
  obtain ⟨o, rfl, h⟩ := bind_some hv
  obtain ⟨h1, h2⟩ := ite_none h
  cases h2
  exact aw_pf (v := .inr (.inl _)) (σ' := wL σ o k x) X hf h1 hd rfl rfl rfl rfl (fun _ _ => rfl) (fun i hi => up2_other _ _ _ hi) (fun _ _ => rfl) (fun E c _ h => ⟨ok_2 h, by rw [fv_2 h]; exact congrArg _ (up2_same _ _ _ _)⟩) (fun E c j hj => fv_wL hj) kk
theorem aw_pfR (X : Cx C cc own ret nL d) {idx lo hi k : Nat} {r x : Option Nat} (hf : FLk own idx lo hi k 3 false) (hd : decode cc pc = .ok (.putfield idx, 3)) (hv : pfR σ r lo hi k x = some σ') (kk : AW C (pc + 3) lv st σ' Z) : AW C pc lv (.inr (.inr x) :: .inr (.inr r) :: st) σ Z := by
  obtain ⟨o, rfl, h⟩ := bind_some hv
  obtain ⟨h1, h2⟩ := ite_none h
  cases h2
  exact aw_pf (v := .inr (.inr _)) (σ' := wR σ o k x) X hf h1 hd rfl rfl rfl rfl (fun _ _ => rfl) (fun _ _ => rfl) (fun i hi => up2_other _ _ _ hi) (fun E c h7 h => ⟨ok_3 h, by rw [fv_3 h]; exact congrArg _ (up2_same _ _ _ _)⟩) (fun E c j hj => fv_wR hj) kk
theorem aw_pfFI (X : Cx C cc own ret nL d) (XI : CxI C) {idx lo hi k : Nat} {r : Option Nat} {x : Int32} (hf : FLk own idx lo hi k 0 true) (hd : decode cc pc = .ok (.putfield idx, 3)) (hv : pfI σ r lo hi k x = some σ') (kk : AW C (pc + 3) lv st σ' Z) : AW C pc lv (.inl x :: .inr (.inr r) :: st) σ Z := by
  obtain ⟨o, rfl, h⟩ := bind_some hv
  obtain ⟨h1, h2⟩ := ite_none h
  cases h2
  exact aw_pfF (v := .inl _) (σ' := wI σ o k x) X XI hf h1 hd rfl rfl rfl rfl (fun i hi => up2_other _ _ _ hi) (fun _ _ => rfl) (fun _ _ => rfl) (fun E c _ h => ⟨ok_0 h, by rw [fv_0 h]; exact congrArg _ (up2_same _ _ _ _)⟩) (fun E c j hj => fv_wI hj) kk
theorem aw_pfFR (X : Cx C cc own ret nL d) (XI : CxI C) {idx lo hi k : Nat} {r x : Option Nat} (hf : FLk own idx lo hi k 3 true) (hd : decode cc pc = .ok (.putfield idx, 3)) (hv : pfR σ r lo hi k x = some σ') (kk : AW C (pc + 3) lv st σ' Z) : AW C pc lv (.inr (.inr x) :: .inr (.inr r) :: st) σ Z := by
  obtain ⟨o, rfl, h⟩ := bind_some hv
  obtain ⟨h1, h2⟩ := ite_none h
  cases h2
  exact aw_pfF (v := .inr (.inr _)) (σ' := wR σ o k x) X XI hf h1 hd rfl rfl rfl rfl (fun _ _ => rfl) (fun _ _ => rfl) (fun i hi => up2_other _ _ _ hi) (fun E c h7 h => ⟨ok_3 h, by rw [fv_3 h]; exact congrArg _ (up2_same _ _ _ _)⟩) (fun E c j hj => fv_wR hj) kk
theorem AKn.moved {u U : State} (hvm : u.vm.Alike U.vm) {cA : ClassId} {ty : FieldType} (h : AKn u cA ty) : AKn U cA ty := by
  obtain ⟨kA, comp, h1, h2, h3, h4, h5⟩ := h
  obtain ⟨k', hk', he⟩ := hvm.2.2 _ _ h2
  exact ⟨k', comp, by rw [hvm.findClass]; exact h1, hk', by rw [he]; exact h3, fun C e => by rw [hvm.findClass]; exact h4 C e, fun t e => by rw [hvm.findClass]; exact h5 t e⟩
theorem AKn.of {U : State} {cA : ClassId} {ty : FieldType} (h : AKn U cA ty) : ArrOfT U cA ty := by
  obtain ⟨kA, comp, h1, h2, h3, -⟩ := h
  exact fun n z => ⟨fun k h => (by cases h), kA, h2, comp, h3⟩
theorem akn_at {E : AE} {l : Launch} {s : State} (hE : EOK E l) (hal : E.1.vm.Alike s.vm) {k : Nat} (h1 : 1 ≤ k) (h8 : k < 8) : AKn s (eA E k) (kty k) := (hE.2.1 k h1 h8).moved hal
theorem not_or_of {i : Int32} {n : Nat} (h0 : 0 ≤ i) (h1 : i.toNatClampNeg < n) : ¬ (i < 0 ∨ n ≤ i.toNatClampNeg) := by
  rintro (q | q)
  · exact (i32_le_not.mp h0) q
  · omega
theorem aw_alen (X : Cx C cc own ret nL d) {r : Option Nat} {x : Int32} (hd : decode cc pc = .ok (.arraylength, 1)) (hv : alen σ r = some x) (kk : AW C (pc + 1) lv (.inl x :: st) σ Z) : AW C pc lv (.inr (.inr r) :: st) σ Z := by
  obtain ⟨o, rfl, h⟩ := bind_some hv
  obtain ⟨⟨h1, h8⟩, h2⟩ := ite_none h
  cases h2
  obtain ⟨E, p, l, e, R, s, m, args, below, meth, c, nL', n0, z0⟩ := C
  obtain ⟨hx, hb, hr, hlk, hml, hnl, hown, hts, hW0, hE, hR1, hR2, hR3, hR4, hR5⟩ := X
  have hal := hW0.alike
  exact fun H locs cells slots ls hR hq hc hs hl => W.alen (n := Int32.ofNat (sN σ o)) hx hb (hR.arr rfl h1 h8) ((akn_at hE hal h1 h8).of _ _) (by rw [arrV_size] <;> rfl) rfl rfl hd (kk H locs cells slots ls hR hq hc hs hl)
theorem aw_ld (X : Cx C cc own ret nL d) {o kd : Nat} {i : Int32} {v : AV} (h1 : sK σ o = kd ∧ 0 ≤ i ∧ i.toNatClampNeg < sN σ o) (hk : 1 ≤ kd) (h8 : kd < 8) (hv : ∀ E, cv E v = av E σ o kd i.toNatClampNeg)
    (hW : ∀ {p : Program} {l : Launch} {e : Env} {R : Room} {s : State} {m : MethodId} {args : Array Value} {below : List Frame} {meth : Method} {c : Code} {H : Heap} {locs : List Loc} {cells slots : Nat} {a : Addr} {cell : Cell} {v : Value} {g : JFrame} {rest : List Value}, p.tables.exec = Jvm.exec → c.code = cc → H[a]? = some cell → s.isArrayOf cell (kty kd) → cell.vm ≠ .unknown → ¬ (i < 0 ∨ cell.slots.size ≤ i.toNatClampNeg) → cell.slots[i.toNatClampNeg]? = some v → g.method = m → g.stack = .int i :: .ref a :: rest → g.pc = pc → W p l e R s m args below meth c H locs cells slots Z { g with pc := g.pc + 1, stack := v :: rest } → W p l e R s m args below meth c H locs cells slots Z g)
    (kk : AW C (pc + 1) lv (v :: st) σ Z) : AW C pc lv (.inl i :: .inr (.inr (some o)) :: st) σ Z := by
  obtain ⟨E, p, l, e, R, s, m, args, below, meth, c, nL', n0, z0⟩ := C
  obtain ⟨hx, hb, hr, hlk, hml, hnl, hown, hts, hW0, hE, hR1, hR2, hR3, hR4, hR5⟩ := X
  have hal := hW0.alike
  intro H locs cells slots ls hR hq hc hs hl
  have ha := hR.arr h1.1 hk h8
  refine hW (v := cv E v) hx hb ha ((akn_at hE hal hk h8).of _ _) (fun q => by cases q) (by rw [arrV_size]; exact not_or_of h1.2.1 h1.2.2) (by rw [arrV_read _ _ h1.2.2, hv E]) rfl rfl rfl ?_
  exact kk H locs cells slots ls hR hq hc hs hl
theorem aw_iald (X : Cx C cc own ret nL d) {r : Option Nat} {i x : Int32} (hd : decode cc pc = .ok (.iaload, 1)) (hv : ldI σ r 1 i = some x) (kk : AW C (pc + 1) lv (.inl x :: st) σ Z) : AW C pc lv (.inl i :: .inr (.inr r) :: st) σ Z := by
  obtain ⟨o, rfl, h⟩ := bind_some hv
  obtain ⟨h1, h2⟩ := ite_none h
  cases h2
  exact aw_ld (kd := 1) (v := .inl _) X h1 (by omega) (by omega) (fun E => rfl) (fun hx hb hc ha hk hin hv hg hs hp kk => W.iald hx hb hc ha hk hin hv hg hs (by rw [hp]; exact hd) kk) kk
theorem aw_bald (X : Cx C cc own ret nL d) {r : Option Nat} {i x : Int32} (hd : decode cc pc = .ok (.baload, 1)) (hv : ldI σ r 2 i = some x) (kk : AW C (pc + 1) lv (.inl x :: st) σ Z) : AW C pc lv (.inl i :: .inr (.inr r) :: st) σ Z := by
  obtain ⟨o, rfl, h⟩ := bind_some hv
  obtain ⟨h1, h2⟩ := ite_none h
  cases h2
  exact aw_ld (kd := 2) (v := .inl _) X h1 (by omega) (by omega) (fun E => rfl) (fun hx hb hc ha hk hin hv hg hs hp kk => W.bald hx hb hc ha hk hin hv hg hs (by rw [hp]; exact hd) kk) kk
theorem aw_zald (X : Cx C cc own ret nL d) {r : Option Nat} {i x : Int32} (hd : decode cc pc = .ok (.baload, 1)) (hv : ldI σ r 4 i = some x) (kk : AW C (pc + 1) lv (.inl x :: st) σ Z) : AW C pc lv (.inl i :: .inr (.inr r) :: st) σ Z := by
  obtain ⟨o, rfl, h⟩ := bind_some hv
  obtain ⟨h1, h2⟩ := ite_none h
  cases h2
  exact aw_ld (kd := 4) (v := .inl _) X h1 (by omega) (by omega) (fun E => rfl) (fun hx hb hc ha hk hin hv hg hs hp kk => W.zald hx hb hc ha hk hin hv hg hs (by rw [hp]; exact hd) kk) kk
theorem aw_lald (X : Cx C cc own ret nL d) {r : Option Nat} {i : Int32} {x : Int64} (hd : decode cc pc = .ok (.laload, 1)) (hv : ldL σ r i = some x) (kk : AW C (pc + 1) lv (.inr (.inl x) :: st) σ Z) : AW C pc lv (.inl i :: .inr (.inr r) :: st) σ Z := by
  obtain ⟨o, rfl, h⟩ := bind_some hv
  obtain ⟨h1, h2⟩ := ite_none h
  cases h2
  exact aw_ld (kd := 3) (v := .inr (.inl _)) X h1 (by omega) (by omega) (fun E => rfl) (fun hx hb hc ha hk hin hv hg hs hp kk => W.lald hx hb hc ha hk hin hv hg hs (by rw [hp]; exact hd) kk) kk
theorem kty_ref {kd : Nat} (h : 5 ≤ kd) (h8 : kd < 8) : (kty kd).isReference = true := by
  match kd, h, h8 with
  | 5, _, _ => rfl
  | 6, _, _ => rfl
  | 7, _, _ => rfl
  | k + 8, _, h8 => omega
theorem av_ref {E : AE} {σ : St} {o kd j : Nat} (h : 5 ≤ kd) : av E σ o kd j = rv E (sR σ o j) := by
  match kd, h with
  | k + 5, _ => rfl
theorem aw_aald (X : Cx C cc own ret nL d) {kd : Nat} {r x : Option Nat} {i : Int32} (hd : decode cc pc = .ok (.aaload, 1)) (h5 : 5 ≤ kd) (h8 : kd < 8) (hv : ldR σ r kd i = some x) (kk : AW C (pc + 1) lv (.inr (.inr x) :: st) σ Z) : AW C pc lv (.inl i :: .inr (.inr r) :: st) σ Z := by
  obtain ⟨o, rfl, h⟩ := bind_some hv
  obtain ⟨h1, h2⟩ := ite_none h
  cases h2
  exact aw_ld (kd := kd) (v := .inr (.inr _)) X h1 (by omega) h8 (fun E => (av_ref h5).symm) (fun hx hb hc ha hk hin hv hg hs hp kk => W.aald hx hb hc ha (kty_ref h5 h8) hk hin hv hg hs (by rw [hp]; exact hd) kk) kk
end HeapRows2
