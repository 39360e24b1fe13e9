/-! walks (written by gen2.py): X1_layOther X1_nextOther X1_layPart X1_partsFrom X1_alike X1_parting X1_dropOther X1_backOther X1_drop X1_bits X1_needSeveral X1_allCodes X1_layAt X1_code X1_behindNext X1_common X1_behindHere X1_cover X1_both X1_oftenIn X1_layOtherBy X1_isTwin X1_twins X1_chosen X1_fraction X1_odds X1_byChance X1_counted X1_count -/
set_option maxRecDepth 100000
theorem wX1_layOther_l12 {C : CT} {d : Nat} {Z : State → Prop} (X : Cx C cX1_layOther RX1 none 3 (d + 1)) (φ : Nat) (this : Nat) (v1 : Int32) (v2 : Int32) (σ : St) (y : (Int32 × St) ⊕ (St)) (h : fX1_layOther_l12 φ this v1 v2 σ = some y) (kH : ∀ s : Int32 × St, y = .inl s → AW C 12 [(0, .inr (.inr (some this))), (1, .inl v1), (2, .inl s.1)] [] s.2 Z) (kE0 : ∀ e : St, y = .inr e → AW C 38 [] [] e Z) : AW C 12 [(0, .inr (.inr (some this))), (1, .inl v1), (2, .inl v2)] [] σ Z := by
  unfold fX1_layOther_l12 at h
  refine aw_iload_n X dX1_layOther_12 2 2 rfl rfl ?_
  refine aw_aload_n X dX1_layOther_13 0 0 rfl rfl ?_
  obtain ⟨x4, hx4, h⟩ := bind_some h
  refine aw_gfI X fl_X1_246 dX1_layOther_14 hx4 ?_
  refine aw_icmp_ge X 38 dX1_layOther_17 rfl (fun c5 => ?_) (fun c5 => ?_)
  · rw [if_pos c5] at h
    cases h
    refine aw_sub [] [] rfl ?_
    exact kE0 σ rfl
  · rw [if_neg c5] at h
    refine aw_aload_n X dX1_layOther_20 0 0 rfl rfl ?_
    obtain ⟨x6, hx6, h⟩ := bind_some h
    refine aw_gfR X fl_X1_82 dX1_layOther_21 hx6 ?_
    refine aw_iload_n X dX1_layOther_24 2 2 rfl rfl ?_
    refine aw_aload_n X dX1_layOther_25 0 0 rfl rfl ?_
    refine aw_iload_n X dX1_layOther_26 1 1 rfl rfl ?_
    refine aw_iload_n X dX1_layOther_27 2 2 rfl rfl ?_
    obtain ⟨y7, hy7, h⟩ := bind_some h
    refine aw_cV X (st := [.inl v2, .inr (.inr x6)]) hy7 [.inl v1, .inl v2] rfl rfl ml_X1_148 (fun o h => AX1_at0 (Cx.ok X) φ d _ _ _ _ _ h) dX1_layOther_28 (Nat.le_of_ble_eq_true rfl) ?_
    obtain ⟨s8, hs8, h⟩ := bind_some h
    refine aw_iast X dX1_layOther_31 hs8 ?_
    refine aw_iinc X dX1_layOther_32 2 rfl (1 : Int32) rfl (by decide) [(2, .inl (v2 + (1 : Int32))), (0, .inr (.inr (some this))), (1, .inl v1)] rfl ?_
    refine aw_goto X 12 dX1_layOther_35 rfl ?_
    cases h
    refine aw_sub [(0, .inr (.inr (some this))), (1, .inl v1), (2, .inl (v2 + (1 : Int32)))] [1, 2, 0] rfl ?_
    exact kH ((v2 + (1 : Int32)), s8) rfl
theorem wX1_layOther {C : CT} {d : Nat} (X : Cx C cX1_layOther RX1 none 3 (d + 1)) (φ : Nat) (this : Nat) (v1 : Int32) (σ : St) (y : St) (h : fX1_layOther φ this v1 σ = some y) : AW C 0 [(0, .inr (.inr (some this))), (1, .inl v1)] [] σ (AQ C none y) := by
  unfold fX1_layOther at h
  refine aw_aload_n X dX1_layOther_0 0 0 rfl rfl ?_
  refine aw_aload_n X dX1_layOther_1 0 0 rfl rfl ?_
  obtain ⟨x1, hx1, h⟩ := bind_some h
  refine aw_gfR X fl_X1_29 dX1_layOther_2 hx1 ?_
  refine aw_iload_n X dX1_layOther_5 1 1 rfl rfl ?_
  obtain ⟨x2, hx2, h⟩ := bind_some h
  refine aw_iald X dX1_layOther_6 hx2 ?_
  obtain ⟨s3, hs3, h⟩ := bind_some h
  refine aw_pfI X fl_X1_246 dX1_layOther_7 hs3 ?_
  refine aw_iconst X (0 : Int32) dX1_layOther_10 (by decide) ?_
  refine aw_istore_n X dX1_layOther_11 2 rfl (by decide) [(2, .inl (0 : Int32)), (0, .inr (.inr (some this))), (1, .inl v1)] rfl ?_
  obtain ⟨e9, h10, h⟩ := bind_some h
  refine aw_sub [(0, .inr (.inr (some this))), (1, .inl v1), (2, .inl (0 : Int32))] [1, 2, 0] rfl ?_
  refine aw_it (fun s => AW C 12 [(0, .inr (.inr (some this))), (1, .inl v1), (2, .inl s.1)] [] s.2 (AQ C none y)) (fun e => AW C 38 [] [] e (AQ C none y)) (fun s r hr kH kE => wX1_layOther_l12 X φ this v1 s.1 s.2 r hr kH kE) φ _ e9 h10 ?_
  cases h
  exact aw_vret X dX1_layOther_38
theorem AX1_layOther {E : AE} {l : Launch} (hE : EOK E l) (φ d : Nat) (this : Nat) (v1 : Int32) (σ : St) (y : St) (h : fX1_layOther φ this v1 σ = some y) : AMet E l yX1_layOther (ws_ yX1_layOther cX1_layOther 3 none) (d + 1) [.inr (.inr (some this)), .inl v1] σ none y := by
  refine amet_of hE (by decide +kernel) (Nat.le_of_ble_eq_true rfl) fun C e1 e2 X XI => ?_
  subst e1
  exact wX1_layOther X φ this v1 σ y h
theorem wX1_nextOther_l2 {C : CT} {d : Nat} {Z : State → Prop} (X : Cx C cX1_nextOther RX1 (some .int) 4 d) (φ : Nat) (this : Nat) (v2 : Int32) (σ : St) (v3 : Int32) (y : (Int32) ⊕ ((Unit) ⊕ (Int32))) (h : fX1_nextOther_l2 φ this v2 σ v3 = some y) (kH : ∀ s : Int32, y = .inl s → AW C 2 [(0, .inr (.inr (some this))), (2, .inl v2), (3, .inl s)] [] σ Z) (kE0 : ∀ e : Unit, y = .inr (.inl e) → AW C 28 [] [] σ Z) (kE1 : ∀ e : Int32, y = .inr (.inr e) → AW C 20 [(3, .inl e)] [] σ Z) : AW C 2 [(0, .inr (.inr (some this))), (2, .inl v2), (3, .inl v3)] [] σ Z := by
  unfold fX1_nextOther_l2 at h
  refine aw_iload_n X dX1_nextOther_2 2 3 rfl rfl ?_
  refine aw_aload_n X dX1_nextOther_3 0 0 rfl rfl ?_
  obtain ⟨x1, hx1, h⟩ := bind_some h
  refine aw_gfI X fl_X1_246 dX1_nextOther_4 hx1 ?_
  refine aw_icmp_ge X 28 dX1_nextOther_7 rfl (fun c2 => ?_) (fun c2 => ?_)
  · rw [if_pos c2] at h
    cases h
    refine aw_sub [] [] rfl ?_
    exact kE0 () rfl
  · rw [if_neg c2] at h
    refine aw_aload_n X dX1_nextOther_10 0 0 rfl rfl ?_
    obtain ⟨x3, hx3, h⟩ := bind_some h
    refine aw_gfR X fl_X1_82 dX1_nextOther_11 hx3 ?_
    refine aw_iload_n X dX1_nextOther_14 2 3 rfl rfl ?_
    obtain ⟨x4, hx4, h⟩ := bind_some h
    refine aw_iald X dX1_nextOther_15 hx4 ?_
    refine aw_iload_n X dX1_nextOther_16 1 2 rfl rfl ?_
    refine aw_icmp_ne X 22 dX1_nextOther_17 rfl (fun c5 => ?_) (fun c5 => ?_)
    · rw [if_neg c5] at h
      refine aw_iinc X dX1_nextOther_22 2 rfl (1 : Int32) rfl (by decide) [(3, .inl (v3 + (1 : Int32))), (0, .inr (.inr (some this))), (2, .inl v2)] rfl ?_
      refine aw_goto X 2 dX1_nextOther_25 rfl ?_
      cases h
      refine aw_sub [(0, .inr (.inr (some this))), (2, .inl v2), (3, .inl (v3 + (1 : Int32)))] [1, 2, 0] rfl ?_
      exact kH (v3 + (1 : Int32)) rfl
    · rw [if_pos c5] at h
      cases h
      refine aw_sub [(3, .inl v3)] [2] rfl ?_
      exact kE1 v3 rfl
theorem wX1_nextOther {C : CT} {d : Nat} (X : Cx C cX1_nextOther RX1 (some .int) 4 d) (φ : Nat) (this : Nat) (v1 : Int32) (v2 : Int32) (σ : St) (y : Int32) (h : fX1_nextOther φ this v1 v2 σ = some y) : AW C 0 [(0, .inr (.inr (some this))), (1, .inl v1), (2, .inl v2)] [] σ (AQ C (some (.inl y)) σ) := by
  unfold fX1_nextOther at h
  refine aw_iload_n X dX1_nextOther_0 1 1 rfl rfl ?_
  refine aw_istore_n X dX1_nextOther_1 3 rfl (by decide) [(3, .inl v1), (0, .inr (.inr (some this))), (1, .inl v1), (2, .inl v2)] rfl ?_
  obtain ⟨e6, h7, h⟩ := bind_some h
  refine aw_sub [(0, .inr (.inr (some this))), (2, .inl v2), (3, .inl v1)] [1, 3, 0] rfl ?_
  refine aw_it (fun s => AW C 2 [(0, .inr (.inr (some this))), (2, .inl v2), (3, .inl s)] [] σ (AQ C (some (.inl y)) σ)) (fun e => match e with | (.inl e) => AW C 28 [] [] σ (AQ C (some (.inl y)) σ) | (.inr e) => AW C 20 [(3, .inl e)] [] σ (AQ C (some (.inl y)) σ)) (fun s r hr kH kE => wX1_nextOther_l2 X φ this v2 σ s r hr kH (fun e he => kE (.inl e) he) (fun e he => kE (.inr e) he)) φ _ e6 h7 ?_
  rcases e6 with e8 | e9
  · refine aw_bipush X (-9 : Int32) dX1_nextOther_28 (by decide) ?_
    cases h
    exact aw_iret X dX1_nextOther_30
  · refine aw_iload_n X dX1_nextOther_20 0 3 rfl rfl ?_
    cases h
    exact aw_iret X dX1_nextOther_21
theorem AX1_nextOther {E : AE} {l : Launch} (hE : EOK E l) (φ d : Nat) (this : Nat) (v1 : Int32) (v2 : Int32) (σ : St) (y : Int32) (h : fX1_nextOther φ this v1 v2 σ = some y) : AMet E l yX1_nextOther (ws_ yX1_nextOther cX1_nextOther 4 (some .int)) d [.inr (.inr (some this)), .inl v1, .inl v2] σ (some (.inl y)) σ := by
  refine amet_of hE (by decide +kernel) (Nat.le_of_ble_eq_true rfl) fun C e1 e2 X XI => ?_
  subst e1
  exact wX1_nextOther X φ this v1 v2 σ y h
theorem wX1_layPart_l5 {C : CT} {d : Nat} {Z : State → Prop} (X : Cx C cX1_layPart RX1 (some .int) 6 d) (φ : Nat) (this : Nat) (v1 : Int32) (v2 : Int32) (σ : St) (v3 : Int32) (v4 : Int32) (y : (Int32 × Int32) ⊕ (Int32)) (h : fX1_layPart_l5 φ this v1 v2 σ v3 v4 = some y) (kH : ∀ s : Int32 × Int32, y = .inl s → AW C 5 [(0, .inr (.inr (some this))), (1, .inl v1), (2, .inl v2), (3, .inl s.1), (4, .inl s.2)] [] σ Z) (kE0 : ∀ e : Int32, y = .inr e → AW C 32 [(0, .inr (.inr (some this))), (1, .inl v1), (2, .inl v2), (3, .inl e)] [] σ Z) : AW C 5 [(0, .inr (.inr (some this))), (1, .inl v1), (2, .inl v2), (3, .inl v3), (4, .inl v4)] [] σ Z := by
  unfold fX1_layPart_l5 at h
  refine aw_aload_n X dX1_layPart_5 0 0 rfl rfl ?_
  obtain ⟨x1, hx1, h⟩ := bind_some h
  refine aw_gfR X fl_X1_72 dX1_layPart_6 hx1 ?_
  refine aw_iload X dX1_layPart_9 4 rfl ?_
  obtain ⟨x2, hx2, h⟩ := bind_some h
  refine aw_iald X dX1_layPart_11 hx2 ?_
  refine aw_bipush X (-9 : Int32) dX1_layPart_12 (by decide) ?_
  refine aw_icmp_eq X 32 dX1_layPart_14 rfl (fun c3 => ?_) (fun c3 => ?_)
  · rw [if_pos c3] at h
    cases h
    refine aw_sub [(0, .inr (.inr (some this))), (1, .inl v1), (2, .inl v2), (3, .inl v3)] [0, 1, 2, 3] rfl ?_
    exact kE0 v3 rfl
  · rw [if_neg c3] at h
    refine aw_iinc X dX1_layPart_17 3 rfl (1 : Int32) rfl (by decide) [(3, .inl (v3 + (1 : Int32))), (0, .inr (.inr (some this))), (1, .inl v1), (2, .inl v2), (4, .inl v4)] rfl ?_
    refine aw_aload_n X dX1_layPart_20 1 0 rfl rfl ?_
    obtain ⟨x4, hx4, h⟩ := bind_some h
    refine aw_gfR X fl_X1_72 dX1_layPart_21 hx4 ?_
    refine aw_iload X dX1_layPart_24 4 rfl ?_
    obtain ⟨x5, hx5, h⟩ := bind_some h
    refine aw_iald X dX1_layPart_26 hx5 ?_
    refine aw_istore X dX1_layPart_27 (by decide) [(4, .inl x5), (3, .inl (v3 + (1 : Int32))), (0, .inr (.inr (some this))), (1, .inl v1), (2, .inl v2)] rfl ?_
    refine aw_goto X 5 dX1_layPart_29 rfl ?_
    cases h
    refine aw_sub [(0, .inr (.inr (some this))), (1, .inl v1), (2, .inl v2), (3, .inl (v3 + (1 : Int32))), (4, .inl x5)] [2, 3, 4, 1, 0] rfl ?_
    exact kH ((v3 + (1 : Int32)), x5) rfl
theorem wX1_layPart_l60 {C : CT} {d : Nat} {Z : State → Prop} (X : Cx C cX1_layPart RX1 (some .int) 6 d) (φ : Nat) (this : Nat) (v3 : Int32) (v4 : Int32) (v5 : Int32) (σ : St) (y : (Int32 × Int32 × St) ⊕ (St)) (h : fX1_layPart_l60 φ this v3 v4 v5 σ = some y) (kH : ∀ s : Int32 × Int32 × St, y = .inl s → AW C 60 [(0, .inr (.inr (some this))), (3, .inl v3), (4, .inl s.1), (5, .inl s.2.1)] [] s.2.2 Z) (kE0 : ∀ e : St, y = .inr e → AW C 101 [(3, .inl v3)] [] e Z) : AW C 60 [(0, .inr (.inr (some this))), (3, .inl v3), (4, .inl v4), (5, .inl v5)] [] σ Z := by
  unfold fX1_layPart_l60 at h
  refine aw_aload_n X dX1_layPart_60 0 0 rfl rfl ?_
  obtain ⟨x10, hx10, h⟩ := bind_some h
  refine aw_gfR X fl_X1_72 dX1_layPart_61 hx10 ?_
  refine aw_iload X dX1_layPart_64 3 rfl ?_
  obtain ⟨x11, hx11, h⟩ := bind_some h
  refine aw_iald X dX1_layPart_66 hx11 ?_
  refine aw_bipush X (-9 : Int32) dX1_layPart_67 (by decide) ?_
  refine aw_icmp_eq X 101 dX1_layPart_69 rfl (fun c12 => ?_) (fun c12 => ?_)
  · rw [if_pos c12] at h
    cases h
    refine aw_sub [(3, .inl v3)] [1] rfl ?_
    exact kE0 σ rfl
  · rw [if_neg c12] at h
    refine aw_iinc X dX1_layPart_72 2 rfl (-1 : Int32) rfl (by decide) [(4, .inl (v4 + (-1 : Int32))), (0, .inr (.inr (some this))), (3, .inl v3), (5, .inl v5)] rfl ?_
    refine aw_aload_n X dX1_layPart_75 1 0 rfl rfl ?_
    obtain ⟨x13, hx13, h⟩ := bind_some h
    refine aw_gfR X fl_X1_44 dX1_layPart_76 hx13 ?_
    refine aw_iload X dX1_layPart_79 0 rfl ?_
    refine aw_aload_n X dX1_layPart_81 1 0 rfl rfl ?_
    obtain ⟨x14, hx14, h⟩ := bind_some h
    refine aw_gfR X fl_X1_75 dX1_layPart_82 hx14 ?_
    refine aw_iload X dX1_layPart_85 3 rfl ?_
    obtain ⟨x15, hx15, h⟩ := bind_some h
    refine aw_iald X dX1_layPart_87 hx15 ?_
    obtain ⟨s16, hs16, h⟩ := bind_some h
    refine aw_iast X dX1_layPart_88 hs16 ?_
    refine aw_aload_n X dX1_layPart_89 1 0 rfl rfl ?_
    obtain ⟨x17, hx17, h⟩ := bind_some h
    refine aw_gfR X fl_X1_72 dX1_layPart_90 hx17 ?_
    refine aw_iload X dX1_layPart_93 3 rfl ?_
    obtain ⟨x18, hx18, h⟩ := bind_some h
    refine aw_iald X dX1_layPart_95 hx18 ?_
    refine aw_istore X dX1_layPart_96 (by decide) [(5, .inl x18), (4, .inl (v4 + (-1 : Int32))), (0, .inr (.inr (some this))), (3, .inl v3)] rfl ?_
    refine aw_goto X 60 dX1_layPart_98 rfl ?_
    cases h
    refine aw_sub [(0, .inr (.inr (some this))), (3, .inl v3), (4, .inl (v4 + (-1 : Int32))), (5, .inl x18)] [2, 3, 1, 0] rfl ?_
    exact kH ((v4 + (-1 : Int32)), x18, s16) rfl
theorem wX1_layPart {C : CT} {d : Nat} (X : Cx C cX1_layPart RX1 (some .int) 6 d) (φ : Nat) (this : Nat) (v1 : Int32) (v2 : Int32) (σ : St) (y : Int32 × St) (h : fX1_layPart φ this v1 v2 σ = some y) : AW C 0 [(0, .inr (.inr (some this))), (1, .inl v1), (2, .inl v2)] [] σ (AQ C (some (.inl y.1)) y.2) := by
  unfold fX1_layPart at h
  refine aw_iconst X (1 : Int32) dX1_layPart_0 (by decide) ?_
  refine aw_istore_n X dX1_layPart_1 3 rfl (by decide) [(3, .inl (1 : Int32)), (0, .inr (.inr (some this))), (1, .inl v1), (2, .inl v2)] rfl ?_
  refine aw_iload_n X dX1_layPart_2 2 1 rfl rfl ?_
  refine aw_istore X dX1_layPart_3 (by decide) [(4, .inl v1), (3, .inl (1 : Int32)), (0, .inr (.inr (some this))), (1, .inl v1), (2, .inl v2)] rfl ?_
  obtain ⟨e6, h7, h⟩ := bind_some h
  refine aw_sub [(0, .inr (.inr (some this))), (1, .inl v1), (2, .inl v2), (3, .inl (1 : Int32)), (4, .inl v1)] [2, 3, 4, 1, 0] rfl ?_
  refine aw_it (fun s => AW C 5 [(0, .inr (.inr (some this))), (1, .inl v1), (2, .inl v2), (3, .inl s.1), (4, .inl s.2)] [] σ (AQ C (some (.inl y.1)) y.2)) (fun e => AW C 32 [(0, .inr (.inr (some this))), (1, .inl v1), (2, .inl v2), (3, .inl e)] [] σ (AQ C (some (.inl y.1)) y.2)) (fun s r hr kH kE => wX1_layPart_l5 X φ this v1 v2 σ s.1 s.2 r hr kH kE) φ _ e6 h7 ?_
  refine aw_aload_n X dX1_layPart_32 0 0 rfl rfl ?_
  refine aw_iload_n X dX1_layPart_33 3 3 rfl rfl ?_
  obtain ⟨s8, hs8, h⟩ := bind_some h
  refine aw_pfI X fl_X1_151 dX1_layPart_34 hs8 ?_
  refine aw_iload_n X dX1_layPart_37 3 3 rfl rfl ?_
  refine aw_iconst X (1 : Int32) dX1_layPart_38 (by decide) ?_
  refine aw_isub X dX1_layPart_39 ?_
  refine aw_istore X dX1_layPart_40 (by decide) [(4, .inl (e6 - (1 : Int32))), (0, .inr (.inr (some this))), (1, .inl v1), (2, .inl v2), (3, .inl e6)] rfl ?_
  refine aw_iload X dX1_layPart_42 0 rfl ?_
  refine aw_bipush X (40 : Int32) dX1_layPart_44 (by decide) ?_
  refine aw_icmp_ge X 57 dX1_layPart_46 rfl (fun c9 => ?_) (fun c9 => ?_)
  · rw [if_pos c9] at h
    refine aw_iload_n X dX1_layPart_57 2 1 rfl rfl ?_
    refine aw_istore X dX1_layPart_58 (by decide) [(5, .inl v1), (4, .inl (e6 - (1 : Int32))), (0, .inr (.inr (some this))), (1, .inl v1), (2, .inl v2), (3, .inl e6)] rfl ?_
    obtain ⟨e19, h20, h⟩ := bind_some h
    refine aw_sub [(0, .inr (.inr (some this))), (3, .inl e6), (4, .inl (e6 - (1 : Int32))), (5, .inl v1)] [2, 5, 1, 0] rfl ?_
    refine aw_it (fun s => AW C 60 [(0, .inr (.inr (some this))), (3, .inl e6), (4, .inl s.1), (5, .inl s.2.1)] [] s.2.2 (AQ C (some (.inl y.1)) y.2)) (fun e => AW C 101 [(3, .inl e6)] [] e (AQ C (some (.inl y.1)) y.2)) (fun s r hr kH kE => wX1_layPart_l60 X φ this e6 s.1 s.2.1 s.2.2 r hr kH kE) φ _ e19 h20 ?_
    refine aw_iload_n X dX1_layPart_101 0 3 rfl rfl ?_
    cases h
    exact aw_iret X dX1_layPart_102
  · rw [if_neg c9] at h
    refine aw_aload_n X dX1_layPart_49 1 0 rfl rfl ?_
    obtain ⟨x21, hx21, h⟩ := bind_some h
    refine aw_gfR X fl_X1_44 dX1_layPart_50 hx21 ?_
    refine aw_iload X dX1_layPart_53 0 rfl ?_
    refine aw_iload_n X dX1_layPart_55 3 2 rfl rfl ?_
    obtain ⟨s22, hs22, h⟩ := bind_some h
    refine aw_iast X dX1_layPart_56 hs22 ?_
    refine aw_iload_n X dX1_layPart_57 2 1 rfl rfl ?_
    refine aw_istore X dX1_layPart_58 (by decide) [(5, .inl v1), (4, .inl (e6 - (1 : Int32))), (0, .inr (.inr (some this))), (1, .inl v1), (2, .inl v2), (3, .inl e6)] rfl ?_
    obtain ⟨e23, h24, h⟩ := bind_some h
    refine aw_sub [(0, .inr (.inr (some this))), (3, .inl e6), (4, .inl (e6 - (1 : Int32))), (5, .inl v1)] [2, 5, 1, 0] rfl ?_
    refine aw_it (fun s => AW C 60 [(0, .inr (.inr (some this))), (3, .inl e6), (4, .inl s.1), (5, .inl s.2.1)] [] s.2.2 (AQ C (some (.inl y.1)) y.2)) (fun e => AW C 101 [(3, .inl e6)] [] e (AQ C (some (.inl y.1)) y.2)) (fun s r hr kH kE => wX1_layPart_l60 X φ this e6 s.1 s.2.1 s.2.2 r hr kH kE) φ _ e23 h24 ?_
    refine aw_iload_n X dX1_layPart_101 0 3 rfl rfl ?_
    cases h
    exact aw_iret X dX1_layPart_102
theorem AX1_layPart {E : AE} {l : Launch} (hE : EOK E l) (φ d : Nat) (this : Nat) (v1 : Int32) (v2 : Int32) (σ : St) (y : Int32 × St) (h : fX1_layPart φ this v1 v2 σ = some y) : AMet E l yX1_layPart (ws_ yX1_layPart cX1_layPart 6 (some .int)) d [.inr (.inr (some this)), .inl v1, .inl v2] σ (some (.inl y.1)) y.2 := by
  refine amet_of hE (by decide +kernel) (Nat.le_of_ble_eq_true rfl) fun C e1 e2 X XI => ?_
  subst e1
  exact wX1_layPart X φ this v1 v2 σ y h
theorem wX1_partsFrom_l2 {C : CT} {d : Nat} {Z : State → Prop} (X : Cx C cX1_partsFrom RX1 (some .int) 10 (d + 2)) (φ : Nat) (this : Nat) (v1 : Int32) (v2 : Int32) (σ : St) (y : (Int32 × St) ⊕ (St)) (h : fX1_partsFrom_l2 φ this v1 v2 σ = some y) (kH : ∀ s : Int32 × St, y = .inl s → AW C 2 [(0, .inr (.inr (some this))), (1, .inl v1), (2, .inl s.1)] [] s.2 Z) (kE0 : ∀ e : St, y = .inr e → AW C 22 [(0, .inr (.inr (some this))), (1, .inl v1)] [] e Z) : AW C 2 [(0, .inr (.inr (some this))), (1, .inl v1), (2, .inl v2)] [] σ Z := by
  unfold fX1_partsFrom_l2 at h
  refine aw_iload_n X dX1_partsFrom_2 2 2 rfl rfl ?_
  refine aw_sipush X (1700 : Int32) dX1_partsFrom_3 (by decide) ?_
  refine aw_icmp_ge X 22 dX1_partsFrom_6 rfl (fun c1 => ?_) (fun c1 => ?_)
  · rw [if_pos c1] at h
    cases h
    refine aw_sub [(0, .inr (.inr (some this))), (1, .inl v1)] [0, 1] rfl ?_
    exact kE0 σ rfl
  · rw [if_neg c1] at h
    refine aw_aload_n X dX1_partsFrom_9 0 0 rfl rfl ?_
    obtain ⟨x2, hx2, h⟩ := bind_some h
    refine aw_gfR X fl_X1_78 dX1_partsFrom_10 hx2 ?_
    refine aw_iload_n X dX1_partsFrom_13 2 2 rfl rfl ?_
    refine aw_iconst X (0 : Int32) dX1_partsFrom_14 (by decide) ?_
    obtain ⟨s3, hs3, h⟩ := bind_some h
    refine aw_zast X dX1_partsFrom_15 hs3 ?_
    refine aw_iinc X dX1_partsFrom_16 2 rfl (1 : Int32) rfl (by decide) [(2, .inl (v2 + (1 : Int32))), (0, .inr (.inr (some this))), (1, .inl v1)] rfl ?_
    refine aw_goto X 2 dX1_partsFrom_19 rfl ?_
    cases h
    refine aw_sub [(0, .inr (.inr (some this))), (1, .inl v1), (2, .inl (v2 + (1 : Int32)))] [1, 2, 0] rfl ?_
    exact kH ((v2 + (1 : Int32)), s3) rfl
theorem wX1_partsFrom_b166 {C : CT} {d : Nat} {Z : State → Prop} (X : Cx C cX1_partsFrom RX1 (some .int) 10 (d + 2)) (φ : Nat) (this : Nat) (v1 : Int32) (v2 : Int32) (v3 : Int32) (v4 : Int32) (v5 : Int32) (v6 : Int32) (v7 : Int32) (k0 : Int32) (σ : St) (y : (Int32 × Int32 × St) ⊕ ((Int32 × St) ⊕ (Int32 × St))) (h : fX1_partsFrom_b166 φ this v1 v2 v3 v4 v5 v6 v7 k0 σ = some y) (kH : ∀ s : Int32 × Int32 × St, y = .inl s → AW C 78 [(0, .inr (.inr (some this))), (1, .inl v1), (2, .inl s.1), (3, .inl v3), (4, .inl v4), (5, .inl v5), (6, .inl s.2.1)] [] s.2.2 Z) (kE0 : ∀ e : Int32 × St, y = .inr (.inl e) → AW C 225 [(0, .inr (.inr (some this))), (1, .inl v1), (2, .inl e.1), (3, .inl v3)] [] e.2 Z) (kE1 : ∀ e : Int32 × St, y = .inr (.inr e) → AW C 135 [(0, .inr (.inr (some this))), (3, .inl v3), (6, .inl e.1)] [] e.2 Z) : AW C 166 [(0, .inr (.inr (some this))), (1, .inl v1), (2, .inl v2), (3, .inl v3), (4, .inl v4), (5, .inl v5), (6, .inl v6), (7, .inl v7)] [.inl k0] σ Z := by
  unfold fX1_partsFrom_b166 at h
  refine aw_istore X dX1_partsFrom_166 (by decide) [(9, .inl k0), (0, .inr (.inr (some this))), (1, .inl v1), (2, .inl v2), (3, .inl v3), (4, .inl v4), (5, .inl v5), (6, .inl v6), (7, .inl v7)] rfl ?_
  refine aw_iload X dX1_partsFrom_168 8 rfl ?_
  refine aw_bipush X (-9 : Int32) dX1_partsFrom_170 (by decide) ?_
  refine aw_icmp_eq X 219 dX1_partsFrom_172 rfl (fun c25 => ?_) (fun c25 => ?_)
  · rw [if_pos c25] at h
    refine aw_iinc X dX1_partsFrom_219 7 rfl (1 : Int32) rfl (by decide) [(6, .inl (v6 + (1 : Int32))), (9, .inl k0), (0, .inr (.inr (some this))), (1, .inl v1), (2, .inl v2), (3, .inl v3), (4, .inl v4), (5, .inl v5), (7, .inl v7)] rfl ?_
    refine aw_goto X 78 dX1_partsFrom_222 rfl ?_
    cases h
    refine aw_sub [(0, .inr (.inr (some this))), (1, .inl v1), (2, .inl v2), (3, .inl v3), (4, .inl v4), (5, .inl v5), (6, .inl (v6 + (1 : Int32)))] [2, 3, 4, 5, 6, 7, 0] rfl ?_
    exact kH (v2, (v6 + (1 : Int32)), σ) rfl
  · rw [if_neg c25] at h
    refine aw_aload_n X dX1_partsFrom_175 1 0 rfl rfl ?_
    obtain ⟨x26, hx26, h⟩ := bind_some h
    refine aw_gfR X fl_X1_78 dX1_partsFrom_176 hx26 ?_
    refine aw_iload X dX1_partsFrom_179 0 rfl ?_
    obtain ⟨x27, hx27, h⟩ := bind_some h
    refine aw_zald X dX1_partsFrom_181 hx27 ?_
    refine aw_if_ne X 219 dX1_partsFrom_182 rfl (fun c28 => ?_) (fun c28 => ?_)
    · rw [if_neg c28] at h
      refine aw_iinc X dX1_partsFrom_219 7 rfl (1 : Int32) rfl (by decide) [(6, .inl (v6 + (1 : Int32))), (9, .inl k0), (0, .inr (.inr (some this))), (1, .inl v1), (2, .inl v2), (3, .inl v3), (4, .inl v4), (5, .inl v5), (7, .inl v7)] rfl ?_
      refine aw_goto X 78 dX1_partsFrom_222 rfl ?_
      cases h
      refine aw_sub [(0, .inr (.inr (some this))), (1, .inl v1), (2, .inl v2), (3, .inl v3), (4, .inl v4), (5, .inl v5), (6, .inl (v6 + (1 : Int32)))] [2, 3, 4, 5, 6, 7, 0] rfl ?_
      exact kH (v2, (v6 + (1 : Int32)), σ) rfl
    · rw [if_pos c28] at h
      refine aw_aload_n X dX1_partsFrom_185 1 0 rfl rfl ?_
      obtain ⟨x29, hx29, h⟩ := bind_some h
      refine aw_gfR X fl_X1_78 dX1_partsFrom_186 hx29 ?_
      refine aw_iload X dX1_partsFrom_189 0 rfl ?_
      refine aw_iconst X (1 : Int32) dX1_partsFrom_191 (by decide) ?_
      obtain ⟨s30, hs30, h⟩ := bind_some h
      refine aw_zast X dX1_partsFrom_192 hs30 ?_
      refine aw_aload_n X dX1_partsFrom_193 1 0 rfl rfl ?_
      obtain ⟨x31, hx31, h⟩ := bind_some h
      refine aw_gfR X fl_X1_69 dX1_partsFrom_194 hx31 ?_
      refine aw_iload_n X dX1_partsFrom_197 3 2 rfl rfl ?_
      refine aw_iload X dX1_partsFrom_198 0 rfl ?_
      obtain ⟨s32, hs32, h⟩ := bind_some h
      refine aw_iast X dX1_partsFrom_200 hs32 ?_
      refine aw_aload_n X dX1_partsFrom_201 1 0 rfl rfl ?_
      obtain ⟨x33, hx33, h⟩ := bind_some h
      refine aw_gfR X fl_X1_72 dX1_partsFrom_202 hx33 ?_
      refine aw_iload_n X dX1_partsFrom_205 3 2 rfl rfl ?_
      refine aw_iload_n X dX1_partsFrom_206 4 3 rfl rfl ?_
      obtain ⟨s34, hs34, h⟩ := bind_some h
      refine aw_iast X dX1_partsFrom_207 hs34 ?_
      refine aw_aload_n X dX1_partsFrom_208 1 0 rfl rfl ?_
      obtain ⟨x35, hx35, h⟩ := bind_some h
      refine aw_gfR X fl_X1_75 dX1_partsFrom_209 hx35 ?_
      refine aw_iload_n X dX1_partsFrom_212 3 2 rfl rfl ?_
      refine aw_iload X dX1_partsFrom_213 7 rfl ?_
      obtain ⟨s36, hs36, h⟩ := bind_some h
      refine aw_iast X dX1_partsFrom_215 hs36 ?_
      refine aw_iinc X dX1_partsFrom_216 3 rfl (1 : Int32) rfl (by decide) [(2, .inl (v2 + (1 : Int32))), (9, .inl k0), (0, .inr (.inr (some this))), (1, .inl v1), (3, .inl v3), (4, .inl v4), (5, .inl v5), (6, .inl v6), (7, .inl v7)] rfl ?_
      refine aw_iinc X dX1_partsFrom_219 7 rfl (1 : Int32) rfl (by decide) [(6, .inl (v6 + (1 : Int32))), (2, .inl (v2 + (1 : Int32))), (9, .inl k0), (0, .inr (.inr (some this))), (1, .inl v1), (3, .inl v3), (4, .inl v4), (5, .inl v5), (7, .inl v7)] rfl ?_
      refine aw_goto X 78 dX1_partsFrom_222 rfl ?_
      cases h
      refine aw_sub [(0, .inr (.inr (some this))), (1, .inl v1), (2, .inl (v2 + (1 : Int32))), (3, .inl v3), (4, .inl v4), (5, .inl v5), (6, .inl (v6 + (1 : Int32)))] [3, 4, 1, 5, 6, 7, 0] rfl ?_
      exact kH ((v2 + (1 : Int32)), (v6 + (1 : Int32)), s36) rfl
theorem wX1_partsFrom_b132 {C : CT} {d : Nat} {Z : State → Prop} (X : Cx C cX1_partsFrom RX1 (some .int) 10 (d + 2)) (φ : Nat) (this : Nat) (v1 : Int32) (v2 : Int32) (v3 : Int32) (v4 : Int32) (v5 : Int32) (v6 : Int32) (v7 : Int32) (v8 : Int32) (k0 : Int32) (k1 : Int32) (σ : St) (y : (Int32 × Int32 × St) ⊕ ((Int32 × St) ⊕ (Int32 × St))) (h : fX1_partsFrom_b132 φ this v1 v2 v3 v4 v5 v6 v7 v8 k0 k1 σ = some y) (kH : ∀ s : Int32 × Int32 × St, y = .inl s → AW C 78 [(0, .inr (.inr (some this))), (1, .inl v1), (2, .inl s.1), (3, .inl v3), (4, .inl v4), (5, .inl v5), (6, .inl s.2.1)] [] s.2.2 Z) (kE0 : ∀ e : Int32 × St, y = .inr (.inl e) → AW C 225 [(0, .inr (.inr (some this))), (1, .inl v1), (2, .inl e.1), (3, .inl v3)] [] e.2 Z) (kE1 : ∀ e : Int32 × St, y = .inr (.inr e) → AW C 135 [(0, .inr (.inr (some this))), (3, .inl v3), (6, .inl e.1)] [] e.2 Z) : AW C 132 [(0, .inr (.inr (some this))), (1, .inl v1), (2, .inl v2), (3, .inl v3), (4, .inl v4), (5, .inl v5), (6, .inl v6), (7, .inl v7), (8, .inl v8)] [.inl k1, .inl k0] σ Z := by
  unfold fX1_partsFrom_b132 at h
  refine aw_icmp_eq X 143 dX1_partsFrom_132 rfl (fun c23 => ?_) (fun c23 => ?_)
  · rw [if_pos c23] at h
    refine aw_iload X dX1_partsFrom_143 7 rfl ?_
    refine aw_bipush X (-9 : Int32) dX1_partsFrom_145 (by decide) ?_
    refine aw_icmp_ne X 154 dX1_partsFrom_147 rfl (fun c24 => ?_) (fun c24 => ?_)
    · rw [if_neg c24] at h
      refine aw_bipush X (41 : Int32) dX1_partsFrom_154 (by decide) ?_
      refine aw_iload X dX1_partsFrom_156 7 rfl ?_
      refine aw_iconst X (1 : Int32) dX1_partsFrom_158 (by decide) ?_
      refine aw_iadd X dX1_partsFrom_159 ?_
      refine aw_imul X dX1_partsFrom_160 ?_
      refine aw_iload X dX1_partsFrom_161 8 rfl ?_
      refine aw_iadd X dX1_partsFrom_163 ?_
      refine aw_iconst X (1 : Int32) dX1_partsFrom_164 (by decide) ?_
      refine aw_iadd X dX1_partsFrom_165 ?_
      refine aw_sub [(0, .inr (.inr (some this))), (1, .inl v1), (2, .inl v2), (3, .inl v3), (4, .inl v4), (5, .inl v5), (6, .inl v6), (7, .inl v7)] [0, 1, 2, 3, 4, 5, 6, 7] rfl ?_
      exact wX1_partsFrom_b166 X φ this v1 v2 v3 v4 v5 v6 v7 ((((41 : Int32) * (v7 + (1 : Int32))) + v8) + (1 : Int32)) σ y h kH kE0 kE1
    · rw [if_pos c24] at h
      refine aw_iconst X (0 : Int32) dX1_partsFrom_150 (by decide) ?_
      refine aw_goto X 166 dX1_partsFrom_151 rfl ?_
      refine aw_sub [(0, .inr (.inr (some this))), (1, .inl v1), (2, .inl v2), (3, .inl v3), (4, .inl v4), (5, .inl v5), (6, .inl v6), (7, .inl v7)] [0, 1, 2, 3, 4, 5, 6, 7] rfl ?_
      exact wX1_partsFrom_b166 X φ this v1 v2 v3 v4 v5 v6 v7 (0 : Int32) σ y h kH kE0 kE1
  · rw [if_neg c23] at h
    cases h
    refine aw_sub [(0, .inr (.inr (some this))), (3, .inl v3), (6, .inl v6)] [0, 3, 6] rfl ?_
    exact kE1 (v6, σ) rfl
theorem wX1_partsFrom_b120 {C : CT} {d : Nat} {Z : State → Prop} (X : Cx C cX1_partsFrom RX1 (some .int) 10 (d + 2)) (φ : Nat) (this : Nat) (v1 : Int32) (v2 : Int32) (v3 : Int32) (v4 : Int32) (v5 : Int32) (v6 : Int32) (v7 : Int32) (v8 : Int32) (k0 : Int32) (σ : St) (y : (Int32 × Int32 × St) ⊕ ((Int32 × St) ⊕ (Int32 × St))) (h : fX1_partsFrom_b120 φ this v1 v2 v3 v4 v5 v6 v7 v8 k0 σ = some y) (kH : ∀ s : Int32 × Int32 × St, y = .inl s → AW C 78 [(0, .inr (.inr (some this))), (1, .inl v1), (2, .inl s.1), (3, .inl v3), (4, .inl v4), (5, .inl v5), (6, .inl s.2.1)] [] s.2.2 Z) (kE0 : ∀ e : Int32 × St, y = .inr (.inl e) → AW C 225 [(0, .inr (.inr (some this))), (1, .inl v1), (2, .inl e.1), (3, .inl v3)] [] e.2 Z) (kE1 : ∀ e : Int32 × St, y = .inr (.inr e) → AW C 135 [(0, .inr (.inr (some this))), (3, .inl v3), (6, .inl e.1)] [] e.2 Z) : AW C 120 [(0, .inr (.inr (some this))), (1, .inl v1), (2, .inl v2), (3, .inl v3), (4, .inl v4), (5, .inl v5), (6, .inl v6), (7, .inl v7), (8, .inl v8)] [.inl k0] σ Z := by
  unfold fX1_partsFrom_b120 at h
  refine aw_iload X dX1_partsFrom_120 8 rfl ?_
  refine aw_bipush X (-9 : Int32) dX1_partsFrom_122 (by decide) ?_
  refine aw_icmp_ne X 131 dX1_partsFrom_124 rfl (fun c22 => ?_) (fun c22 => ?_)
  · rw [if_neg c22] at h
    refine aw_iconst X (0 : Int32) dX1_partsFrom_131 (by decide) ?_
    exact wX1_partsFrom_b132 X φ this v1 v2 v3 v4 v5 v6 v7 v8 k0 (0 : Int32) σ y h kH kE0 kE1
  · rw [if_pos c22] at h
    refine aw_iconst X (1 : Int32) dX1_partsFrom_127 (by decide) ?_
    refine aw_goto X 132 dX1_partsFrom_128 rfl ?_
    exact wX1_partsFrom_b132 X φ this v1 v2 v3 v4 v5 v6 v7 v8 k0 (1 : Int32) σ y h kH kE0 kE1
theorem wX1_partsFrom_l78 {C : CT} {d : Nat} {Z : State → Prop} (X : Cx C cX1_partsFrom RX1 (some .int) 10 (d + 2)) (φ : Nat) (this : Nat) (v1 : Int32) (v3 : Int32) (v4 : Int32) (v5 : Int32) (v2 : Int32) (v6 : Int32) (σ : St) (y : (Int32 × Int32 × St) ⊕ ((Int32 × St) ⊕ (Int32 × St))) (h : fX1_partsFrom_l78 φ this v1 v3 v4 v5 v2 v6 σ = some y) (kH : ∀ s : Int32 × Int32 × St, y = .inl s → AW C 78 [(0, .inr (.inr (some this))), (1, .inl v1), (2, .inl s.1), (3, .inl v3), (4, .inl v4), (5, .inl v5), (6, .inl s.2.1)] [] s.2.2 Z) (kE0 : ∀ e : Int32 × St, y = .inr (.inl e) → AW C 225 [(0, .inr (.inr (some this))), (1, .inl v1), (2, .inl e.1), (3, .inl v3)] [] e.2 Z) (kE1 : ∀ e : Int32 × St, y = .inr (.inr e) → AW C 135 [(0, .inr (.inr (some this))), (3, .inl v3), (6, .inl e.1)] [] e.2 Z) : AW C 78 [(0, .inr (.inr (some this))), (1, .inl v1), (2, .inl v2), (3, .inl v3), (4, .inl v4), (5, .inl v5), (6, .inl v6)] [] σ Z := by
  unfold fX1_partsFrom_l78 at h
  refine aw_iload X dX1_partsFrom_78 6 rfl ?_
  refine aw_aload_n X dX1_partsFrom_80 0 0 rfl rfl ?_
  obtain ⟨x17, hx17, h⟩ := bind_some h
  refine aw_gfI X fl_X1_110 dX1_partsFrom_81 hx17 ?_
  refine aw_icmp_ge X 225 dX1_partsFrom_84 rfl (fun c18 => ?_) (fun c18 => ?_)
  · rw [if_pos c18] at h
    cases h
    refine aw_sub [(0, .inr (.inr (some this))), (1, .inl v1), (2, .inl v2), (3, .inl v3)] [0, 1, 2, 3] rfl ?_
    exact kE0 (v2, σ) rfl
  · rw [if_neg c18] at h
    refine aw_aload_n X dX1_partsFrom_87 0 0 rfl rfl ?_
    refine aw_iload_n X dX1_partsFrom_88 1 1 rfl rfl ?_
    refine aw_iload X dX1_partsFrom_89 4 rfl ?_
    refine aw_iload X dX1_partsFrom_91 6 rfl ?_
    obtain ⟨y19, hy19, h⟩ := bind_some h
    refine aw_cV X (st := []) hy19 [.inl v1, .inl v4, .inl v6] rfl rfl ml_X1_206 (fun o h => AX1_next (Cx.ok X) φ d _ _ _ _ _ _ h) dX1_partsFrom_93 (Nat.le_of_ble_eq_true rfl) ?_
    refine aw_istore X dX1_partsFrom_96 (by decide) [(7, .inl y19), (0, .inr (.inr (some this))), (1, .inl v1), (2, .inl v2), (3, .inl v3), (4, .inl v4), (5, .inl v5), (6, .inl v6)] rfl ?_
    refine aw_aload_n X dX1_partsFrom_98 1 0 rfl rfl ?_
    refine aw_iload X dX1_partsFrom_99 6 rfl ?_
    refine aw_iload X dX1_partsFrom_101 7 rfl ?_
    obtain ⟨y20, hy20, h⟩ := bind_some h
    refine aw_cV X (st := []) hy20 [.inl v5, .inl v6] rfl rfl ml_X1_249 (fun o h => AX1_nextOther (Cx.ok X) φ (d + 1) _ _ _ _ _ h) dX1_partsFrom_103 (Nat.le_of_ble_eq_true rfl) ?_
    refine aw_istore X dX1_partsFrom_106 (by decide) [(8, .inl y20), (7, .inl y19), (0, .inr (.inr (some this))), (1, .inl v1), (2, .inl v2), (3, .inl v3), (4, .inl v4), (5, .inl v5), (6, .inl v6)] rfl ?_
    refine aw_iload X dX1_partsFrom_108 1 rfl ?_
    refine aw_bipush X (-9 : Int32) dX1_partsFrom_110 (by decide) ?_
    refine aw_icmp_ne X 119 dX1_partsFrom_112 rfl (fun c21 => ?_) (fun c21 => ?_)
    · rw [if_neg c21] at h
      refine aw_iconst X (0 : Int32) dX1_partsFrom_119 (by decide) ?_
      refine aw_sub [(0, .inr (.inr (some this))), (1, .inl v1), (2, .inl v2), (3, .inl v3), (4, .inl v4), (5, .inl v5), (6, .inl v6), (7, .inl y19), (8, .inl y20)] [2, 3, 4, 5, 6, 7, 8, 1, 0] rfl ?_
      exact wX1_partsFrom_b120 X φ this v1 v2 v3 v4 v5 v6 y19 y20 (0 : Int32) σ y h kH kE0 kE1
    · rw [if_pos c21] at h
      refine aw_iconst X (1 : Int32) dX1_partsFrom_115 (by decide) ?_
      refine aw_goto X 120 dX1_partsFrom_116 rfl ?_
      refine aw_sub [(0, .inr (.inr (some this))), (1, .inl v1), (2, .inl v2), (3, .inl v3), (4, .inl v4), (5, .inl v5), (6, .inl v6), (7, .inl y19), (8, .inl y20)] [2, 3, 4, 5, 6, 7, 8, 1, 0] rfl ?_
      exact wX1_partsFrom_b120 X φ this v1 v2 v3 v4 v5 v6 y19 y20 (1 : Int32) σ y h kH kE0 kE1
theorem wX1_partsFrom_l48 {C : CT} {d : Nat} {Z : State → Prop} (X : Cx C cX1_partsFrom RX1 (some .int) 10 (d + 2)) (φ : Nat) (this : Nat) (v1 : Int32) (v2 : Int32) (v3 : Int32) (σ : St) (y : (Int32 × Int32 × St) ⊕ ((St) ⊕ (Int32 × Int32 × St))) (h : fX1_partsFrom_l48 φ this v1 v2 v3 σ = some y) (kH : ∀ s : Int32 × Int32 × St, y = .inl s → AW C 48 [(0, .inr (.inr (some this))), (1, .inl v1), (2, .inl s.1), (3, .inl s.2.1)] [] s.2.2 Z) (kE0 : ∀ e : St, y = .inr (.inl e) → AW C 231 [] [] e Z) (kE1 : ∀ e : Int32 × Int32 × St, y = .inr (.inr e) → AW C 135 [(0, .inr (.inr (some this))), (3, .inl e.1), (6, .inl e.2.1)] [] e.2.2 Z) : AW C 48 [(0, .inr (.inr (some this))), (1, .inl v1), (2, .inl v2), (3, .inl v3)] [] σ Z := by
  unfold fX1_partsFrom_l48 at h
  refine aw_iload_n X dX1_partsFrom_48 3 3 rfl rfl ?_
  refine aw_iload_n X dX1_partsFrom_49 2 2 rfl rfl ?_
  refine aw_icmp_ge X 231 dX1_partsFrom_50 rfl (fun c12 => ?_) (fun c12 => ?_)
  · rw [if_pos c12] at h
    cases h
    refine aw_sub [] [] rfl ?_
    exact kE0 σ rfl
  · rw [if_neg c12] at h
    refine aw_aload_n X dX1_partsFrom_53 0 0 rfl rfl ?_
    obtain ⟨x13, hx13, h⟩ := bind_some h
    refine aw_gfR X fl_X1_69 dX1_partsFrom_54 hx13 ?_
    refine aw_iload_n X dX1_partsFrom_57 3 3 rfl rfl ?_
    obtain ⟨x14, hx14, h⟩ := bind_some h
    refine aw_iald X dX1_partsFrom_58 hx14 ?_
    refine aw_bipush X (41 : Int32) dX1_partsFrom_59 (by decide) ?_
    refine aw_idiv X dX1_partsFrom_61 (by decide) ?_
    refine aw_istore X dX1_partsFrom_62 (by decide) [(4, .inl (x14 / (41 : Int32))), (0, .inr (.inr (some this))), (1, .inl v1), (2, .inl v2), (3, .inl v3)] rfl ?_
    refine aw_aload_n X dX1_partsFrom_64 1 0 rfl rfl ?_
    obtain ⟨x15, hx15, h⟩ := bind_some h
    refine aw_gfR X fl_X1_69 dX1_partsFrom_65 hx15 ?_
    refine aw_iload_n X dX1_partsFrom_68 4 3 rfl rfl ?_
    obtain ⟨x16, hx16, h⟩ := bind_some h
    refine aw_iald X dX1_partsFrom_69 hx16 ?_
    refine aw_bipush X (41 : Int32) dX1_partsFrom_70 (by decide) ?_
    refine aw_irem X dX1_partsFrom_72 (by decide) ?_
    refine aw_istore X dX1_partsFrom_73 (by decide) [(5, .inl (x16 % (41 : Int32))), (4, .inl (x14 / (41 : Int32))), (0, .inr (.inr (some this))), (1, .inl v1), (2, .inl v2), (3, .inl v3)] rfl ?_
    refine aw_iconst X (0 : Int32) dX1_partsFrom_75 (by decide) ?_
    refine aw_istore X dX1_partsFrom_76 (by decide) [(6, .inl (0 : Int32)), (5, .inl (x16 % (41 : Int32))), (4, .inl (x14 / (41 : Int32))), (0, .inr (.inr (some this))), (1, .inl v1), (2, .inl v2), (3, .inl v3)] rfl ?_
    obtain ⟨e37, h38, h⟩ := bind_some h
    refine aw_sub [(0, .inr (.inr (some this))), (1, .inl v1), (2, .inl v2), (3, .inl v3), (4, .inl (x14 / (41 : Int32))), (5, .inl (x16 % (41 : Int32))), (6, .inl (0 : Int32))] [3, 4, 5, 6, 2, 1, 0] rfl ?_
    refine aw_it (fun s => AW C 78 [(0, .inr (.inr (some this))), (1, .inl v1), (2, .inl s.1), (3, .inl v3), (4, .inl (x14 / (41 : Int32))), (5, .inl (x16 % (41 : Int32))), (6, .inl s.2.1)] [] s.2.2 Z) (fun e => match e with | (.inl e) => AW C 225 [(0, .inr (.inr (some this))), (1, .inl v1), (2, .inl e.1), (3, .inl v3)] [] e.2 Z | (.inr e) => AW C 135 [(0, .inr (.inr (some this))), (3, .inl v3), (6, .inl e.1)] [] e.2 Z) (fun s r hr kH kE => wX1_partsFrom_l78 X φ this v1 v3 (x14 / (41 : Int32)) (x16 % (41 : Int32)) s.1 s.2.1 s.2.2 r hr kH (fun e he => kE (.inl e) he) (fun e he => kE (.inr e) he)) φ _ e37 h38 ?_
    rcases e37 with e39 | e40
    · refine aw_iinc X dX1_partsFrom_225 3 rfl (1 : Int32) rfl (by decide) [(3, .inl (v3 + (1 : Int32))), (0, .inr (.inr (some this))), (1, .inl v1), (2, .inl e39.1)] rfl ?_
      refine aw_goto X 48 dX1_partsFrom_228 rfl ?_
      cases h
      refine aw_sub [(0, .inr (.inr (some this))), (1, .inl v1), (2, .inl e39.1), (3, .inl (v3 + (1 : Int32)))] [1, 2, 3, 0] rfl ?_
      exact kH (e39.1, (v3 + (1 : Int32)), e39.2) rfl
    · cases h
      exact kE1 (v3, e40.1, e40.2) rfl
theorem wX1_partsFrom {C : CT} {d : Nat} (X : Cx C cX1_partsFrom RX1 (some .int) 10 (d + 2)) (φ : Nat) (this : Nat) (v1 : Int32) (σ : St) (y : Int32 × St) (h : fX1_partsFrom φ this v1 σ = some y) : AW C 0 [(0, .inr (.inr (some this))), (1, .inl v1)] [] σ (AQ C (some (.inl y.1)) y.2) := by
  unfold fX1_partsFrom at h
  refine aw_iconst X (0 : Int32) dX1_partsFrom_0 (by decide) ?_
  refine aw_istore_n X dX1_partsFrom_1 2 rfl (by decide) [(2, .inl (0 : Int32)), (0, .inr (.inr (some this))), (1, .inl v1)] rfl ?_
  obtain ⟨e4, h5, h⟩ := bind_some h
  refine aw_sub [(0, .inr (.inr (some this))), (1, .inl v1), (2, .inl (0 : Int32))] [1, 2, 0] rfl ?_
  refine aw_it (fun s => AW C 2 [(0, .inr (.inr (some this))), (1, .inl v1), (2, .inl s.1)] [] s.2 (AQ C (some (.inl y.1)) y.2)) (fun e => AW C 22 [(0, .inr (.inr (some this))), (1, .inl v1)] [] e (AQ C (some (.inl y.1)) y.2)) (fun s r hr kH kE => wX1_partsFrom_l2 X φ this v1 s.1 s.2 r hr kH kE) φ _ e4 h5 ?_
  refine aw_iconst X (1 : Int32) dX1_partsFrom_22 (by decide) ?_
  refine aw_istore_n X dX1_partsFrom_23 2 rfl (by decide) [(2, .inl (1 : Int32)), (0, .inr (.inr (some this))), (1, .inl v1)] rfl ?_
  refine aw_aload_n X dX1_partsFrom_24 1 0 rfl rfl ?_
  obtain ⟨x6, hx6, h⟩ := bind_some h
  refine aw_gfR X fl_X1_69 dX1_partsFrom_25 hx6 ?_
  refine aw_iconst X (0 : Int32) dX1_partsFrom_28 (by decide) ?_
  refine aw_iconst X (0 : Int32) dX1_partsFrom_29 (by decide) ?_
  obtain ⟨s7, hs7, h⟩ := bind_some h
  refine aw_iast X dX1_partsFrom_30 hs7 ?_
  refine aw_aload_n X dX1_partsFrom_31 1 0 rfl rfl ?_
  obtain ⟨x8, hx8, h⟩ := bind_some h
  refine aw_gfR X fl_X1_72 dX1_partsFrom_32 hx8 ?_
  refine aw_iconst X (0 : Int32) dX1_partsFrom_35 (by decide) ?_
  refine aw_bipush X (-9 : Int32) dX1_partsFrom_36 (by decide) ?_
  obtain ⟨s9, hs9, h⟩ := bind_some h
  refine aw_iast X dX1_partsFrom_38 hs9 ?_
  refine aw_aload_n X dX1_partsFrom_39 1 0 rfl rfl ?_
  obtain ⟨x10, hx10, h⟩ := bind_some h
  refine aw_gfR X fl_X1_78 dX1_partsFrom_40 hx10 ?_
  refine aw_iconst X (0 : Int32) dX1_partsFrom_43 (by decide) ?_
  refine aw_iconst X (1 : Int32) dX1_partsFrom_44 (by decide) ?_
  obtain ⟨s11, hs11, h⟩ := bind_some h
  refine aw_zast X dX1_partsFrom_45 hs11 ?_
  refine aw_iconst X (0 : Int32) dX1_partsFrom_46 (by decide) ?_
  refine aw_istore_n X dX1_partsFrom_47 3 rfl (by decide) [(3, .inl (0 : Int32)), (2, .inl (1 : Int32)), (0, .inr (.inr (some this))), (1, .inl v1)] rfl ?_
  obtain ⟨e41, h42, h⟩ := bind_some h
  refine aw_sub [(0, .inr (.inr (some this))), (1, .inl v1), (2, .inl (1 : Int32)), (3, .inl (0 : Int32))] [2, 3, 1, 0] rfl ?_
  refine aw_it (fun s => AW C 48 [(0, .inr (.inr (some this))), (1, .inl v1), (2, .inl s.1), (3, .inl s.2.1)] [] s.2.2 (AQ C (some (.inl y.1)) y.2)) (fun e => match e with | (.inl e) => AW C 231 [] [] e (AQ C (some (.inl y.1)) y.2) | (.inr e) => AW C 135 [(0, .inr (.inr (some this))), (3, .inl e.1), (6, .inl e.2.1)] [] e.2.2 (AQ C (some (.inl y.1)) y.2)) (fun s r hr kH kE => wX1_partsFrom_l48 X φ this v1 s.1 s.2.1 s.2.2 r hr kH (fun e he => kE (.inl e) he) (fun e he => kE (.inr e) he)) φ _ e41 h42 ?_
  rcases e41 with e43 | e44
  · refine aw_bipush X (-9 : Int32) dX1_partsFrom_231 (by decide) ?_
    cases h
    exact aw_iret X dX1_partsFrom_233
  · refine aw_aload_n X dX1_partsFrom_135 0 0 rfl rfl ?_
    refine aw_iload_n X dX1_partsFrom_136 1 3 rfl rfl ?_
    refine aw_iload X dX1_partsFrom_137 2 rfl ?_
    obtain ⟨y45, hy45, h⟩ := bind_some h
    refine aw_cV X (st := []) hy45 [.inl e44.1, .inl e44.2.1] rfl rfl ml_X1_252 (fun o h => AX1_layPart (Cx.ok X) φ (d + 1) _ _ _ _ _ h) dX1_partsFrom_139 (Nat.le_of_ble_eq_true rfl) ?_
    cases h
    exact aw_iret X dX1_partsFrom_142
theorem AX1_partsFrom {E : AE} {l : Launch} (hE : EOK E l) (φ d : Nat) (this : Nat) (v1 : Int32) (σ : St) (y : Int32 × St) (h : fX1_partsFrom φ this v1 σ = some y) : AMet E l yX1_partsFrom (ws_ yX1_partsFrom cX1_partsFrom 10 (some .int)) (d + 2) [.inr (.inr (some this)), .inl v1] σ (some (.inl y.1)) y.2 := by
  refine amet_of hE (by decide +kernel) (Nat.le_of_ble_eq_true rfl) fun C e1 e2 X XI => ?_
  subst e1
  exact wX1_partsFrom X φ this v1 σ y h
theorem wX1_alike {C : CT} {d : Nat} (X : Cx C cX1_alike RX1 (some .int) 6 (d + 3)) (φ : Nat) (this : Nat) (v1 : Int32) (v2 : Int32) (v3 : Int32) (σ : St) (y : Int32 × St) (h : fX1_alike φ this v1 v2 v3 σ = some y) : AW C 0 [(0, .inr (.inr (some this))), (1, .inl v1), (2, .inl v2), (3, .inl v3)] [] σ (AQ C (some (.inl y.1)) y.2) := by
  unfold fX1_alike at h
  refine aw_aload_n X dX1_alike_0 0 0 rfl rfl ?_
  refine aw_iload_n X dX1_alike_1 3 3 rfl rfl ?_
  refine aw_iconst X (0 : Int32) dX1_alike_2 (by decide) ?_
  refine aw_bipush X (40 : Int32) dX1_alike_3 (by decide) ?_
  obtain ⟨y1, hy1, h⟩ := bind_some h
  refine aw_callS X (st := [.inr (.inr (some this))]) [.inl v3, .inl (0 : Int32), .inl (40 : Int32)] rfl ml_X1_117 (AX1_in (Cx.ok X) φ (d + 2) _ _ _ _ _  hy1) dX1_alike_5 (Nat.le_of_ble_eq_true rfl) ?_
  refine aw_iload_n X dX1_alike_8 1 1 rfl rfl ?_
  refine aw_iload_n X dX1_alike_9 2 2 rfl rfl ?_
  obtain ⟨y2, hy2, h⟩ := bind_some h
  refine aw_cV X (st := []) hy2 [.inl y1, .inl v1, .inl v2] rfl rfl ml_X1_188 (fun o h => AX1_needTwo (Cx.ok X) φ d _ _ _ _ _ _ h) dX1_alike_10 (Nat.le_of_ble_eq_true rfl) ?_
  refine aw_istore X dX1_alike_13 (by decide) [(4, .inl y2.1), (0, .inr (.inr (some this))), (1, .inl v1), (2, .inl v2), (3, .inl v3)] rfl ?_
  refine aw_iload X dX1_alike_15 0 rfl ?_
  refine aw_if_ge X 23 dX1_alike_17 rfl (fun c3 => ?_) (fun c3 => ?_)
  · rw [if_pos c3] at h
    refine aw_aload_n X dX1_alike_23 1 0 rfl rfl ?_
    refine aw_iload_n X dX1_alike_24 3 2 rfl rfl ?_
    obtain ⟨y4, hy4, h⟩ := bind_some h
    refine aw_cV X (st := []) hy4 [.inl v2] rfl rfl ml_X1_255 (fun o h => AX1_layOther (Cx.ok X) φ (d + 1) _ _ _ _ h) dX1_alike_25 (Nat.le_of_ble_eq_true rfl) ?_
    refine aw_aload_n X dX1_alike_28 1 0 rfl rfl ?_
    refine aw_iload_n X dX1_alike_29 2 1 rfl rfl ?_
    obtain ⟨y5, hy5, h⟩ := bind_some h
    refine aw_cV X (st := []) hy5 [.inl v1] rfl rfl ml_X1_258 (fun o h => AX1_partsFrom (Cx.ok X) φ d _ _ _ _ h) dX1_alike_30 (Nat.le_of_ble_eq_true rfl) ?_
    refine aw_istore X dX1_alike_33 (by decide) [(5, .inl y5.1), (4, .inl y2.1), (0, .inr (.inr (some this))), (1, .inl v1), (2, .inl v2), (3, .inl v3)] rfl ?_
    refine aw_iload X dX1_alike_35 0 rfl ?_
    refine aw_bipush X (-9 : Int32) dX1_alike_37 (by decide) ?_
    refine aw_icmp_eq X 48 dX1_alike_39 rfl (fun c6 => ?_) (fun c6 => ?_)
    · rw [if_pos c6] at h
      refine aw_iconst X (1 : Int32) dX1_alike_48 (by decide) ?_
      refine aw_goto X 53 dX1_alike_49 rfl ?_
      cases h
      exact aw_iret X dX1_alike_53
    · rw [if_neg c6] at h
      refine aw_iload X dX1_alike_42 0 rfl ?_
      refine aw_iload_n X dX1_alike_44 5 3 rfl rfl ?_
      refine aw_icmp_le X 52 dX1_alike_45 rfl (fun c7 => ?_) (fun c7 => ?_)
      · rw [if_pos c7] at h
        refine aw_iconst X (0 : Int32) dX1_alike_52 (by decide) ?_
        cases h
        exact aw_iret X dX1_alike_53
      · rw [if_neg c7] at h
        refine aw_iconst X (1 : Int32) dX1_alike_48 (by decide) ?_
        refine aw_goto X 53 dX1_alike_49 rfl ?_
        cases h
        exact aw_iret X dX1_alike_53
  · rw [if_neg c3] at h
    refine aw_iload X dX1_alike_20 0 rfl ?_
    cases h
    exact aw_iret X dX1_alike_22
theorem AX1_alike {E : AE} {l : Launch} (hE : EOK E l) (φ d : Nat) (this : Nat) (v1 : Int32) (v2 : Int32) (v3 : Int32) (σ : St) (y : Int32 × St) (h : fX1_alike φ this v1 v2 v3 σ = some y) : AMet E l yX1_alike (ws_ yX1_alike cX1_alike 6 (some .int)) (d + 3) [.inr (.inr (some this)), .inl v1, .inl v2, .inl v3] σ (some (.inl y.1)) y.2 := by
  refine amet_of hE (by decide +kernel) (Nat.le_of_ble_eq_true rfl) fun C e1 e2 X XI => ?_
  subst e1
  exact wX1_alike X φ this v1 v2 v3 σ y h
theorem wX1_parting_b57 {C : CT} {d : Nat} (X : Cx C cX1_parting RX1 (some .int) 6 (d + 3)) (φ : Nat) (this : Nat) (v3 : Int32) (v5 : Int32) (k0 : Option Nat) (k1 : Int32) (σ : St) (y : Int32 × St) (h : fX1_parting_b57 φ this v3 v5 k0 k1 σ = some y)  : AW C 57 [(0, .inr (.inr (some this))), (3, .inl v3), (5, .inl v5)] [.inl k1, .inr (.inr k0)] σ (AQ C (some (.inl y.1)) y.2) := by
  unfold fX1_parting_b57 at h
  obtain ⟨s8, hs8, h⟩ := bind_some h
  refine aw_pfI X fl_X1_151 dX1_parting_57 hs8 ?_
  refine aw_aload_n X dX1_parting_60 0 0 rfl rfl ?_
  refine aw_iload_n X dX1_parting_61 1 3 rfl rfl ?_
  obtain ⟨y9, hy9, h⟩ := bind_some h
  refine aw_cV X (st := []) hy9 [.inl v3] rfl rfl ml_X1_214 (fun o h => AX1_comesToRow (Cx.ok X) φ (d + 2) _ _ _ _ h) dX1_parting_62 (Nat.le_of_ble_eq_true rfl) ?_
  refine aw_iload X dX1_parting_65 2 rfl ?_
  cases h
  exact aw_iret X dX1_parting_67
theorem wX1_parting {C : CT} {d : Nat} (X : Cx C cX1_parting RX1 (some .int) 6 (d + 3)) (φ : Nat) (this : Nat) (v1 : Int32) (v2 : Int32) (v3 : Int32) (σ : St) (y : Int32 × St) (h : fX1_parting φ this v1 v2 v3 σ = some y) : AW C 0 [(0, .inr (.inr (some this))), (1, .inl v1), (2, .inl v2), (3, .inl v3)] [] σ (AQ C (some (.inl y.1)) y.2) := by
  unfold fX1_parting at h
  refine aw_aload_n X dX1_parting_0 0 0 rfl rfl ?_
  refine aw_iload_n X dX1_parting_1 3 3 rfl rfl ?_
  obtain ⟨y1, hy1, h⟩ := bind_some h
  refine aw_callS X (st := [.inr (.inr (some this))]) [.inl v3] rfl ml_X1_130 (AX1_isRow (Cx.ok X) φ (d + 1) _ _ _  hy1) dX1_parting_2 (Nat.le_of_ble_eq_true rfl) ?_
  refine aw_iload_n X dX1_parting_5 1 1 rfl rfl ?_
  refine aw_iload_n X dX1_parting_6 2 2 rfl rfl ?_
  obtain ⟨y2, hy2, h⟩ := bind_some h
  refine aw_cV X (st := []) hy2 [.inl y1, .inl v1, .inl v2] rfl rfl ml_X1_188 (fun o h => AX1_needTwo (Cx.ok X) φ d _ _ _ _ _ _ h) dX1_parting_7 (Nat.le_of_ble_eq_true rfl) ?_
  refine aw_istore X dX1_parting_10 (by decide) [(4, .inl y2.1), (0, .inr (.inr (some this))), (1, .inl v1), (2, .inl v2), (3, .inl v3)] rfl ?_
  refine aw_iload X dX1_parting_12 0 rfl ?_
  refine aw_if_ge X 20 dX1_parting_14 rfl (fun c3 => ?_) (fun c3 => ?_)
  · rw [if_pos c3] at h
    refine aw_aload_n X dX1_parting_20 1 0 rfl rfl ?_
    refine aw_iload_n X dX1_parting_21 3 2 rfl rfl ?_
    obtain ⟨y4, hy4, h⟩ := bind_some h
    refine aw_cV X (st := []) hy4 [.inl v2] rfl rfl ml_X1_255 (fun o h => AX1_layOther (Cx.ok X) φ (d + 1) _ _ _ _ h) dX1_parting_22 (Nat.le_of_ble_eq_true rfl) ?_
    refine aw_aload_n X dX1_parting_25 1 0 rfl rfl ?_
    refine aw_iload_n X dX1_parting_26 2 1 rfl rfl ?_
    obtain ⟨y5, hy5, h⟩ := bind_some h
    refine aw_cV X (st := []) hy5 [.inl v1] rfl rfl ml_X1_258 (fun o h => AX1_partsFrom (Cx.ok X) φ d _ _ _ _ h) dX1_parting_27 (Nat.le_of_ble_eq_true rfl) ?_
    refine aw_istore X dX1_parting_30 (by decide) [(5, .inl y5.1), (4, .inl y2.1), (0, .inr (.inr (some this))), (1, .inl v1), (2, .inl v2), (3, .inl v3)] rfl ?_
    refine aw_iload X dX1_parting_32 0 rfl ?_
    refine aw_bipush X (-9 : Int32) dX1_parting_34 (by decide) ?_
    refine aw_icmp_ne X 42 dX1_parting_36 rfl (fun c6 => ?_) (fun c6 => ?_)
    · rw [if_neg c6] at h
      refine aw_aload_n X dX1_parting_42 2 0 rfl rfl ?_
      refine aw_iload X dX1_parting_43 0 rfl ?_
      refine aw_bipush X (40 : Int32) dX1_parting_45 (by decide) ?_
      refine aw_icmp_le X 55 dX1_parting_47 rfl (fun c7 => ?_) (fun c7 => ?_)
      · rw [if_pos c7] at h
        refine aw_iload X dX1_parting_55 0 rfl ?_
        refine aw_sub [(0, .inr (.inr (some this))), (3, .inl v3), (5, .inl y5.1)] [2, 5, 0] rfl ?_
        exact wX1_parting_b57 X φ this v3 y5.1 (some this) y5.1 y5.2 y h
      · rw [if_neg c7] at h
        refine aw_bipush X (40 : Int32) dX1_parting_50 (by decide) ?_
        refine aw_goto X 57 dX1_parting_52 rfl ?_
        refine aw_sub [(0, .inr (.inr (some this))), (3, .inl v3), (5, .inl y5.1)] [2, 5, 0] rfl ?_
        exact wX1_parting_b57 X φ this v3 y5.1 (some this) (40 : Int32) y5.2 y h
    · rw [if_pos c6] at h
      refine aw_bipush X (-9 : Int32) dX1_parting_39 (by decide) ?_
      cases h
      exact aw_iret X dX1_parting_41
  · rw [if_neg c3] at h
    refine aw_iload X dX1_parting_17 0 rfl ?_
    cases h
    exact aw_iret X dX1_parting_19
theorem AX1_parting {E : AE} {l : Launch} (hE : EOK E l) (φ d : Nat) (this : Nat) (v1 : Int32) (v2 : Int32) (v3 : Int32) (σ : St) (y : Int32 × St) (h : fX1_parting φ this v1 v2 v3 σ = some y) : AMet E l yX1_parting (ws_ yX1_parting cX1_parting 6 (some .int)) (d + 3) [.inr (.inr (some this)), .inl v1, .inl v2, .inl v3] σ (some (.inl y.1)) y.2 := by
  refine amet_of hE (by decide +kernel) (Nat.le_of_ble_eq_true rfl) fun C e1 e2 X XI => ?_
  subst e1
  exact wX1_parting X φ this v1 v2 v3 σ y h
theorem wX1_dropOther_l12 {C : CT} {d : Nat} {Z : State → Prop} (X : Cx C cX1_dropOther RX1 none 3 d) (φ : Nat) (this : Nat) (v2 : Int32) (σ : St) (y : (Int32 × St) ⊕ (St)) (h : fX1_dropOther_l12 φ this v2 σ = some y) (kH : ∀ s : Int32 × St, y = .inl s → AW C 12 [(0, .inr (.inr (some this))), (2, .inl s.1)] [] s.2 Z) (kE0 : ∀ e : St, y = .inr e → AW C 40 [] [] e Z) : AW C 12 [(0, .inr (.inr (some this))), (2, .inl v2)] [] σ Z := by
  unfold fX1_dropOther_l12 at h
  refine aw_iload_n X dX1_dropOther_12 1 2 rfl rfl ?_
  refine aw_aload_n X dX1_dropOther_13 0 0 rfl rfl ?_
  obtain ⟨x3, hx3, h⟩ := bind_some h
  refine aw_gfI X fl_X1_246 dX1_dropOther_14 hx3 ?_
  refine aw_icmp_ge X 40 dX1_dropOther_17 rfl (fun c4 => ?_) (fun c4 => ?_)
  · rw [if_pos c4] at h
    cases h
    refine aw_sub [] [] rfl ?_
    exact kE0 σ rfl
  · rw [if_neg c4] at h
    refine aw_aload_n X dX1_dropOther_20 0 0 rfl rfl ?_
    obtain ⟨x5, hx5, h⟩ := bind_some h
    refine aw_gfR X fl_X1_82 dX1_dropOther_21 hx5 ?_
    refine aw_iload_n X dX1_dropOther_24 1 2 rfl rfl ?_
    refine aw_aload_n X dX1_dropOther_25 0 0 rfl rfl ?_
    obtain ⟨x6, hx6, h⟩ := bind_some h
    refine aw_gfR X fl_X1_82 dX1_dropOther_26 hx6 ?_
    refine aw_iload_n X dX1_dropOther_29 1 2 rfl rfl ?_
    refine aw_iconst X (1 : Int32) dX1_dropOther_30 (by decide) ?_
    refine aw_iadd X dX1_dropOther_31 ?_
    obtain ⟨x7, hx7, h⟩ := bind_some h
    refine aw_iald X dX1_dropOther_32 hx7 ?_
    obtain ⟨s8, hs8, h⟩ := bind_some h
    refine aw_iast X dX1_dropOther_33 hs8 ?_
    refine aw_iinc X dX1_dropOther_34 1 rfl (1 : Int32) rfl (by decide) [(2, .inl (v2 + (1 : Int32))), (0, .inr (.inr (some this)))] rfl ?_
    refine aw_goto X 12 dX1_dropOther_37 rfl ?_
    cases h
    refine aw_sub [(0, .inr (.inr (some this))), (2, .inl (v2 + (1 : Int32)))] [1, 0] rfl ?_
    exact kH ((v2 + (1 : Int32)), s8) rfl
theorem wX1_dropOther {C : CT} {d : Nat} (X : Cx C cX1_dropOther RX1 none 3 d) (φ : Nat) (this : Nat) (v1 : Int32) (σ : St) (y : St) (h : fX1_dropOther φ this v1 σ = some y) : AW C 0 [(0, .inr (.inr (some this))), (1, .inl v1)] [] σ (AQ C none y) := by
  unfold fX1_dropOther at h
  refine aw_aload_n X dX1_dropOther_0 0 0 rfl rfl ?_
  refine aw_dup X dX1_dropOther_1 rfl ?_
  obtain ⟨x1, hx1, h⟩ := bind_some h
  refine aw_gfI X fl_X1_246 dX1_dropOther_2 hx1 ?_
  refine aw_iconst X (1 : Int32) dX1_dropOther_5 (by decide) ?_
  refine aw_isub X dX1_dropOther_6 ?_
  obtain ⟨s2, hs2, h⟩ := bind_some h
  refine aw_pfI X fl_X1_246 dX1_dropOther_7 hs2 ?_
  refine aw_iload_n X dX1_dropOther_10 1 1 rfl rfl ?_
  refine aw_istore_n X dX1_dropOther_11 2 rfl (by decide) [(2, .inl v1), (0, .inr (.inr (some this))), (1, .inl v1)] rfl ?_
  obtain ⟨e9, h10, h⟩ := bind_some h
  refine aw_sub [(0, .inr (.inr (some this))), (2, .inl v1)] [1, 0] rfl ?_
  refine aw_it (fun s => AW C 12 [(0, .inr (.inr (some this))), (2, .inl s.1)] [] s.2 (AQ C none y)) (fun e => AW C 40 [] [] e (AQ C none y)) (fun s r hr kH kE => wX1_dropOther_l12 X φ this s.1 s.2 r hr kH kE) φ _ e9 h10 ?_
  cases h
  exact aw_vret X dX1_dropOther_40
theorem AX1_dropOther {E : AE} {l : Launch} (hE : EOK E l) (φ d : Nat) (this : Nat) (v1 : Int32) (σ : St) (y : St) (h : fX1_dropOther φ this v1 σ = some y) : AMet E l yX1_dropOther (ws_ yX1_dropOther cX1_dropOther 3 none) d [.inr (.inr (some this)), .inl v1] σ none y := by
  refine amet_of hE (by decide +kernel) (Nat.le_of_ble_eq_true rfl) fun C e1 e2 X XI => ?_
  subst e1
  exact wX1_dropOther X φ this v1 σ y h
theorem wX1_backOther_l5 {C : CT} {d : Nat} {Z : State → Prop} (X : Cx C cX1_backOther RX1 none 4 d) (φ : Nat) (this : Nat) (v1 : Int32) (v2 : Int32) (v3 : Int32) (σ : St) (y : (Int32 × St) ⊕ (St)) (h : fX1_backOther_l5 φ this v1 v2 v3 σ = some y) (kH : ∀ s : Int32 × St, y = .inl s → AW C 5 [(0, .inr (.inr (some this))), (1, .inl v1), (2, .inl v2), (3, .inl s.1)] [] s.2 Z) (kE0 : ∀ e : St, y = .inr e → AW C 30 [(0, .inr (.inr (some this))), (1, .inl v1), (2, .inl v2)] [] e Z) : AW C 5 [(0, .inr (.inr (some this))), (1, .inl v1), (2, .inl v2), (3, .inl v3)] [] σ Z := by
  unfold fX1_backOther_l5 at h
  refine aw_iload_n X dX1_backOther_5 3 3 rfl rfl ?_
  refine aw_iload_n X dX1_backOther_6 1 1 rfl rfl ?_
  refine aw_icmp_le X 30 dX1_backOther_7 rfl (fun c2 => ?_) (fun c2 => ?_)
  · rw [if_pos c2] at h
    cases h
    refine aw_sub [(0, .inr (.inr (some this))), (1, .inl v1), (2, .inl v2)] [0, 1, 2] rfl ?_
    exact kE0 σ rfl
  · rw [if_neg c2] at h
    refine aw_aload_n X dX1_backOther_10 0 0 rfl rfl ?_
    obtain ⟨x3, hx3, h⟩ := bind_some h
    refine aw_gfR X fl_X1_82 dX1_backOther_11 hx3 ?_
    refine aw_iload_n X dX1_backOther_14 3 3 rfl rfl ?_
    refine aw_aload_n X dX1_backOther_15 0 0 rfl rfl ?_
    obtain ⟨x4, hx4, h⟩ := bind_some h
    refine aw_gfR X fl_X1_82 dX1_backOther_16 hx4 ?_
    refine aw_iload_n X dX1_backOther_19 3 3 rfl rfl ?_
    refine aw_iconst X (1 : Int32) dX1_backOther_20 (by decide) ?_
    refine aw_isub X dX1_backOther_21 ?_
    obtain ⟨x5, hx5, h⟩ := bind_some h
    refine aw_iald X dX1_backOther_22 hx5 ?_
    obtain ⟨s6, hs6, h⟩ := bind_some h
    refine aw_iast X dX1_backOther_23 hs6 ?_
    refine aw_iinc X dX1_backOther_24 3 rfl (-1 : Int32) rfl (by decide) [(3, .inl (v3 + (-1 : Int32))), (0, .inr (.inr (some this))), (1, .inl v1), (2, .inl v2)] rfl ?_
    refine aw_goto X 5 dX1_backOther_27 rfl ?_
    cases h
    refine aw_sub [(0, .inr (.inr (some this))), (1, .inl v1), (2, .inl v2), (3, .inl (v3 + (-1 : Int32)))] [1, 2, 3, 0] rfl ?_
    exact kH ((v3 + (-1 : Int32)), s6) rfl
theorem wX1_backOther {C : CT} {d : Nat} (X : Cx C cX1_backOther RX1 none 4 d) (φ : Nat) (this : Nat) (v1 : Int32) (v2 : Int32) (σ : St) (y : St) (h : fX1_backOther φ this v1 v2 σ = some y) : AW C 0 [(0, .inr (.inr (some this))), (1, .inl v1), (2, .inl v2)] [] σ (AQ C none y) := by
  unfold fX1_backOther at h
  refine aw_aload_n X dX1_backOther_0 0 0 rfl rfl ?_
  obtain ⟨x1, hx1, h⟩ := bind_some h
  refine aw_gfI X fl_X1_246 dX1_backOther_1 hx1 ?_
  refine aw_istore_n X dX1_backOther_4 3 rfl (by decide) [(3, .inl x1), (0, .inr (.inr (some this))), (1, .inl v1), (2, .inl v2)] rfl ?_
  obtain ⟨e7, h8, h⟩ := bind_some h
  refine aw_sub [(0, .inr (.inr (some this))), (1, .inl v1), (2, .inl v2), (3, .inl x1)] [1, 2, 3, 0] rfl ?_
  refine aw_it (fun s => AW C 5 [(0, .inr (.inr (some this))), (1, .inl v1), (2, .inl v2), (3, .inl s.1)] [] s.2 (AQ C none y)) (fun e => AW C 30 [(0, .inr (.inr (some this))), (1, .inl v1), (2, .inl v2)] [] e (AQ C none y)) (fun s r hr kH kE => wX1_backOther_l5 X φ this v1 v2 s.1 s.2 r hr kH kE) φ _ e7 h8 ?_
  refine aw_aload_n X dX1_backOther_30 0 0 rfl rfl ?_
  obtain ⟨x9, hx9, h⟩ := bind_some h
  refine aw_gfR X fl_X1_82 dX1_backOther_31 hx9 ?_
  refine aw_iload_n X dX1_backOther_34 1 1 rfl rfl ?_
  refine aw_iload_n X dX1_backOther_35 2 2 rfl rfl ?_
  obtain ⟨s10, hs10, h⟩ := bind_some h
  refine aw_iast X dX1_backOther_36 hs10 ?_
  refine aw_aload_n X dX1_backOther_37 0 0 rfl rfl ?_
  refine aw_dup X dX1_backOther_38 rfl ?_
  obtain ⟨x11, hx11, h⟩ := bind_some h
  refine aw_gfI X fl_X1_246 dX1_backOther_39 hx11 ?_
  refine aw_iconst X (1 : Int32) dX1_backOther_42 (by decide) ?_
  refine aw_iadd X dX1_backOther_43 ?_
  obtain ⟨s12, hs12, h⟩ := bind_some h
  refine aw_pfI X fl_X1_246 dX1_backOther_44 hs12 ?_
  cases h
  exact aw_vret X dX1_backOther_47
theorem AX1_backOther {E : AE} {l : Launch} (hE : EOK E l) (φ d : Nat) (this : Nat) (v1 : Int32) (v2 : Int32) (σ : St) (y : St) (h : fX1_backOther φ this v1 v2 σ = some y) : AMet E l yX1_backOther (ws_ yX1_backOther cX1_backOther 4 none) d [.inr (.inr (some this)), .inl v1, .inl v2] σ none y := by
  refine amet_of hE (by decide +kernel) (Nat.le_of_ble_eq_true rfl) fun C e1 e2 X XI => ?_
  subst e1
  exact wX1_backOther X φ this v1 v2 σ y h
theorem wX1_drop_l45 {C : CT} {d : Nat} {Z : State → Prop} (X : Cx C cX1_drop RX1 (some .int) 8 (d + 3)) (φ : Nat) (this : Nat) (v1 : Int32) (v2 : Int32) (v3 : Int32) (v5 : Int32) (σ : St) (y : (Int32 × St) ⊕ (St)) (h : fX1_drop_l45 φ this v1 v2 v3 v5 σ = some y) (kH : ∀ s : Int32 × St, y = .inl s → AW C 45 [(0, .inr (.inr (some this))), (1, .inl v1), (2, .inl v2), (3, .inl v3), (5, .inl s.1)] [] s.2 Z) (kE0 : ∀ e : St, y = .inr e → AW C 103 [(0, .inr (.inr (some this))), (1, .inl v1), (2, .inl v2), (3, .inl v3)] [] e Z) : AW C 45 [(0, .inr (.inr (some this))), (1, .inl v1), (2, .inl v2), (3, .inl v3), (5, .inl v5)] [] σ Z := by
  unfold fX1_drop_l45 at h
  refine aw_iload X dX1_drop_45 4 rfl ?_
  refine aw_aload_n X dX1_drop_47 0 0 rfl rfl ?_
  obtain ⟨x6, hx6, h⟩ := bind_some h
  refine aw_gfI X fl_X1_246 dX1_drop_48 hx6 ?_
  refine aw_icmp_ge X 103 dX1_drop_51 rfl (fun c7 => ?_) (fun c7 => ?_)
  · rw [if_pos c7] at h
    cases h
    refine aw_sub [(0, .inr (.inr (some this))), (1, .inl v1), (2, .inl v2), (3, .inl v3)] [0, 1, 2, 3] rfl ?_
    exact kE0 σ rfl
  · rw [if_neg c7] at h
    refine aw_aload_n X dX1_drop_54 0 0 rfl rfl ?_
    obtain ⟨x8, hx8, h⟩ := bind_some h
    refine aw_gfR X fl_X1_82 dX1_drop_55 hx8 ?_
    refine aw_iload X dX1_drop_58 4 rfl ?_
    obtain ⟨x9, hx9, h⟩ := bind_some h
    refine aw_iald X dX1_drop_60 hx9 ?_
    refine aw_istore X dX1_drop_61 (by decide) [(6, .inl x9), (0, .inr (.inr (some this))), (1, .inl v1), (2, .inl v2), (3, .inl v3), (5, .inl v5)] rfl ?_
    refine aw_aload_n X dX1_drop_63 1 0 rfl rfl ?_
    refine aw_iload X dX1_drop_64 5 rfl ?_
    obtain ⟨y10, hy10, h⟩ := bind_some h
    refine aw_cV X (st := []) hy10 [.inl v5] rfl rfl ml_X1_261 (fun o h => AX1_dropOther (Cx.ok X) φ (d + 2) _ _ _ _ h) dX1_drop_66 (Nat.le_of_ble_eq_true rfl) ?_
    refine aw_aload_n X dX1_drop_69 1 0 rfl rfl ?_
    refine aw_iload_n X dX1_drop_70 3 2 rfl rfl ?_
    obtain ⟨y11, hy11, h⟩ := bind_some h
    refine aw_cV X (st := []) hy11 [.inl v2] rfl rfl ml_X1_258 (fun o h => AX1_partsFrom (Cx.ok X) φ d _ _ _ _ h) dX1_drop_71 (Nat.le_of_ble_eq_true rfl) ?_
    refine aw_istore X dX1_drop_74 (by decide) [(7, .inl y11.1), (6, .inl x9), (0, .inr (.inr (some this))), (1, .inl v1), (2, .inl v2), (3, .inl v3), (5, .inl v5)] rfl ?_
    refine aw_iload X dX1_drop_76 0 rfl ?_
    refine aw_bipush X (-9 : Int32) dX1_drop_78 (by decide) ?_
    refine aw_icmp_eq X 100 dX1_drop_80 rfl (fun c12 => ?_) (fun c12 => ?_)
    · rw [if_pos c12] at h
      refine aw_goto X 45 dX1_drop_100 rfl ?_
      cases h
      refine aw_sub [(0, .inr (.inr (some this))), (1, .inl v1), (2, .inl v2), (3, .inl v3), (5, .inl v5)] [2, 3, 4, 5, 6] rfl ?_
      exact kH (v5, y11.2) rfl
    · rw [if_neg c12] at h
      refine aw_iload X dX1_drop_83 0 rfl ?_
      refine aw_iload_n X dX1_drop_85 5 3 rfl rfl ?_
      refine aw_icmp_gt X 100 dX1_drop_86 rfl (fun c13 => ?_) (fun c13 => ?_)
      · rw [if_pos c13] at h
        refine aw_goto X 45 dX1_drop_100 rfl ?_
        cases h
        refine aw_sub [(0, .inr (.inr (some this))), (1, .inl v1), (2, .inl v2), (3, .inl v3), (5, .inl v5)] [2, 3, 4, 5, 6] rfl ?_
        exact kH (v5, y11.2) rfl
      · rw [if_neg c13] at h
        refine aw_aload_n X dX1_drop_89 2 0 rfl rfl ?_
        refine aw_iload X dX1_drop_90 6 rfl ?_
        refine aw_iload X dX1_drop_92 1 rfl ?_
        obtain ⟨y14, hy14, h⟩ := bind_some h
        refine aw_cV X (st := []) hy14 [.inl v5, .inl x9] rfl rfl ml_X1_264 (fun o h => AX1_backOther (Cx.ok X) φ (d + 2) _ _ _ _ _ h) dX1_drop_94 (Nat.le_of_ble_eq_true rfl) ?_
        refine aw_iinc X dX1_drop_97 6 rfl (1 : Int32) rfl (by decide) [(5, .inl (v5 + (1 : Int32))), (7, .inl y11.1), (6, .inl x9), (0, .inr (.inr (some this))), (1, .inl v1), (2, .inl v2), (3, .inl v3)] rfl ?_
        refine aw_goto X 45 dX1_drop_100 rfl ?_
        cases h
        refine aw_sub [(0, .inr (.inr (some this))), (1, .inl v1), (2, .inl v2), (3, .inl v3), (5, .inl (v5 + (1 : Int32)))] [3, 4, 5, 6, 0] rfl ?_
        exact kH ((v5 + (1 : Int32)), y14) rfl
theorem wX1_drop_l114 {C : CT} {d : Nat} {Z : State → Prop} (X : Cx C cX1_drop RX1 (some .int) 8 (d + 3)) (φ : Nat) (this : Nat) (v1 : Int32) (v2 : Int32) (v3 : Int32) (v6 : Int32) (σ : St) (y : (Int32 × St) ⊕ (St)) (h : fX1_drop_l114 φ this v1 v2 v3 v6 σ = some y) (kH : ∀ s : Int32 × St, y = .inl s → AW C 114 [(0, .inr (.inr (some this))), (1, .inl v1), (2, .inl v2), (3, .inl v3), (6, .inl s.1)] [] s.2 Z) (kE0 : ∀ e : St, y = .inr e → AW C 143 [(0, .inr (.inr (some this))), (1, .inl v1), (2, .inl v2), (3, .inl v3)] [] e Z) : AW C 114 [(0, .inr (.inr (some this))), (1, .inl v1), (2, .inl v2), (3, .inl v3), (6, .inl v6)] [] σ Z := by
  unfold fX1_drop_l114 at h
  refine aw_iload X dX1_drop_114 4 rfl ?_
  refine aw_aload_n X dX1_drop_116 0 0 rfl rfl ?_
  obtain ⟨x19, hx19, h⟩ := bind_some h
  refine aw_gfI X fl_X1_246 dX1_drop_117 hx19 ?_
  refine aw_icmp_ge X 143 dX1_drop_120 rfl (fun c20 => ?_) (fun c20 => ?_)
  · rw [if_pos c20] at h
    cases h
    refine aw_sub [(0, .inr (.inr (some this))), (1, .inl v1), (2, .inl v2), (3, .inl v3)] [0, 1, 2, 3] rfl ?_
    exact kE0 σ rfl
  · rw [if_neg c20] at h
    refine aw_aload_n X dX1_drop_123 0 0 rfl rfl ?_
    obtain ⟨x21, hx21, h⟩ := bind_some h
    refine aw_gfR X fl_X1_44 dX1_drop_124 hx21 ?_
    refine aw_iload X dX1_drop_127 4 rfl ?_
    refine aw_aload_n X dX1_drop_129 0 0 rfl rfl ?_
    obtain ⟨x22, hx22, h⟩ := bind_some h
    refine aw_gfR X fl_X1_82 dX1_drop_130 hx22 ?_
    refine aw_iload X dX1_drop_133 4 rfl ?_
    obtain ⟨x23, hx23, h⟩ := bind_some h
    refine aw_iald X dX1_drop_135 hx23 ?_
    obtain ⟨s24, hs24, h⟩ := bind_some h
    refine aw_iast X dX1_drop_136 hs24 ?_
    refine aw_iinc X dX1_drop_137 4 rfl (1 : Int32) rfl (by decide) [(6, .inl (v6 + (1 : Int32))), (0, .inr (.inr (some this))), (1, .inl v1), (2, .inl v2), (3, .inl v3)] rfl ?_
    refine aw_goto X 114 dX1_drop_140 rfl ?_
    cases h
    refine aw_sub [(0, .inr (.inr (some this))), (1, .inl v1), (2, .inl v2), (3, .inl v3), (6, .inl (v6 + (1 : Int32)))] [1, 2, 3, 4, 0] rfl ?_
    exact kH ((v6 + (1 : Int32)), s24) rfl
theorem wX1_drop_b23 {C : CT} {d : Nat} (X : Cx C cX1_drop RX1 (some .int) 8 (d + 3)) (φ : Nat) (this : Nat) (v1 : Int32) (v2 : Int32) (v3 : Int32) (k0 : Option Nat) (k1 : Int32) (σ : St) (y : Int32 × St) (h : fX1_drop_b23 φ this v1 v2 v3 k0 k1 σ = some y)  : AW C 23 [(0, .inr (.inr (some this))), (1, .inl v1), (2, .inl v2), (3, .inl v3)] [.inl k1, .inr (.inr k0)] σ (AQ C (some (.inl y.1)) y.2) := by
  unfold fX1_drop_b23 at h
  refine aw_iload_n X dX1_drop_23 2 2 rfl rfl ?_
  obtain ⟨y3, hy3, h⟩ := bind_some h
  refine aw_cV X (st := []) hy3 [.inl k1, .inl v2] rfl rfl ml_X1_192 (fun o h => AX1_needWord (Cx.ok X) φ d _ _ _ _ _ h) dX1_drop_24 (Nat.le_of_ble_eq_true rfl) ?_
  refine aw_istore X dX1_drop_27 (by decide) [(4, .inl y3.1), (0, .inr (.inr (some this))), (1, .inl v1), (2, .inl v2), (3, .inl v3)] rfl ?_
  refine aw_iload X dX1_drop_29 0 rfl ?_
  refine aw_if_ge X 37 dX1_drop_31 rfl (fun c4 => ?_) (fun c4 => ?_)
  · rw [if_pos c4] at h
    refine aw_aload_n X dX1_drop_37 1 0 rfl rfl ?_
    refine aw_iload_n X dX1_drop_38 3 2 rfl rfl ?_
    obtain ⟨y5, hy5, h⟩ := bind_some h
    refine aw_cV X (st := []) hy5 [.inl v2] rfl rfl ml_X1_255 (fun o h => AX1_layOther (Cx.ok X) φ (d + 1) _ _ _ _ h) dX1_drop_39 (Nat.le_of_ble_eq_true rfl) ?_
    refine aw_iconst X (0 : Int32) dX1_drop_42 (by decide) ?_
    refine aw_istore X dX1_drop_43 (by decide) [(5, .inl (0 : Int32)), (4, .inl y3.1), (0, .inr (.inr (some this))), (1, .inl v1), (2, .inl v2), (3, .inl v3)] rfl ?_
    obtain ⟨e15, h16, h⟩ := bind_some h
    refine aw_sub [(0, .inr (.inr (some this))), (1, .inl v1), (2, .inl v2), (3, .inl v3), (5, .inl (0 : Int32))] [2, 3, 4, 5, 0] rfl ?_
    refine aw_it (fun s => AW C 45 [(0, .inr (.inr (some this))), (1, .inl v1), (2, .inl v2), (3, .inl v3), (5, .inl s.1)] [] s.2 (AQ C (some (.inl y.1)) y.2)) (fun e => AW C 103 [(0, .inr (.inr (some this))), (1, .inl v1), (2, .inl v2), (3, .inl v3)] [] e (AQ C (some (.inl y.1)) y.2)) (fun s r hr kH kE => wX1_drop_l45 X φ this v1 v2 v3 s.1 s.2 r hr kH kE) φ _ e15 h16 ?_
    refine aw_aload_n X dX1_drop_103 0 0 rfl rfl ?_
    refine aw_aload_n X dX1_drop_104 0 0 rfl rfl ?_
    obtain ⟨x17, hx17, h⟩ := bind_some h
    refine aw_gfI X fl_X1_246 dX1_drop_105 hx17 ?_
    obtain ⟨s18, hs18, h⟩ := bind_some h
    refine aw_pfI X fl_X1_151 dX1_drop_108 hs18 ?_
    refine aw_iconst X (0 : Int32) dX1_drop_111 (by decide) ?_
    refine aw_istore X dX1_drop_112 (by decide) [(6, .inl (0 : Int32)), (0, .inr (.inr (some this))), (1, .inl v1), (2, .inl v2), (3, .inl v3)] rfl ?_
    obtain ⟨e25, h26, h⟩ := bind_some h
    refine aw_sub [(0, .inr (.inr (some this))), (1, .inl v1), (2, .inl v2), (3, .inl v3), (6, .inl (0 : Int32))] [1, 2, 3, 4, 0] rfl ?_
    refine aw_it (fun s => AW C 114 [(0, .inr (.inr (some this))), (1, .inl v1), (2, .inl v2), (3, .inl v3), (6, .inl s.1)] [] s.2 (AQ C (some (.inl y.1)) y.2)) (fun e => AW C 143 [(0, .inr (.inr (some this))), (1, .inl v1), (2, .inl v2), (3, .inl v3)] [] e (AQ C (some (.inl y.1)) y.2)) (fun s r hr kH kE => wX1_drop_l114 X φ this v1 v2 v3 s.1 s.2 r hr kH kE) φ _ e25 h26 ?_
    refine aw_aload_n X dX1_drop_143 0 0 rfl rfl ?_
    refine aw_iload_n X dX1_drop_144 1 1 rfl rfl ?_
    refine aw_iconst X (4 : Int32) dX1_drop_145 (by decide) ?_
    refine aw_iload_n X dX1_drop_146 2 2 rfl rfl ?_
    refine aw_iload_n X dX1_drop_147 3 3 rfl rfl ?_
    obtain ⟨y27, hy27, h⟩ := bind_some h
    refine aw_cV X (st := []) hy27 [.inl v1, .inl (4 : Int32), .inl v2, .inl v3] rfl rfl ml_X1_160 (fun o h => AX1_comes (Cx.ok X) φ (d + 2) _ _ _ _ _ _ _ h) dX1_drop_148 (Nat.le_of_ble_eq_true rfl) ?_
    cases h
    exact aw_iret X dX1_drop_151
  · rw [if_neg c4] at h
    refine aw_iload X dX1_drop_34 0 rfl ?_
    cases h
    exact aw_iret X dX1_drop_36
theorem wX1_drop_b22 {C : CT} {d : Nat} (X : Cx C cX1_drop RX1 (some .int) 8 (d + 3)) (φ : Nat) (this : Nat) (v1 : Int32) (v2 : Int32) (v3 : Int32) (k0 : Option Nat) (σ : St) (y : Int32 × St) (h : fX1_drop_b22 φ this v1 v2 v3 k0 σ = some y)  : AW C 22 [(0, .inr (.inr (some this))), (1, .inl v1), (2, .inl v2), (3, .inl v3)] [.inr (.inr k0)] σ (AQ C (some (.inl y.1)) y.2) := by
  unfold fX1_drop_b22 at h
  refine aw_iconst X (0 : Int32) dX1_drop_22 (by decide) ?_
  exact wX1_drop_b23 X φ this v1 v2 v3 k0 (0 : Int32) σ y h
theorem wX1_drop {C : CT} {d : Nat} (X : Cx C cX1_drop RX1 (some .int) 8 (d + 3)) (φ : Nat) (this : Nat) (v1 : Int32) (v2 : Int32) (v3 : Int32) (σ : St) (y : Int32 × St) (h : fX1_drop φ this v1 v2 v3 σ = some y) : AW C 0 [(0, .inr (.inr (some this))), (1, .inl v1), (2, .inl v2), (3, .inl v3)] [] σ (AQ C (some (.inl y.1)) y.2) := by
  unfold fX1_drop at h
  refine aw_aload_n X dX1_drop_0 0 0 rfl rfl ?_
  refine aw_iload_n X dX1_drop_1 1 1 rfl rfl ?_
  obtain ⟨y1, hy1, h⟩ := bind_some h
  refine aw_callS X (st := [.inr (.inr (some this))]) [.inl v1] rfl ml_X1_154 (AX1_isWord (Cx.ok X) φ (d + 1) _ _ _  hy1) dX1_drop_2 (Nat.le_of_ble_eq_true rfl) ?_
  refine aw_if_eq X 22 dX1_drop_5 rfl (fun c2 => ?_) (fun c2 => ?_)
  · rw [if_pos c2] at h
    exact wX1_drop_b22 X φ this v1 v2 v3 (some this) σ y h
  · rw [if_neg c2] at h
    refine aw_iload_n X dX1_drop_8 3 3 rfl rfl ?_
    refine aw_iconst X (0 : Int32) dX1_drop_9 (by decide) ?_
    refine aw_bipush X (40 : Int32) dX1_drop_10 (by decide) ?_
    obtain ⟨y28, hy28, h⟩ := bind_some h
    refine aw_callS X (st := [.inr (.inr (some this))]) [.inl v3, .inl (0 : Int32), .inl (40 : Int32)] rfl ml_X1_117 (AX1_in (Cx.ok X) φ (d + 2) _ _ _ _ _  hy28) dX1_drop_12 (Nat.le_of_ble_eq_true rfl) ?_
    refine aw_if_eq X 22 dX1_drop_15 rfl (fun c29 => ?_) (fun c29 => ?_)
    · rw [if_pos c29] at h
      exact wX1_drop_b22 X φ this v1 v2 v3 (some this) σ y h
    · rw [if_neg c29] at h
      refine aw_iconst X (1 : Int32) dX1_drop_18 (by decide) ?_
      refine aw_goto X 23 dX1_drop_19 rfl ?_
      exact wX1_drop_b23 X φ this v1 v2 v3 (some this) (1 : Int32) σ y h
theorem AX1_drop {E : AE} {l : Launch} (hE : EOK E l) (φ d : Nat) (this : Nat) (v1 : Int32) (v2 : Int32) (v3 : Int32) (σ : St) (y : Int32 × St) (h : fX1_drop φ this v1 v2 v3 σ = some y) : AMet E l yX1_drop (ws_ yX1_drop cX1_drop 8 (some .int)) (d + 3) [.inr (.inr (some this)), .inl v1, .inl v2, .inl v3] σ (some (.inl y.1)) y.2 := by
  refine amet_of hE (by decide +kernel) (Nat.le_of_ble_eq_true rfl) fun C e1 e2 X XI => ?_
  subst e1
  exact wX1_drop X φ this v1 v2 v3 σ y h
theorem wX1_bits_l4 {C : CT} {d : Nat} {Z : State → Prop} (X : Cx C cX1_bits RX1 (some .int) 3 d) (φ : Nat) (v0 : Int32) (σ : St) (v1 : Int32) (v2 : Int32) (y : (Int32 × Int32) ⊕ (Int32)) (h : fX1_bits_l4 φ v0 σ v1 v2 = some y) (kH : ∀ s : Int32 × Int32, y = .inl s → AW C 4 [(0, .inl v0), (1, .inl s.1), (2, .inl s.2)] [] σ Z) (kE0 : ∀ e : Int32, y = .inr e → AW C 24 [(1, .inl e)] [] σ Z) : AW C 4 [(0, .inl v0), (1, .inl v1), (2, .inl v2)] [] σ Z := by
  unfold fX1_bits_l4 at h
  refine aw_iload_n X dX1_bits_4 2 2 rfl rfl ?_
  refine aw_bipush X (8 : Int32) dX1_bits_5 (by decide) ?_
  refine aw_icmp_ge X 24 dX1_bits_7 rfl (fun c1 => ?_) (fun c1 => ?_)
  · rw [if_pos c1] at h
    cases h
    refine aw_sub [(1, .inl v1)] [1] rfl ?_
    exact kE0 v1 rfl
  · rw [if_neg c1] at h
    refine aw_iload_n X dX1_bits_10 1 1 rfl rfl ?_
    refine aw_iload_n X dX1_bits_11 0 0 rfl rfl ?_
    refine aw_iload_n X dX1_bits_12 2 2 rfl rfl ?_
    refine aw_ishr X dX1_bits_13 ?_
    refine aw_iconst X (1 : Int32) dX1_bits_14 (by decide) ?_
    refine aw_iand X dX1_bits_15 ?_
    refine aw_iadd X dX1_bits_16 ?_
    refine aw_istore_n X dX1_bits_17 1 rfl (by decide) [(1, .inl (v1 + ((v0 >>> (v2 &&& 31)) &&& (1 : Int32)))), (0, .inl v0), (2, .inl v2)] rfl ?_
    refine aw_iinc X dX1_bits_18 2 rfl (1 : Int32) rfl (by decide) [(2, .inl (v2 + (1 : Int32))), (1, .inl (v1 + ((v0 >>> (v2 &&& 31)) &&& (1 : Int32)))), (0, .inl v0)] rfl ?_
    refine aw_goto X 4 dX1_bits_21 rfl ?_
    cases h
    refine aw_sub [(0, .inl v0), (1, .inl (v1 + ((v0 >>> (v2 &&& 31)) &&& (1 : Int32)))), (2, .inl (v2 + (1 : Int32)))] [2, 1, 0] rfl ?_
    exact kH ((v1 + ((v0 >>> (v2 &&& 31)) &&& (1 : Int32))), (v2 + (1 : Int32))) rfl
theorem wX1_bits {C : CT} {d : Nat} (X : Cx C cX1_bits RX1 (some .int) 3 d) (φ : Nat) (v0 : Int32) (σ : St) (y : Int32) (h : fX1_bits φ v0 σ = some y) : AW C 0 [(0, .inl v0)] [] σ (AQ C (some (.inl y)) σ) := by
  unfold fX1_bits at h
  refine aw_iconst X (0 : Int32) dX1_bits_0 (by decide) ?_
  refine aw_istore_n X dX1_bits_1 1 rfl (by decide) [(1, .inl (0 : Int32)), (0, .inl v0)] rfl ?_
  refine aw_iconst X (0 : Int32) dX1_bits_2 (by decide) ?_
  refine aw_istore_n X dX1_bits_3 2 rfl (by decide) [(2, .inl (0 : Int32)), (1, .inl (0 : Int32)), (0, .inl v0)] rfl ?_
  obtain ⟨e2, h3, h⟩ := bind_some h
  refine aw_sub [(0, .inl v0), (1, .inl (0 : Int32)), (2, .inl (0 : Int32))] [2, 1, 0] rfl ?_
  refine aw_it (fun s => AW C 4 [(0, .inl v0), (1, .inl s.1), (2, .inl s.2)] [] σ (AQ C (some (.inl y)) σ)) (fun e => AW C 24 [(1, .inl e)] [] σ (AQ C (some (.inl y)) σ)) (fun s r hr kH kE => wX1_bits_l4 X φ v0 σ s.1 s.2 r hr kH kE) φ _ e2 h3 ?_
  refine aw_iload_n X dX1_bits_24 0 1 rfl rfl ?_
  cases h
  exact aw_iret X dX1_bits_25
theorem AX1_bits {E : AE} {l : Launch} (hE : EOK E l) (φ d : Nat) (v0 : Int32) (σ : St) (y : Int32) (h : fX1_bits φ v0 σ = some y) : AMet E l yX1_bits (ws_ yX1_bits cX1_bits 3 (some .int)) d [.inl v0] σ (some (.inl y)) σ := by
  refine amet_of hE (by decide +kernel) (Nat.le_of_ble_eq_true rfl) fun C e1 e2 X XI => ?_
  subst e1
  exact wX1_bits X φ v0 σ y h
theorem wX1_needSeveral_b76 {C : CT} {d : Nat} {Z : State → Prop} (X : Cx C cX1_needSeveral RX1 (some .int) 6 (d + 2)) (φ : Nat) (this : Nat) (v1 : Int32) (v3 : Int32) (v5 : Int32) (k0 : Int32) (σ : St) (y : (Int32 × Int32 × Int32 × St) ⊕ (Int32 × Int32 × St)) (h : fX1_needSeveral_b76 φ this v1 v3 v5 k0 σ = some y) (kH : ∀ s : Int32 × Int32 × Int32 × St, y = .inl s → AW C 41 [(0, .inr (.inr (some this))), (1, .inl v1), (3, .inl s.1), (4, .inl s.2.1), (5, .inl s.2.2.1)] [] s.2.2.2 Z) (kE0 : ∀ e : Int32 × Int32 × St, y = .inr e → AW C 117 [(0, .inr (.inr (some this))), (3, .inl e.1), (4, .inl e.2.1)] [] e.2.2 Z) : AW C 76 [(0, .inr (.inr (some this))), (1, .inl v1), (3, .inl v3), (5, .inl v5)] [.inl k0] σ Z := by
  unfold fX1_needSeveral_b76 at h
  refine aw_istore X dX1_needSeveral_76 (by decide) [(4, .inl k0), (0, .inr (.inr (some this))), (1, .inl v1), (3, .inl v3), (5, .inl v5)] rfl ?_
  refine aw_aload_n X dX1_needSeveral_78 1 0 rfl rfl ?_
  obtain ⟨x12, hx12, h⟩ := bind_some h
  refine aw_gfR X fl_X1_85 dX1_needSeveral_79 hx12 ?_
  refine aw_aload_n X dX1_needSeveral_82 1 0 rfl rfl ?_
  obtain ⟨x13, hx13, h⟩ := bind_some h
  refine aw_gfI X fl_X1_270 dX1_needSeveral_83 hx13 ?_
  refine aw_iload X dX1_needSeveral_86 4 rfl ?_
  obtain ⟨s14, hs14, h⟩ := bind_some h
  refine aw_iast X dX1_needSeveral_88 hs14 ?_
  refine aw_iload_n X dX1_needSeveral_89 3 3 rfl rfl ?_
  refine aw_aload_n X dX1_needSeveral_90 1 0 rfl rfl ?_
  obtain ⟨x15, hx15, h⟩ := bind_some h
  refine aw_gfR X fl_X1_29 dX1_needSeveral_91 hx15 ?_
  refine aw_iload X dX1_needSeveral_94 4 rfl ?_
  obtain ⟨x16, hx16, h⟩ := bind_some h
  refine aw_iald X dX1_needSeveral_96 hx16 ?_
  refine aw_iconst X (1 : Int32) dX1_needSeveral_97 (by decide) ?_
  refine aw_iadd X dX1_needSeveral_98 ?_
  refine aw_imul X dX1_needSeveral_99 ?_
  refine aw_istore_n X dX1_needSeveral_100 3 rfl (by decide) [(3, .inl (v3 * (x16 + (1 : Int32)))), (4, .inl k0), (0, .inr (.inr (some this))), (1, .inl v1), (5, .inl v5)] rfl ?_
  refine aw_aload_n X dX1_needSeveral_101 2 0 rfl rfl ?_
  refine aw_dup X dX1_needSeveral_102 rfl ?_
  obtain ⟨x17, hx17, h⟩ := bind_some h
  refine aw_gfI X fl_X1_270 dX1_needSeveral_103 hx17 ?_
  refine aw_iconst X (1 : Int32) dX1_needSeveral_106 (by decide) ?_
  refine aw_iadd X dX1_needSeveral_107 ?_
  obtain ⟨s18, hs18, h⟩ := bind_some h
  refine aw_pfI X fl_X1_270 dX1_needSeveral_108 hs18 ?_
  refine aw_iinc X dX1_needSeveral_111 4 rfl (1 : Int32) rfl (by decide) [(5, .inl (v5 + (1 : Int32))), (3, .inl (v3 * (x16 + (1 : Int32)))), (4, .inl k0), (0, .inr (.inr (some this))), (1, .inl v1)] rfl ?_
  refine aw_goto X 41 dX1_needSeveral_114 rfl ?_
  cases h
  refine aw_sub [(0, .inr (.inr (some this))), (1, .inl v1), (3, .inl (v3 * (x16 + (1 : Int32)))), (4, .inl k0), (5, .inl (v5 + (1 : Int32)))] [3, 4, 1, 2, 0] rfl ?_
  exact kH ((v3 * (x16 + (1 : Int32))), k0, (v5 + (1 : Int32)), s18) rfl
theorem wX1_needSeveral_b75 {C : CT} {d : Nat} {Z : State → Prop} (X : Cx C cX1_needSeveral RX1 (some .int) 6 (d + 2)) (φ : Nat) (this : Nat) (v1 : Int32) (v3 : Int32) (v5 : Int32) (σ : St) (y : (Int32 × Int32 × Int32 × St) ⊕ (Int32 × Int32 × St)) (h : fX1_needSeveral_b75 φ this v1 v3 v5 σ = some y) (kH : ∀ s : Int32 × Int32 × Int32 × St, y = .inl s → AW C 41 [(0, .inr (.inr (some this))), (1, .inl v1), (3, .inl s.1), (4, .inl s.2.1), (5, .inl s.2.2.1)] [] s.2.2.2 Z) (kE0 : ∀ e : Int32 × Int32 × St, y = .inr e → AW C 117 [(0, .inr (.inr (some this))), (3, .inl e.1), (4, .inl e.2.1)] [] e.2.2 Z) : AW C 75 [(0, .inr (.inr (some this))), (1, .inl v1), (3, .inl v3), (5, .inl v5)] [] σ Z := by
  unfold fX1_needSeveral_b75 at h
  refine aw_iconst X (0 : Int32) dX1_needSeveral_75 (by decide) ?_
  exact wX1_needSeveral_b76 X φ this v1 v3 v5 (0 : Int32) σ y h kH kE0
theorem wX1_needSeveral_l41 {C : CT} {d : Nat} {Z : State → Prop} (X : Cx C cX1_needSeveral RX1 (some .int) 6 (d + 2)) (φ : Nat) (this : Nat) (v1 : Int32) (v3 : Int32) (v4 : Int32) (v5 : Int32) (σ : St) (y : (Int32 × Int32 × Int32 × St) ⊕ (Int32 × Int32 × St)) (h : fX1_needSeveral_l41 φ this v1 v3 v4 v5 σ = some y) (kH : ∀ s : Int32 × Int32 × Int32 × St, y = .inl s → AW C 41 [(0, .inr (.inr (some this))), (1, .inl v1), (3, .inl s.1), (4, .inl s.2.1), (5, .inl s.2.2.1)] [] s.2.2.2 Z) (kE0 : ∀ e : Int32 × Int32 × St, y = .inr e → AW C 117 [(0, .inr (.inr (some this))), (3, .inl e.1), (4, .inl e.2.1)] [] e.2.2 Z) : AW C 41 [(0, .inr (.inr (some this))), (1, .inl v1), (3, .inl v3), (4, .inl v4), (5, .inl v5)] [] σ Z := by
  unfold fX1_needSeveral_l41 at h
  refine aw_iload X dX1_needSeveral_41 4 rfl ?_
  refine aw_bipush X (8 : Int32) dX1_needSeveral_43 (by decide) ?_
  refine aw_icmp_ge X 117 dX1_needSeveral_45 rfl (fun c8 => ?_) (fun c8 => ?_)
  · rw [if_pos c8] at h
    cases h
    refine aw_sub [(0, .inr (.inr (some this))), (3, .inl v3), (4, .inl v4)] [0, 2, 3] rfl ?_
    exact kE0 (v3, v4, σ) rfl
  · rw [if_neg c8] at h
    refine aw_iload_n X dX1_needSeveral_48 1 1 rfl rfl ?_
    refine aw_iload X dX1_needSeveral_49 4 rfl ?_
    obtain ⟨y9, hy9, h⟩ := bind_some h
    refine aw_callS X (st := []) [.inl v1, .inl v5] rfl ml_X1_243 (AX1_has (Cx.ok X) φ (d + 1) _ _ _ _  hy9) dX1_needSeveral_51 (Nat.le_of_ble_eq_true rfl) ?_
    refine aw_if_eq X 111 dX1_needSeveral_54 rfl (fun c10 => ?_) (fun c10 => ?_)
    · rw [if_pos c10] at h
      refine aw_iinc X dX1_needSeveral_111 4 rfl (1 : Int32) rfl (by decide) [(5, .inl (v5 + (1 : Int32))), (0, .inr (.inr (some this))), (1, .inl v1), (3, .inl v3), (4, .inl v4)] rfl ?_
      refine aw_goto X 41 dX1_needSeveral_114 rfl ?_
      cases h
      refine aw_sub [(0, .inr (.inr (some this))), (1, .inl v1), (3, .inl v3), (4, .inl v4), (5, .inl (v5 + (1 : Int32)))] [1, 2, 3, 4, 0] rfl ?_
      exact kH (v3, v4, (v5 + (1 : Int32)), σ) rfl
    · rw [if_neg c10] at h
      refine aw_iload X dX1_needSeveral_57 3 rfl ?_
      refine aw_if_eq X 75 dX1_needSeveral_59 rfl (fun c11 => ?_) (fun c11 => ?_)
      · rw [if_pos c11] at h
        refine aw_sub [(0, .inr (.inr (some this))), (1, .inl v1), (3, .inl v3), (5, .inl v5)] [0, 1, 2, 4] rfl ?_
        exact wX1_needSeveral_b75 X φ this v1 v3 v5 σ y h kH kE0
      · rw [if_neg c11] at h
        refine aw_aload_n X dX1_needSeveral_62 0 0 rfl rfl ?_
        refine aw_iload X dX1_needSeveral_63 4 rfl ?_
        obtain ⟨y19, hy19, h⟩ := bind_some h
        refine aw_cV X (st := []) hy19 [.inl v5] rfl rfl ml_X1_185 (fun o h => AX1_isThere (Cx.ok X) φ (d + 1) _ _ _ _ h) dX1_needSeveral_65 (Nat.le_of_ble_eq_true rfl) ?_
        refine aw_if_eq X 75 dX1_needSeveral_68 rfl (fun c20 => ?_) (fun c20 => ?_)
        · rw [if_pos c20] at h
          refine aw_sub [(0, .inr (.inr (some this))), (1, .inl v1), (3, .inl v3), (5, .inl v5)] [0, 1, 2, 4] rfl ?_
          exact wX1_needSeveral_b75 X φ this v1 v3 v5 σ y h kH kE0
        · rw [if_neg c20] at h
          refine aw_iconst X (1 : Int32) dX1_needSeveral_71 (by decide) ?_
          refine aw_goto X 76 dX1_needSeveral_72 rfl ?_
          refine aw_sub [(0, .inr (.inr (some this))), (1, .inl v1), (3, .inl v3), (5, .inl v5)] [0, 1, 2, 4] rfl ?_
          exact wX1_needSeveral_b76 X φ this v1 v3 v5 (1 : Int32) σ y h kH kE0
theorem wX1_needSeveral {C : CT} {d : Nat} (X : Cx C cX1_needSeveral RX1 (some .int) 6 (d + 2)) (φ : Nat) (this : Nat) (v1 : Int32) (v2 : Int32) (σ : St) (y : Int32 × St) (h : fX1_needSeveral φ this v1 v2 σ = some y) : AW C 0 [(0, .inr (.inr (some this))), (1, .inl v1), (2, .inl v2)] [] σ (AQ C (some (.inl y.1)) y.2) := by
  unfold fX1_needSeveral at h
  refine aw_iload_n X dX1_needSeveral_0 1 1 rfl rfl ?_
  refine aw_iconst X (1 : Int32) dX1_needSeveral_1 (by decide) ?_
  refine aw_sipush X (255 : Int32) dX1_needSeveral_2 (by decide) ?_
  obtain ⟨y1, hy1, h⟩ := bind_some h
  refine aw_callS X (st := []) [.inl v1, .inl (1 : Int32), .inl (255 : Int32)] rfl ml_X1_117 (AX1_in (Cx.ok X) φ (d + 1) _ _ _ _ _  hy1) dX1_needSeveral_5 (Nat.le_of_ble_eq_true rfl) ?_
  refine aw_if_eq X 26 dX1_needSeveral_8 rfl (fun c2 => ?_) (fun c2 => ?_)
  · rw [if_pos c2] at h
    refine aw_iconst X (-1 : Int32) dX1_needSeveral_26 (by decide) ?_
    cases h
    exact aw_iret X dX1_needSeveral_27
  · rw [if_neg c2] at h
    refine aw_iload_n X dX1_needSeveral_11 1 1 rfl rfl ?_
    obtain ⟨y3, hy3, h⟩ := bind_some h
    refine aw_callS X (st := []) [.inl v1] rfl ml_X1_267 (AX1_bits (Cx.ok X) φ (d + 1) _ _ _  hy3) dX1_needSeveral_12 (Nat.le_of_ble_eq_true rfl) ?_
    refine aw_iconst X (4 : Int32) dX1_needSeveral_15 (by decide) ?_
    refine aw_icmp_gt X 26 dX1_needSeveral_16 rfl (fun c4 => ?_) (fun c4 => ?_)
    · rw [if_pos c4] at h
      refine aw_iconst X (-1 : Int32) dX1_needSeveral_26 (by decide) ?_
      cases h
      exact aw_iret X dX1_needSeveral_27
    · rw [if_neg c4] at h
      refine aw_iload_n X dX1_needSeveral_19 2 2 rfl rfl ?_
      obtain ⟨y5, hy5, h⟩ := bind_some h
      refine aw_callS X (st := []) [.inl v2] rfl ml_X1_130 (AX1_isRow (Cx.ok X) φ d _ _ _  hy5) dX1_needSeveral_20 (Nat.le_of_ble_eq_true rfl) ?_
      refine aw_if_ne X 28 dX1_needSeveral_23 rfl (fun c6 => ?_) (fun c6 => ?_)
      · rw [if_neg c6] at h
        refine aw_aload_n X dX1_needSeveral_28 0 0 rfl rfl ?_
        refine aw_iconst X (0 : Int32) dX1_needSeveral_29 (by decide) ?_
        obtain ⟨s7, hs7, h⟩ := bind_some h
        refine aw_pfI X fl_X1_270 dX1_needSeveral_30 hs7 ?_
        refine aw_iconst X (1 : Int32) dX1_needSeveral_33 (by decide) ?_
        refine aw_istore_n X dX1_needSeveral_34 3 rfl (by decide) [(3, .inl (1 : Int32)), (0, .inr (.inr (some this))), (1, .inl v1), (2, .inl v2)] rfl ?_
        refine aw_iconst X (1 : Int32) dX1_needSeveral_35 (by decide) ?_
        refine aw_istore X dX1_needSeveral_36 (by decide) [(4, .inl (1 : Int32)), (3, .inl (1 : Int32)), (0, .inr (.inr (some this))), (1, .inl v1), (2, .inl v2)] rfl ?_
        refine aw_iconst X (0 : Int32) dX1_needSeveral_38 (by decide) ?_
        refine aw_istore X dX1_needSeveral_39 (by decide) [(5, .inl (0 : Int32)), (4, .inl (1 : Int32)), (3, .inl (1 : Int32)), (0, .inr (.inr (some this))), (1, .inl v1), (2, .inl v2)] rfl ?_
        obtain ⟨e21, h22, h⟩ := bind_some h
        refine aw_sub [(0, .inr (.inr (some this))), (1, .inl v1), (3, .inl (1 : Int32)), (4, .inl (1 : Int32)), (5, .inl (0 : Int32))] [3, 4, 2, 1, 0] rfl ?_
        refine aw_it (fun s => AW C 41 [(0, .inr (.inr (some this))), (1, .inl v1), (3, .inl s.1), (4, .inl s.2.1), (5, .inl s.2.2.1)] [] s.2.2.2 (AQ C (some (.inl y.1)) y.2)) (fun e => AW C 117 [(0, .inr (.inr (some this))), (3, .inl e.1), (4, .inl e.2.1)] [] e.2.2 (AQ C (some (.inl y.1)) y.2)) (fun s r hr kH kE => wX1_needSeveral_l41 X φ this v1 s.1 s.2.1 s.2.2.1 s.2.2.2 r hr kH kE) φ _ e21 h22 ?_
        refine aw_iload X dX1_needSeveral_117 2 rfl ?_
        refine aw_if_ne X 130 dX1_needSeveral_119 rfl (fun c23 => ?_) (fun c23 => ?_)
        · rw [if_neg c23] at h
          refine aw_iload_n X dX1_needSeveral_130 1 3 rfl rfl ?_
          refine aw_sipush X (20000 : Int32) dX1_needSeveral_131 (by decide) ?_
          refine aw_icmp_le X 142 dX1_needSeveral_134 rfl (fun c24 => ?_) (fun c24 => ?_)
          · rw [if_pos c24] at h
            refine aw_iconst X (0 : Int32) dX1_needSeveral_142 (by decide) ?_
            cases h
            exact aw_iret X dX1_needSeveral_143
          · rw [if_neg c24] at h
            refine aw_bipush X (-6 : Int32) dX1_needSeveral_137 (by decide) ?_
            refine aw_goto X 143 dX1_needSeveral_139 rfl ?_
            cases h
            exact aw_iret X dX1_needSeveral_143
        · rw [if_pos c23] at h
          refine aw_aload_n X dX1_needSeveral_122 0 0 rfl rfl ?_
          refine aw_iconst X (1 : Int32) dX1_needSeveral_123 (by decide) ?_
          obtain ⟨y25, hy25, h⟩ := bind_some h
          refine aw_cV X (st := []) hy25 [.inl (1 : Int32)] rfl rfl ml_X1_134 (fun o h => AX1_meets (Cx.ok X) φ (d + 1) _ _ _ _ h) dX1_needSeveral_124 (Nat.le_of_ble_eq_true rfl) ?_
          refine aw_goto X 143 dX1_needSeveral_127 rfl ?_
          cases h
          exact aw_iret X dX1_needSeveral_143
      · rw [if_pos c6] at h
        refine aw_iconst X (-1 : Int32) dX1_needSeveral_26 (by decide) ?_
        cases h
        exact aw_iret X dX1_needSeveral_27
theorem AX1_needSeveral {E : AE} {l : Launch} (hE : EOK E l) (φ d : Nat) (this : Nat) (v1 : Int32) (v2 : Int32) (σ : St) (y : Int32 × St) (h : fX1_needSeveral φ this v1 v2 σ = some y) : AMet E l yX1_needSeveral (ws_ yX1_needSeveral cX1_needSeveral 6 (some .int)) (d + 2) [.inr (.inr (some this)), .inl v1, .inl v2] σ (some (.inl y.1)) y.2 := by
  refine amet_of hE (by decide +kernel) (Nat.le_of_ble_eq_true rfl) fun C e1 e2 X XI => ?_
  subst e1
  exact wX1_needSeveral X φ this v1 v2 σ y h
theorem wX1_allCodes_l4 {C : CT} {d : Nat} {Z : State → Prop} (X : Cx C cX1_allCodes RX1 (some .int) 3 d) (φ : Nat) (this : Nat) (σ : St) (v1 : Int32) (v2 : Int32) (y : (Int32 × Int32) ⊕ (Int32)) (h : fX1_allCodes_l4 φ this σ v1 v2 = some y) (kH : ∀ s : Int32 × Int32, y = .inl s → AW C 4 [(0, .inr (.inr (some this))), (1, .inl s.1), (2, .inl s.2)] [] σ Z) (kE0 : ∀ e : Int32, y = .inr e → AW C 34 [(1, .inl e)] [] σ Z) : AW C 4 [(0, .inr (.inr (some this))), (1, .inl v1), (2, .inl v2)] [] σ Z := by
  unfold fX1_allCodes_l4 at h
  refine aw_iload_n X dX1_allCodes_4 2 2 rfl rfl ?_
  refine aw_aload_n X dX1_allCodes_5 0 0 rfl rfl ?_
  obtain ⟨x1, hx1, h⟩ := bind_some h
  refine aw_gfI X fl_X1_270 dX1_allCodes_6 hx1 ?_
  refine aw_icmp_ge X 34 dX1_allCodes_9 rfl (fun c2 => ?_) (fun c2 => ?_)
  · rw [if_pos c2] at h
    cases h
    refine aw_sub [(1, .inl v1)] [1] rfl ?_
    exact kE0 v1 rfl
  · rw [if_neg c2] at h
    refine aw_iload_n X dX1_allCodes_12 1 1 rfl rfl ?_
    refine aw_aload_n X dX1_allCodes_13 0 0 rfl rfl ?_
    obtain ⟨x3, hx3, h⟩ := bind_some h
    refine aw_gfR X fl_X1_29 dX1_allCodes_14 hx3 ?_
    refine aw_aload_n X dX1_allCodes_17 0 0 rfl rfl ?_
    obtain ⟨x4, hx4, h⟩ := bind_some h
    refine aw_gfR X fl_X1_85 dX1_allCodes_18 hx4 ?_
    refine aw_iload_n X dX1_allCodes_21 2 2 rfl rfl ?_
    obtain ⟨x5, hx5, h⟩ := bind_some h
    refine aw_iald X dX1_allCodes_22 hx5 ?_
    obtain ⟨x6, hx6, h⟩ := bind_some h
    refine aw_iald X dX1_allCodes_23 hx6 ?_
    refine aw_iconst X (1 : Int32) dX1_allCodes_24 (by decide) ?_
    refine aw_iadd X dX1_allCodes_25 ?_
    refine aw_imul X dX1_allCodes_26 ?_
    refine aw_istore_n X dX1_allCodes_27 1 rfl (by decide) [(1, .inl (v1 * (x6 + (1 : Int32)))), (0, .inr (.inr (some this))), (2, .inl v2)] rfl ?_
    refine aw_iinc X dX1_allCodes_28 2 rfl (1 : Int32) rfl (by decide) [(2, .inl (v2 + (1 : Int32))), (1, .inl (v1 * (x6 + (1 : Int32)))), (0, .inr (.inr (some this)))] rfl ?_
    refine aw_goto X 4 dX1_allCodes_31 rfl ?_
    cases h
    refine aw_sub [(0, .inr (.inr (some this))), (1, .inl (v1 * (x6 + (1 : Int32)))), (2, .inl (v2 + (1 : Int32)))] [2, 1, 0] rfl ?_
    exact kH ((v1 * (x6 + (1 : Int32))), (v2 + (1 : Int32))) rfl
theorem wX1_allCodes {C : CT} {d : Nat} (X : Cx C cX1_allCodes RX1 (some .int) 3 d) (φ : Nat) (this : Nat) (σ : St) (y : Int32) (h : fX1_allCodes φ this σ = some y) : AW C 0 [(0, .inr (.inr (some this)))] [] σ (AQ C (some (.inl y)) σ) := by
  unfold fX1_allCodes at h
  refine aw_iconst X (1 : Int32) dX1_allCodes_0 (by decide) ?_
  refine aw_istore_n X dX1_allCodes_1 1 rfl (by decide) [(1, .inl (1 : Int32)), (0, .inr (.inr (some this)))] rfl ?_
  refine aw_iconst X (0 : Int32) dX1_allCodes_2 (by decide) ?_
  refine aw_istore_n X dX1_allCodes_3 2 rfl (by decide) [(2, .inl (0 : Int32)), (1, .inl (1 : Int32)), (0, .inr (.inr (some this)))] rfl ?_
  obtain ⟨e7, h8, h⟩ := bind_some h
  refine aw_sub [(0, .inr (.inr (some this))), (1, .inl (1 : Int32)), (2, .inl (0 : Int32))] [2, 1, 0] rfl ?_
  refine aw_it (fun s => AW C 4 [(0, .inr (.inr (some this))), (1, .inl s.1), (2, .inl s.2)] [] σ (AQ C (some (.inl y)) σ)) (fun e => AW C 34 [(1, .inl e)] [] σ (AQ C (some (.inl y)) σ)) (fun s r hr kH kE => wX1_allCodes_l4 X φ this σ s.1 s.2 r hr kH kE) φ _ e7 h8 ?_
  refine aw_iload_n X dX1_allCodes_34 0 1 rfl rfl ?_
  cases h
  exact aw_iret X dX1_allCodes_35
theorem AX1_allCodes {E : AE} {l : Launch} (hE : EOK E l) (φ d : Nat) (this : Nat) (σ : St) (y : Int32) (h : fX1_allCodes φ this σ = some y) : AMet E l yX1_allCodes (ws_ yX1_allCodes cX1_allCodes 3 (some .int)) d [.inr (.inr (some this))] σ (some (.inl y)) σ := by
  refine amet_of hE (by decide +kernel) (Nat.le_of_ble_eq_true rfl) fun C e1 e2 X XI => ?_
  subst e1
  exact wX1_allCodes X φ this σ y h
theorem wX1_layAt_l9 {C : CT} {d : Nat} {Z : State → Prop} (X : Cx C cX1_layAt RX1 none 4 d) (φ : Nat) (this : Nat) (v2 : Int32) (v3 : Int32) (σ : St) (y : (Int32 × Int32 × St) ⊕ (St)) (h : fX1_layAt_l9 φ this v2 v3 σ = some y) (kH : ∀ s : Int32 × Int32 × St, y = .inl s → AW C 9 [(0, .inr (.inr (some this))), (2, .inl s.1), (3, .inl s.2.1)] [] s.2.2 Z) (kE0 : ∀ e : St, y = .inr e → AW C 56 [] [] e Z) : AW C 9 [(0, .inr (.inr (some this))), (2, .inl v2), (3, .inl v3)] [] σ Z := by
  unfold fX1_layAt_l9 at h
  refine aw_iload_n X dX1_layAt_9 2 3 rfl rfl ?_
  refine aw_if_lt X 56 dX1_layAt_10 rfl (fun c2 => ?_) (fun c2 => ?_)
  · rw [if_pos c2] at h
    cases h
    refine aw_sub [] [] rfl ?_
    exact kE0 σ rfl
  · rw [if_neg c2] at h
    refine aw_aload_n X dX1_layAt_13 0 0 rfl rfl ?_
    obtain ⟨x3, hx3, h⟩ := bind_some h
    refine aw_gfR X fl_X1_91 dX1_layAt_14 hx3 ?_
    refine aw_iload_n X dX1_layAt_17 2 3 rfl rfl ?_
    refine aw_iload_n X dX1_layAt_18 1 2 rfl rfl ?_
    refine aw_aload_n X dX1_layAt_19 0 0 rfl rfl ?_
    obtain ⟨x4, hx4, h⟩ := bind_some h
    refine aw_gfR X fl_X1_29 dX1_layAt_20 hx4 ?_
    refine aw_aload_n X dX1_layAt_23 0 0 rfl rfl ?_
    obtain ⟨x5, hx5, h⟩ := bind_some h
    refine aw_gfR X fl_X1_85 dX1_layAt_24 hx5 ?_
    refine aw_iload_n X dX1_layAt_27 2 3 rfl rfl ?_
    obtain ⟨x6, hx6, h⟩ := bind_some h
    refine aw_iald X dX1_layAt_28 hx6 ?_
    obtain ⟨x7, hx7, h⟩ := bind_some h
    refine aw_iald X dX1_layAt_29 hx7 ?_
    refine aw_iconst X (1 : Int32) dX1_layAt_30 (by decide) ?_
    refine aw_iadd X dX1_layAt_31 ?_
    obtain ⟨hn8, h⟩ := chk_some h
    refine aw_irem X dX1_layAt_32 hn8 ?_
    obtain ⟨s9, hs9, h⟩ := bind_some h
    refine aw_iast X dX1_layAt_33 hs9 ?_
    refine aw_iload_n X dX1_layAt_34 1 2 rfl rfl ?_
    refine aw_aload_n X dX1_layAt_35 0 0 rfl rfl ?_
    obtain ⟨x10, hx10, h⟩ := bind_some h
    refine aw_gfR X fl_X1_29 dX1_layAt_36 hx10 ?_
    refine aw_aload_n X dX1_layAt_39 0 0 rfl rfl ?_
    obtain ⟨x11, hx11, h⟩ := bind_some h
    refine aw_gfR X fl_X1_85 dX1_layAt_40 hx11 ?_
    refine aw_iload_n X dX1_layAt_43 2 3 rfl rfl ?_
    obtain ⟨x12, hx12, h⟩ := bind_some h
    refine aw_iald X dX1_layAt_44 hx12 ?_
    obtain ⟨x13, hx13, h⟩ := bind_some h
    refine aw_iald X dX1_layAt_45 hx13 ?_
    refine aw_iconst X (1 : Int32) dX1_layAt_46 (by decide) ?_
    refine aw_iadd X dX1_layAt_47 ?_
    obtain ⟨hn14, h⟩ := chk_some h
    refine aw_idiv X dX1_layAt_48 hn14 ?_
    refine aw_istore_n X dX1_layAt_49 2 rfl (by decide) [(2, .inl (v2 / (x13 + (1 : Int32)))), (0, .inr (.inr (some this))), (3, .inl v3)] rfl ?_
    refine aw_iinc X dX1_layAt_50 2 rfl (-1 : Int32) rfl (by decide) [(3, .inl (v3 + (-1 : Int32))), (2, .inl (v2 / (x13 + (1 : Int32)))), (0, .inr (.inr (some this)))] rfl ?_
    refine aw_goto X 9 dX1_layAt_53 rfl ?_
    cases h
    refine aw_sub [(0, .inr (.inr (some this))), (2, .inl (v2 / (x13 + (1 : Int32)))), (3, .inl (v3 + (-1 : Int32)))] [2, 1, 0] rfl ?_
    exact kH ((v2 / (x13 + (1 : Int32))), (v3 + (-1 : Int32)), s9) rfl
theorem wX1_layAt {C : CT} {d : Nat} (X : Cx C cX1_layAt RX1 none 4 d) (φ : Nat) (this : Nat) (v1 : Int32) (σ : St) (y : St) (h : fX1_layAt φ this v1 σ = some y) : AW C 0 [(0, .inr (.inr (some this))), (1, .inl v1)] [] σ (AQ C none y) := by
  unfold fX1_layAt at h
  refine aw_iload_n X dX1_layAt_0 1 1 rfl rfl ?_
  refine aw_istore_n X dX1_layAt_1 2 rfl (by decide) [(2, .inl v1), (0, .inr (.inr (some this))), (1, .inl v1)] rfl ?_
  refine aw_aload_n X dX1_layAt_2 1 0 rfl rfl ?_
  obtain ⟨x1, hx1, h⟩ := bind_some h
  refine aw_gfI X fl_X1_270 dX1_layAt_3 hx1 ?_
  refine aw_iconst X (1 : Int32) dX1_layAt_6 (by decide) ?_
  refine aw_isub X dX1_layAt_7 ?_
  refine aw_istore_n X dX1_layAt_8 3 rfl (by decide) [(3, .inl (x1 - (1 : Int32))), (2, .inl v1), (0, .inr (.inr (some this))), (1, .inl v1)] rfl ?_
  obtain ⟨e15, h16, h⟩ := bind_some h
  refine aw_sub [(0, .inr (.inr (some this))), (2, .inl v1), (3, .inl (x1 - (1 : Int32)))] [2, 1, 0] rfl ?_
  refine aw_it (fun s => AW C 9 [(0, .inr (.inr (some this))), (2, .inl s.1), (3, .inl s.2.1)] [] s.2.2 (AQ C none y)) (fun e => AW C 56 [] [] e (AQ C none y)) (fun s r hr kH kE => wX1_layAt_l9 X φ this s.1 s.2.1 s.2.2 r hr kH kE) φ _ e15 h16 ?_
  cases h
  exact aw_vret X dX1_layAt_56
theorem AX1_layAt {E : AE} {l : Launch} (hE : EOK E l) (φ d : Nat) (this : Nat) (v1 : Int32) (σ : St) (y : St) (h : fX1_layAt φ this v1 σ = some y) : AMet E l yX1_layAt (ws_ yX1_layAt cX1_layAt 4 none) d [.inr (.inr (some this)), .inl v1] σ none y := by
  refine amet_of hE (by decide +kernel) (Nat.le_of_ble_eq_true rfl) fun C e1 e2 X XI => ?_
  subst e1
  exact wX1_layAt X φ this v1 σ y h
theorem wX1_code_l4 {C : CT} {d : Nat} {Z : State → Prop} (X : Cx C cX1_code RX1 (some .int) 3 d) (φ : Nat) (this : Nat) (σ : St) (v1 : Int32) (v2 : Int32) (y : (Int32 × Int32) ⊕ (Int32)) (h : fX1_code_l4 φ this σ v1 v2 = some y) (kH : ∀ s : Int32 × Int32, y = .inl s → AW C 4 [(0, .inr (.inr (some this))), (1, .inl s.1), (2, .inl s.2)] [] σ Z) (kE0 : ∀ e : Int32, y = .inr e → AW C 41 [(1, .inl e)] [] σ Z) : AW C 4 [(0, .inr (.inr (some this))), (1, .inl v1), (2, .inl v2)] [] σ Z := by
  unfold fX1_code_l4 at h
  refine aw_iload_n X dX1_code_4 2 2 rfl rfl ?_
  refine aw_aload_n X dX1_code_5 0 0 rfl rfl ?_
  obtain ⟨x1, hx1, h⟩ := bind_some h
  refine aw_gfI X fl_X1_270 dX1_code_6 hx1 ?_
  refine aw_icmp_ge X 41 dX1_code_9 rfl (fun c2 => ?_) (fun c2 => ?_)
  · rw [if_pos c2] at h
    cases h
    refine aw_sub [(1, .inl v1)] [1] rfl ?_
    exact kE0 v1 rfl
  · rw [if_neg c2] at h
    refine aw_iload_n X dX1_code_12 1 1 rfl rfl ?_
    refine aw_aload_n X dX1_code_13 0 0 rfl rfl ?_
    obtain ⟨x3, hx3, h⟩ := bind_some h
    refine aw_gfR X fl_X1_29 dX1_code_14 hx3 ?_
    refine aw_aload_n X dX1_code_17 0 0 rfl rfl ?_
    obtain ⟨x4, hx4, h⟩ := bind_some h
    refine aw_gfR X fl_X1_85 dX1_code_18 hx4 ?_
    refine aw_iload_n X dX1_code_21 2 2 rfl rfl ?_
    obtain ⟨x5, hx5, h⟩ := bind_some h
    refine aw_iald X dX1_code_22 hx5 ?_
    obtain ⟨x6, hx6, h⟩ := bind_some h
    refine aw_iald X dX1_code_23 hx6 ?_
    refine aw_iconst X (1 : Int32) dX1_code_24 (by decide) ?_
    refine aw_iadd X dX1_code_25 ?_
    refine aw_imul X dX1_code_26 ?_
    refine aw_aload_n X dX1_code_27 0 0 rfl rfl ?_
    obtain ⟨x7, hx7, h⟩ := bind_some h
    refine aw_gfR X fl_X1_91 dX1_code_28 hx7 ?_
    refine aw_iload_n X dX1_code_31 2 2 rfl rfl ?_
    obtain ⟨x8, hx8, h⟩ := bind_some h
    refine aw_iald X dX1_code_32 hx8 ?_
    refine aw_iadd X dX1_code_33 ?_
    refine aw_istore_n X dX1_code_34 1 rfl (by decide) [(1, .inl ((v1 * (x6 + (1 : Int32))) + x8)), (0, .inr (.inr (some this))), (2, .inl v2)] rfl ?_
    refine aw_iinc X dX1_code_35 2 rfl (1 : Int32) rfl (by decide) [(2, .inl (v2 + (1 : Int32))), (1, .inl ((v1 * (x6 + (1 : Int32))) + x8)), (0, .inr (.inr (some this)))] rfl ?_
    refine aw_goto X 4 dX1_code_38 rfl ?_
    cases h
    refine aw_sub [(0, .inr (.inr (some this))), (1, .inl ((v1 * (x6 + (1 : Int32))) + x8)), (2, .inl (v2 + (1 : Int32)))] [2, 1, 0] rfl ?_
    exact kH (((v1 * (x6 + (1 : Int32))) + x8), (v2 + (1 : Int32))) rfl
theorem wX1_code {C : CT} {d : Nat} (X : Cx C cX1_code RX1 (some .int) 3 d) (φ : Nat) (this : Nat) (σ : St) (y : Int32) (h : fX1_code φ this σ = some y) : AW C 0 [(0, .inr (.inr (some this)))] [] σ (AQ C (some (.inl y)) σ) := by
  unfold fX1_code at h
  refine aw_iconst X (0 : Int32) dX1_code_0 (by decide) ?_
  refine aw_istore_n X dX1_code_1 1 rfl (by decide) [(1, .inl (0 : Int32)), (0, .inr (.inr (some this)))] rfl ?_
  refine aw_iconst X (0 : Int32) dX1_code_2 (by decide) ?_
  refine aw_istore_n X dX1_code_3 2 rfl (by decide) [(2, .inl (0 : Int32)), (1, .inl (0 : Int32)), (0, .inr (.inr (some this)))] rfl ?_
  obtain ⟨e9, h10, h⟩ := bind_some h
  refine aw_sub [(0, .inr (.inr (some this))), (1, .inl (0 : Int32)), (2, .inl (0 : Int32))] [2, 1, 0] rfl ?_
  refine aw_it (fun s => AW C 4 [(0, .inr (.inr (some this))), (1, .inl s.1), (2, .inl s.2)] [] σ (AQ C (some (.inl y)) σ)) (fun e => AW C 41 [(1, .inl e)] [] σ (AQ C (some (.inl y)) σ)) (fun s r hr kH kE => wX1_code_l4 X φ this σ s.1 s.2 r hr kH kE) φ _ e9 h10 ?_
  refine aw_iload_n X dX1_code_41 0 1 rfl rfl ?_
  cases h
  exact aw_iret X dX1_code_42
theorem AX1_code {E : AE} {l : Launch} (hE : EOK E l) (φ d : Nat) (this : Nat) (σ : St) (y : Int32) (h : fX1_code φ this σ = some y) : AMet E l yX1_code (ws_ yX1_code cX1_code 3 (some .int)) d [.inr (.inr (some this))] σ (some (.inl y)) σ := by
  refine amet_of hE (by decide +kernel) (Nat.le_of_ble_eq_true rfl) fun C e1 e2 X XI => ?_
  subst e1
  exact wX1_code X φ this σ y h
theorem wX1_behindNext_b56 {C : CT} {d : Nat} {Z : State → Prop} (X : Cx C cX1_behindNext RX1 (some .int) 6 (d + 2)) (φ : Nat) (this : Nat) (v2 : Int32) (v4 : Int32) (v5 : Int32) (k0 : Int32) (σ : St) (y : (Int32 × Int32 × St) ⊕ (Int32 × St)) (h : fX1_behindNext_b56 φ this v2 v4 v5 k0 σ = some y) (kH : ∀ s : Int32 × Int32 × St, y = .inl s → AW C 10 [(0, .inr (.inr (some this))), (2, .inl v2), (3, .inl s.1), (4, .inl s.2.1)] [] s.2.2 Z) (kE0 : ∀ e : Int32 × St, y = .inr e → AW C 74 [(0, .inr (.inr (some this))), (3, .inl e.1)] [] e.2 Z) : AW C 56 [(0, .inr (.inr (some this))), (2, .inl v2), (4, .inl v4), (5, .inl v5)] [.inl k0] σ Z := by
  unfold fX1_behindNext_b56 at h
  refine aw_istore_n X dX1_behindNext_56 3 rfl (by decide) [(3, .inl k0), (0, .inr (.inr (some this))), (2, .inl v2), (4, .inl v4), (5, .inl v5)] rfl ?_
  refine aw_aload_n X dX1_behindNext_57 1 0 rfl rfl ?_
  obtain ⟨x11, hx11, h⟩ := bind_some h
  refine aw_gfR X fl_X1_91 dX1_behindNext_58 hx11 ?_
  refine aw_iload X dX1_behindNext_61 3 rfl ?_
  refine aw_iload X dX1_behindNext_63 4 rfl ?_
  refine aw_iconst X (1 : Int32) dX1_behindNext_65 (by decide) ?_
  refine aw_iadd X dX1_behindNext_66 ?_
  obtain ⟨s12, hs12, h⟩ := bind_some h
  refine aw_iast X dX1_behindNext_67 hs12 ?_
  refine aw_iinc X dX1_behindNext_68 3 rfl (1 : Int32) rfl (by decide) [(4, .inl (v4 + (1 : Int32))), (3, .inl k0), (0, .inr (.inr (some this))), (2, .inl v2), (5, .inl v5)] rfl ?_
  refine aw_goto X 10 dX1_behindNext_71 rfl ?_
  cases h
  refine aw_sub [(0, .inr (.inr (some this))), (2, .inl v2), (3, .inl k0), (4, .inl (v4 + (1 : Int32)))] [2, 3, 1, 0] rfl ?_
  exact kH (k0, (v4 + (1 : Int32)), s12) rfl
theorem wX1_behindNext_l10 {C : CT} {d : Nat} {Z : State → Prop} (X : Cx C cX1_behindNext RX1 (some .int) 6 (d + 2)) (φ : Nat) (this : Nat) (v2 : Int32) (v3 : Int32) (v4 : Int32) (σ : St) (y : (Int32 × Int32 × St) ⊕ (Int32 × St)) (h : fX1_behindNext_l10 φ this v2 v3 v4 σ = some y) (kH : ∀ s : Int32 × Int32 × St, y = .inl s → AW C 10 [(0, .inr (.inr (some this))), (2, .inl v2), (3, .inl s.1), (4, .inl s.2.1)] [] s.2.2 Z) (kE0 : ∀ e : Int32 × St, y = .inr e → AW C 74 [(0, .inr (.inr (some this))), (3, .inl e.1)] [] e.2 Z) : AW C 10 [(0, .inr (.inr (some this))), (2, .inl v2), (3, .inl v3), (4, .inl v4)] [] σ Z := by
  unfold fX1_behindNext_l10 at h
  refine aw_iload X dX1_behindNext_10 3 rfl ?_
  refine aw_aload_n X dX1_behindNext_12 0 0 rfl rfl ?_
  obtain ⟨x2, hx2, h⟩ := bind_some h
  refine aw_gfI X fl_X1_270 dX1_behindNext_13 hx2 ?_
  refine aw_icmp_ge X 74 dX1_behindNext_16 rfl (fun c3 => ?_) (fun c3 => ?_)
  · rw [if_pos c3] at h
    cases h
    refine aw_sub [(0, .inr (.inr (some this))), (3, .inl v3)] [0, 2] rfl ?_
    exact kE0 (v3, σ) rfl
  · rw [if_neg c3] at h
    refine aw_iload_n X dX1_behindNext_19 2 3 rfl rfl ?_
    refine aw_if_eq X 74 dX1_behindNext_20 rfl (fun c4 => ?_) (fun c4 => ?_)
    · rw [if_pos c4] at h
      cases h
      refine aw_sub [(0, .inr (.inr (some this))), (3, .inl v3)] [0, 2] rfl ?_
      exact kE0 (v3, σ) rfl
    · rw [if_neg c4] at h
      refine aw_aload_n X dX1_behindNext_23 0 0 rfl rfl ?_
      refine aw_aload_n X dX1_behindNext_24 0 0 rfl rfl ?_
      obtain ⟨x5, hx5, h⟩ := bind_some h
      refine aw_gfR X fl_X1_85 dX1_behindNext_25 hx5 ?_
      refine aw_iload X dX1_behindNext_28 3 rfl ?_
      obtain ⟨x6, hx6, h⟩ := bind_some h
      refine aw_iald X dX1_behindNext_30 hx6 ?_
      refine aw_aload_n X dX1_behindNext_31 0 0 rfl rfl ?_
      obtain ⟨x7, hx7, h⟩ := bind_some h
      refine aw_gfR X fl_X1_91 dX1_behindNext_32 hx7 ?_
      refine aw_iload X dX1_behindNext_35 3 rfl ?_
      obtain ⟨x8, hx8, h⟩ := bind_some h
      refine aw_iald X dX1_behindNext_37 hx8 ?_
      refine aw_iload_n X dX1_behindNext_38 1 2 rfl rfl ?_
      obtain ⟨y9, hy9, h⟩ := bind_some h
      refine aw_cV X (st := []) hy9 [.inl x6, .inl x8, .inl v2] rfl rfl ml_X1_206 (fun o h => AX1_next (Cx.ok X) φ d _ _ _ _ _ _ h) dX1_behindNext_39 (Nat.le_of_ble_eq_true rfl) ?_
      refine aw_istore X dX1_behindNext_42 (by decide) [(5, .inl y9), (0, .inr (.inr (some this))), (2, .inl v2), (3, .inl v3), (4, .inl v4)] rfl ?_
      refine aw_iload X dX1_behindNext_44 0 rfl ?_
      refine aw_bipush X (-9 : Int32) dX1_behindNext_46 (by decide) ?_
      refine aw_icmp_eq X 55 dX1_behindNext_48 rfl (fun c10 => ?_) (fun c10 => ?_)
      · rw [if_pos c10] at h
        refine aw_iconst X (0 : Int32) dX1_behindNext_55 (by decide) ?_
        refine aw_sub [(0, .inr (.inr (some this))), (2, .inl v2), (4, .inl v4), (5, .inl y9)] [1, 2, 4, 0] rfl ?_
        exact wX1_behindNext_b56 X φ this v2 v4 y9 (0 : Int32) σ y h kH kE0
      · rw [if_neg c10] at h
        refine aw_iconst X (1 : Int32) dX1_behindNext_51 (by decide) ?_
        refine aw_goto X 56 dX1_behindNext_52 rfl ?_
        refine aw_sub [(0, .inr (.inr (some this))), (2, .inl v2), (4, .inl v4), (5, .inl y9)] [1, 2, 4, 0] rfl ?_
        exact wX1_behindNext_b56 X φ this v2 v4 y9 (1 : Int32) σ y h kH kE0
theorem wX1_behindNext {C : CT} {d : Nat} (X : Cx C cX1_behindNext RX1 (some .int) 6 (d + 2)) (φ : Nat) (this : Nat) (v1 : Int32) (v2 : Int32) (σ : St) (y : Int32 × St) (h : fX1_behindNext φ this v1 v2 σ = some y) : AW C 0 [(0, .inr (.inr (some this))), (1, .inl v1), (2, .inl v2)] [] σ (AQ C (some (.inl y.1)) y.2) := by
  unfold fX1_behindNext at h
  refine aw_aload_n X dX1_behindNext_0 0 0 rfl rfl ?_
  refine aw_iload_n X dX1_behindNext_1 1 1 rfl rfl ?_
  obtain ⟨y1, hy1, h⟩ := bind_some h
  refine aw_cV X (st := []) hy1 [.inl v1] rfl rfl ml_X1_273 (fun o h => AX1_layAt (Cx.ok X) φ (d + 1) _ _ _ _ h) dX1_behindNext_2 (Nat.le_of_ble_eq_true rfl) ?_
  refine aw_iconst X (1 : Int32) dX1_behindNext_5 (by decide) ?_
  refine aw_istore_n X dX1_behindNext_6 3 rfl (by decide) [(3, .inl (1 : Int32)), (0, .inr (.inr (some this))), (1, .inl v1), (2, .inl v2)] rfl ?_
  refine aw_iconst X (0 : Int32) dX1_behindNext_7 (by decide) ?_
  refine aw_istore X dX1_behindNext_8 (by decide) [(4, .inl (0 : Int32)), (3, .inl (1 : Int32)), (0, .inr (.inr (some this))), (1, .inl v1), (2, .inl v2)] rfl ?_
  obtain ⟨e13, h14, h⟩ := bind_some h
  refine aw_sub [(0, .inr (.inr (some this))), (2, .inl v2), (3, .inl (1 : Int32)), (4, .inl (0 : Int32))] [2, 4, 1, 0] rfl ?_
  refine aw_it (fun s => AW C 10 [(0, .inr (.inr (some this))), (2, .inl v2), (3, .inl s.1), (4, .inl s.2.1)] [] s.2.2 (AQ C (some (.inl y.1)) y.2)) (fun e => AW C 74 [(0, .inr (.inr (some this))), (3, .inl e.1)] [] e.2 (AQ C (some (.inl y.1)) y.2)) (fun s r hr kH kE => wX1_behindNext_l10 X φ this v2 s.1 s.2.1 s.2.2 r hr kH kE) φ _ e13 h14 ?_
  refine aw_iload_n X dX1_behindNext_74 1 3 rfl rfl ?_
  refine aw_if_eq X 85 dX1_behindNext_75 rfl (fun c15 => ?_) (fun c15 => ?_)
  · rw [if_pos c15] at h
    refine aw_iconst X (-1 : Int32) dX1_behindNext_85 (by decide) ?_
    cases h
    exact aw_iret X dX1_behindNext_86
  · rw [if_neg c15] at h
    refine aw_aload_n X dX1_behindNext_78 0 0 rfl rfl ?_
    obtain ⟨y16, hy16, h⟩ := bind_some h
    refine aw_cV X (st := []) hy16 [] rfl rfl ml_X1_276 (fun o h => AX1_code (Cx.ok X) φ (d + 1) _ _ _ h) dX1_behindNext_79 (Nat.le_of_ble_eq_true rfl) ?_
    refine aw_goto X 86 dX1_behindNext_82 rfl ?_
    cases h
    exact aw_iret X dX1_behindNext_86
theorem AX1_behindNext {E : AE} {l : Launch} (hE : EOK E l) (φ d : Nat) (this : Nat) (v1 : Int32) (v2 : Int32) (σ : St) (y : Int32 × St) (h : fX1_behindNext φ this v1 v2 σ = some y) : AMet E l yX1_behindNext (ws_ yX1_behindNext cX1_behindNext 6 (some .int)) (d + 2) [.inr (.inr (some this)), .inl v1, .inl v2] σ (some (.inl y.1)) y.2 := by
  refine amet_of hE (by decide +kernel) (Nat.le_of_ble_eq_true rfl) fun C e1 e2 X XI => ?_
  subst e1
  exact wX1_behindNext X φ this v1 v2 σ y h
theorem wX1_common_b98 {C : CT} {d : Nat} {Z : State → Prop} (X : Cx C cX1_common RX1 (some .int) 8 (d + 3)) (φ : Nat) (this : Nat) (v2 : Int32) (v4 : Int32) (v5 : Int32) (k0 : Option Nat) (k1 : Int32) (σ : St) (y : (Int32 × St) ⊕ (St)) (h : fX1_common_b98 φ this v2 v4 v5 k0 k1 σ = some y) (kH : ∀ s : Int32 × St, y = .inl s → AW C 37 [(0, .inr (.inr (some this))), (2, .inl v2), (4, .inl v4), (5, .inl s.1)] [] s.2 Z) (kE0 : ∀ e : St, y = .inr e → AW C 112 [(0, .inr (.inr (some this))), (2, .inl v2), (4, .inl v4)] [] e Z) : AW C 98 [(0, .inr (.inr (some this))), (2, .inl v2), (4, .inl v4), (5, .inl v5)] [.inl k1, .inr (.inr k0)] σ Z := by
  unfold fX1_common_b98 at h
  refine aw_aload_n X dX1_common_98 0 0 rfl rfl ?_
  obtain ⟨x12, hx12, h⟩ := bind_some h
  refine aw_gfR X fl_X1_88 dX1_common_99 hx12 ?_
  refine aw_iload X dX1_common_102 2 rfl ?_
  obtain ⟨x13, hx13, h⟩ := bind_some h
  refine aw_iald X dX1_common_104 hx13 ?_
  obtain ⟨s14, hs14, h⟩ := bind_some h
  refine aw_iast X dX1_common_105 hs14 ?_
  refine aw_iinc X dX1_common_106 3 rfl (1 : Int32) rfl (by decide) [(5, .inl (v5 + (1 : Int32))), (0, .inr (.inr (some this))), (2, .inl v2), (4, .inl v4)] rfl ?_
  refine aw_goto X 37 dX1_common_109 rfl ?_
  cases h
  refine aw_sub [(0, .inr (.inr (some this))), (2, .inl v2), (4, .inl v4), (5, .inl (v5 + (1 : Int32)))] [1, 2, 3, 0] rfl ?_
  exact kH ((v5 + (1 : Int32)), s14) rfl
theorem wX1_common_l37 {C : CT} {d : Nat} {Z : State → Prop} (X : Cx C cX1_common RX1 (some .int) 8 (d + 3)) (φ : Nat) (this : Nat) (v2 : Int32) (v4 : Int32) (v5 : Int32) (σ : St) (y : (Int32 × St) ⊕ (St)) (h : fX1_common_l37 φ this v2 v4 v5 σ = some y) (kH : ∀ s : Int32 × St, y = .inl s → AW C 37 [(0, .inr (.inr (some this))), (2, .inl v2), (4, .inl v4), (5, .inl s.1)] [] s.2 Z) (kE0 : ∀ e : St, y = .inr e → AW C 112 [(0, .inr (.inr (some this))), (2, .inl v2), (4, .inl v4)] [] e Z) : AW C 37 [(0, .inr (.inr (some this))), (2, .inl v2), (4, .inl v4), (5, .inl v5)] [] σ Z := by
  unfold fX1_common_l37 at h
  refine aw_iload X dX1_common_37 3 rfl ?_
  refine aw_aload_n X dX1_common_39 0 0 rfl rfl ?_
  obtain ⟨x7, hx7, h⟩ := bind_some h
  refine aw_gfI X fl_X1_110 dX1_common_40 hx7 ?_
  refine aw_icmp_ge X 112 dX1_common_43 rfl (fun c8 => ?_) (fun c8 => ?_)
  · rw [if_pos c8] at h
    cases h
    refine aw_sub [(0, .inr (.inr (some this))), (2, .inl v2), (4, .inl v4)] [0, 1, 2] rfl ?_
    exact kE0 σ rfl
  · rw [if_neg c8] at h
    refine aw_aload_n X dX1_common_46 0 0 rfl rfl ?_
    refine aw_iload X dX1_common_47 2 rfl ?_
    refine aw_iload X dX1_common_49 3 rfl ?_
    obtain ⟨y9, hy9, h⟩ := bind_some h
    refine aw_cV X (st := []) hy9 [.inl v4, .inl v5] rfl rfl ml_X1_286 (fun o h => AX1_behindNext (Cx.ok X) φ d _ _ _ _ _ h) dX1_common_51 (Nat.le_of_ble_eq_true rfl) ?_
    refine aw_istore X dX1_common_54 (by decide) [(6, .inl y9.1), (0, .inr (.inr (some this))), (2, .inl v2), (4, .inl v4), (5, .inl v5)] rfl ?_
    refine aw_aload_n X dX1_common_56 1 0 rfl rfl ?_
    obtain ⟨x10, hx10, h⟩ := bind_some h
    refine aw_gfR X fl_X1_88 dX1_common_57 hx10 ?_
    refine aw_iload X dX1_common_60 3 rfl ?_
    refine aw_iload X dX1_common_62 0 rfl ?_
    refine aw_if_lt X 98 dX1_common_64 rfl (fun c11 => ?_) (fun c11 => ?_)
    · rw [if_pos c11] at h
      refine aw_sub [(0, .inr (.inr (some this))), (2, .inl v2), (4, .inl v4), (5, .inl v5)] [1, 2, 3, 4] rfl ?_
      exact wX1_common_b98 X φ this v2 v4 v5 x10 v4 y9.2 y h kH kE0
    · rw [if_neg c11] at h
      refine aw_aload_n X dX1_common_67 1 0 rfl rfl ?_
      obtain ⟨x15, hx15, h⟩ := bind_some h
      refine aw_gfR X fl_X1_88 dX1_common_68 hx15 ?_
      refine aw_iload X dX1_common_71 0 rfl ?_
      obtain ⟨x16, hx16, h⟩ := bind_some h
      refine aw_iald X dX1_common_73 hx16 ?_
      refine aw_iconst X (1 : Int32) dX1_common_74 (by decide) ?_
      refine aw_iadd X dX1_common_75 ?_
      refine aw_aload_n X dX1_common_76 1 0 rfl rfl ?_
      obtain ⟨x17, hx17, h⟩ := bind_some h
      refine aw_gfR X fl_X1_88 dX1_common_77 hx17 ?_
      refine aw_iload X dX1_common_80 3 rfl ?_
      obtain ⟨x18, hx18, h⟩ := bind_some h
      refine aw_iald X dX1_common_82 hx18 ?_
      refine aw_icmp_le X 98 dX1_common_83 rfl (fun c19 => ?_) (fun c19 => ?_)
      · rw [if_pos c19] at h
        refine aw_sub [(0, .inr (.inr (some this))), (2, .inl v2), (4, .inl v4), (5, .inl v5)] [1, 2, 3, 4] rfl ?_
        exact wX1_common_b98 X φ this v2 v4 v5 x10 v4 y9.2 y h kH kE0
      · rw [if_neg c19] at h
        refine aw_aload_n X dX1_common_86 1 0 rfl rfl ?_
        obtain ⟨x20, hx20, h⟩ := bind_some h
        refine aw_gfR X fl_X1_88 dX1_common_87 hx20 ?_
        refine aw_iload X dX1_common_90 0 rfl ?_
        obtain ⟨x21, hx21, h⟩ := bind_some h
        refine aw_iald X dX1_common_92 hx21 ?_
        refine aw_iconst X (1 : Int32) dX1_common_93 (by decide) ?_
        refine aw_iadd X dX1_common_94 ?_
        refine aw_goto X 105 dX1_common_95 rfl ?_
        obtain ⟨s22, hs22, h⟩ := bind_some h
        refine aw_iast X dX1_common_105 hs22 ?_
        refine aw_iinc X dX1_common_106 4 rfl (1 : Int32) rfl (by decide) [(5, .inl (v5 + (1 : Int32))), (6, .inl y9.1), (0, .inr (.inr (some this))), (2, .inl v2), (4, .inl v4)] rfl ?_
        refine aw_goto X 37 dX1_common_109 rfl ?_
        cases h
        refine aw_sub [(0, .inr (.inr (some this))), (2, .inl v2), (4, .inl v4), (5, .inl (v5 + (1 : Int32)))] [2, 3, 4, 0] rfl ?_
        exact kH ((v5 + (1 : Int32)), s22) rfl
theorem wX1_common_l21 {C : CT} {d : Nat} {Z : State → Prop} (X : Cx C cX1_common RX1 (some .int) 8 (d + 3)) (φ : Nat) (this : Nat) (v2 : Int32) (v4 : Int32) (σ : St) (y : (Int32 × St) ⊕ (St)) (h : fX1_common_l21 φ this v2 v4 σ = some y) (kH : ∀ s : Int32 × St, y = .inl s → AW C 21 [(0, .inr (.inr (some this))), (2, .inl v2), (4, .inl s.1)] [] s.2 Z) (kE0 : ∀ e : St, y = .inr e → AW C 118 [(0, .inr (.inr (some this))), (2, .inl v2)] [] e Z) : AW C 21 [(0, .inr (.inr (some this))), (2, .inl v2), (4, .inl v4)] [] σ Z := by
  unfold fX1_common_l21 at h
  refine aw_iload X dX1_common_21 2 rfl ?_
  refine aw_if_lt X 118 dX1_common_23 rfl (fun c4 => ?_) (fun c4 => ?_)
  · rw [if_pos c4] at h
    cases h
    refine aw_sub [(0, .inr (.inr (some this))), (2, .inl v2)] [0, 1] rfl ?_
    exact kE0 σ rfl
  · rw [if_neg c4] at h
    refine aw_aload_n X dX1_common_26 0 0 rfl rfl ?_
    obtain ⟨x5, hx5, h⟩ := bind_some h
    refine aw_gfR X fl_X1_88 dX1_common_27 hx5 ?_
    refine aw_iload X dX1_common_30 2 rfl ?_
    refine aw_iconst X (0 : Int32) dX1_common_32 (by decide) ?_
    obtain ⟨s6, hs6, h⟩ := bind_some h
    refine aw_iast X dX1_common_33 hs6 ?_
    refine aw_iconst X (0 : Int32) dX1_common_34 (by decide) ?_
    refine aw_istore X dX1_common_35 (by decide) [(5, .inl (0 : Int32)), (0, .inr (.inr (some this))), (2, .inl v2), (4, .inl v4)] rfl ?_
    obtain ⟨e23, h24, h⟩ := bind_some h
    refine aw_sub [(0, .inr (.inr (some this))), (2, .inl v2), (4, .inl v4), (5, .inl (0 : Int32))] [1, 2, 3, 0] rfl ?_
    refine aw_it (fun s => AW C 37 [(0, .inr (.inr (some this))), (2, .inl v2), (4, .inl v4), (5, .inl s.1)] [] s.2 Z) (fun e => AW C 112 [(0, .inr (.inr (some this))), (2, .inl v2), (4, .inl v4)] [] e Z) (fun s r hr kH kE => wX1_common_l37 X φ this v2 v4 s.1 s.2 r hr kH kE) φ _ e23 h24 ?_
    refine aw_iinc X dX1_common_112 2 rfl (-1 : Int32) rfl (by decide) [(4, .inl (v4 + (-1 : Int32))), (0, .inr (.inr (some this))), (2, .inl v2)] rfl ?_
    refine aw_goto X 21 dX1_common_115 rfl ?_
    cases h
    refine aw_sub [(0, .inr (.inr (some this))), (2, .inl v2), (4, .inl (v4 + (-1 : Int32)))] [1, 2, 0] rfl ?_
    exact kH ((v4 + (-1 : Int32)), e23) rfl
theorem wX1_common_b180 {C : CT} {d : Nat} {Z : State → Prop} (X : Cx C cX1_common RX1 (some .int) 8 (d + 3)) (φ : Nat) (this : Nat) (v2 : Int32) (v4 : Int32) (v5 : Int32) (v6 : Int32) (σ : St) (y : (Int32 × Int32 × St) ⊕ (Int32 × Int32 × St)) (h : fX1_common_b180 φ this v2 v4 v5 v6 σ = some y) (kH : ∀ s : Int32 × Int32 × St, y = .inl s → AW C 156 [(0, .inr (.inr (some this))), (2, .inl v2), (4, .inl v4), (5, .inl v5), (6, .inl s.1), (7, .inl s.2.1)] [] s.2.2 Z) (kE0 : ∀ e : Int32 × Int32 × St, y = .inr e → AW C 196 [(0, .inr (.inr (some this))), (2, .inl v2), (4, .inl v4), (6, .inl e.1), (7, .inl e.2.1)] [] e.2.2 Z) : AW C 180 [(0, .inr (.inr (some this))), (2, .inl v2), (4, .inl v4), (5, .inl v5), (6, .inl v6)] [] σ Z := by
  unfold fX1_common_b180 at h
  refine aw_iinc X dX1_common_180 4 rfl (1 : Int32) rfl (by decide) [(6, .inl (v6 + (1 : Int32))), (0, .inr (.inr (some this))), (2, .inl v2), (4, .inl v4), (5, .inl v5)] rfl ?_
  refine aw_aload_n X dX1_common_183 1 0 rfl rfl ?_
  refine aw_iload X dX1_common_184 4 rfl ?_
  refine aw_iload X dX1_common_186 0 rfl ?_
  obtain ⟨y34, hy34, h⟩ := bind_some h
  refine aw_cV X (st := []) hy34 [.inl v5, .inl (v6 + (1 : Int32))] rfl rfl ml_X1_286 (fun o h => AX1_behindNext (Cx.ok X) φ d _ _ _ _ _ h) dX1_common_188 (Nat.le_of_ble_eq_true rfl) ?_
  refine aw_istore X dX1_common_191 (by decide) [(7, .inl y34.1), (6, .inl (v6 + (1 : Int32))), (0, .inr (.inr (some this))), (2, .inl v2), (4, .inl v4), (5, .inl v5)] rfl ?_
  refine aw_goto X 156 dX1_common_193 rfl ?_
  cases h
  refine aw_sub [(0, .inr (.inr (some this))), (2, .inl v2), (4, .inl v4), (5, .inl v5), (6, .inl (v6 + (1 : Int32))), (7, .inl y34.1)] [2, 3, 4, 5, 1, 0] rfl ?_
  exact kH ((v6 + (1 : Int32)), y34.1, y34.2) rfl
theorem wX1_common_l156 {C : CT} {d : Nat} {Z : State → Prop} (X : Cx C cX1_common RX1 (some .int) 8 (d + 3)) (φ : Nat) (this : Nat) (v2 : Int32) (v4 : Int32) (v5 : Int32) (v6 : Int32) (v7 : Int32) (σ : St) (y : (Int32 × Int32 × St) ⊕ (Int32 × Int32 × St)) (h : fX1_common_l156 φ this v2 v4 v5 v6 v7 σ = some y) (kH : ∀ s : Int32 × Int32 × St, y = .inl s → AW C 156 [(0, .inr (.inr (some this))), (2, .inl v2), (4, .inl v4), (5, .inl v5), (6, .inl s.1), (7, .inl s.2.1)] [] s.2.2 Z) (kE0 : ∀ e : Int32 × Int32 × St, y = .inr e → AW C 196 [(0, .inr (.inr (some this))), (2, .inl v2), (4, .inl v4), (6, .inl e.1), (7, .inl e.2.1)] [] e.2.2 Z) : AW C 156 [(0, .inr (.inr (some this))), (2, .inl v2), (4, .inl v4), (5, .inl v5), (6, .inl v6), (7, .inl v7)] [] σ Z := by
  unfold fX1_common_l156 at h
  refine aw_iload X dX1_common_156 5 rfl ?_
  refine aw_if_lt X 180 dX1_common_158 rfl (fun c33 => ?_) (fun c33 => ?_)
  · rw [if_pos c33] at h
    refine aw_sub [(0, .inr (.inr (some this))), (2, .inl v2), (4, .inl v4), (5, .inl v5), (6, .inl v6)] [0, 1, 2, 3, 4] rfl ?_
    exact wX1_common_b180 X φ this v2 v4 v5 v6 σ y h kH kE0
  · rw [if_neg c33] at h
    refine aw_aload_n X dX1_common_161 0 0 rfl rfl ?_
    obtain ⟨x35, hx35, h⟩ := bind_some h
    refine aw_gfR X fl_X1_88 dX1_common_162 hx35 ?_
    refine aw_iload X dX1_common_165 5 rfl ?_
    obtain ⟨x36, hx36, h⟩ := bind_some h
    refine aw_iald X dX1_common_167 hx36 ?_
    refine aw_iconst X (1 : Int32) dX1_common_168 (by decide) ?_
    refine aw_iadd X dX1_common_169 ?_
    refine aw_aload_n X dX1_common_170 0 0 rfl rfl ?_
    obtain ⟨x37, hx37, h⟩ := bind_some h
    refine aw_gfR X fl_X1_88 dX1_common_171 hx37 ?_
    refine aw_iload X dX1_common_174 3 rfl ?_
    obtain ⟨x38, hx38, h⟩ := bind_some h
    refine aw_iald X dX1_common_176 hx38 ?_
    refine aw_icmp_ge X 196 dX1_common_177 rfl (fun c39 => ?_) (fun c39 => ?_)
    · rw [if_pos c39] at h
      cases h
      refine aw_sub [(0, .inr (.inr (some this))), (2, .inl v2), (4, .inl v4), (6, .inl v6), (7, .inl v7)] [0, 1, 2, 4, 5] rfl ?_
      exact kE0 (v6, v7, σ) rfl
    · rw [if_neg c39] at h
      refine aw_sub [(0, .inr (.inr (some this))), (2, .inl v2), (4, .inl v4), (5, .inl v5), (6, .inl v6)] [0, 1, 2, 3, 4] rfl ?_
      exact wX1_common_b180 X φ this v2 v4 v5 v6 σ y h kH kE0
theorem wX1_common_l134 {C : CT} {d : Nat} {Z : State → Prop} (X : Cx C cX1_common RX1 (some .int) 8 (d + 3)) (φ : Nat) (this : Nat) (v2 : Int32) (v4 : Int32) (v5 : Int32) (σ : St) (y : (Int32 × St) ⊕ (St)) (h : fX1_common_l134 φ this v2 v4 v5 σ = some y) (kH : ∀ s : Int32 × St, y = .inl s → AW C 134 [(0, .inr (.inr (some this))), (2, .inl v2), (4, .inl v4), (5, .inl s.1)] [] s.2 Z) (kE0 : ∀ e : St, y = .inr e → AW C 224 [(0, .inr (.inr (some this))), (2, .inl v2), (4, .inl v4)] [] e Z) : AW C 134 [(0, .inr (.inr (some this))), (2, .inl v2), (4, .inl v4), (5, .inl v5)] [] σ Z := by
  unfold fX1_common_l134 at h
  refine aw_aload_n X dX1_common_134 0 0 rfl rfl ?_
  obtain ⟨x30, hx30, h⟩ := bind_some h
  refine aw_gfI X fl_X1_151 dX1_common_135 hx30 ?_
  refine aw_iload X dX1_common_138 2 rfl ?_
  refine aw_icmp_ge X 224 dX1_common_140 rfl (fun c31 => ?_) (fun c31 => ?_)
  · rw [if_pos c31] at h
    cases h
    refine aw_sub [(0, .inr (.inr (some this))), (2, .inl v2), (4, .inl v4)] [0, 1, 2] rfl ?_
    exact kE0 σ rfl
  · rw [if_neg c31] at h
    refine aw_iconst X (0 : Int32) dX1_common_143 (by decide) ?_
    refine aw_istore X dX1_common_144 (by decide) [(6, .inl (0 : Int32)), (0, .inr (.inr (some this))), (2, .inl v2), (4, .inl v4), (5, .inl v5)] rfl ?_
    refine aw_aload_n X dX1_common_146 1 0 rfl rfl ?_
    refine aw_iload X dX1_common_147 4 rfl ?_
    refine aw_iload X dX1_common_149 0 rfl ?_
    obtain ⟨y32, hy32, h⟩ := bind_some h
    refine aw_cV X (st := []) hy32 [.inl v5, .inl (0 : Int32)] rfl rfl ml_X1_286 (fun o h => AX1_behindNext (Cx.ok X) φ d _ _ _ _ _ h) dX1_common_151 (Nat.le_of_ble_eq_true rfl) ?_
    refine aw_istore X dX1_common_154 (by decide) [(7, .inl y32.1), (6, .inl (0 : Int32)), (0, .inr (.inr (some this))), (2, .inl v2), (4, .inl v4), (5, .inl v5)] rfl ?_
    obtain ⟨e40, h41, h⟩ := bind_some h
    refine aw_sub [(0, .inr (.inr (some this))), (2, .inl v2), (4, .inl v4), (5, .inl v5), (6, .inl (0 : Int32)), (7, .inl y32.1)] [2, 3, 4, 5, 1, 0] rfl ?_
    refine aw_it (fun s => AW C 156 [(0, .inr (.inr (some this))), (2, .inl v2), (4, .inl v4), (5, .inl v5), (6, .inl s.1), (7, .inl s.2.1)] [] s.2.2 Z) (fun e => AW C 196 [(0, .inr (.inr (some this))), (2, .inl v2), (4, .inl v4), (6, .inl e.1), (7, .inl e.2.1)] [] e.2.2 Z) (fun s r hr kH kE => wX1_common_l156 X φ this v2 v4 v5 s.1 s.2.1 s.2.2 r hr kH kE) φ _ e40 h41 ?_
    refine aw_aload_n X dX1_common_196 0 0 rfl rfl ?_
    obtain ⟨x42, hx42, h⟩ := bind_some h
    refine aw_gfR X fl_X1_44 dX1_common_197 hx42 ?_
    refine aw_aload_n X dX1_common_200 0 0 rfl rfl ?_
    obtain ⟨x43, hx43, h⟩ := bind_some h
    refine aw_gfI X fl_X1_151 dX1_common_201 hx43 ?_
    refine aw_iload X dX1_common_204 3 rfl ?_
    obtain ⟨s44, hs44, h⟩ := bind_some h
    refine aw_iast X dX1_common_206 hs44 ?_
    refine aw_aload_n X dX1_common_207 0 0 rfl rfl ?_
    refine aw_dup X dX1_common_208 rfl ?_
    obtain ⟨x45, hx45, h⟩ := bind_some h
    refine aw_gfI X fl_X1_151 dX1_common_209 hx45 ?_
    refine aw_iconst X (1 : Int32) dX1_common_212 (by decide) ?_
    refine aw_iadd X dX1_common_213 ?_
    obtain ⟨s46, hs46, h⟩ := bind_some h
    refine aw_pfI X fl_X1_151 dX1_common_214 hs46 ?_
    refine aw_iload X dX1_common_217 4 rfl ?_
    refine aw_istore X dX1_common_219 (by decide) [(5, .inl e40.2.1), (0, .inr (.inr (some this))), (2, .inl v2), (4, .inl v4), (6, .inl e40.1), (7, .inl e40.2.1)] rfl ?_
    refine aw_goto X 134 dX1_common_221 rfl ?_
    cases h
    refine aw_sub [(0, .inr (.inr (some this))), (2, .inl v2), (4, .inl v4), (5, .inl e40.2.1)] [1, 2, 3, 0] rfl ?_
    exact kH (e40.2.1, s46) rfl
theorem wX1_common {C : CT} {d : Nat} (X : Cx C cX1_common RX1 (some .int) 8 (d + 3)) (φ : Nat) (this : Nat) (v1 : Int32) (v2 : Int32) (σ : St) (y : Int32 × St) (h : fX1_common φ this v1 v2 σ = some y) : AW C 0 [(0, .inr (.inr (some this))), (1, .inl v1), (2, .inl v2)] [] σ (AQ C (some (.inl y.1)) y.2) := by
  unfold fX1_common at h
  refine aw_aload_n X dX1_common_0 0 0 rfl rfl ?_
  refine aw_iload_n X dX1_common_1 1 1 rfl rfl ?_
  refine aw_iload_n X dX1_common_2 2 2 rfl rfl ?_
  obtain ⟨y1, hy1, h⟩ := bind_some h
  refine aw_cV X (st := []) hy1 [.inl v1, .inl v2] rfl rfl ml_X1_280 (fun o h => AX1_needSeveral (Cx.ok X) φ d _ _ _ _ _ h) dX1_common_3 (Nat.le_of_ble_eq_true rfl) ?_
  refine aw_istore_n X dX1_common_6 3 rfl (by decide) [(3, .inl y1.1), (0, .inr (.inr (some this))), (1, .inl v1), (2, .inl v2)] rfl ?_
  refine aw_iload_n X dX1_common_7 0 3 rfl rfl ?_
  refine aw_if_ge X 13 dX1_common_8 rfl (fun c2 => ?_) (fun c2 => ?_)
  · rw [if_pos c2] at h
    refine aw_aload_n X dX1_common_13 1 0 rfl rfl ?_
    obtain ⟨y3, hy3, h⟩ := bind_some h
    refine aw_cV X (st := []) hy3 [] rfl rfl ml_X1_283 (fun o h => AX1_allCodes (Cx.ok X) φ (d + 2) _ _ _ h) dX1_common_14 (Nat.le_of_ble_eq_true rfl) ?_
    refine aw_iconst X (1 : Int32) dX1_common_17 (by decide) ?_
    refine aw_isub X dX1_common_18 ?_
    refine aw_istore X dX1_common_19 (by decide) [(4, .inl (y3 - (1 : Int32))), (3, .inl y1.1), (0, .inr (.inr (some this))), (1, .inl v1), (2, .inl v2)] rfl ?_
    obtain ⟨e25, h26, h⟩ := bind_some h
    refine aw_sub [(0, .inr (.inr (some this))), (2, .inl v2), (4, .inl (y3 - (1 : Int32)))] [2, 4, 0] rfl ?_
    refine aw_it (fun s => AW C 21 [(0, .inr (.inr (some this))), (2, .inl v2), (4, .inl s.1)] [] s.2 (AQ C (some (.inl y.1)) y.2)) (fun e => AW C 118 [(0, .inr (.inr (some this))), (2, .inl v2)] [] e (AQ C (some (.inl y.1)) y.2)) (fun s r hr kH kE => wX1_common_l21 X φ this v2 s.1 s.2 r hr kH kE) φ _ e25 h26 ?_
    refine aw_aload_n X dX1_common_118 0 0 rfl rfl ?_
    obtain ⟨x27, hx27, h⟩ := bind_some h
    refine aw_gfR X fl_X1_88 dX1_common_119 hx27 ?_
    refine aw_iconst X (0 : Int32) dX1_common_122 (by decide) ?_
    obtain ⟨x28, hx28, h⟩ := bind_some h
    refine aw_iald X dX1_common_123 hx28 ?_
    refine aw_istore X dX1_common_124 (by decide) [(4, .inl x28), (0, .inr (.inr (some this))), (2, .inl v2)] rfl ?_
    refine aw_iconst X (0 : Int32) dX1_common_126 (by decide) ?_
    refine aw_istore X dX1_common_127 (by decide) [(5, .inl (0 : Int32)), (4, .inl x28), (0, .inr (.inr (some this))), (2, .inl v2)] rfl ?_
    refine aw_aload_n X dX1_common_129 2 0 rfl rfl ?_
    refine aw_iconst X (0 : Int32) dX1_common_130 (by decide) ?_
    obtain ⟨s29, hs29, h⟩ := bind_some h
    refine aw_pfI X fl_X1_151 dX1_common_131 hs29 ?_
    obtain ⟨e47, h48, h⟩ := bind_some h
    refine aw_sub [(0, .inr (.inr (some this))), (2, .inl v2), (4, .inl x28), (5, .inl (0 : Int32))] [2, 3, 1, 0] rfl ?_
    refine aw_it (fun s => AW C 134 [(0, .inr (.inr (some this))), (2, .inl v2), (4, .inl x28), (5, .inl s.1)] [] s.2 (AQ C (some (.inl y.1)) y.2)) (fun e => AW C 224 [(0, .inr (.inr (some this))), (2, .inl v2), (4, .inl x28)] [] e (AQ C (some (.inl y.1)) y.2)) (fun s r hr kH kE => wX1_common_l134 X φ this v2 x28 s.1 s.2 r hr kH kE) φ _ e47 h48 ?_
    refine aw_aload_n X dX1_common_224 0 0 rfl rfl ?_
    refine aw_iload_n X dX1_common_225 1 2 rfl rfl ?_
    obtain ⟨y49, hy49, h⟩ := bind_some h
    refine aw_cV X (st := []) hy49 [.inl v2] rfl rfl ml_X1_214 (fun o h => AX1_comesToRow (Cx.ok X) φ (d + 2) _ _ _ _ h) dX1_common_226 (Nat.le_of_ble_eq_true rfl) ?_
    refine aw_iload X dX1_common_229 2 rfl ?_
    cases h
    exact aw_iret X dX1_common_231
  · rw [if_neg c2] at h
    refine aw_iload_n X dX1_common_11 0 3 rfl rfl ?_
    cases h
    exact aw_iret X dX1_common_12
theorem AX1_common {E : AE} {l : Launch} (hE : EOK E l) (φ d : Nat) (this : Nat) (v1 : Int32) (v2 : Int32) (σ : St) (y : Int32 × St) (h : fX1_common φ this v1 v2 σ = some y) : AMet E l yX1_common (ws_ yX1_common cX1_common 8 (some .int)) (d + 3) [.inr (.inr (some this)), .inl v1, .inl v2] σ (some (.inl y.1)) y.2 := by
  refine amet_of hE (by decide +kernel) (Nat.le_of_ble_eq_true rfl) fun C e1 e2 X XI => ?_
  subst e1
  exact wX1_common X φ this v1 v2 σ y h
theorem wX1_behindHere_b88 {C : CT} {d : Nat} {Z : State → Prop} (X : Cx C cX1_behindHere RX1 (some .int) 6 (d + 1)) (φ : Nat) (this : Nat) (v2 : Int32) (v3 : Int32) (v4 : Int32) (v5 : Int32) (k0 : Option Nat) (k1 : Int32) (k2 : Int32) (k3 : Int32) (σ : St) (y : (Int32 × Int32 × St) ⊕ (Int32 × St)) (h : fX1_behindHere_b88 φ this v2 v3 v4 v5 k0 k1 k2 k3 σ = some y) (kH : ∀ s : Int32 × Int32 × St, y = .inl s → AW C 10 [(0, .inr (.inr (some this))), (2, .inl v2), (3, .inl s.1), (4, .inl s.2.1)] [] s.2.2 Z) (kE0 : ∀ e : Int32 × St, y = .inr e → AW C 111 [(0, .inr (.inr (some this))), (3, .inl e.1)] [] e.2 Z) : AW C 88 [(0, .inr (.inr (some this))), (2, .inl v2), (3, .inl v3), (4, .inl v4), (5, .inl v5)] [.inl k3, .inl k2, .inl k1, .inr (.inr k0)] σ Z := by
  unfold fX1_behindHere_b88 at h
  refine aw_iadd X dX1_behindHere_88 ?_
  obtain ⟨s14, hs14, h⟩ := bind_some h
  refine aw_iast X dX1_behindHere_89 hs14 ?_
  refine aw_iload_n X dX1_behindHere_90 2 3 rfl rfl ?_
  refine aw_if_ne X 99 dX1_behindHere_91 rfl (fun c15 => ?_) (fun c15 => ?_)
  · rw [if_neg c15] at h
    refine aw_iconst X (1 : Int32) dX1_behindHere_99 (by decide) ?_
    refine aw_goto X 104 dX1_behindHere_100 rfl ?_
    refine aw_istore_n X dX1_behindHere_104 3 rfl (by decide) [(3, .inl (1 : Int32)), (0, .inr (.inr (some this))), (2, .inl v2), (4, .inl v4), (5, .inl v5)] rfl ?_
    refine aw_iinc X dX1_behindHere_105 3 rfl (1 : Int32) rfl (by decide) [(4, .inl (v4 + (1 : Int32))), (3, .inl (1 : Int32)), (0, .inr (.inr (some this))), (2, .inl v2), (5, .inl v5)] rfl ?_
    refine aw_goto X 10 dX1_behindHere_108 rfl ?_
    cases h
    refine aw_sub [(0, .inr (.inr (some this))), (2, .inl v2), (3, .inl (1 : Int32)), (4, .inl (v4 + (1 : Int32)))] [2, 3, 1, 0] rfl ?_
    exact kH ((1 : Int32), (v4 + (1 : Int32)), s14) rfl
  · rw [if_pos c15] at h
    refine aw_iload X dX1_behindHere_94 4 rfl ?_
    refine aw_if_eq X 103 dX1_behindHere_96 rfl (fun c16 => ?_) (fun c16 => ?_)
    · rw [if_pos c16] at h
      refine aw_iconst X (0 : Int32) dX1_behindHere_103 (by decide) ?_
      refine aw_istore_n X dX1_behindHere_104 3 rfl (by decide) [(3, .inl (0 : Int32)), (0, .inr (.inr (some this))), (2, .inl v2), (4, .inl v4), (5, .inl v5)] rfl ?_
      refine aw_iinc X dX1_behindHere_105 3 rfl (1 : Int32) rfl (by decide) [(4, .inl (v4 + (1 : Int32))), (3, .inl (0 : Int32)), (0, .inr (.inr (some this))), (2, .inl v2), (5, .inl v5)] rfl ?_
      refine aw_goto X 10 dX1_behindHere_108 rfl ?_
      cases h
      refine aw_sub [(0, .inr (.inr (some this))), (2, .inl v2), (3, .inl (0 : Int32)), (4, .inl (v4 + (1 : Int32)))] [2, 3, 1, 0] rfl ?_
      exact kH ((0 : Int32), (v4 + (1 : Int32)), s14) rfl
    · rw [if_neg c16] at h
      refine aw_iconst X (1 : Int32) dX1_behindHere_99 (by decide) ?_
      refine aw_goto X 104 dX1_behindHere_100 rfl ?_
      refine aw_istore_n X dX1_behindHere_104 3 rfl (by decide) [(3, .inl (1 : Int32)), (0, .inr (.inr (some this))), (2, .inl v2), (4, .inl v4), (5, .inl v5)] rfl ?_
      refine aw_iinc X dX1_behindHere_105 3 rfl (1 : Int32) rfl (by decide) [(4, .inl (v4 + (1 : Int32))), (3, .inl (1 : Int32)), (0, .inr (.inr (some this))), (2, .inl v2), (5, .inl v5)] rfl ?_
      refine aw_goto X 10 dX1_behindHere_108 rfl ?_
      cases h
      refine aw_sub [(0, .inr (.inr (some this))), (2, .inl v2), (3, .inl (1 : Int32)), (4, .inl (v4 + (1 : Int32)))] [2, 3, 1, 0] rfl ?_
      exact kH ((1 : Int32), (v4 + (1 : Int32)), s14) rfl
theorem wX1_behindHere_b68 {C : CT} {d : Nat} {Z : State → Prop} (X : Cx C cX1_behindHere RX1 (some .int) 6 (d + 1)) (φ : Nat) (this : Nat) (v2 : Int32) (v3 : Int32) (v4 : Int32) (k0 : Int32) (σ : St) (y : (Int32 × Int32 × St) ⊕ (Int32 × St)) (h : fX1_behindHere_b68 φ this v2 v3 v4 k0 σ = some y) (kH : ∀ s : Int32 × Int32 × St, y = .inl s → AW C 10 [(0, .inr (.inr (some this))), (2, .inl v2), (3, .inl s.1), (4, .inl s.2.1)] [] s.2.2 Z) (kE0 : ∀ e : Int32 × St, y = .inr e → AW C 111 [(0, .inr (.inr (some this))), (3, .inl e.1)] [] e.2 Z) : AW C 68 [(0, .inr (.inr (some this))), (2, .inl v2), (3, .inl v3), (4, .inl v4)] [.inl k0] σ Z := by
  unfold fX1_behindHere_b68 at h
  refine aw_istore X dX1_behindHere_68 (by decide) [(5, .inl k0), (0, .inr (.inr (some this))), (2, .inl v2), (3, .inl v3), (4, .inl v4)] rfl ?_
  refine aw_aload_n X dX1_behindHere_70 1 0 rfl rfl ?_
  obtain ⟨x11, hx11, h⟩ := bind_some h
  refine aw_gfR X fl_X1_91 dX1_behindHere_71 hx11 ?_
  refine aw_iload X dX1_behindHere_74 4 rfl ?_
  refine aw_dup2 X dX1_behindHere_76 rfl rfl ?_
  obtain ⟨x12, hx12, h⟩ := bind_some h
  refine aw_iald X dX1_behindHere_77 hx12 ?_
  refine aw_iload X dX1_behindHere_78 0 rfl ?_
  refine aw_if_eq X 87 dX1_behindHere_80 rfl (fun c13 => ?_) (fun c13 => ?_)
  · rw [if_pos c13] at h
    refine aw_iconst X (0 : Int32) dX1_behindHere_87 (by decide) ?_
    refine aw_sub [(0, .inr (.inr (some this))), (2, .inl v2), (3, .inl v3), (4, .inl v4), (5, .inl k0)] [1, 2, 3, 4, 0] rfl ?_
    exact wX1_behindHere_b88 X φ this v2 v3 v4 k0 x11 v4 x12 (0 : Int32) σ y h kH kE0
  · rw [if_neg c13] at h
    refine aw_iconst X (1 : Int32) dX1_behindHere_83 (by decide) ?_
    refine aw_goto X 88 dX1_behindHere_84 rfl ?_
    refine aw_sub [(0, .inr (.inr (some this))), (2, .inl v2), (3, .inl v3), (4, .inl v4), (5, .inl k0)] [1, 2, 3, 4, 0] rfl ?_
    exact wX1_behindHere_b88 X φ this v2 v3 v4 k0 x11 v4 x12 (1 : Int32) σ y h kH kE0
theorem wX1_behindHere_b67 {C : CT} {d : Nat} {Z : State → Prop} (X : Cx C cX1_behindHere RX1 (some .int) 6 (d + 1)) (φ : Nat) (this : Nat) (v2 : Int32) (v3 : Int32) (v4 : Int32) (σ : St) (y : (Int32 × Int32 × St) ⊕ (Int32 × St)) (h : fX1_behindHere_b67 φ this v2 v3 v4 σ = some y) (kH : ∀ s : Int32 × Int32 × St, y = .inl s → AW C 10 [(0, .inr (.inr (some this))), (2, .inl v2), (3, .inl s.1), (4, .inl s.2.1)] [] s.2.2 Z) (kE0 : ∀ e : Int32 × St, y = .inr e → AW C 111 [(0, .inr (.inr (some this))), (3, .inl e.1)] [] e.2 Z) : AW C 67 [(0, .inr (.inr (some this))), (2, .inl v2), (3, .inl v3), (4, .inl v4)] [] σ Z := by
  unfold fX1_behindHere_b67 at h
  refine aw_iconst X (0 : Int32) dX1_behindHere_67 (by decide) ?_
  exact wX1_behindHere_b68 X φ this v2 v3 v4 (0 : Int32) σ y h kH kE0
theorem wX1_behindHere_l10 {C : CT} {d : Nat} {Z : State → Prop} (X : Cx C cX1_behindHere RX1 (some .int) 6 (d + 1)) (φ : Nat) (this : Nat) (v2 : Int32) (v3 : Int32) (v4 : Int32) (σ : St) (y : (Int32 × Int32 × St) ⊕ (Int32 × St)) (h : fX1_behindHere_l10 φ this v2 v3 v4 σ = some y) (kH : ∀ s : Int32 × Int32 × St, y = .inl s → AW C 10 [(0, .inr (.inr (some this))), (2, .inl v2), (3, .inl s.1), (4, .inl s.2.1)] [] s.2.2 Z) (kE0 : ∀ e : Int32 × St, y = .inr e → AW C 111 [(0, .inr (.inr (some this))), (3, .inl e.1)] [] e.2 Z) : AW C 10 [(0, .inr (.inr (some this))), (2, .inl v2), (3, .inl v3), (4, .inl v4)] [] σ Z := by
  unfold fX1_behindHere_l10 at h
  refine aw_iload X dX1_behindHere_10 3 rfl ?_
  refine aw_aload_n X dX1_behindHere_12 0 0 rfl rfl ?_
  obtain ⟨x2, hx2, h⟩ := bind_some h
  refine aw_gfI X fl_X1_270 dX1_behindHere_13 hx2 ?_
  refine aw_icmp_ge X 111 dX1_behindHere_16 rfl (fun c3 => ?_) (fun c3 => ?_)
  · rw [if_pos c3] at h
    cases h
    refine aw_sub [(0, .inr (.inr (some this))), (3, .inl v3)] [0, 2] rfl ?_
    exact kE0 (v3, σ) rfl
  · rw [if_neg c3] at h
    refine aw_aload_n X dX1_behindHere_19 0 0 rfl rfl ?_
    obtain ⟨x4, hx4, h⟩ := bind_some h
    refine aw_gfR X fl_X1_91 dX1_behindHere_20 hx4 ?_
    refine aw_iload X dX1_behindHere_23 3 rfl ?_
    obtain ⟨x5, hx5, h⟩ := bind_some h
    refine aw_iald X dX1_behindHere_25 hx5 ?_
    refine aw_aload_n X dX1_behindHere_26 0 0 rfl rfl ?_
    obtain ⟨x6, hx6, h⟩ := bind_some h
    refine aw_gfR X fl_X1_29 dX1_behindHere_27 hx6 ?_
    refine aw_aload_n X dX1_behindHere_30 0 0 rfl rfl ?_
    obtain ⟨x7, hx7, h⟩ := bind_some h
    refine aw_gfR X fl_X1_85 dX1_behindHere_31 hx7 ?_
    refine aw_iload X dX1_behindHere_34 3 rfl ?_
    obtain ⟨x8, hx8, h⟩ := bind_some h
    refine aw_iald X dX1_behindHere_36 hx8 ?_
    obtain ⟨x9, hx9, h⟩ := bind_some h
    refine aw_iald X dX1_behindHere_37 hx9 ?_
    refine aw_icmp_ge X 67 dX1_behindHere_38 rfl (fun c10 => ?_) (fun c10 => ?_)
    · rw [if_pos c10] at h
      exact wX1_behindHere_b67 X φ this v2 v3 v4 σ y h kH kE0
    · rw [if_neg c10] at h
      refine aw_aload_n X dX1_behindHere_41 0 0 rfl rfl ?_
      refine aw_aload_n X dX1_behindHere_42 0 0 rfl rfl ?_
      obtain ⟨x17, hx17, h⟩ := bind_some h
      refine aw_gfR X fl_X1_85 dX1_behindHere_43 hx17 ?_
      refine aw_iload X dX1_behindHere_46 3 rfl ?_
      obtain ⟨x18, hx18, h⟩ := bind_some h
      refine aw_iald X dX1_behindHere_48 hx18 ?_
      refine aw_aload_n X dX1_behindHere_49 0 0 rfl rfl ?_
      obtain ⟨x19, hx19, h⟩ := bind_some h
      refine aw_gfR X fl_X1_91 dX1_behindHere_50 hx19 ?_
      refine aw_iload X dX1_behindHere_53 3 rfl ?_
      obtain ⟨x20, hx20, h⟩ := bind_some h
      refine aw_iald X dX1_behindHere_55 hx20 ?_
      obtain ⟨y21, hy21, h⟩ := bind_some h
      refine aw_cV X (st := []) hy21 [.inl x18, .inl x20] rfl rfl ml_X1_148 (fun o h => AX1_at0 (Cx.ok X) φ d _ _ _ _ _ h) dX1_behindHere_56 (Nat.le_of_ble_eq_true rfl) ?_
      refine aw_iload_n X dX1_behindHere_59 1 2 rfl rfl ?_
      refine aw_icmp_ne X 67 dX1_behindHere_60 rfl (fun c22 => ?_) (fun c22 => ?_)
      · rw [if_neg c22] at h
        exact wX1_behindHere_b67 X φ this v2 v3 v4 σ y h kH kE0
      · rw [if_pos c22] at h
        refine aw_iconst X (1 : Int32) dX1_behindHere_63 (by decide) ?_
        refine aw_goto X 68 dX1_behindHere_64 rfl ?_
        exact wX1_behindHere_b68 X φ this v2 v3 v4 (1 : Int32) σ y h kH kE0
theorem wX1_behindHere {C : CT} {d : Nat} (X : Cx C cX1_behindHere RX1 (some .int) 6 (d + 1)) (φ : Nat) (this : Nat) (v1 : Int32) (v2 : Int32) (σ : St) (y : Int32 × St) (h : fX1_behindHere φ this v1 v2 σ = some y) : AW C 0 [(0, .inr (.inr (some this))), (1, .inl v1), (2, .inl v2)] [] σ (AQ C (some (.inl y.1)) y.2) := by
  unfold fX1_behindHere at h
  refine aw_aload_n X dX1_behindHere_0 0 0 rfl rfl ?_
  refine aw_iload_n X dX1_behindHere_1 1 1 rfl rfl ?_
  obtain ⟨y1, hy1, h⟩ := bind_some h
  refine aw_cV X (st := []) hy1 [.inl v1] rfl rfl ml_X1_273 (fun o h => AX1_layAt (Cx.ok X) φ d _ _ _ _ h) dX1_behindHere_2 (Nat.le_of_ble_eq_true rfl) ?_
  refine aw_iconst X (0 : Int32) dX1_behindHere_5 (by decide) ?_
  refine aw_istore_n X dX1_behindHere_6 3 rfl (by decide) [(3, .inl (0 : Int32)), (0, .inr (.inr (some this))), (1, .inl v1), (2, .inl v2)] rfl ?_
  refine aw_iconst X (0 : Int32) dX1_behindHere_7 (by decide) ?_
  refine aw_istore X dX1_behindHere_8 (by decide) [(4, .inl (0 : Int32)), (3, .inl (0 : Int32)), (0, .inr (.inr (some this))), (1, .inl v1), (2, .inl v2)] rfl ?_
  obtain ⟨e23, h24, h⟩ := bind_some h
  refine aw_sub [(0, .inr (.inr (some this))), (2, .inl v2), (3, .inl (0 : Int32)), (4, .inl (0 : Int32))] [2, 4, 1, 0] rfl ?_
  refine aw_it (fun s => AW C 10 [(0, .inr (.inr (some this))), (2, .inl v2), (3, .inl s.1), (4, .inl s.2.1)] [] s.2.2 (AQ C (some (.inl y.1)) y.2)) (fun e => AW C 111 [(0, .inr (.inr (some this))), (3, .inl e.1)] [] e.2 (AQ C (some (.inl y.1)) y.2)) (fun s r hr kH kE => wX1_behindHere_l10 X φ this v2 s.1 s.2.1 s.2.2 r hr kH kE) φ _ e23 h24 ?_
  refine aw_iload_n X dX1_behindHere_111 1 3 rfl rfl ?_
  refine aw_if_eq X 122 dX1_behindHere_112 rfl (fun c25 => ?_) (fun c25 => ?_)
  · rw [if_pos c25] at h
    refine aw_iconst X (-1 : Int32) dX1_behindHere_122 (by decide) ?_
    cases h
    exact aw_iret X dX1_behindHere_123
  · rw [if_neg c25] at h
    refine aw_aload_n X dX1_behindHere_115 0 0 rfl rfl ?_
    obtain ⟨y26, hy26, h⟩ := bind_some h
    refine aw_cV X (st := []) hy26 [] rfl rfl ml_X1_276 (fun o h => AX1_code (Cx.ok X) φ d _ _ _ h) dX1_behindHere_116 (Nat.le_of_ble_eq_true rfl) ?_
    refine aw_goto X 123 dX1_behindHere_119 rfl ?_
    cases h
    exact aw_iret X dX1_behindHere_123
theorem AX1_behindHere {E : AE} {l : Launch} (hE : EOK E l) (φ d : Nat) (this : Nat) (v1 : Int32) (v2 : Int32) (σ : St) (y : Int32 × St) (h : fX1_behindHere φ this v1 v2 σ = some y) : AMet E l yX1_behindHere (ws_ yX1_behindHere cX1_behindHere 6 (some .int)) (d + 1) [.inr (.inr (some this)), .inl v1, .inl v2] σ (some (.inl y.1)) y.2 := by
  refine amet_of hE (by decide +kernel) (Nat.le_of_ble_eq_true rfl) fun C e1 e2 X XI => ?_
  subst e1
  exact wX1_behindHere X φ this v1 v2 σ y h
theorem wX1_cover_b115 {C : CT} {d : Nat} {Z : State → Prop} (X : Cx C cX1_cover RX1 (some .int) 10 (d + 3)) (φ : Nat) (this : Nat) (v2 : Int32) (v4 : Int32) (v5 : Int32) (v6 : Int32) (k0 : Option Nat) (k1 : Int32) (σ : St) (y : (Int32 × St) ⊕ (St)) (h : fX1_cover_b115 φ this v2 v4 v5 v6 k0 k1 σ = some y) (kH : ∀ s : Int32 × St, y = .inl s → AW C 54 [(0, .inr (.inr (some this))), (2, .inl v2), (4, .inl v4), (5, .inl v5), (6, .inl s.1)] [] s.2 Z) (kE0 : ∀ e : St, y = .inr e → AW C 129 [(0, .inr (.inr (some this))), (2, .inl v2), (4, .inl v4), (5, .inl v5)] [] e Z) : AW C 115 [(0, .inr (.inr (some this))), (2, .inl v2), (4, .inl v4), (5, .inl v5), (6, .inl v6)] [.inl k1, .inr (.inr k0)] σ Z := by
  unfold fX1_cover_b115 at h
  refine aw_aload_n X dX1_cover_115 0 0 rfl rfl ?_
  obtain ⟨x13, hx13, h⟩ := bind_some h
  refine aw_gfR X fl_X1_88 dX1_cover_116 hx13 ?_
  refine aw_iload X dX1_cover_119 3 rfl ?_
  obtain ⟨x14, hx14, h⟩ := bind_some h
  refine aw_iald X dX1_cover_121 hx14 ?_
  obtain ⟨s15, hs15, h⟩ := bind_some h
  refine aw_iast X dX1_cover_122 hs15 ?_
  refine aw_iinc X dX1_cover_123 4 rfl (1 : Int32) rfl (by decide) [(6, .inl (v6 + (1 : Int32))), (0, .inr (.inr (some this))), (2, .inl v2), (4, .inl v4), (5, .inl v5)] rfl ?_
  refine aw_goto X 54 dX1_cover_126 rfl ?_
  cases h
  refine aw_sub [(0, .inr (.inr (some this))), (2, .inl v2), (4, .inl v4), (5, .inl v5), (6, .inl (v6 + (1 : Int32)))] [1, 2, 3, 4, 0] rfl ?_
  exact kH ((v6 + (1 : Int32)), s15) rfl
theorem wX1_cover_l54 {C : CT} {d : Nat} {Z : State → Prop} (X : Cx C cX1_cover RX1 (some .int) 10 (d + 3)) (φ : Nat) (this : Nat) (v2 : Int32) (v4 : Int32) (v5 : Int32) (v6 : Int32) (σ : St) (y : (Int32 × St) ⊕ (St)) (h : fX1_cover_l54 φ this v2 v4 v5 v6 σ = some y) (kH : ∀ s : Int32 × St, y = .inl s → AW C 54 [(0, .inr (.inr (some this))), (2, .inl v2), (4, .inl v4), (5, .inl v5), (6, .inl s.1)] [] s.2 Z) (kE0 : ∀ e : St, y = .inr e → AW C 129 [(0, .inr (.inr (some this))), (2, .inl v2), (4, .inl v4), (5, .inl v5)] [] e Z) : AW C 54 [(0, .inr (.inr (some this))), (2, .inl v2), (4, .inl v4), (5, .inl v5), (6, .inl v6)] [] σ Z := by
  unfold fX1_cover_l54 at h
  refine aw_iload X dX1_cover_54 4 rfl ?_
  refine aw_aload_n X dX1_cover_56 0 0 rfl rfl ?_
  obtain ⟨x8, hx8, h⟩ := bind_some h
  refine aw_gfI X fl_X1_110 dX1_cover_57 hx8 ?_
  refine aw_icmp_ge X 129 dX1_cover_60 rfl (fun c9 => ?_) (fun c9 => ?_)
  · rw [if_pos c9] at h
    cases h
    refine aw_sub [(0, .inr (.inr (some this))), (2, .inl v2), (4, .inl v4), (5, .inl v5)] [0, 1, 2, 3] rfl ?_
    exact kE0 σ rfl
  · rw [if_neg c9] at h
    refine aw_aload_n X dX1_cover_63 0 0 rfl rfl ?_
    refine aw_iload X dX1_cover_64 3 rfl ?_
    refine aw_iload X dX1_cover_66 4 rfl ?_
    obtain ⟨y10, hy10, h⟩ := bind_some h
    refine aw_cV X (st := []) hy10 [.inl v5, .inl v6] rfl rfl ml_X1_289 (fun o h => AX1_behindHere (Cx.ok X) φ (d + 1) _ _ _ _ _ h) dX1_cover_68 (Nat.le_of_ble_eq_true rfl) ?_
    refine aw_istore X dX1_cover_71 (by decide) [(7, .inl y10.1), (0, .inr (.inr (some this))), (2, .inl v2), (4, .inl v4), (5, .inl v5), (6, .inl v6)] rfl ?_
    refine aw_aload_n X dX1_cover_73 1 0 rfl rfl ?_
    obtain ⟨x11, hx11, h⟩ := bind_some h
    refine aw_gfR X fl_X1_88 dX1_cover_74 hx11 ?_
    refine aw_iload X dX1_cover_77 4 rfl ?_
    refine aw_iload X dX1_cover_79 0 rfl ?_
    refine aw_if_lt X 115 dX1_cover_81 rfl (fun c12 => ?_) (fun c12 => ?_)
    · rw [if_pos c12] at h
      refine aw_sub [(0, .inr (.inr (some this))), (2, .inl v2), (4, .inl v4), (5, .inl v5), (6, .inl v6)] [1, 2, 3, 4, 5] rfl ?_
      exact wX1_cover_b115 X φ this v2 v4 v5 v6 x11 v5 y10.2 y h kH kE0
    · rw [if_neg c12] at h
      refine aw_aload_n X dX1_cover_84 1 0 rfl rfl ?_
      obtain ⟨x16, hx16, h⟩ := bind_some h
      refine aw_gfR X fl_X1_88 dX1_cover_85 hx16 ?_
      refine aw_iload X dX1_cover_88 0 rfl ?_
      obtain ⟨x17, hx17, h⟩ := bind_some h
      refine aw_iald X dX1_cover_90 hx17 ?_
      refine aw_iconst X (1 : Int32) dX1_cover_91 (by decide) ?_
      refine aw_iadd X dX1_cover_92 ?_
      refine aw_aload_n X dX1_cover_93 1 0 rfl rfl ?_
      obtain ⟨x18, hx18, h⟩ := bind_some h
      refine aw_gfR X fl_X1_88 dX1_cover_94 hx18 ?_
      refine aw_iload X dX1_cover_97 4 rfl ?_
      obtain ⟨x19, hx19, h⟩ := bind_some h
      refine aw_iald X dX1_cover_99 hx19 ?_
      refine aw_icmp_ge X 115 dX1_cover_100 rfl (fun c20 => ?_) (fun c20 => ?_)
      · rw [if_pos c20] at h
        refine aw_sub [(0, .inr (.inr (some this))), (2, .inl v2), (4, .inl v4), (5, .inl v5), (6, .inl v6)] [1, 2, 3, 4, 5] rfl ?_
        exact wX1_cover_b115 X φ this v2 v4 v5 v6 x11 v5 y10.2 y h kH kE0
      · rw [if_neg c20] at h
        refine aw_aload_n X dX1_cover_103 1 0 rfl rfl ?_
        obtain ⟨x21, hx21, h⟩ := bind_some h
        refine aw_gfR X fl_X1_88 dX1_cover_104 hx21 ?_
        refine aw_iload X dX1_cover_107 0 rfl ?_
        obtain ⟨x22, hx22, h⟩ := bind_some h
        refine aw_iald X dX1_cover_109 hx22 ?_
        refine aw_iconst X (1 : Int32) dX1_cover_110 (by decide) ?_
        refine aw_iadd X dX1_cover_111 ?_
        refine aw_goto X 122 dX1_cover_112 rfl ?_
        obtain ⟨s23, hs23, h⟩ := bind_some h
        refine aw_iast X dX1_cover_122 hs23 ?_
        refine aw_iinc X dX1_cover_123 5 rfl (1 : Int32) rfl (by decide) [(6, .inl (v6 + (1 : Int32))), (7, .inl y10.1), (0, .inr (.inr (some this))), (2, .inl v2), (4, .inl v4), (5, .inl v5)] rfl ?_
        refine aw_goto X 54 dX1_cover_126 rfl ?_
        cases h
        refine aw_sub [(0, .inr (.inr (some this))), (2, .inl v2), (4, .inl v4), (5, .inl v5), (6, .inl (v6 + (1 : Int32)))] [2, 3, 4, 5, 0] rfl ?_
        exact kH ((v6 + (1 : Int32)), s23) rfl
theorem wX1_cover_l25 {C : CT} {d : Nat} {Z : State → Prop} (X : Cx C cX1_cover RX1 (some .int) 10 (d + 3)) (φ : Nat) (this : Nat) (v2 : Int32) (v4 : Int32) (v5 : Int32) (σ : St) (y : (Int32 × St) ⊕ (St)) (h : fX1_cover_l25 φ this v2 v4 v5 σ = some y) (kH : ∀ s : Int32 × St, y = .inl s → AW C 25 [(0, .inr (.inr (some this))), (2, .inl v2), (4, .inl v4), (5, .inl s.1)] [] s.2 Z) (kE0 : ∀ e : St, y = .inr e → AW C 135 [(0, .inr (.inr (some this))), (2, .inl v2)] [] e Z) : AW C 25 [(0, .inr (.inr (some this))), (2, .inl v2), (4, .inl v4), (5, .inl v5)] [] σ Z := by
  unfold fX1_cover_l25 at h
  refine aw_iload X dX1_cover_25 3 rfl ?_
  refine aw_if_lt X 135 dX1_cover_27 rfl (fun c4 => ?_) (fun c4 => ?_)
  · rw [if_pos c4] at h
    cases h
    refine aw_sub [(0, .inr (.inr (some this))), (2, .inl v2)] [0, 1] rfl ?_
    exact kE0 σ rfl
  · rw [if_neg c4] at h
    refine aw_aload_n X dX1_cover_30 0 0 rfl rfl ?_
    obtain ⟨x5, hx5, h⟩ := bind_some h
    refine aw_gfR X fl_X1_88 dX1_cover_31 hx5 ?_
    refine aw_iload X dX1_cover_34 3 rfl ?_
    refine aw_iload X dX1_cover_36 3 rfl ?_
    refine aw_iload X dX1_cover_38 2 rfl ?_
    refine aw_icmp_ne X 47 dX1_cover_40 rfl (fun c6 => ?_) (fun c6 => ?_)
    · rw [if_neg c6] at h
      refine aw_sipush X (1000 : Int32) dX1_cover_47 (by decide) ?_
      obtain ⟨s7, hs7, h⟩ := bind_some h
      refine aw_iast X dX1_cover_50 hs7 ?_
      refine aw_iconst X (0 : Int32) dX1_cover_51 (by decide) ?_
      refine aw_istore X dX1_cover_52 (by decide) [(6, .inl (0 : Int32)), (0, .inr (.inr (some this))), (2, .inl v2), (4, .inl v4), (5, .inl v5)] rfl ?_
      obtain ⟨e24, h25, h⟩ := bind_some h
      refine aw_sub [(0, .inr (.inr (some this))), (2, .inl v2), (4, .inl v4), (5, .inl v5), (6, .inl (0 : Int32))] [1, 2, 3, 4, 0] rfl ?_
      refine aw_it (fun s => AW C 54 [(0, .inr (.inr (some this))), (2, .inl v2), (4, .inl v4), (5, .inl v5), (6, .inl s.1)] [] s.2 Z) (fun e => AW C 129 [(0, .inr (.inr (some this))), (2, .inl v2), (4, .inl v4), (5, .inl v5)] [] e Z) (fun s r hr kH kE => wX1_cover_l54 X φ this v2 v4 v5 s.1 s.2 r hr kH kE) φ _ e24 h25 ?_
      refine aw_iinc X dX1_cover_129 3 rfl (-1 : Int32) rfl (by decide) [(5, .inl (v5 + (-1 : Int32))), (0, .inr (.inr (some this))), (2, .inl v2), (4, .inl v4)] rfl ?_
      refine aw_goto X 25 dX1_cover_132 rfl ?_
      cases h
      refine aw_sub [(0, .inr (.inr (some this))), (2, .inl v2), (4, .inl v4), (5, .inl (v5 + (-1 : Int32)))] [1, 2, 3, 0] rfl ?_
      exact kH ((v5 + (-1 : Int32)), e24) rfl
    · rw [if_pos c6] at h
      refine aw_iconst X (0 : Int32) dX1_cover_43 (by decide) ?_
      refine aw_goto X 50 dX1_cover_44 rfl ?_
      obtain ⟨s26, hs26, h⟩ := bind_some h
      refine aw_iast X dX1_cover_50 hs26 ?_
      refine aw_iconst X (0 : Int32) dX1_cover_51 (by decide) ?_
      refine aw_istore X dX1_cover_52 (by decide) [(6, .inl (0 : Int32)), (0, .inr (.inr (some this))), (2, .inl v2), (4, .inl v4), (5, .inl v5)] rfl ?_
      obtain ⟨e27, h28, h⟩ := bind_some h
      refine aw_sub [(0, .inr (.inr (some this))), (2, .inl v2), (4, .inl v4), (5, .inl v5), (6, .inl (0 : Int32))] [1, 2, 3, 4, 0] rfl ?_
      refine aw_it (fun s => AW C 54 [(0, .inr (.inr (some this))), (2, .inl v2), (4, .inl v4), (5, .inl v5), (6, .inl s.1)] [] s.2 Z) (fun e => AW C 129 [(0, .inr (.inr (some this))), (2, .inl v2), (4, .inl v4), (5, .inl v5)] [] e Z) (fun s r hr kH kE => wX1_cover_l54 X φ this v2 v4 v5 s.1 s.2 r hr kH kE) φ _ e27 h28 ?_
      refine aw_iinc X dX1_cover_129 3 rfl (-1 : Int32) rfl (by decide) [(5, .inl (v5 + (-1 : Int32))), (0, .inr (.inr (some this))), (2, .inl v2), (4, .inl v4)] rfl ?_
      refine aw_goto X 25 dX1_cover_132 rfl ?_
      cases h
      refine aw_sub [(0, .inr (.inr (some this))), (2, .inl v2), (4, .inl v4), (5, .inl (v5 + (-1 : Int32)))] [1, 2, 3, 0] rfl ?_
      exact kH ((v5 + (-1 : Int32)), e27) rfl
theorem wX1_cover_b193 {C : CT} {d : Nat} {Z : State → Prop} (X : Cx C cX1_cover RX1 (some .int) 10 (d + 3)) (φ : Nat) (this : Nat) (v2 : Int32) (v5 : Int32) (v6 : Int32) (v7 : Int32) (v8 : Int32) (σ : St) (y : (Int32 × Int32 × St) ⊕ (Int32 × Int32 × St)) (h : fX1_cover_b193 φ this v2 v5 v6 v7 v8 σ = some y) (kH : ∀ s : Int32 × Int32 × St, y = .inl s → AW C 169 [(0, .inr (.inr (some this))), (2, .inl v2), (5, .inl v5), (6, .inl v6), (7, .inl v7), (8, .inl s.1), (9, .inl s.2.1)] [] s.2.2 Z) (kE0 : ∀ e : Int32 × Int32 × St, y = .inr e → AW C 209 [(0, .inr (.inr (some this))), (2, .inl v2), (5, .inl v5), (7, .inl v7), (8, .inl e.1), (9, .inl e.2.1)] [] e.2.2 Z) : AW C 193 [(0, .inr (.inr (some this))), (2, .inl v2), (5, .inl v5), (6, .inl v6), (7, .inl v7), (8, .inl v8)] [] σ Z := by
  unfold fX1_cover_b193 at h
  refine aw_iinc X dX1_cover_193 5 rfl (1 : Int32) rfl (by decide) [(8, .inl (v8 + (1 : Int32))), (0, .inr (.inr (some this))), (2, .inl v2), (5, .inl v5), (6, .inl v6), (7, .inl v7)] rfl ?_
  refine aw_aload_n X dX1_cover_196 1 0 rfl rfl ?_
  refine aw_iload X dX1_cover_197 4 rfl ?_
  refine aw_iload X dX1_cover_199 0 rfl ?_
  obtain ⟨y36, hy36, h⟩ := bind_some h
  refine aw_cV X (st := []) hy36 [.inl v6, .inl (v8 + (1 : Int32))] rfl rfl ml_X1_289 (fun o h => AX1_behindHere (Cx.ok X) φ (d + 1) _ _ _ _ _ h) dX1_cover_201 (Nat.le_of_ble_eq_true rfl) ?_
  refine aw_istore X dX1_cover_204 (by decide) [(9, .inl y36.1), (8, .inl (v8 + (1 : Int32))), (0, .inr (.inr (some this))), (2, .inl v2), (5, .inl v5), (6, .inl v6), (7, .inl v7)] rfl ?_
  refine aw_goto X 169 dX1_cover_206 rfl ?_
  cases h
  refine aw_sub [(0, .inr (.inr (some this))), (2, .inl v2), (5, .inl v5), (6, .inl v6), (7, .inl v7), (8, .inl (v8 + (1 : Int32))), (9, .inl y36.1)] [2, 3, 4, 5, 6, 1, 0] rfl ?_
  exact kH ((v8 + (1 : Int32)), y36.1, y36.2) rfl
theorem wX1_cover_l169 {C : CT} {d : Nat} {Z : State → Prop} (X : Cx C cX1_cover RX1 (some .int) 10 (d + 3)) (φ : Nat) (this : Nat) (v2 : Int32) (v5 : Int32) (v6 : Int32) (v7 : Int32) (v8 : Int32) (v9 : Int32) (σ : St) (y : (Int32 × Int32 × St) ⊕ (Int32 × Int32 × St)) (h : fX1_cover_l169 φ this v2 v5 v6 v7 v8 v9 σ = some y) (kH : ∀ s : Int32 × Int32 × St, y = .inl s → AW C 169 [(0, .inr (.inr (some this))), (2, .inl v2), (5, .inl v5), (6, .inl v6), (7, .inl v7), (8, .inl s.1), (9, .inl s.2.1)] [] s.2.2 Z) (kE0 : ∀ e : Int32 × Int32 × St, y = .inr e → AW C 209 [(0, .inr (.inr (some this))), (2, .inl v2), (5, .inl v5), (7, .inl v7), (8, .inl e.1), (9, .inl e.2.1)] [] e.2.2 Z) : AW C 169 [(0, .inr (.inr (some this))), (2, .inl v2), (5, .inl v5), (6, .inl v6), (7, .inl v7), (8, .inl v8), (9, .inl v9)] [] σ Z := by
  unfold fX1_cover_l169 at h
  refine aw_iload X dX1_cover_169 6 rfl ?_
  refine aw_if_lt X 193 dX1_cover_171 rfl (fun c35 => ?_) (fun c35 => ?_)
  · rw [if_pos c35] at h
    refine aw_sub [(0, .inr (.inr (some this))), (2, .inl v2), (5, .inl v5), (6, .inl v6), (7, .inl v7), (8, .inl v8)] [0, 1, 2, 3, 4, 5] rfl ?_
    exact wX1_cover_b193 X φ this v2 v5 v6 v7 v8 σ y h kH kE0
  · rw [if_neg c35] at h
    refine aw_aload_n X dX1_cover_174 0 0 rfl rfl ?_
    obtain ⟨x37, hx37, h⟩ := bind_some h
    refine aw_gfR X fl_X1_88 dX1_cover_175 hx37 ?_
    refine aw_iload X dX1_cover_178 6 rfl ?_
    obtain ⟨x38, hx38, h⟩ := bind_some h
    refine aw_iald X dX1_cover_180 hx38 ?_
    refine aw_iconst X (1 : Int32) dX1_cover_181 (by decide) ?_
    refine aw_iadd X dX1_cover_182 ?_
    refine aw_aload_n X dX1_cover_183 0 0 rfl rfl ?_
    obtain ⟨x39, hx39, h⟩ := bind_some h
    refine aw_gfR X fl_X1_88 dX1_cover_184 hx39 ?_
    refine aw_iload X dX1_cover_187 3 rfl ?_
    obtain ⟨x40, hx40, h⟩ := bind_some h
    refine aw_iald X dX1_cover_189 hx40 ?_
    refine aw_icmp_le X 209 dX1_cover_190 rfl (fun c41 => ?_) (fun c41 => ?_)
    · rw [if_pos c41] at h
      cases h
      refine aw_sub [(0, .inr (.inr (some this))), (2, .inl v2), (5, .inl v5), (7, .inl v7), (8, .inl v8), (9, .inl v9)] [0, 1, 2, 4, 5, 6] rfl ?_
      exact kE0 (v8, v9, σ) rfl
    · rw [if_neg c41] at h
      refine aw_sub [(0, .inr (.inr (some this))), (2, .inl v2), (5, .inl v5), (6, .inl v6), (7, .inl v7), (8, .inl v8)] [0, 1, 2, 3, 4, 5] rfl ?_
      exact wX1_cover_b193 X φ this v2 v5 v6 v7 v8 σ y h kH kE0
theorem wX1_cover_l149 {C : CT} {d : Nat} {Z : State → Prop} (X : Cx C cX1_cover RX1 (some .int) 10 (d + 3)) (φ : Nat) (this : Nat) (v2 : Int32) (v5 : Int32) (v6 : Int32) (v7 : Int32) (σ : St) (y : (Int32 × Int32 × St) ⊕ (St)) (h : fX1_cover_l149 φ this v2 v5 v6 v7 σ = some y) (kH : ∀ s : Int32 × Int32 × St, y = .inl s → AW C 149 [(0, .inr (.inr (some this))), (2, .inl v2), (5, .inl v5), (6, .inl s.1), (7, .inl s.2.1)] [] s.2.2 Z) (kE0 : ∀ e : St, y = .inr e → AW C 235 [(0, .inr (.inr (some this))), (2, .inl v2), (5, .inl v5)] [] e Z) : AW C 149 [(0, .inr (.inr (some this))), (2, .inl v2), (5, .inl v5), (6, .inl v6), (7, .inl v7)] [] σ Z := by
  unfold fX1_cover_l149 at h
  refine aw_iload X dX1_cover_149 4 rfl ?_
  refine aw_iload X dX1_cover_151 2 rfl ?_
  refine aw_icmp_ge X 235 dX1_cover_153 rfl (fun c33 => ?_) (fun c33 => ?_)
  · rw [if_pos c33] at h
    cases h
    refine aw_sub [(0, .inr (.inr (some this))), (2, .inl v2), (5, .inl v5)] [0, 1, 2] rfl ?_
    exact kE0 σ rfl
  · rw [if_neg c33] at h
    refine aw_iconst X (0 : Int32) dX1_cover_156 (by decide) ?_
    refine aw_istore X dX1_cover_157 (by decide) [(8, .inl (0 : Int32)), (0, .inr (.inr (some this))), (2, .inl v2), (5, .inl v5), (6, .inl v6), (7, .inl v7)] rfl ?_
    refine aw_aload_n X dX1_cover_159 1 0 rfl rfl ?_
    refine aw_iload X dX1_cover_160 4 rfl ?_
    refine aw_iload X dX1_cover_162 0 rfl ?_
    obtain ⟨y34, hy34, h⟩ := bind_some h
    refine aw_cV X (st := []) hy34 [.inl v6, .inl (0 : Int32)] rfl rfl ml_X1_289 (fun o h => AX1_behindHere (Cx.ok X) φ (d + 1) _ _ _ _ _ h) dX1_cover_164 (Nat.le_of_ble_eq_true rfl) ?_
    refine aw_istore X dX1_cover_167 (by decide) [(9, .inl y34.1), (8, .inl (0 : Int32)), (0, .inr (.inr (some this))), (2, .inl v2), (5, .inl v5), (6, .inl v6), (7, .inl v7)] rfl ?_
    obtain ⟨e42, h43, h⟩ := bind_some h
    refine aw_sub [(0, .inr (.inr (some this))), (2, .inl v2), (5, .inl v5), (6, .inl v6), (7, .inl v7), (8, .inl (0 : Int32)), (9, .inl y34.1)] [2, 3, 4, 5, 6, 1, 0] rfl ?_
    refine aw_it (fun s => AW C 169 [(0, .inr (.inr (some this))), (2, .inl v2), (5, .inl v5), (6, .inl v6), (7, .inl v7), (8, .inl s.1), (9, .inl s.2.1)] [] s.2.2 Z) (fun e => AW C 209 [(0, .inr (.inr (some this))), (2, .inl v2), (5, .inl v5), (7, .inl v7), (8, .inl e.1), (9, .inl e.2.1)] [] e.2.2 Z) (fun s r hr kH kE => wX1_cover_l169 X φ this v2 v5 v6 v7 s.1 s.2.1 s.2.2 r hr kH kE) φ _ e42 h43 ?_
    refine aw_iload X dX1_cover_209 3 rfl ?_
    refine aw_bipush X (40 : Int32) dX1_cover_211 (by decide) ?_
    refine aw_icmp_ge X 225 dX1_cover_213 rfl (fun c44 => ?_) (fun c44 => ?_)
    · rw [if_pos c44] at h
      refine aw_iload X dX1_cover_225 5 rfl ?_
      refine aw_istore X dX1_cover_227 (by decide) [(6, .inl e42.2.1), (0, .inr (.inr (some this))), (2, .inl v2), (5, .inl v5), (7, .inl v7), (8, .inl e42.1), (9, .inl e42.2.1)] rfl ?_
      refine aw_iinc X dX1_cover_229 4 rfl (1 : Int32) rfl (by decide) [(7, .inl (v7 + (1 : Int32))), (6, .inl e42.2.1), (0, .inr (.inr (some this))), (2, .inl v2), (5, .inl v5), (8, .inl e42.1), (9, .inl e42.2.1)] rfl ?_
      refine aw_goto X 149 dX1_cover_232 rfl ?_
      cases h
      refine aw_sub [(0, .inr (.inr (some this))), (2, .inl v2), (5, .inl v5), (6, .inl e42.2.1), (7, .inl (v7 + (1 : Int32)))] [2, 3, 4, 1, 0] rfl ?_
      exact kH (e42.2.1, (v7 + (1 : Int32)), e42.2.2) rfl
    · rw [if_neg c44] at h
      refine aw_aload_n X dX1_cover_216 0 0 rfl rfl ?_
      obtain ⟨x45, hx45, h⟩ := bind_some h
      refine aw_gfR X fl_X1_44 dX1_cover_217 hx45 ?_
      refine aw_iload X dX1_cover_220 3 rfl ?_
      refine aw_iload X dX1_cover_222 4 rfl ?_
      obtain ⟨s46, hs46, h⟩ := bind_some h
      refine aw_iast X dX1_cover_224 hs46 ?_
      refine aw_iload X dX1_cover_225 5 rfl ?_
      refine aw_istore X dX1_cover_227 (by decide) [(6, .inl e42.2.1), (0, .inr (.inr (some this))), (2, .inl v2), (5, .inl v5), (7, .inl v7), (8, .inl e42.1), (9, .inl e42.2.1)] rfl ?_
      refine aw_iinc X dX1_cover_229 4 rfl (1 : Int32) rfl (by decide) [(7, .inl (v7 + (1 : Int32))), (6, .inl e42.2.1), (0, .inr (.inr (some this))), (2, .inl v2), (5, .inl v5), (8, .inl e42.1), (9, .inl e42.2.1)] rfl ?_
      refine aw_goto X 149 dX1_cover_232 rfl ?_
      cases h
      refine aw_sub [(0, .inr (.inr (some this))), (2, .inl v2), (5, .inl v5), (6, .inl e42.2.1), (7, .inl (v7 + (1 : Int32)))] [2, 3, 4, 1, 0] rfl ?_
      exact kH (e42.2.1, (v7 + (1 : Int32)), s46) rfl
theorem wX1_cover_b250 {C : CT} {d : Nat} (X : Cx C cX1_cover RX1 (some .int) 10 (d + 3)) (φ : Nat) (this : Nat) (v2 : Int32) (v5 : Int32) (k0 : Option Nat) (k1 : Int32) (σ : St) (y : Int32 × St) (h : fX1_cover_b250 φ this v2 v5 k0 k1 σ = some y)  : AW C 250 [(0, .inr (.inr (some this))), (2, .inl v2), (5, .inl v5)] [.inl k1, .inr (.inr k0)] σ (AQ C (some (.inl y.1)) y.2) := by
  unfold fX1_cover_b250 at h
  obtain ⟨s50, hs50, h⟩ := bind_some h
  refine aw_pfI X fl_X1_151 dX1_cover_250 hs50 ?_
  refine aw_aload_n X dX1_cover_253 0 0 rfl rfl ?_
  refine aw_iload_n X dX1_cover_254 1 2 rfl rfl ?_
  obtain ⟨y51, hy51, h⟩ := bind_some h
  refine aw_cV X (st := []) hy51 [.inl v2] rfl rfl ml_X1_214 (fun o h => AX1_comesToRow (Cx.ok X) φ (d + 2) _ _ _ _ h) dX1_cover_255 (Nat.le_of_ble_eq_true rfl) ?_
  refine aw_iload X dX1_cover_258 2 rfl ?_
  cases h
  exact aw_iret X dX1_cover_260
theorem wX1_cover {C : CT} {d : Nat} (X : Cx C cX1_cover RX1 (some .int) 10 (d + 3)) (φ : Nat) (this : Nat) (v1 : Int32) (v2 : Int32) (σ : St) (y : Int32 × St) (h : fX1_cover φ this v1 v2 σ = some y) : AW C 0 [(0, .inr (.inr (some this))), (1, .inl v1), (2, .inl v2)] [] σ (AQ C (some (.inl y.1)) y.2) := by
  unfold fX1_cover at h
  refine aw_aload_n X dX1_cover_0 0 0 rfl rfl ?_
  refine aw_iload_n X dX1_cover_1 1 1 rfl rfl ?_
  refine aw_iload_n X dX1_cover_2 2 2 rfl rfl ?_
  obtain ⟨y1, hy1, h⟩ := bind_some h
  refine aw_cV X (st := []) hy1 [.inl v1, .inl v2] rfl rfl ml_X1_280 (fun o h => AX1_needSeveral (Cx.ok X) φ d _ _ _ _ _ h) dX1_cover_3 (Nat.le_of_ble_eq_true rfl) ?_
  refine aw_istore_n X dX1_cover_6 3 rfl (by decide) [(3, .inl y1.1), (0, .inr (.inr (some this))), (1, .inl v1), (2, .inl v2)] rfl ?_
  refine aw_iload_n X dX1_cover_7 0 3 rfl rfl ?_
  refine aw_if_ge X 13 dX1_cover_8 rfl (fun c2 => ?_) (fun c2 => ?_)
  · rw [if_pos c2] at h
    refine aw_aload_n X dX1_cover_13 1 0 rfl rfl ?_
    obtain ⟨y3, hy3, h⟩ := bind_some h
    refine aw_cV X (st := []) hy3 [] rfl rfl ml_X1_283 (fun o h => AX1_allCodes (Cx.ok X) φ (d + 2) _ _ _ h) dX1_cover_14 (Nat.le_of_ble_eq_true rfl) ?_
    refine aw_iconst X (1 : Int32) dX1_cover_17 (by decide) ?_
    refine aw_isub X dX1_cover_18 ?_
    refine aw_istore X dX1_cover_19 (by decide) [(4, .inl (y3 - (1 : Int32))), (3, .inl y1.1), (0, .inr (.inr (some this))), (1, .inl v1), (2, .inl v2)] rfl ?_
    refine aw_iload X dX1_cover_21 0 rfl ?_
    refine aw_istore X dX1_cover_23 (by decide) [(5, .inl (y3 - (1 : Int32))), (4, .inl (y3 - (1 : Int32))), (3, .inl y1.1), (0, .inr (.inr (some this))), (1, .inl v1), (2, .inl v2)] rfl ?_
    obtain ⟨e29, h30, h⟩ := bind_some h
    refine aw_sub [(0, .inr (.inr (some this))), (2, .inl v2), (4, .inl (y3 - (1 : Int32))), (5, .inl (y3 - (1 : Int32)))] [3, 5, 1, 0] rfl ?_
    refine aw_it (fun s => AW C 25 [(0, .inr (.inr (some this))), (2, .inl v2), (4, .inl (y3 - (1 : Int32))), (5, .inl s.1)] [] s.2 (AQ C (some (.inl y.1)) y.2)) (fun e => AW C 135 [(0, .inr (.inr (some this))), (2, .inl v2)] [] e (AQ C (some (.inl y.1)) y.2)) (fun s r hr kH kE => wX1_cover_l25 X φ this v2 (y3 - (1 : Int32)) s.1 s.2 r hr kH kE) φ _ e29 h30 ?_
    refine aw_aload_n X dX1_cover_135 0 0 rfl rfl ?_
    obtain ⟨x31, hx31, h⟩ := bind_some h
    refine aw_gfR X fl_X1_88 dX1_cover_136 hx31 ?_
    refine aw_iconst X (0 : Int32) dX1_cover_139 (by decide) ?_
    obtain ⟨x32, hx32, h⟩ := bind_some h
    refine aw_iald X dX1_cover_140 hx32 ?_
    refine aw_istore X dX1_cover_141 (by decide) [(5, .inl x32), (0, .inr (.inr (some this))), (2, .inl v2)] rfl ?_
    refine aw_iconst X (0 : Int32) dX1_cover_143 (by decide) ?_
    refine aw_istore X dX1_cover_144 (by decide) [(6, .inl (0 : Int32)), (5, .inl x32), (0, .inr (.inr (some this))), (2, .inl v2)] rfl ?_
    refine aw_iconst X (0 : Int32) dX1_cover_146 (by decide) ?_
    refine aw_istore X dX1_cover_147 (by decide) [(7, .inl (0 : Int32)), (6, .inl (0 : Int32)), (5, .inl x32), (0, .inr (.inr (some this))), (2, .inl v2)] rfl ?_
    obtain ⟨e47, h48, h⟩ := bind_some h
    refine aw_sub [(0, .inr (.inr (some this))), (2, .inl v2), (5, .inl x32), (6, .inl (0 : Int32)), (7, .inl (0 : Int32))] [3, 4, 2, 1, 0] rfl ?_
    refine aw_it (fun s => AW C 149 [(0, .inr (.inr (some this))), (2, .inl v2), (5, .inl x32), (6, .inl s.1), (7, .inl s.2.1)] [] s.2.2 (AQ C (some (.inl y.1)) y.2)) (fun e => AW C 235 [(0, .inr (.inr (some this))), (2, .inl v2), (5, .inl x32)] [] e (AQ C (some (.inl y.1)) y.2)) (fun s r hr kH kE => wX1_cover_l149 X φ this v2 x32 s.1 s.2.1 s.2.2 r hr kH kE) φ _ e47 h48 ?_
    refine aw_aload_n X dX1_cover_235 0 0 rfl rfl ?_
    refine aw_iload X dX1_cover_236 2 rfl ?_
    refine aw_bipush X (40 : Int32) dX1_cover_238 (by decide) ?_
    refine aw_icmp_le X 248 dX1_cover_240 rfl (fun c49 => ?_) (fun c49 => ?_)
    · rw [if_pos c49] at h
      refine aw_iload X dX1_cover_248 2 rfl ?_
      exact wX1_cover_b250 X φ this v2 x32 (some this) x32 e47 y h
    · rw [if_neg c49] at h
      refine aw_bipush X (40 : Int32) dX1_cover_243 (by decide) ?_
      refine aw_goto X 250 dX1_cover_245 rfl ?_
      exact wX1_cover_b250 X φ this v2 x32 (some this) (40 : Int32) e47 y h
  · rw [if_neg c2] at h
    refine aw_iload_n X dX1_cover_11 0 3 rfl rfl ?_
    cases h
    exact aw_iret X dX1_cover_12
theorem AX1_cover {E : AE} {l : Launch} (hE : EOK E l) (φ d : Nat) (this : Nat) (v1 : Int32) (v2 : Int32) (σ : St) (y : Int32 × St) (h : fX1_cover φ this v1 v2 σ = some y) : AMet E l yX1_cover (ws_ yX1_cover cX1_cover 10 (some .int)) (d + 3) [.inr (.inr (some this)), .inl v1, .inl v2] σ (some (.inl y.1)) y.2 := by
  refine amet_of hE (by decide +kernel) (Nat.le_of_ble_eq_true rfl) fun C e1 e2 X XI => ?_
  subst e1
  exact wX1_cover X φ this v1 v2 σ y h
theorem wX1_both_l57 {C : CT} {d : Nat} {Z : State → Prop} (X : Cx C cX1_both RX1 (some .int) 9 (d + 3)) (φ : Nat) (this : Nat) (v1 : Int32) (v2 : Int32) (v4 : Int32) (v5 : Int32) (v6 : Int32) (σ : St) (y : (Int32 × St) ⊕ (St)) (h : fX1_both_l57 φ this v1 v2 v4 v5 v6 σ = some y) (kH : ∀ s : Int32 × St, y = .inl s → AW C 57 [(0, .inr (.inr (some this))), (1, .inl v1), (2, .inl v2), (4, .inl v4), (5, .inl v5), (6, .inl s.1)] [] s.2 Z) (kE0 : ∀ e : St, y = .inr e → AW C 145 [(0, .inr (.inr (some this))), (1, .inl v1), (2, .inl v2), (4, .inl v4), (5, .inl v5)] [] e Z) : AW C 57 [(0, .inr (.inr (some this))), (1, .inl v1), (2, .inl v2), (4, .inl v4), (5, .inl v5), (6, .inl v6)] [] σ Z := by
  unfold fX1_both_l57 at h
  refine aw_iload X dX1_both_57 5 rfl ?_
  refine aw_aload_n X dX1_both_59 0 0 rfl rfl ?_
  obtain ⟨x11, hx11, h⟩ := bind_some h
  refine aw_gfI X fl_X1_110 dX1_both_60 hx11 ?_
  refine aw_icmp_ge X 145 dX1_both_63 rfl (fun c12 => ?_) (fun c12 => ?_)
  · rw [if_pos c12] at h
    cases h
    refine aw_sub [(0, .inr (.inr (some this))), (1, .inl v1), (2, .inl v2), (4, .inl v4), (5, .inl v5)] [0, 1, 2, 3, 4] rfl ?_
    exact kE0 σ rfl
  · rw [if_neg c12] at h
    refine aw_aload_n X dX1_both_66 0 0 rfl rfl ?_
    refine aw_iload_n X dX1_both_67 1 1 rfl rfl ?_
    refine aw_iload X dX1_both_68 3 rfl ?_
    refine aw_iload X dX1_both_70 5 rfl ?_
    obtain ⟨y13, hy13, h⟩ := bind_some h
    refine aw_cV X (st := []) hy13 [.inl v1, .inl v4, .inl v6] rfl rfl ml_X1_206 (fun o h => AX1_next (Cx.ok X) φ (d + 1) _ _ _ _ _ _ h) dX1_both_72 (Nat.le_of_ble_eq_true rfl) ?_
    refine aw_istore X dX1_both_75 (by decide) [(7, .inl y13), (0, .inr (.inr (some this))), (1, .inl v1), (2, .inl v2), (4, .inl v4), (5, .inl v5), (6, .inl v6)] rfl ?_
    refine aw_aload_n X dX1_both_77 1 0 rfl rfl ?_
    refine aw_iload_n X dX1_both_78 3 2 rfl rfl ?_
    refine aw_iload X dX1_both_79 5 rfl ?_
    refine aw_iload X dX1_both_81 6 rfl ?_
    obtain ⟨y14, hy14, h⟩ := bind_some h
    refine aw_cV X (st := []) hy14 [.inl v2, .inl v5, .inl v6] rfl rfl ml_X1_206 (fun o h => AX1_next (Cx.ok X) φ (d + 1) _ _ _ _ _ _ h) dX1_both_83 (Nat.le_of_ble_eq_true rfl) ?_
    refine aw_istore X dX1_both_86 (by decide) [(8, .inl y14), (7, .inl y13), (0, .inr (.inr (some this))), (1, .inl v1), (2, .inl v2), (4, .inl v4), (5, .inl v5), (6, .inl v6)] rfl ?_
    refine aw_aload_n X dX1_both_88 2 0 rfl rfl ?_
    obtain ⟨x15, hx15, h⟩ := bind_some h
    refine aw_gfR X fl_X1_94 dX1_both_89 hx15 ?_
    refine aw_bipush X (41 : Int32) dX1_both_92 (by decide) ?_
    refine aw_iload X dX1_both_94 5 rfl ?_
    refine aw_imul X dX1_both_96 ?_
    refine aw_iload X dX1_both_97 6 rfl ?_
    refine aw_iadd X dX1_both_99 ?_
    refine aw_dup2 X dX1_both_100 rfl rfl ?_
    obtain ⟨x16, hx16, h⟩ := bind_some h
    refine aw_lald X dX1_both_101 hx16 ?_
    refine aw_iload X dX1_both_102 1 rfl ?_
    refine aw_bipush X (-9 : Int32) dX1_both_104 (by decide) ?_
    refine aw_icmp_eq X 116 dX1_both_106 rfl (fun c17 => ?_) (fun c17 => ?_)
    · rw [if_pos c17] at h
      refine aw_lconst X (0 : Int64) dX1_both_116 rfl ?_
      refine aw_goto X 137 dX1_both_117 rfl ?_
      refine aw_ladd X dX1_both_137 ?_
      obtain ⟨s18, hs18, h⟩ := bind_some h
      refine aw_last X dX1_both_138 hs18 ?_
      refine aw_iinc X dX1_both_139 7 rfl (1 : Int32) rfl (by decide) [(6, .inl (v6 + (1 : Int32))), (8, .inl y14), (7, .inl y13), (0, .inr (.inr (some this))), (1, .inl v1), (2, .inl v2), (4, .inl v4), (5, .inl v5)] rfl ?_
      refine aw_goto X 57 dX1_both_142 rfl ?_
      cases h
      refine aw_sub [(0, .inr (.inr (some this))), (1, .inl v1), (2, .inl v2), (4, .inl v4), (5, .inl v5), (6, .inl (v6 + (1 : Int32)))] [3, 4, 5, 6, 7, 0] rfl ?_
      exact kH ((v6 + (1 : Int32)), s18) rfl
    · rw [if_neg c17] at h
      refine aw_iload X dX1_both_109 0 rfl ?_
      refine aw_bipush X (-9 : Int32) dX1_both_111 (by decide) ?_
      refine aw_icmp_ne X 120 dX1_both_113 rfl (fun c19 => ?_) (fun c19 => ?_)
      · rw [if_neg c19] at h
        refine aw_aload_n X dX1_both_120 2 0 rfl rfl ?_
        obtain ⟨x20, hx20, h⟩ := bind_some h
        refine aw_gfR X fl_X1_94 dX1_both_121 hx20 ?_
        refine aw_bipush X (41 : Int32) dX1_both_124 (by decide) ?_
        refine aw_iload X dX1_both_126 1 rfl ?_
        refine aw_iconst X (1 : Int32) dX1_both_128 (by decide) ?_
        refine aw_iadd X dX1_both_129 ?_
        refine aw_imul X dX1_both_130 ?_
        refine aw_iload X dX1_both_131 0 rfl ?_
        refine aw_iadd X dX1_both_133 ?_
        refine aw_iconst X (1 : Int32) dX1_both_134 (by decide) ?_
        refine aw_iadd X dX1_both_135 ?_
        obtain ⟨x21, hx21, h⟩ := bind_some h
        refine aw_lald X dX1_both_136 hx21 ?_
        refine aw_ladd X dX1_both_137 ?_
        obtain ⟨s22, hs22, h⟩ := bind_some h
        refine aw_last X dX1_both_138 hs22 ?_
        refine aw_iinc X dX1_both_139 7 rfl (1 : Int32) rfl (by decide) [(6, .inl (v6 + (1 : Int32))), (8, .inl y14), (7, .inl y13), (0, .inr (.inr (some this))), (1, .inl v1), (2, .inl v2), (4, .inl v4), (5, .inl v5)] rfl ?_
        refine aw_goto X 57 dX1_both_142 rfl ?_
        cases h
        refine aw_sub [(0, .inr (.inr (some this))), (1, .inl v1), (2, .inl v2), (4, .inl v4), (5, .inl v5), (6, .inl (v6 + (1 : Int32)))] [3, 4, 5, 6, 7, 0] rfl ?_
        exact kH ((v6 + (1 : Int32)), s22) rfl
      · rw [if_pos c19] at h
        refine aw_lconst X (0 : Int64) dX1_both_116 rfl ?_
        refine aw_goto X 137 dX1_both_117 rfl ?_
        refine aw_ladd X dX1_both_137 ?_
        obtain ⟨s23, hs23, h⟩ := bind_some h
        refine aw_last X dX1_both_138 hs23 ?_
        refine aw_iinc X dX1_both_139 7 rfl (1 : Int32) rfl (by decide) [(6, .inl (v6 + (1 : Int32))), (8, .inl y14), (7, .inl y13), (0, .inr (.inr (some this))), (1, .inl v1), (2, .inl v2), (4, .inl v4), (5, .inl v5)] rfl ?_
        refine aw_goto X 57 dX1_both_142 rfl ?_
        cases h
        refine aw_sub [(0, .inr (.inr (some this))), (1, .inl v1), (2, .inl v2), (4, .inl v4), (5, .inl v5), (6, .inl (v6 + (1 : Int32)))] [3, 4, 5, 6, 7, 0] rfl ?_
        exact kH ((v6 + (1 : Int32)), s23) rfl
theorem wX1_both_l35 {C : CT} {d : Nat} {Z : State → Prop} (X : Cx C cX1_both RX1 (some .int) 9 (d + 3)) (φ : Nat) (this : Nat) (v1 : Int32) (v2 : Int32) (v4 : Int32) (v5 : Int32) (σ : St) (y : (Int32 × St) ⊕ (St)) (h : fX1_both_l35 φ this v1 v2 v4 v5 σ = some y) (kH : ∀ s : Int32 × St, y = .inl s → AW C 35 [(0, .inr (.inr (some this))), (1, .inl v1), (2, .inl v2), (4, .inl v4), (5, .inl s.1)] [] s.2 Z) (kE0 : ∀ e : St, y = .inr e → AW C 151 [(0, .inr (.inr (some this))), (1, .inl v1), (2, .inl v2), (4, .inl v4)] [] e Z) : AW C 35 [(0, .inr (.inr (some this))), (1, .inl v1), (2, .inl v2), (4, .inl v4), (5, .inl v5)] [] σ Z := by
  unfold fX1_both_l35 at h
  refine aw_iload X dX1_both_35 4 rfl ?_
  refine aw_if_lt X 151 dX1_both_37 rfl (fun c8 => ?_) (fun c8 => ?_)
  · rw [if_pos c8] at h
    cases h
    refine aw_sub [(0, .inr (.inr (some this))), (1, .inl v1), (2, .inl v2), (4, .inl v4)] [0, 1, 2, 3] rfl ?_
    exact kE0 σ rfl
  · rw [if_neg c8] at h
    refine aw_aload_n X dX1_both_40 0 0 rfl rfl ?_
    obtain ⟨x9, hx9, h⟩ := bind_some h
    refine aw_gfR X fl_X1_94 dX1_both_41 hx9 ?_
    refine aw_bipush X (41 : Int32) dX1_both_44 (by decide) ?_
    refine aw_iload X dX1_both_46 3 rfl ?_
    refine aw_imul X dX1_both_48 ?_
    refine aw_iload X dX1_both_49 4 rfl ?_
    refine aw_iadd X dX1_both_51 ?_
    refine aw_lconst X (1 : Int64) dX1_both_52 rfl ?_
    obtain ⟨s10, hs10, h⟩ := bind_some h
    refine aw_last X dX1_both_53 hs10 ?_
    refine aw_iconst X (0 : Int32) dX1_both_54 (by decide) ?_
    refine aw_istore X dX1_both_55 (by decide) [(6, .inl (0 : Int32)), (0, .inr (.inr (some this))), (1, .inl v1), (2, .inl v2), (4, .inl v4), (5, .inl v5)] rfl ?_
    obtain ⟨e24, h25, h⟩ := bind_some h
    refine aw_sub [(0, .inr (.inr (some this))), (1, .inl v1), (2, .inl v2), (4, .inl v4), (5, .inl v5), (6, .inl (0 : Int32))] [1, 2, 3, 4, 5, 0] rfl ?_
    refine aw_it (fun s => AW C 57 [(0, .inr (.inr (some this))), (1, .inl v1), (2, .inl v2), (4, .inl v4), (5, .inl v5), (6, .inl s.1)] [] s.2 Z) (fun e => AW C 145 [(0, .inr (.inr (some this))), (1, .inl v1), (2, .inl v2), (4, .inl v4), (5, .inl v5)] [] e Z) (fun s r hr kH kE => wX1_both_l57 X φ this v1 v2 v4 v5 s.1 s.2 r hr kH kE) φ _ e24 h25 ?_
    refine aw_iinc X dX1_both_145 4 rfl (-1 : Int32) rfl (by decide) [(5, .inl (v5 + (-1 : Int32))), (0, .inr (.inr (some this))), (1, .inl v1), (2, .inl v2), (4, .inl v4)] rfl ?_
    refine aw_goto X 35 dX1_both_148 rfl ?_
    cases h
    refine aw_sub [(0, .inr (.inr (some this))), (1, .inl v1), (2, .inl v2), (4, .inl v4), (5, .inl (v5 + (-1 : Int32)))] [1, 2, 3, 4, 0] rfl ?_
    exact kH ((v5 + (-1 : Int32)), e24) rfl
theorem wX1_both_l22 {C : CT} {d : Nat} {Z : State → Prop} (X : Cx C cX1_both RX1 (some .int) 9 (d + 3)) (φ : Nat) (this : Nat) (v1 : Int32) (v2 : Int32) (v4 : Int32) (σ : St) (y : (Int32 × St) ⊕ (St)) (h : fX1_both_l22 φ this v1 v2 v4 σ = some y) (kH : ∀ s : Int32 × St, y = .inl s → AW C 22 [(0, .inr (.inr (some this))), (1, .inl v1), (2, .inl v2), (4, .inl s.1)] [] s.2 Z) (kE0 : ∀ e : St, y = .inr e → AW C 157 [(0, .inr (.inr (some this)))] [] e Z) : AW C 22 [(0, .inr (.inr (some this))), (1, .inl v1), (2, .inl v2), (4, .inl v4)] [] σ Z := by
  unfold fX1_both_l22 at h
  refine aw_iload X dX1_both_22 3 rfl ?_
  refine aw_if_lt X 157 dX1_both_24 rfl (fun c5 => ?_) (fun c5 => ?_)
  · rw [if_pos c5] at h
    cases h
    refine aw_sub [(0, .inr (.inr (some this)))] [0] rfl ?_
    exact kE0 σ rfl
  · rw [if_neg c5] at h
    refine aw_aload_n X dX1_both_27 0 0 rfl rfl ?_
    obtain ⟨x6, hx6, h⟩ := bind_some h
    refine aw_gfR X fl_X1_29 dX1_both_28 hx6 ?_
    refine aw_iload_n X dX1_both_31 2 2 rfl rfl ?_
    obtain ⟨x7, hx7, h⟩ := bind_some h
    refine aw_iald X dX1_both_32 hx7 ?_
    refine aw_istore X dX1_both_33 (by decide) [(5, .inl x7), (0, .inr (.inr (some this))), (1, .inl v1), (2, .inl v2), (4, .inl v4)] rfl ?_
    obtain ⟨e26, h27, h⟩ := bind_some h
    refine aw_sub [(0, .inr (.inr (some this))), (1, .inl v1), (2, .inl v2), (4, .inl v4), (5, .inl x7)] [1, 2, 3, 4, 0] rfl ?_
    refine aw_it (fun s => AW C 35 [(0, .inr (.inr (some this))), (1, .inl v1), (2, .inl v2), (4, .inl v4), (5, .inl s.1)] [] s.2 Z) (fun e => AW C 151 [(0, .inr (.inr (some this))), (1, .inl v1), (2, .inl v2), (4, .inl v4)] [] e Z) (fun s r hr kH kE => wX1_both_l35 X φ this v1 v2 v4 s.1 s.2 r hr kH kE) φ _ e26 h27 ?_
    refine aw_iinc X dX1_both_151 3 rfl (-1 : Int32) rfl (by decide) [(4, .inl (v4 + (-1 : Int32))), (0, .inr (.inr (some this))), (1, .inl v1), (2, .inl v2)] rfl ?_
    refine aw_goto X 22 dX1_both_154 rfl ?_
    cases h
    refine aw_sub [(0, .inr (.inr (some this))), (1, .inl v1), (2, .inl v2), (4, .inl (v4 + (-1 : Int32)))] [1, 2, 3, 0] rfl ?_
    exact kH ((v4 + (-1 : Int32)), e26) rfl
theorem wX1_both {C : CT} {d : Nat} (X : Cx C cX1_both RX1 (some .int) 9 (d + 3)) (φ : Nat) (this : Nat) (v1 : Int32) (v2 : Int32) (σ : St) (y : Int32 × St) (h : fX1_both φ this v1 v2 σ = some y) : AW C 0 [(0, .inr (.inr (some this))), (1, .inl v1), (2, .inl v2)] [] σ (AQ C (some (.inl y.1)) y.2) := by
  unfold fX1_both at h
  refine aw_aload_n X dX1_both_0 0 0 rfl rfl ?_
  refine aw_iconst X (1 : Int32) dX1_both_1 (by decide) ?_
  refine aw_iload_n X dX1_both_2 1 1 rfl rfl ?_
  refine aw_iload_n X dX1_both_3 2 2 rfl rfl ?_
  obtain ⟨y1, hy1, h⟩ := bind_some h
  refine aw_cV X (st := []) hy1 [.inl (1 : Int32), .inl v1, .inl v2] rfl rfl ml_X1_188 (fun o h => AX1_needTwo (Cx.ok X) φ d _ _ _ _ _ _ h) dX1_both_4 (Nat.le_of_ble_eq_true rfl) ?_
  refine aw_istore_n X dX1_both_7 3 rfl (by decide) [(3, .inl y1.1), (0, .inr (.inr (some this))), (1, .inl v1), (2, .inl v2)] rfl ?_
  refine aw_iload_n X dX1_both_8 0 3 rfl rfl ?_
  refine aw_if_ge X 14 dX1_both_9 rfl (fun c2 => ?_) (fun c2 => ?_)
  · rw [if_pos c2] at h
    refine aw_aload_n X dX1_both_14 1 0 rfl rfl ?_
    obtain ⟨x3, hx3, h⟩ := bind_some h
    refine aw_gfR X fl_X1_29 dX1_both_15 hx3 ?_
    refine aw_iload_n X dX1_both_18 2 1 rfl rfl ?_
    obtain ⟨x4, hx4, h⟩ := bind_some h
    refine aw_iald X dX1_both_19 hx4 ?_
    refine aw_istore X dX1_both_20 (by decide) [(4, .inl x4), (3, .inl y1.1), (0, .inr (.inr (some this))), (1, .inl v1), (2, .inl v2)] rfl ?_
    obtain ⟨e28, h29, h⟩ := bind_some h
    refine aw_sub [(0, .inr (.inr (some this))), (1, .inl v1), (2, .inl v2), (4, .inl x4)] [2, 3, 4, 0] rfl ?_
    refine aw_it (fun s => AW C 22 [(0, .inr (.inr (some this))), (1, .inl v1), (2, .inl v2), (4, .inl s.1)] [] s.2 (AQ C (some (.inl y.1)) y.2)) (fun e => AW C 157 [(0, .inr (.inr (some this)))] [] e (AQ C (some (.inl y.1)) y.2)) (fun s r hr kH kE => wX1_both_l22 X φ this v1 v2 s.1 s.2 r hr kH kE) φ _ e28 h29 ?_
    refine aw_aload_n X dX1_both_157 0 0 rfl rfl ?_
    refine aw_aload_n X dX1_both_158 0 0 rfl rfl ?_
    obtain ⟨x30, hx30, h⟩ := bind_some h
    refine aw_gfR X fl_X1_94 dX1_both_159 hx30 ?_
    refine aw_iconst X (0 : Int32) dX1_both_162 (by decide) ?_
    obtain ⟨x31, hx31, h⟩ := bind_some h
    refine aw_lald X dX1_both_163 hx31 ?_
    refine aw_iconst X (1 : Int32) dX1_both_164 (by decide) ?_
    obtain ⟨y32, hy32, h⟩ := bind_some h
    refine aw_cV X (st := []) hy32 [.inr (.inl x31), .inl (1 : Int32)] rfl rfl ml_X1_202 (fun o h => AX1_tellsMany (Cx.ok X) φ (d + 2) _ _ _ _ _ h) dX1_both_165 (Nat.le_of_ble_eq_true rfl) ?_
    cases h
    exact aw_iret X dX1_both_168
  · rw [if_neg c2] at h
    refine aw_iload_n X dX1_both_12 0 3 rfl rfl ?_
    cases h
    exact aw_iret X dX1_both_13
theorem AX1_both {E : AE} {l : Launch} (hE : EOK E l) (φ d : Nat) (this : Nat) (v1 : Int32) (v2 : Int32) (σ : St) (y : Int32 × St) (h : fX1_both φ this v1 v2 σ = some y) : AMet E l yX1_both (ws_ yX1_both cX1_both 9 (some .int)) (d + 3) [.inr (.inr (some this)), .inl v1, .inl v2] σ (some (.inl y.1)) y.2 := by
  refine amet_of hE (by decide +kernel) (Nat.le_of_ble_eq_true rfl) fun C e1 e2 X XI => ?_
  subst e1
  exact wX1_both X φ this v1 v2 σ y h
theorem wX1_oftenIn_l3 {C : CT} {d : Nat} {Z : State → Prop} (X : Cx C cX1_oftenIn RX1 (some .long) 7 d) (φ : Nat) (this : Nat) (v1 : Int32) (v2 : Int32) (v3 : Int32) (v4 : Int32) (σ : St) (y : (Int32 × St) ⊕ (St)) (h : fX1_oftenIn_l3 φ this v1 v2 v3 v4 σ = some y) (kH : ∀ s : Int32 × St, y = .inl s → AW C 3 [(0, .inr (.inr (some this))), (1, .inl v1), (2, .inl v2), (3, .inl v3), (4, .inl s.1)] [] s.2 Z) (kE0 : ∀ e : St, y = .inr e → AW C 32 [(0, .inr (.inr (some this))), (1, .inl v1), (2, .inl v2), (3, .inl v3)] [] e Z) : AW C 3 [(0, .inr (.inr (some this))), (1, .inl v1), (2, .inl v2), (3, .inl v3), (4, .inl v4)] [] σ Z := by
  unfold fX1_oftenIn_l3 at h
  refine aw_iload X dX1_oftenIn_3 4 rfl ?_
  refine aw_iload_n X dX1_oftenIn_5 3 3 rfl rfl ?_
  refine aw_icmp_gt X 32 dX1_oftenIn_6 rfl (fun c1 => ?_) (fun c1 => ?_)
  · rw [if_pos c1] at h
    cases h
    refine aw_sub [(0, .inr (.inr (some this))), (1, .inl v1), (2, .inl v2), (3, .inl v3)] [0, 1, 2, 3] rfl ?_
    exact kE0 σ rfl
  · rw [if_neg c1] at h
    refine aw_aload_n X dX1_oftenIn_9 0 0 rfl rfl ?_
    obtain ⟨x2, hx2, h⟩ := bind_some h
    refine aw_gfR X fl_X1_103 dX1_oftenIn_10 hx2 ?_
    refine aw_iload X dX1_oftenIn_13 4 rfl ?_
    refine aw_iload X dX1_oftenIn_15 4 rfl ?_
    refine aw_if_ne X 24 dX1_oftenIn_17 rfl (fun c3 => ?_) (fun c3 => ?_)
    · rw [if_neg c3] at h
      refine aw_lconst X (0 : Int64) dX1_oftenIn_24 rfl ?_
      obtain ⟨s4, hs4, h⟩ := bind_some h
      refine aw_last X dX1_oftenIn_25 hs4 ?_
      refine aw_iinc X dX1_oftenIn_26 4 rfl (1 : Int32) rfl (by decide) [(4, .inl (v4 + (1 : Int32))), (0, .inr (.inr (some this))), (1, .inl v1), (2, .inl v2), (3, .inl v3)] rfl ?_
      refine aw_goto X 3 dX1_oftenIn_29 rfl ?_
      cases h
      refine aw_sub [(0, .inr (.inr (some this))), (1, .inl v1), (2, .inl v2), (3, .inl v3), (4, .inl (v4 + (1 : Int32)))] [1, 2, 3, 4, 0] rfl ?_
      exact kH ((v4 + (1 : Int32)), s4) rfl
    · rw [if_pos c3] at h
      refine aw_lconst X (1 : Int64) dX1_oftenIn_20 rfl ?_
      refine aw_goto X 25 dX1_oftenIn_21 rfl ?_
      obtain ⟨s5, hs5, h⟩ := bind_some h
      refine aw_last X dX1_oftenIn_25 hs5 ?_
      refine aw_iinc X dX1_oftenIn_26 4 rfl (1 : Int32) rfl (by decide) [(4, .inl (v4 + (1 : Int32))), (0, .inr (.inr (some this))), (1, .inl v1), (2, .inl v2), (3, .inl v3)] rfl ?_
      refine aw_goto X 3 dX1_oftenIn_29 rfl ?_
      cases h
      refine aw_sub [(0, .inr (.inr (some this))), (1, .inl v1), (2, .inl v2), (3, .inl v3), (4, .inl (v4 + (1 : Int32)))] [1, 2, 3, 4, 0] rfl ?_
      exact kH ((v4 + (1 : Int32)), s5) rfl
theorem wX1_oftenIn_b90 {C : CT} {d : Nat} {Z : State → Prop} (X : Cx C cX1_oftenIn RX1 (some .long) 7 d) (φ : Nat) (this : Nat) (v1 : Int32) (v2 : Int32) (v3 : Int32) (v4 : Int32) (v5 : Int32) (v6 : Int32) (k0 : Option Nat) (k1 : Int32) (k2 : Int64) (k3 : Int64) (σ : St) (y : (Int32 × Int32 × St) ⊕ (St)) (h : fX1_oftenIn_b90 φ this v1 v2 v3 v4 v5 v6 k0 k1 k2 k3 σ = some y) (kH : ∀ s : Int32 × Int32 × St, y = .inl s → AW C 47 [(0, .inr (.inr (some this))), (1, .inl v1), (2, .inl v2), (3, .inl v3), (4, .inl v4), (5, .inl s.1), (6, .inl s.2.1)] [] s.2.2 Z) (kE0 : ∀ e : St, y = .inr e → AW C 107 [(0, .inr (.inr (some this))), (1, .inl v1), (2, .inl v2), (3, .inl v3), (4, .inl v4)] [] e Z) : AW C 90 [(0, .inr (.inr (some this))), (1, .inl v1), (2, .inl v2), (3, .inl v3), (4, .inl v4), (5, .inl v5), (6, .inl v6)] [.inr (.inl k3), .inr (.inl k2), .inl k1, .inr (.inr k0)] σ Z := by
  unfold fX1_oftenIn_b90 at h
  refine aw_ladd X dX1_oftenIn_90 ?_
  obtain ⟨s17, hs17, h⟩ := bind_some h
  refine aw_last X dX1_oftenIn_91 hs17 ?_
  refine aw_iload X dX1_oftenIn_92 5 rfl ?_
  refine aw_aload_n X dX1_oftenIn_94 0 0 rfl rfl ?_
  obtain ⟨x18, hx18, h⟩ := bind_some h
  refine aw_gfI X fl_X1_110 dX1_oftenIn_95 hx18 ?_
  obtain ⟨hn19, h⟩ := chk_some h
  refine aw_idiv X dX1_oftenIn_98 hn19 ?_
  refine aw_istore X dX1_oftenIn_99 (by decide) [(5, .inl (v5 / x18)), (0, .inr (.inr (some this))), (1, .inl v1), (2, .inl v2), (3, .inl v3), (4, .inl v4), (6, .inl v6)] rfl ?_
  refine aw_iinc X dX1_oftenIn_101 6 rfl (-1 : Int32) rfl (by decide) [(6, .inl (v6 + (-1 : Int32))), (5, .inl (v5 / x18)), (0, .inr (.inr (some this))), (1, .inl v1), (2, .inl v2), (3, .inl v3), (4, .inl v4)] rfl ?_
  refine aw_goto X 47 dX1_oftenIn_104 rfl ?_
  cases h
  refine aw_sub [(0, .inr (.inr (some this))), (1, .inl v1), (2, .inl v2), (3, .inl v3), (4, .inl v4), (5, .inl (v5 / x18)), (6, .inl (v6 + (-1 : Int32)))] [2, 3, 4, 5, 6, 1, 0] rfl ?_
  exact kH ((v5 / x18), (v6 + (-1 : Int32)), s17) rfl
theorem wX1_oftenIn_l47 {C : CT} {d : Nat} {Z : State → Prop} (X : Cx C cX1_oftenIn RX1 (some .long) 7 d) (φ : Nat) (this : Nat) (v1 : Int32) (v2 : Int32) (v3 : Int32) (v4 : Int32) (v5 : Int32) (v6 : Int32) (σ : St) (y : (Int32 × Int32 × St) ⊕ (St)) (h : fX1_oftenIn_l47 φ this v1 v2 v3 v4 v5 v6 σ = some y) (kH : ∀ s : Int32 × Int32 × St, y = .inl s → AW C 47 [(0, .inr (.inr (some this))), (1, .inl v1), (2, .inl v2), (3, .inl v3), (4, .inl v4), (5, .inl s.1), (6, .inl s.2.1)] [] s.2.2 Z) (kE0 : ∀ e : St, y = .inr e → AW C 107 [(0, .inr (.inr (some this))), (1, .inl v1), (2, .inl v2), (3, .inl v3), (4, .inl v4)] [] e Z) : AW C 47 [(0, .inr (.inr (some this))), (1, .inl v1), (2, .inl v2), (3, .inl v3), (4, .inl v4), (5, .inl v5), (6, .inl v6)] [] σ Z := by
  unfold fX1_oftenIn_l47 at h
  refine aw_iload X dX1_oftenIn_47 6 rfl ?_
  refine aw_if_le X 107 dX1_oftenIn_49 rfl (fun c9 => ?_) (fun c9 => ?_)
  · rw [if_pos c9] at h
    cases h
    refine aw_sub [(0, .inr (.inr (some this))), (1, .inl v1), (2, .inl v2), (3, .inl v3), (4, .inl v4)] [0, 1, 2, 3, 4] rfl ?_
    exact kE0 σ rfl
  · rw [if_neg c9] at h
    refine aw_aload_n X dX1_oftenIn_52 0 0 rfl rfl ?_
    obtain ⟨x10, hx10, h⟩ := bind_some h
    refine aw_gfR X fl_X1_103 dX1_oftenIn_53 hx10 ?_
    refine aw_iload X dX1_oftenIn_56 6 rfl ?_
    refine aw_dup2 X dX1_oftenIn_58 rfl rfl ?_
    obtain ⟨x11, hx11, h⟩ := bind_some h
    refine aw_lald X dX1_oftenIn_59 hx11 ?_
    refine aw_aload_n X dX1_oftenIn_60 0 0 rfl rfl ?_
    obtain ⟨x12, hx12, h⟩ := bind_some h
    refine aw_gfR X fl_X1_82 dX1_oftenIn_61 hx12 ?_
    refine aw_iload X dX1_oftenIn_64 4 rfl ?_
    obtain ⟨x13, hx13, h⟩ := bind_some h
    refine aw_iald X dX1_oftenIn_66 hx13 ?_
    refine aw_iload X dX1_oftenIn_67 5 rfl ?_
    refine aw_aload_n X dX1_oftenIn_69 0 0 rfl rfl ?_
    obtain ⟨x14, hx14, h⟩ := bind_some h
    refine aw_gfI X fl_X1_110 dX1_oftenIn_70 hx14 ?_
    obtain ⟨hn15, h⟩ := chk_some h
    refine aw_irem X dX1_oftenIn_73 hn15 ?_
    refine aw_icmp_ne X 89 dX1_oftenIn_74 rfl (fun c16 => ?_) (fun c16 => ?_)
    · rw [if_neg c16] at h
      refine aw_lconst X (0 : Int64) dX1_oftenIn_89 rfl ?_
      exact wX1_oftenIn_b90 X φ this v1 v2 v3 v4 v5 v6 x10 v6 x11 (0 : Int64) σ y h kH kE0
    · rw [if_pos c16] at h
      refine aw_aload_n X dX1_oftenIn_77 0 0 rfl rfl ?_
      obtain ⟨x20, hx20, h⟩ := bind_some h
      refine aw_gfR X fl_X1_103 dX1_oftenIn_78 hx20 ?_
      refine aw_iload X dX1_oftenIn_81 6 rfl ?_
      refine aw_iconst X (1 : Int32) dX1_oftenIn_83 (by decide) ?_
      refine aw_isub X dX1_oftenIn_84 ?_
      obtain ⟨x21, hx21, h⟩ := bind_some h
      refine aw_lald X dX1_oftenIn_85 hx21 ?_
      refine aw_goto X 90 dX1_oftenIn_86 rfl ?_
      exact wX1_oftenIn_b90 X φ this v1 v2 v3 v4 v5 v6 x10 v6 x11 x21 σ y h kH kE0
theorem wX1_oftenIn_l35 {C : CT} {d : Nat} {Z : State → Prop} (X : Cx C cX1_oftenIn RX1 (some .long) 7 d) (φ : Nat) (this : Nat) (v1 : Int32) (v2 : Int32) (v3 : Int32) (v4 : Int32) (σ : St) (y : (Int32 × St) ⊕ (St)) (h : fX1_oftenIn_l35 φ this v1 v2 v3 v4 σ = some y) (kH : ∀ s : Int32 × St, y = .inl s → AW C 35 [(0, .inr (.inr (some this))), (1, .inl v1), (2, .inl v2), (3, .inl v3), (4, .inl s.1)] [] s.2 Z) (kE0 : ∀ e : St, y = .inr e → AW C 113 [(0, .inr (.inr (some this))), (3, .inl v3)] [] e Z) : AW C 35 [(0, .inr (.inr (some this))), (1, .inl v1), (2, .inl v2), (3, .inl v3), (4, .inl v4)] [] σ Z := by
  unfold fX1_oftenIn_l35 at h
  refine aw_iload X dX1_oftenIn_35 4 rfl ?_
  refine aw_iload_n X dX1_oftenIn_37 1 1 rfl rfl ?_
  refine aw_icmp_ge X 113 dX1_oftenIn_38 rfl (fun c8 => ?_) (fun c8 => ?_)
  · rw [if_pos c8] at h
    cases h
    refine aw_sub [(0, .inr (.inr (some this))), (3, .inl v3)] [0, 3] rfl ?_
    exact kE0 σ rfl
  · rw [if_neg c8] at h
    refine aw_iload_n X dX1_oftenIn_41 2 2 rfl rfl ?_
    refine aw_istore X dX1_oftenIn_42 (by decide) [(5, .inl v2), (0, .inr (.inr (some this))), (1, .inl v1), (2, .inl v2), (3, .inl v3), (4, .inl v4)] rfl ?_
    refine aw_iload_n X dX1_oftenIn_44 4 3 rfl rfl ?_
    refine aw_istore X dX1_oftenIn_45 (by decide) [(6, .inl v3), (5, .inl v2), (0, .inr (.inr (some this))), (1, .inl v1), (2, .inl v2), (3, .inl v3), (4, .inl v4)] rfl ?_
    obtain ⟨e22, h23, h⟩ := bind_some h
    refine aw_sub [(0, .inr (.inr (some this))), (1, .inl v1), (2, .inl v2), (3, .inl v3), (4, .inl v4), (5, .inl v2), (6, .inl v3)] [2, 3, 4, 5, 6, 1, 0] rfl ?_
    refine aw_it (fun s => AW C 47 [(0, .inr (.inr (some this))), (1, .inl v1), (2, .inl v2), (3, .inl v3), (4, .inl v4), (5, .inl s.1), (6, .inl s.2.1)] [] s.2.2 Z) (fun e => AW C 107 [(0, .inr (.inr (some this))), (1, .inl v1), (2, .inl v2), (3, .inl v3), (4, .inl v4)] [] e Z) (fun s r hr kH kE => wX1_oftenIn_l47 X φ this v1 v2 v3 v4 s.1 s.2.1 s.2.2 r hr kH kE) φ _ e22 h23 ?_
    refine aw_iinc X dX1_oftenIn_107 4 rfl (1 : Int32) rfl (by decide) [(4, .inl (v4 + (1 : Int32))), (0, .inr (.inr (some this))), (1, .inl v1), (2, .inl v2), (3, .inl v3)] rfl ?_
    refine aw_goto X 35 dX1_oftenIn_110 rfl ?_
    cases h
    refine aw_sub [(0, .inr (.inr (some this))), (1, .inl v1), (2, .inl v2), (3, .inl v3), (4, .inl (v4 + (1 : Int32)))] [1, 2, 3, 4, 0] rfl ?_
    exact kH ((v4 + (1 : Int32)), e22) rfl
theorem wX1_oftenIn {C : CT} {d : Nat} (X : Cx C cX1_oftenIn RX1 (some .long) 7 d) (φ : Nat) (this : Nat) (v1 : Int32) (v2 : Int32) (v3 : Int32) (σ : St) (y : Int64 × St) (h : fX1_oftenIn φ this v1 v2 v3 σ = some y) : AW C 0 [(0, .inr (.inr (some this))), (1, .inl v1), (2, .inl v2), (3, .inl v3)] [] σ (AQ C (some (.inr (.inl y.1))) y.2) := by
  unfold fX1_oftenIn at h
  refine aw_iconst X (0 : Int32) dX1_oftenIn_0 (by decide) ?_
  refine aw_istore X dX1_oftenIn_1 (by decide) [(4, .inl (0 : Int32)), (0, .inr (.inr (some this))), (1, .inl v1), (2, .inl v2), (3, .inl v3)] rfl ?_
  obtain ⟨e6, h7, h⟩ := bind_some h
  refine aw_sub [(0, .inr (.inr (some this))), (1, .inl v1), (2, .inl v2), (3, .inl v3), (4, .inl (0 : Int32))] [1, 2, 3, 4, 0] rfl ?_
  refine aw_it (fun s => AW C 3 [(0, .inr (.inr (some this))), (1, .inl v1), (2, .inl v2), (3, .inl v3), (4, .inl s.1)] [] s.2 (AQ C (some (.inr (.inl y.1))) y.2)) (fun e => AW C 32 [(0, .inr (.inr (some this))), (1, .inl v1), (2, .inl v2), (3, .inl v3)] [] e (AQ C (some (.inr (.inl y.1))) y.2)) (fun s r hr kH kE => wX1_oftenIn_l3 X φ this v1 v2 v3 s.1 s.2 r hr kH kE) φ _ e6 h7 ?_
  refine aw_iconst X (0 : Int32) dX1_oftenIn_32 (by decide) ?_
  refine aw_istore X dX1_oftenIn_33 (by decide) [(4, .inl (0 : Int32)), (0, .inr (.inr (some this))), (1, .inl v1), (2, .inl v2), (3, .inl v3)] rfl ?_
  obtain ⟨e24, h25, h⟩ := bind_some h
  refine aw_sub [(0, .inr (.inr (some this))), (1, .inl v1), (2, .inl v2), (3, .inl v3), (4, .inl (0 : Int32))] [1, 2, 3, 4, 0] rfl ?_
  refine aw_it (fun s => AW C 35 [(0, .inr (.inr (some this))), (1, .inl v1), (2, .inl v2), (3, .inl v3), (4, .inl s.1)] [] s.2 (AQ C (some (.inr (.inl y.1))) y.2)) (fun e => AW C 113 [(0, .inr (.inr (some this))), (3, .inl v3)] [] e (AQ C (some (.inr (.inl y.1))) y.2)) (fun s r hr kH kE => wX1_oftenIn_l35 X φ this v1 v2 v3 s.1 s.2 r hr kH kE) φ _ e24 h25 ?_
  refine aw_aload_n X dX1_oftenIn_113 0 0 rfl rfl ?_
  obtain ⟨x26, hx26, h⟩ := bind_some h
  refine aw_gfR X fl_X1_103 dX1_oftenIn_114 hx26 ?_
  refine aw_iload_n X dX1_oftenIn_117 1 3 rfl rfl ?_
  obtain ⟨x27, hx27, h⟩ := bind_some h
  refine aw_lald X dX1_oftenIn_118 hx27 ?_
  cases h
  exact aw_lret X dX1_oftenIn_119
theorem AX1_oftenIn {E : AE} {l : Launch} (hE : EOK E l) (φ d : Nat) (this : Nat) (v1 : Int32) (v2 : Int32) (v3 : Int32) (σ : St) (y : Int64 × St) (h : fX1_oftenIn φ this v1 v2 v3 σ = some y) : AMet E l yX1_oftenIn (ws_ yX1_oftenIn cX1_oftenIn 7 (some .long)) d [.inr (.inr (some this)), .inl v1, .inl v2, .inl v3] σ (some (.inr (.inl y.1))) y.2 := by
  refine amet_of hE (by decide +kernel) (Nat.le_of_ble_eq_true rfl) fun C e1 e2 X XI => ?_
  subst e1
  exact wX1_oftenIn X φ this v1 v2 v3 σ y h
theorem wX1_layOtherBy_l7 {C : CT} {d : Nat} {Z : State → Prop} (X : Cx C cX1_layOtherBy RX1 none 5 d) (φ : Nat) (this : Nat) (v3 : Int32) (v4 : Int32) (σ : St) (y : (Int32 × Int32 × St) ⊕ (St)) (h : fX1_layOtherBy_l7 φ this v3 v4 σ = some y) (kH : ∀ s : Int32 × Int32 × St, y = .inl s → AW C 7 [(0, .inr (.inr (some this))), (3, .inl s.1), (4, .inl s.2.1)] [] s.2.2 Z) (kE0 : ∀ e : St, y = .inr e → AW C 38 [] [] e Z) : AW C 7 [(0, .inr (.inr (some this))), (3, .inl v3), (4, .inl v4)] [] σ Z := by
  unfold fX1_layOtherBy_l7 at h
  refine aw_iload X dX1_layOtherBy_7 2 rfl ?_
  refine aw_if_lt X 38 dX1_layOtherBy_9 rfl (fun c1 => ?_) (fun c1 => ?_)
  · rw [if_pos c1] at h
    cases h
    refine aw_sub [] [] rfl ?_
    exact kE0 σ rfl
  · rw [if_neg c1] at h
    refine aw_aload_n X dX1_layOtherBy_12 0 0 rfl rfl ?_
    obtain ⟨x2, hx2, h⟩ := bind_some h
    refine aw_gfR X fl_X1_82 dX1_layOtherBy_13 hx2 ?_
    refine aw_iload X dX1_layOtherBy_16 2 rfl ?_
    refine aw_iload_n X dX1_layOtherBy_18 1 3 rfl rfl ?_
    refine aw_aload_n X dX1_layOtherBy_19 0 0 rfl rfl ?_
    obtain ⟨x3, hx3, h⟩ := bind_some h
    refine aw_gfI X fl_X1_110 dX1_layOtherBy_20 hx3 ?_
    obtain ⟨hn4, h⟩ := chk_some h
    refine aw_irem X dX1_layOtherBy_23 hn4 ?_
    obtain ⟨s5, hs5, h⟩ := bind_some h
    refine aw_iast X dX1_layOtherBy_24 hs5 ?_
    refine aw_iload_n X dX1_layOtherBy_25 1 3 rfl rfl ?_
    refine aw_aload_n X dX1_layOtherBy_26 0 0 rfl rfl ?_
    obtain ⟨x6, hx6, h⟩ := bind_some h
    refine aw_gfI X fl_X1_110 dX1_layOtherBy_27 hx6 ?_
    obtain ⟨hn7, h⟩ := chk_some h
    refine aw_idiv X dX1_layOtherBy_30 hn7 ?_
    refine aw_istore_n X dX1_layOtherBy_31 3 rfl (by decide) [(3, .inl (v3 / x6)), (0, .inr (.inr (some this))), (4, .inl v4)] rfl ?_
    refine aw_iinc X dX1_layOtherBy_32 2 rfl (-1 : Int32) rfl (by decide) [(4, .inl (v4 + (-1 : Int32))), (3, .inl (v3 / x6)), (0, .inr (.inr (some this)))] rfl ?_
    refine aw_goto X 7 dX1_layOtherBy_35 rfl ?_
    cases h
    refine aw_sub [(0, .inr (.inr (some this))), (3, .inl (v3 / x6)), (4, .inl (v4 + (-1 : Int32)))] [2, 1, 0] rfl ?_
    exact kH ((v3 / x6), (v4 + (-1 : Int32)), s5) rfl
theorem wX1_layOtherBy {C : CT} {d : Nat} (X : Cx C cX1_layOtherBy RX1 none 5 d) (φ : Nat) (this : Nat) (v1 : Int32) (v2 : Int32) (σ : St) (y : St) (h : fX1_layOtherBy φ this v1 v2 σ = some y) : AW C 0 [(0, .inr (.inr (some this))), (1, .inl v1), (2, .inl v2)] [] σ (AQ C none y) := by
  unfold fX1_layOtherBy at h
  refine aw_iload_n X dX1_layOtherBy_0 1 1 rfl rfl ?_
  refine aw_istore_n X dX1_layOtherBy_1 3 rfl (by decide) [(3, .inl v1), (0, .inr (.inr (some this))), (1, .inl v1), (2, .inl v2)] rfl ?_
  refine aw_iload_n X dX1_layOtherBy_2 3 2 rfl rfl ?_
  refine aw_iconst X (1 : Int32) dX1_layOtherBy_3 (by decide) ?_
  refine aw_isub X dX1_layOtherBy_4 ?_
  refine aw_istore X dX1_layOtherBy_5 (by decide) [(4, .inl (v2 - (1 : Int32))), (3, .inl v1), (0, .inr (.inr (some this))), (1, .inl v1), (2, .inl v2)] rfl ?_
  obtain ⟨e8, h9, h⟩ := bind_some h
  refine aw_sub [(0, .inr (.inr (some this))), (3, .inl v1), (4, .inl (v2 - (1 : Int32)))] [2, 1, 0] rfl ?_
  refine aw_it (fun s => AW C 7 [(0, .inr (.inr (some this))), (3, .inl s.1), (4, .inl s.2.1)] [] s.2.2 (AQ C none y)) (fun e => AW C 38 [] [] e (AQ C none y)) (fun s r hr kH kE => wX1_layOtherBy_l7 X φ this s.1 s.2.1 s.2.2 r hr kH kE) φ _ e8 h9 ?_
  cases h
  exact aw_vret X dX1_layOtherBy_38
theorem AX1_layOtherBy {E : AE} {l : Launch} (hE : EOK E l) (φ d : Nat) (this : Nat) (v1 : Int32) (v2 : Int32) (σ : St) (y : St) (h : fX1_layOtherBy φ this v1 v2 σ = some y) : AMet E l yX1_layOtherBy (ws_ yX1_layOtherBy cX1_layOtherBy 5 none) d [.inr (.inr (some this)), .inl v1, .inl v2] σ none y := by
  refine amet_of hE (by decide +kernel) (Nat.le_of_ble_eq_true rfl) fun C e1 e2 X XI => ?_
  subst e1
  exact wX1_layOtherBy X φ this v1 v2 σ y h
theorem wX1_isTwin_l6 {C : CT} {d : Nat} {Z : State → Prop} (X : Cx C cX1_isTwin RX1 (some .boolean) 6 (d + 1)) (φ : Nat) (this : Nat) (v1 : Int32) (v2 : Int32) (v3 : Int32) (v4 : Int32) (v5 : Int32) (σ : St) (y : (Int32 × Int32 × St) ⊕ (Int32 × St)) (h : fX1_isTwin_l6 φ this v1 v2 v3 v4 v5 σ = some y) (kH : ∀ s : Int32 × Int32 × St, y = .inl s → AW C 6 [(0, .inr (.inr (some this))), (1, .inl v1), (2, .inl v2), (3, .inl v3), (4, .inl s.1), (5, .inl s.2.1)] [] s.2.2 Z) (kE0 : ∀ e : Int32 × St, y = .inr e → AW C 49 [(4, .inl e.1)] [] e.2 Z) : AW C 6 [(0, .inr (.inr (some this))), (1, .inl v1), (2, .inl v2), (3, .inl v3), (4, .inl v4), (5, .inl v5)] [] σ Z := by
  unfold fX1_isTwin_l6 at h
  refine aw_iload X dX1_isTwin_6 5 rfl ?_
  refine aw_iload_n X dX1_isTwin_8 3 3 rfl rfl ?_
  refine aw_icmp_ge X 49 dX1_isTwin_9 rfl (fun c1 => ?_) (fun c1 => ?_)
  · rw [if_pos c1] at h
    cases h
    refine aw_sub [(4, .inl v4)] [4] rfl ?_
    exact kE0 (v4, σ) rfl
  · rw [if_neg c1] at h
    refine aw_iload X dX1_isTwin_12 4 rfl ?_
    refine aw_if_eq X 49 dX1_isTwin_14 rfl (fun c2 => ?_) (fun c2 => ?_)
    · rw [if_pos c2] at h
      cases h
      refine aw_sub [(4, .inl v4)] [4] rfl ?_
      exact kE0 (v4, σ) rfl
    · rw [if_neg c2] at h
      refine aw_aload_n X dX1_isTwin_17 0 0 rfl rfl ?_
      refine aw_iload_n X dX1_isTwin_18 1 1 rfl rfl ?_
      refine aw_iload X dX1_isTwin_19 5 rfl ?_
      refine aw_iload_n X dX1_isTwin_21 2 2 rfl rfl ?_
      obtain ⟨y3, hy3, h⟩ := bind_some h
      refine aw_cV X (st := []) hy3 [.inl v1, .inl v5, .inl v2] rfl rfl ml_X1_292 (fun o h => AX1_oftenIn (Cx.ok X) φ d _ _ _ _ _ _ h) dX1_isTwin_22 (Nat.le_of_ble_eq_true rfl) ?_
      refine aw_aload_n X dX1_isTwin_25 0 0 rfl rfl ?_
      obtain ⟨x4, hx4, h⟩ := bind_some h
      refine aw_gfR X fl_X1_97 dX1_isTwin_26 hx4 ?_
      refine aw_iload X dX1_isTwin_29 5 rfl ?_
      obtain ⟨x5, hx5, h⟩ := bind_some h
      refine aw_lald X dX1_isTwin_31 hx5 ?_
      refine aw_lcmp_ne X 40 dX1_isTwin_32 dX1_isTwin_33 rfl (fun c6 => ?_) (fun c6 => ?_)
      · rw [if_neg c6] at h
        refine aw_iconst X (0 : Int32) dX1_isTwin_40 (by decide) ?_
        refine aw_istore X dX1_isTwin_41 (by decide) [(4, .inl (0 : Int32)), (0, .inr (.inr (some this))), (1, .inl v1), (2, .inl v2), (3, .inl v3), (5, .inl v5)] rfl ?_
        refine aw_iinc X dX1_isTwin_43 5 rfl (1 : Int32) rfl (by decide) [(5, .inl (v5 + (1 : Int32))), (4, .inl (0 : Int32)), (0, .inr (.inr (some this))), (1, .inl v1), (2, .inl v2), (3, .inl v3)] rfl ?_
        refine aw_goto X 6 dX1_isTwin_46 rfl ?_
        cases h
        refine aw_sub [(0, .inr (.inr (some this))), (1, .inl v1), (2, .inl v2), (3, .inl v3), (4, .inl (0 : Int32)), (5, .inl (v5 + (1 : Int32)))] [2, 3, 4, 5, 1, 0] rfl ?_
        exact kH ((0 : Int32), (v5 + (1 : Int32)), y3.2) rfl
      · rw [if_pos c6] at h
        refine aw_iconst X (1 : Int32) dX1_isTwin_36 (by decide) ?_
        refine aw_goto X 41 dX1_isTwin_37 rfl ?_
        refine aw_istore X dX1_isTwin_41 (by decide) [(4, .inl (1 : Int32)), (0, .inr (.inr (some this))), (1, .inl v1), (2, .inl v2), (3, .inl v3), (5, .inl v5)] rfl ?_
        refine aw_iinc X dX1_isTwin_43 5 rfl (1 : Int32) rfl (by decide) [(5, .inl (v5 + (1 : Int32))), (4, .inl (1 : Int32)), (0, .inr (.inr (some this))), (1, .inl v1), (2, .inl v2), (3, .inl v3)] rfl ?_
        refine aw_goto X 6 dX1_isTwin_46 rfl ?_
        cases h
        refine aw_sub [(0, .inr (.inr (some this))), (1, .inl v1), (2, .inl v2), (3, .inl v3), (4, .inl (1 : Int32)), (5, .inl (v5 + (1 : Int32)))] [2, 3, 4, 5, 1, 0] rfl ?_
        exact kH ((1 : Int32), (v5 + (1 : Int32)), y3.2) rfl
theorem wX1_isTwin {C : CT} {d : Nat} (X : Cx C cX1_isTwin RX1 (some .boolean) 6 (d + 1)) (φ : Nat) (this : Nat) (v1 : Int32) (v2 : Int32) (v3 : Int32) (σ : St) (y : Int32 × St) (h : fX1_isTwin φ this v1 v2 v3 σ = some y) : AW C 0 [(0, .inr (.inr (some this))), (1, .inl v1), (2, .inl v2), (3, .inl v3)] [] σ (AQ C (some (.inl y.1)) y.2) := by
  unfold fX1_isTwin at h
  refine aw_iconst X (1 : Int32) dX1_isTwin_0 (by decide) ?_
  refine aw_istore X dX1_isTwin_1 (by decide) [(4, .inl (1 : Int32)), (0, .inr (.inr (some this))), (1, .inl v1), (2, .inl v2), (3, .inl v3)] rfl ?_
  refine aw_iconst X (0 : Int32) dX1_isTwin_3 (by decide) ?_
  refine aw_istore X dX1_isTwin_4 (by decide) [(5, .inl (0 : Int32)), (4, .inl (1 : Int32)), (0, .inr (.inr (some this))), (1, .inl v1), (2, .inl v2), (3, .inl v3)] rfl ?_
  obtain ⟨e7, h8, h⟩ := bind_some h
  refine aw_sub [(0, .inr (.inr (some this))), (1, .inl v1), (2, .inl v2), (3, .inl v3), (4, .inl (1 : Int32)), (5, .inl (0 : Int32))] [2, 3, 4, 5, 1, 0] rfl ?_
  refine aw_it (fun s => AW C 6 [(0, .inr (.inr (some this))), (1, .inl v1), (2, .inl v2), (3, .inl v3), (4, .inl s.1), (5, .inl s.2.1)] [] s.2.2 (AQ C (some (.inl y.1)) y.2)) (fun e => AW C 49 [(4, .inl e.1)] [] e.2 (AQ C (some (.inl y.1)) y.2)) (fun s r hr kH kE => wX1_isTwin_l6 X φ this v1 v2 v3 s.1 s.2.1 s.2.2 r hr kH kE) φ _ e7 h8 ?_
  refine aw_iload X dX1_isTwin_49 0 rfl ?_
  obtain ⟨hz9, h⟩ := chk_some h
  cases h
  exact aw_zret X hz9 dX1_isTwin_51
theorem AX1_isTwin {E : AE} {l : Launch} (hE : EOK E l) (φ d : Nat) (this : Nat) (v1 : Int32) (v2 : Int32) (v3 : Int32) (σ : St) (y : Int32 × St) (h : fX1_isTwin φ this v1 v2 v3 σ = some y) : AMet E l yX1_isTwin (ws_ yX1_isTwin cX1_isTwin 6 (some .boolean)) (d + 1) [.inr (.inr (some this)), .inl v1, .inl v2, .inl v3] σ (some (.inl y.1)) y.2 := by
  refine amet_of hE (by decide +kernel) (Nat.le_of_ble_eq_true rfl) fun C e1 e2 X XI => ?_
  subst e1
  exact wX1_isTwin X φ this v1 v2 v3 σ y h
theorem wX1_twins_l50 {C : CT} {d : Nat} {Z : State → Prop} (X : Cx C cX1_twins RX1 (some .int) 12 (d + 3)) (φ : Nat) (this : Nat) (v1 : Int32) (v2 : Int32) (v3 : Int32) (v5 : Int32) (σ : St) (v6 : Int64) (v8 : Int32) (y : (Int64 × Int32) ⊕ (Int64)) (h : fX1_twins_l50 φ this v1 v2 v3 v5 σ v6 v8 = some y) (kH : ∀ s : Int64 × Int32, y = .inl s → AW C 50 [(0, .inr (.inr (some this))), (1, .inl v1), (2, .inl v2), (3, .inl v3), (5, .inl v5), (6, .inr (.inl s.1)), (8, .inl s.2)] [] σ Z) (kE0 : ∀ e : Int64, y = .inr e → AW C 82 [(0, .inr (.inr (some this))), (1, .inl v1), (2, .inl v2), (3, .inl v3), (5, .inl v5), (6, .inr (.inl e))] [] σ Z) : AW C 50 [(0, .inr (.inr (some this))), (1, .inl v1), (2, .inl v2), (3, .inl v3), (5, .inl v5), (6, .inr (.inl v6)), (8, .inl v8)] [] σ Z := by
  unfold fX1_twins_l50 at h
  refine aw_iload X dX1_twins_50 6 rfl ?_
  refine aw_iload X dX1_twins_52 4 rfl ?_
  refine aw_icmp_ge X 82 dX1_twins_54 rfl (fun c7 => ?_) (fun c7 => ?_)
  · rw [if_pos c7] at h
    cases h
    refine aw_sub [(0, .inr (.inr (some this))), (1, .inl v1), (2, .inl v2), (3, .inl v3), (5, .inl v5), (6, .inr (.inl v6))] [0, 1, 2, 3, 4, 5] rfl ?_
    exact kE0 v6 rfl
  · rw [if_neg c7] at h
    refine aw_lload X dX1_twins_57 5 rfl ?_
    refine aw_ldc2 X q1348 dX1_twins_59 ?_
    refine aw_lcmp_gt X 82 dX1_twins_62 dX1_twins_63 rfl (fun c8 => ?_) (fun c8 => ?_)
    · rw [if_pos c8] at h
      cases h
      refine aw_sub [(0, .inr (.inr (some this))), (1, .inl v1), (2, .inl v2), (3, .inl v3), (5, .inl v5), (6, .inr (.inl v6))] [0, 1, 2, 3, 4, 5] rfl ?_
      exact kE0 v6 rfl
    · rw [if_neg c8] at h
      refine aw_lload X dX1_twins_66 5 rfl ?_
      refine aw_aload_n X dX1_twins_68 0 0 rfl rfl ?_
      obtain ⟨x9, hx9, h⟩ := bind_some h
      refine aw_gfI X fl_X1_110 dX1_twins_69 hx9 ?_
      refine aw_i2l X dX1_twins_72 ?_
      refine aw_lmul X dX1_twins_73 ?_
      refine aw_lstore X dX1_twins_74 (by decide) [(6, .inr (.inl (v6 * (x9.toInt64)))), (0, .inr (.inr (some this))), (1, .inl v1), (2, .inl v2), (3, .inl v3), (5, .inl v5), (8, .inl v8)] rfl ?_
      refine aw_iinc X dX1_twins_76 6 rfl (1 : Int32) rfl (by decide) [(8, .inl (v8 + (1 : Int32))), (6, .inr (.inl (v6 * (x9.toInt64)))), (0, .inr (.inr (some this))), (1, .inl v1), (2, .inl v2), (3, .inl v3), (5, .inl v5)] rfl ?_
      refine aw_goto X 50 dX1_twins_79 rfl ?_
      cases h
      refine aw_sub [(0, .inr (.inr (some this))), (1, .inl v1), (2, .inl v2), (3, .inl v3), (5, .inl v5), (6, .inr (.inl (v6 * (x9.toInt64)))), (8, .inl (v8 + (1 : Int32)))] [2, 3, 4, 5, 6, 1, 0] rfl ?_
      exact kH ((v6 * (x9.toInt64)), (v8 + (1 : Int32))) rfl
theorem wX1_twins_l114 {C : CT} {d : Nat} {Z : State → Prop} (X : Cx C cX1_twins RX1 (some .int) 12 (d + 3)) (φ : Nat) (this : Nat) (v2 : Int32) (v3 : Int32) (v5 : Int32) (v6 : Int64) (v8 : Int32) (v9 : Int32) (σ : St) (y : (Int32 × St) ⊕ (St)) (h : fX1_twins_l114 φ this v2 v3 v5 v6 v8 v9 σ = some y) (kH : ∀ s : Int32 × St, y = .inl s → AW C 114 [(0, .inr (.inr (some this))), (2, .inl v2), (3, .inl v3), (5, .inl v5), (6, .inr (.inl v6)), (8, .inl v8), (9, .inl s.1)] [] s.2 Z) (kE0 : ∀ e : St, y = .inr e → AW C 143 [(0, .inr (.inr (some this))), (2, .inl v2), (3, .inl v3), (5, .inl v5), (6, .inr (.inl v6)), (8, .inl v8)] [] e Z) : AW C 114 [(0, .inr (.inr (some this))), (2, .inl v2), (3, .inl v3), (5, .inl v5), (6, .inr (.inl v6)), (8, .inl v8), (9, .inl v9)] [] σ Z := by
  unfold fX1_twins_l114 at h
  refine aw_iload X dX1_twins_114 6 rfl ?_
  refine aw_iload X dX1_twins_116 5 rfl ?_
  refine aw_icmp_ge X 143 dX1_twins_118 rfl (fun c16 => ?_) (fun c16 => ?_)
  · rw [if_pos c16] at h
    cases h
    refine aw_sub [(0, .inr (.inr (some this))), (2, .inl v2), (3, .inl v3), (5, .inl v5), (6, .inr (.inl v6)), (8, .inl v8)] [0, 1, 2, 3, 4, 5] rfl ?_
    exact kE0 σ rfl
  · rw [if_neg c16] at h
    refine aw_aload_n X dX1_twins_121 0 0 rfl rfl ?_
    obtain ⟨x17, hx17, h⟩ := bind_some h
    refine aw_gfR X fl_X1_97 dX1_twins_122 hx17 ?_
    refine aw_iload X dX1_twins_125 6 rfl ?_
    refine aw_aload_n X dX1_twins_127 0 0 rfl rfl ?_
    refine aw_iload X dX1_twins_128 3 rfl ?_
    refine aw_iload X dX1_twins_130 6 rfl ?_
    refine aw_iload_n X dX1_twins_132 1 2 rfl rfl ?_
    obtain ⟨y18, hy18, h⟩ := bind_some h
    refine aw_cV X (st := [.inl v9, .inr (.inr x17)]) hy18 [.inl v5, .inl v9, .inl v2] rfl rfl ml_X1_292 (fun o h => AX1_oftenIn (Cx.ok X) φ (d + 2) _ _ _ _ _ _ h) dX1_twins_133 (Nat.le_of_ble_eq_true rfl) ?_
    obtain ⟨s19, hs19, h⟩ := bind_some h
    refine aw_last X dX1_twins_136 hs19 ?_
    refine aw_iinc X dX1_twins_137 6 rfl (1 : Int32) rfl (by decide) [(9, .inl (v9 + (1 : Int32))), (0, .inr (.inr (some this))), (2, .inl v2), (3, .inl v3), (5, .inl v5), (6, .inr (.inl v6)), (8, .inl v8)] rfl ?_
    refine aw_goto X 114 dX1_twins_140 rfl ?_
    cases h
    refine aw_sub [(0, .inr (.inr (some this))), (2, .inl v2), (3, .inl v3), (5, .inl v5), (6, .inr (.inl v6)), (8, .inl v8), (9, .inl (v9 + (1 : Int32)))] [1, 2, 3, 4, 5, 6, 0] rfl ?_
    exact kH ((v9 + (1 : Int32)), s19) rfl
theorem wX1_twins_l187 {C : CT} {d : Nat} {Z : State → Prop} (X : Cx C cX1_twins RX1 (some .int) 12 (d + 3)) (φ : Nat) (this : Nat) (v2 : Int32) (v3 : Int32) (v5 : Int32) (v6 : Int64) (v8 : Int32) (v9 : Int32) (v10 : Int32) (v11 : Int32) (σ : St) (y : (Int32 × St) ⊕ (St)) (h : fX1_twins_l187 φ this v2 v3 v5 v6 v8 v9 v10 v11 σ = some y) (kH : ∀ s : Int32 × St, y = .inl s → AW C 187 [(0, .inr (.inr (some this))), (2, .inl v2), (3, .inl v3), (5, .inl v5), (6, .inr (.inl v6)), (8, .inl v8), (9, .inl v9), (10, .inl v10), (11, .inl s.1)] [] s.2 Z) (kE0 : ∀ e : St, y = .inr e → AW C 219 [(0, .inr (.inr (some this))), (2, .inl v2), (3, .inl v3), (5, .inl v5), (6, .inr (.inl v6)), (8, .inl v8), (9, .inl v9), (10, .inl v10)] [] e Z) : AW C 187 [(0, .inr (.inr (some this))), (2, .inl v2), (3, .inl v3), (5, .inl v5), (6, .inr (.inl v6)), (8, .inl v8), (9, .inl v9), (10, .inl v10), (11, .inl v11)] [] σ Z := by
  unfold fX1_twins_l187 at h
  refine aw_iload X dX1_twins_187 8 rfl ?_
  refine aw_iload X dX1_twins_189 3 rfl ?_
  refine aw_icmp_ge X 219 dX1_twins_191 rfl (fun c27 => ?_) (fun c27 => ?_)
  · rw [if_pos c27] at h
    cases h
    refine aw_sub [(0, .inr (.inr (some this))), (2, .inl v2), (3, .inl v3), (5, .inl v5), (6, .inr (.inl v6)), (8, .inl v8), (9, .inl v9), (10, .inl v10)] [0, 1, 2, 3, 4, 5, 6, 7] rfl ?_
    exact kE0 σ rfl
  · rw [if_neg c27] at h
    refine aw_iload X dX1_twins_194 6 rfl ?_
    refine aw_if_ne X 219 dX1_twins_196 rfl (fun c28 => ?_) (fun c28 => ?_)
    · rw [if_neg c28] at h
      cases h
      refine aw_sub [(0, .inr (.inr (some this))), (2, .inl v2), (3, .inl v3), (5, .inl v5), (6, .inr (.inl v6)), (8, .inl v8), (9, .inl v9), (10, .inl v10)] [0, 1, 2, 3, 4, 5, 6, 7] rfl ?_
      exact kE0 σ rfl
    · rw [if_pos c28] at h
      refine aw_aload_n X dX1_twins_199 0 0 rfl rfl ?_
      obtain ⟨x29, hx29, h⟩ := bind_some h
      refine aw_gfR X fl_X1_44 dX1_twins_200 hx29 ?_
      refine aw_iload X dX1_twins_203 8 rfl ?_
      refine aw_aload_n X dX1_twins_205 0 0 rfl rfl ?_
      obtain ⟨x30, hx30, h⟩ := bind_some h
      refine aw_gfR X fl_X1_82 dX1_twins_206 hx30 ?_
      refine aw_iload X dX1_twins_209 8 rfl ?_
      obtain ⟨x31, hx31, h⟩ := bind_some h
      refine aw_iald X dX1_twins_211 hx31 ?_
      obtain ⟨s32, hs32, h⟩ := bind_some h
      refine aw_iast X dX1_twins_212 hs32 ?_
      refine aw_iinc X dX1_twins_213 8 rfl (1 : Int32) rfl (by decide) [(11, .inl (v11 + (1 : Int32))), (0, .inr (.inr (some this))), (2, .inl v2), (3, .inl v3), (5, .inl v5), (6, .inr (.inl v6)), (8, .inl v8), (9, .inl v9), (10, .inl v10)] rfl ?_
      refine aw_goto X 187 dX1_twins_216 rfl ?_
      cases h
      refine aw_sub [(0, .inr (.inr (some this))), (2, .inl v2), (3, .inl v3), (5, .inl v5), (6, .inr (.inl v6)), (8, .inl v8), (9, .inl v9), (10, .inl v10), (11, .inl (v11 + (1 : Int32)))] [1, 2, 3, 4, 5, 6, 7, 8, 0] rfl ?_
      exact kH ((v11 + (1 : Int32)), s32) rfl
theorem wX1_twins_l149 {C : CT} {d : Nat} {Z : State → Prop} (X : Cx C cX1_twins RX1 (some .int) 12 (d + 3)) (φ : Nat) (this : Nat) (v2 : Int32) (v3 : Int32) (v5 : Int32) (v6 : Int64) (v8 : Int32) (v9 : Int32) (v10 : Int32) (σ : St) (y : (Int32 × Int32 × St) ⊕ (Int32 × St)) (h : fX1_twins_l149 φ this v2 v3 v5 v6 v8 v9 v10 σ = some y) (kH : ∀ s : Int32 × Int32 × St, y = .inl s → AW C 149 [(0, .inr (.inr (some this))), (2, .inl v2), (3, .inl v3), (5, .inl v5), (6, .inr (.inl v6)), (8, .inl v8), (9, .inl s.1), (10, .inl s.2.1)] [] s.2.2 Z) (kE0 : ∀ e : Int32 × St, y = .inr e → AW C 228 [(0, .inr (.inr (some this))), (3, .inl v3), (5, .inl v5), (9, .inl e.1)] [] e.2 Z) : AW C 149 [(0, .inr (.inr (some this))), (2, .inl v2), (3, .inl v3), (5, .inl v5), (6, .inr (.inl v6)), (8, .inl v8), (9, .inl v9), (10, .inl v10)] [] σ Z := by
  unfold fX1_twins_l149 at h
  refine aw_iload X dX1_twins_149 7 rfl ?_
  refine aw_i2l X dX1_twins_151 ?_
  refine aw_lload X dX1_twins_152 4 rfl ?_
  refine aw_lcmp_ge X 228 dX1_twins_154 dX1_twins_155 rfl (fun c22 => ?_) (fun c22 => ?_)
  · rw [if_pos c22] at h
    cases h
    refine aw_sub [(0, .inr (.inr (some this))), (3, .inl v3), (5, .inl v5), (9, .inl v9)] [0, 2, 3, 6] rfl ?_
    exact kE0 (v9, σ) rfl
  · rw [if_neg c22] at h
    refine aw_aload_n X dX1_twins_158 0 0 rfl rfl ?_
    refine aw_iload X dX1_twins_159 7 rfl ?_
    refine aw_iload X dX1_twins_161 3 rfl ?_
    obtain ⟨y23, hy23, h⟩ := bind_some h
    refine aw_cV X (st := []) hy23 [.inl v10, .inl v5] rfl rfl ml_X1_298 (fun o h => AX1_layOtherBy (Cx.ok X) φ (d + 2) _ _ _ _ _ h) dX1_twins_163 (Nat.le_of_ble_eq_true rfl) ?_
    refine aw_aload_n X dX1_twins_166 0 0 rfl rfl ?_
    refine aw_iload X dX1_twins_167 3 rfl ?_
    refine aw_iload_n X dX1_twins_169 1 2 rfl rfl ?_
    refine aw_iload X dX1_twins_170 5 rfl ?_
    obtain ⟨y24, hy24, h⟩ := bind_some h
    refine aw_cV X (st := []) hy24 [.inl v5, .inl v2, .inl v8] rfl rfl ml_X1_301 (fun o h => AX1_isTwin (Cx.ok X) φ (d + 1) _ _ _ _ _ _ h) dX1_twins_172 (Nat.le_of_ble_eq_true rfl) ?_
    refine aw_if_eq X 222 dX1_twins_175 rfl (fun c25 => ?_) (fun c25 => ?_)
    · rw [if_pos c25] at h
      refine aw_iinc X dX1_twins_222 7 rfl (1 : Int32) rfl (by decide) [(10, .inl (v10 + (1 : Int32))), (0, .inr (.inr (some this))), (2, .inl v2), (3, .inl v3), (5, .inl v5), (6, .inr (.inl v6)), (8, .inl v8), (9, .inl v9)] rfl ?_
      refine aw_goto X 149 dX1_twins_225 rfl ?_
      cases h
      refine aw_sub [(0, .inr (.inr (some this))), (2, .inl v2), (3, .inl v3), (5, .inl v5), (6, .inr (.inl v6)), (8, .inl v8), (9, .inl v9), (10, .inl (v10 + (1 : Int32)))] [1, 2, 3, 4, 5, 6, 7, 0] rfl ?_
      exact kH (v9, (v10 + (1 : Int32)), y24.2) rfl
    · rw [if_neg c25] at h
      refine aw_aload_n X dX1_twins_178 0 0 rfl rfl ?_
      refine aw_iload X dX1_twins_179 3 rfl ?_
      obtain ⟨s26, hs26, h⟩ := bind_some h
      refine aw_pfI X fl_X1_151 dX1_twins_181 hs26 ?_
      refine aw_iconst X (0 : Int32) dX1_twins_184 (by decide) ?_
      refine aw_istore X dX1_twins_185 (by decide) [(11, .inl (0 : Int32)), (0, .inr (.inr (some this))), (2, .inl v2), (3, .inl v3), (5, .inl v5), (6, .inr (.inl v6)), (8, .inl v8), (9, .inl v9), (10, .inl v10)] rfl ?_
      obtain ⟨e33, h34, h⟩ := bind_some h
      refine aw_sub [(0, .inr (.inr (some this))), (2, .inl v2), (3, .inl v3), (5, .inl v5), (6, .inr (.inl v6)), (8, .inl v8), (9, .inl v9), (10, .inl v10), (11, .inl (0 : Int32))] [1, 2, 3, 4, 5, 6, 7, 8, 0] rfl ?_
      refine aw_it (fun s => AW C 187 [(0, .inr (.inr (some this))), (2, .inl v2), (3, .inl v3), (5, .inl v5), (6, .inr (.inl v6)), (8, .inl v8), (9, .inl v9), (10, .inl v10), (11, .inl s.1)] [] s.2 Z) (fun e => AW C 219 [(0, .inr (.inr (some this))), (2, .inl v2), (3, .inl v3), (5, .inl v5), (6, .inr (.inl v6)), (8, .inl v8), (9, .inl v9), (10, .inl v10)] [] e Z) (fun s r hr kH kE => wX1_twins_l187 X φ this v2 v3 v5 v6 v8 v9 v10 s.1 s.2 r hr kH kE) φ _ e33 h34 ?_
      refine aw_iinc X dX1_twins_219 6 rfl (1 : Int32) rfl (by decide) [(9, .inl (v9 + (1 : Int32))), (0, .inr (.inr (some this))), (2, .inl v2), (3, .inl v3), (5, .inl v5), (6, .inr (.inl v6)), (8, .inl v8), (10, .inl v10)] rfl ?_
      refine aw_iinc X dX1_twins_222 7 rfl (1 : Int32) rfl (by decide) [(10, .inl (v10 + (1 : Int32))), (9, .inl (v9 + (1 : Int32))), (0, .inr (.inr (some this))), (2, .inl v2), (3, .inl v3), (5, .inl v5), (6, .inr (.inl v6)), (8, .inl v8)] rfl ?_
      refine aw_goto X 149 dX1_twins_225 rfl ?_
      cases h
      refine aw_sub [(0, .inr (.inr (some this))), (2, .inl v2), (3, .inl v3), (5, .inl v5), (6, .inr (.inl v6)), (8, .inl v8), (9, .inl (v9 + (1 : Int32))), (10, .inl (v10 + (1 : Int32)))] [2, 3, 4, 5, 6, 7, 1, 0] rfl ?_
      exact kH ((v9 + (1 : Int32)), (v10 + (1 : Int32)), e33) rfl
theorem wX1_twins_b22 {C : CT} {d : Nat} (X : Cx C cX1_twins RX1 (some .int) 12 (d + 3)) (φ : Nat) (this : Nat) (v1 : Int32) (v2 : Int32) (v3 : Int32) (k0 : Option Nat) (k1 : Int32) (σ : St) (y : Int32 × St) (h : fX1_twins_b22 φ this v1 v2 v3 k0 k1 σ = some y)  : AW C 22 [(0, .inr (.inr (some this))), (1, .inl v1), (2, .inl v2), (3, .inl v3)] [.inl k1, .inr (.inr k0)] σ (AQ C (some (.inl y.1)) y.2) := by
  unfold fX1_twins_b22 at h
  refine aw_iload_n X dX1_twins_22 1 1 rfl rfl ?_
  obtain ⟨y3, hy3, h⟩ := bind_some h
  refine aw_cV X (st := []) hy3 [.inl k1, .inl v1] rfl rfl ml_X1_192 (fun o h => AX1_needWord (Cx.ok X) φ d _ _ _ _ _ h) dX1_twins_23 (Nat.le_of_ble_eq_true rfl) ?_
  refine aw_istore X dX1_twins_26 (by decide) [(4, .inl y3.1), (0, .inr (.inr (some this))), (1, .inl v1), (2, .inl v2), (3, .inl v3)] rfl ?_
  refine aw_iload X dX1_twins_28 0 rfl ?_
  refine aw_if_ge X 36 dX1_twins_30 rfl (fun c4 => ?_) (fun c4 => ?_)
  · rw [if_pos c4] at h
    refine aw_aload_n X dX1_twins_36 1 0 rfl rfl ?_
    obtain ⟨x5, hx5, h⟩ := bind_some h
    refine aw_gfR X fl_X1_29 dX1_twins_37 hx5 ?_
    refine aw_iload_n X dX1_twins_40 2 1 rfl rfl ?_
    obtain ⟨x6, hx6, h⟩ := bind_some h
    refine aw_iald X dX1_twins_41 hx6 ?_
    refine aw_istore X dX1_twins_42 (by decide) [(5, .inl x6), (4, .inl y3.1), (0, .inr (.inr (some this))), (1, .inl v1), (2, .inl v2), (3, .inl v3)] rfl ?_
    refine aw_lconst X (1 : Int64) dX1_twins_44 rfl ?_
    refine aw_lstore X dX1_twins_45 (by decide) [(6, .inr (.inl (1 : Int64))), (5, .inl x6), (4, .inl y3.1), (0, .inr (.inr (some this))), (1, .inl v1), (2, .inl v2), (3, .inl v3)] rfl ?_
    refine aw_iconst X (0 : Int32) dX1_twins_47 (by decide) ?_
    refine aw_istore X dX1_twins_48 (by decide) [(8, .inl (0 : Int32)), (6, .inr (.inl (1 : Int64))), (5, .inl x6), (4, .inl y3.1), (0, .inr (.inr (some this))), (1, .inl v1), (2, .inl v2), (3, .inl v3)] rfl ?_
    obtain ⟨e10, h11, h⟩ := bind_some h
    refine aw_sub [(0, .inr (.inr (some this))), (1, .inl v1), (2, .inl v2), (3, .inl v3), (5, .inl x6), (6, .inr (.inl (1 : Int64))), (8, .inl (0 : Int32))] [4, 5, 6, 7, 2, 1, 0] rfl ?_
    refine aw_it (fun s => AW C 50 [(0, .inr (.inr (some this))), (1, .inl v1), (2, .inl v2), (3, .inl v3), (5, .inl x6), (6, .inr (.inl s.1)), (8, .inl s.2)] [] y3.2 (AQ C (some (.inl y.1)) y.2)) (fun e => AW C 82 [(0, .inr (.inr (some this))), (1, .inl v1), (2, .inl v2), (3, .inl v3), (5, .inl x6), (6, .inr (.inl e))] [] y3.2 (AQ C (some (.inl y.1)) y.2)) (fun s r hr kH kE => wX1_twins_l50 X φ this v1 v2 v3 x6 y3.2 s.1 s.2 r hr kH kE) φ _ e10 h11 ?_
    refine aw_lload X dX1_twins_82 5 rfl ?_
    refine aw_ldc2 X q1348 dX1_twins_84 ?_
    refine aw_lcmp_le X 94 dX1_twins_87 dX1_twins_88 rfl (fun c12 => ?_) (fun c12 => ?_)
    · rw [if_pos c12] at h
      refine aw_aload_n X dX1_twins_94 0 0 rfl rfl ?_
      obtain ⟨x13, hx13, h⟩ := bind_some h
      refine aw_gfI X fl_X1_110 dX1_twins_95 hx13 ?_
      refine aw_i2l X dX1_twins_98 ?_
      refine aw_iload_n X dX1_twins_99 2 2 rfl rfl ?_
      obtain ⟨y14, hy14, h⟩ := bind_some h
      refine aw_callS X (st := []) [.inr (.inl (x13.toInt64)), .inl v2] rfl ml_X1_239 (AX1_powerOf (Cx.ok X) φ (d + 2) _ _ _ _  hy14) dX1_twins_100 (Nat.le_of_ble_eq_true rfl) ?_
      refine aw_l2i X dX1_twins_103 ?_
      refine aw_istore X dX1_twins_104 (by decide) [(8, .inl (y14.toInt32)), (0, .inr (.inr (some this))), (1, .inl v1), (2, .inl v2), (3, .inl v3), (5, .inl x6), (6, .inr (.inl e10))] rfl ?_
      refine aw_aload_n X dX1_twins_106 1 0 rfl rfl ?_
      refine aw_iload_n X dX1_twins_107 2 1 rfl rfl ?_
      obtain ⟨y15, hy15, h⟩ := bind_some h
      refine aw_cV X (st := []) hy15 [.inl v1] rfl rfl ml_X1_255 (fun o h => AX1_layOther (Cx.ok X) φ (d + 1) _ _ _ _ h) dX1_twins_108 (Nat.le_of_ble_eq_true rfl) ?_
      refine aw_iconst X (0 : Int32) dX1_twins_111 (by decide) ?_
      refine aw_istore X dX1_twins_112 (by decide) [(9, .inl (0 : Int32)), (8, .inl (y14.toInt32)), (0, .inr (.inr (some this))), (1, .inl v1), (2, .inl v2), (3, .inl v3), (5, .inl x6), (6, .inr (.inl e10))] rfl ?_
      obtain ⟨e20, h21, h⟩ := bind_some h
      refine aw_sub [(0, .inr (.inr (some this))), (2, .inl v2), (3, .inl v3), (5, .inl x6), (6, .inr (.inl e10)), (8, .inl (y14.toInt32)), (9, .inl (0 : Int32))] [2, 4, 5, 6, 7, 1, 0] rfl ?_
      refine aw_it (fun s => AW C 114 [(0, .inr (.inr (some this))), (2, .inl v2), (3, .inl v3), (5, .inl x6), (6, .inr (.inl e10)), (8, .inl (y14.toInt32)), (9, .inl s.1)] [] s.2 (AQ C (some (.inl y.1)) y.2)) (fun e => AW C 143 [(0, .inr (.inr (some this))), (2, .inl v2), (3, .inl v3), (5, .inl x6), (6, .inr (.inl e10)), (8, .inl (y14.toInt32))] [] e (AQ C (some (.inl y.1)) y.2)) (fun s r hr kH kE => wX1_twins_l114 X φ this v2 v3 x6 e10 (y14.toInt32) s.1 s.2 r hr kH kE) φ _ e20 h21 ?_
      refine aw_iconst X (0 : Int32) dX1_twins_143 (by decide) ?_
      refine aw_istore X dX1_twins_144 (by decide) [(9, .inl (0 : Int32)), (0, .inr (.inr (some this))), (2, .inl v2), (3, .inl v3), (5, .inl x6), (6, .inr (.inl e10)), (8, .inl (y14.toInt32))] rfl ?_
      refine aw_iconst X (0 : Int32) dX1_twins_146 (by decide) ?_
      refine aw_istore X dX1_twins_147 (by decide) [(10, .inl (0 : Int32)), (9, .inl (0 : Int32)), (0, .inr (.inr (some this))), (2, .inl v2), (3, .inl v3), (5, .inl x6), (6, .inr (.inl e10)), (8, .inl (y14.toInt32))] rfl ?_
      obtain ⟨e35, h36, h⟩ := bind_some h
      refine aw_sub [(0, .inr (.inr (some this))), (2, .inl v2), (3, .inl v3), (5, .inl x6), (6, .inr (.inl e10)), (8, .inl (y14.toInt32)), (9, .inl (0 : Int32)), (10, .inl (0 : Int32))] [2, 3, 4, 5, 6, 7, 1, 0] rfl ?_
      refine aw_it (fun s => AW C 149 [(0, .inr (.inr (some this))), (2, .inl v2), (3, .inl v3), (5, .inl x6), (6, .inr (.inl e10)), (8, .inl (y14.toInt32)), (9, .inl s.1), (10, .inl s.2.1)] [] s.2.2 (AQ C (some (.inl y.1)) y.2)) (fun e => AW C 228 [(0, .inr (.inr (some this))), (3, .inl v3), (5, .inl x6), (9, .inl e.1)] [] e.2 (AQ C (some (.inl y.1)) y.2)) (fun s r hr kH kE => wX1_twins_l149 X φ this v2 v3 x6 e10 (y14.toInt32) s.1 s.2.1 s.2.2 r hr kH kE) φ _ e35 h36 ?_
      refine aw_aload_n X dX1_twins_228 0 0 rfl rfl ?_
      refine aw_iload X dX1_twins_229 2 rfl ?_
      obtain ⟨s37, hs37, h⟩ := bind_some h
      refine aw_pfI X fl_X1_151 dX1_twins_231 hs37 ?_
      refine aw_aload_n X dX1_twins_234 0 0 rfl rfl ?_
      refine aw_iload_n X dX1_twins_235 1 3 rfl rfl ?_
      obtain ⟨y38, hy38, h⟩ := bind_some h
      refine aw_cV X (st := []) hy38 [.inl v3] rfl rfl ml_X1_214 (fun o h => AX1_comesToRow (Cx.ok X) φ (d + 2) _ _ _ _ h) dX1_twins_236 (Nat.le_of_ble_eq_true rfl) ?_
      refine aw_iload X dX1_twins_239 3 rfl ?_
      cases h
      exact aw_iret X dX1_twins_241
    · rw [if_neg c12] at h
      refine aw_bipush X (-6 : Int32) dX1_twins_91 (by decide) ?_
      cases h
      exact aw_iret X dX1_twins_93
  · rw [if_neg c4] at h
    refine aw_iload X dX1_twins_33 0 rfl ?_
    cases h
    exact aw_iret X dX1_twins_35
theorem wX1_twins_b21 {C : CT} {d : Nat} (X : Cx C cX1_twins RX1 (some .int) 12 (d + 3)) (φ : Nat) (this : Nat) (v1 : Int32) (v2 : Int32) (v3 : Int32) (k0 : Option Nat) (σ : St) (y : Int32 × St) (h : fX1_twins_b21 φ this v1 v2 v3 k0 σ = some y)  : AW C 21 [(0, .inr (.inr (some this))), (1, .inl v1), (2, .inl v2), (3, .inl v3)] [.inr (.inr k0)] σ (AQ C (some (.inl y.1)) y.2) := by
  unfold fX1_twins_b21 at h
  refine aw_iconst X (0 : Int32) dX1_twins_21 (by decide) ?_
  exact wX1_twins_b22 X φ this v1 v2 v3 k0 (0 : Int32) σ y h
theorem wX1_twins {C : CT} {d : Nat} (X : Cx C cX1_twins RX1 (some .int) 12 (d + 3)) (φ : Nat) (this : Nat) (v1 : Int32) (v2 : Int32) (v3 : Int32) (σ : St) (y : Int32 × St) (h : fX1_twins φ this v1 v2 v3 σ = some y) : AW C 0 [(0, .inr (.inr (some this))), (1, .inl v1), (2, .inl v2), (3, .inl v3)] [] σ (AQ C (some (.inl y.1)) y.2) := by
  unfold fX1_twins at h
  refine aw_aload_n X dX1_twins_0 0 0 rfl rfl ?_
  refine aw_iload_n X dX1_twins_1 2 2 rfl rfl ?_
  refine aw_iconst X (1 : Int32) dX1_twins_2 (by decide) ?_
  refine aw_iconst X (3 : Int32) dX1_twins_3 (by decide) ?_
  obtain ⟨y1, hy1, h⟩ := bind_some h
  refine aw_callS X (st := [.inr (.inr (some this))]) [.inl v2, .inl (1 : Int32), .inl (3 : Int32)] rfl ml_X1_117 (AX1_in (Cx.ok X) φ (d + 2) _ _ _ _ _  hy1) dX1_twins_4 (Nat.le_of_ble_eq_true rfl) ?_
  refine aw_if_eq X 21 dX1_twins_7 rfl (fun c2 => ?_) (fun c2 => ?_)
  · rw [if_pos c2] at h
    exact wX1_twins_b21 X φ this v1 v2 v3 (some this) σ y h
  · rw [if_neg c2] at h
    refine aw_iload_n X dX1_twins_10 3 3 rfl rfl ?_
    obtain ⟨y39, hy39, h⟩ := bind_some h
    refine aw_callS X (st := [.inr (.inr (some this))]) [.inl v3] rfl ml_X1_130 (AX1_isRow (Cx.ok X) φ (d + 1) _ _ _  hy39) dX1_twins_11 (Nat.le_of_ble_eq_true rfl) ?_
    refine aw_if_eq X 21 dX1_twins_14 rfl (fun c40 => ?_) (fun c40 => ?_)
    · rw [if_pos c40] at h
      exact wX1_twins_b21 X φ this v1 v2 v3 (some this) σ y h
    · rw [if_neg c40] at h
      refine aw_iconst X (1 : Int32) dX1_twins_17 (by decide) ?_
      refine aw_goto X 22 dX1_twins_18 rfl ?_
      exact wX1_twins_b22 X φ this v1 v2 v3 (some this) (1 : Int32) σ y h
theorem AX1_twins {E : AE} {l : Launch} (hE : EOK E l) (φ d : Nat) (this : Nat) (v1 : Int32) (v2 : Int32) (v3 : Int32) (σ : St) (y : Int32 × St) (h : fX1_twins φ this v1 v2 v3 σ = some y) : AMet E l yX1_twins (ws_ yX1_twins cX1_twins 12 (some .int)) (d + 3) [.inr (.inr (some this)), .inl v1, .inl v2, .inl v3] σ (some (.inl y.1)) y.2 := by
  refine amet_of hE (by decide +kernel) (Nat.le_of_ble_eq_true rfl) fun C e1 e2 X XI => ?_
  subst e1
  exact wX1_twins X φ this v1 v2 v3 σ y h
theorem wX1_chosen_l5 {C : CT} {d : Nat} {Z : State → Prop} (X : Cx C cX1_chosen RX1 (some .long) 5 d) (φ : Nat) (v0 : Int32) (v1 : Int32) (σ : St) (v2 : Int64) (v4 : Int32) (y : (Int64 × Int32) ⊕ (Int64)) (h : fX1_chosen_l5 φ v0 v1 σ v2 v4 = some y) (kH : ∀ s : Int64 × Int32, y = .inl s → AW C 5 [(0, .inl v0), (1, .inl v1), (2, .inr (.inl s.1)), (4, .inl s.2)] [] σ Z) (kE0 : ∀ e : Int64, y = .inr e → AW C 31 [(2, .inr (.inl e))] [] σ Z) : AW C 5 [(0, .inl v0), (1, .inl v1), (2, .inr (.inl v2)), (4, .inl v4)] [] σ Z := by
  unfold fX1_chosen_l5 at h
  refine aw_iload X dX1_chosen_5 3 rfl ?_
  refine aw_iload_n X dX1_chosen_7 1 1 rfl rfl ?_
  refine aw_icmp_gt X 31 dX1_chosen_8 rfl (fun c1 => ?_) (fun c1 => ?_)
  · rw [if_pos c1] at h
    cases h
    refine aw_sub [(2, .inr (.inl v2))] [2] rfl ?_
    exact kE0 v2 rfl
  · rw [if_neg c1] at h
    refine aw_lload_n X dX1_chosen_11 2 2 rfl rfl ?_
    refine aw_iload_n X dX1_chosen_12 0 0 rfl rfl ?_
    refine aw_iload X dX1_chosen_13 3 rfl ?_
    refine aw_isub X dX1_chosen_15 ?_
    refine aw_iconst X (1 : Int32) dX1_chosen_16 (by decide) ?_
    refine aw_iadd X dX1_chosen_17 ?_
    refine aw_i2l X dX1_chosen_18 ?_
    refine aw_lmul X dX1_chosen_19 ?_
    refine aw_iload X dX1_chosen_20 3 rfl ?_
    refine aw_i2l X dX1_chosen_22 ?_
    obtain ⟨hn2, h⟩ := chk_some h
    refine aw_ldiv X dX1_chosen_23 hn2 ?_
    refine aw_lstore_n X dX1_chosen_24 2 rfl (by decide) [(2, .inr (.inl ((v2 * (((v0 - v4) + (1 : Int32)).toInt64)) / (v4.toInt64)))), (0, .inl v0), (1, .inl v1), (4, .inl v4)] rfl ?_
    refine aw_iinc X dX1_chosen_25 3 rfl (1 : Int32) rfl (by decide) [(4, .inl (v4 + (1 : Int32))), (2, .inr (.inl ((v2 * (((v0 - v4) + (1 : Int32)).toInt64)) / (v4.toInt64)))), (0, .inl v0), (1, .inl v1)] rfl ?_
    refine aw_goto X 5 dX1_chosen_28 rfl ?_
    cases h
    refine aw_sub [(0, .inl v0), (1, .inl v1), (2, .inr (.inl ((v2 * (((v0 - v4) + (1 : Int32)).toInt64)) / (v4.toInt64)))), (4, .inl (v4 + (1 : Int32)))] [2, 3, 1, 0] rfl ?_
    exact kH (((v2 * (((v0 - v4) + (1 : Int32)).toInt64)) / (v4.toInt64)), (v4 + (1 : Int32))) rfl
theorem wX1_chosen {C : CT} {d : Nat} (X : Cx C cX1_chosen RX1 (some .long) 5 d) (φ : Nat) (v0 : Int32) (v1 : Int32) (σ : St) (y : Int64) (h : fX1_chosen φ v0 v1 σ = some y) : AW C 0 [(0, .inl v0), (1, .inl v1)] [] σ (AQ C (some (.inr (.inl y))) σ) := by
  unfold fX1_chosen at h
  refine aw_lconst X (1 : Int64) dX1_chosen_0 rfl ?_
  refine aw_lstore_n X dX1_chosen_1 2 rfl (by decide) [(2, .inr (.inl (1 : Int64))), (0, .inl v0), (1, .inl v1)] rfl ?_
  refine aw_iconst X (1 : Int32) dX1_chosen_2 (by decide) ?_
  refine aw_istore X dX1_chosen_3 (by decide) [(4, .inl (1 : Int32)), (2, .inr (.inl (1 : Int64))), (0, .inl v0), (1, .inl v1)] rfl ?_
  obtain ⟨e3, h4, h⟩ := bind_some h
  refine aw_sub [(0, .inl v0), (1, .inl v1), (2, .inr (.inl (1 : Int64))), (4, .inl (1 : Int32))] [2, 3, 1, 0] rfl ?_
  refine aw_it (fun s => AW C 5 [(0, .inl v0), (1, .inl v1), (2, .inr (.inl s.1)), (4, .inl s.2)] [] σ (AQ C (some (.inr (.inl y))) σ)) (fun e => AW C 31 [(2, .inr (.inl e))] [] σ (AQ C (some (.inr (.inl y))) σ)) (fun s r hr kH kE => wX1_chosen_l5 X φ v0 v1 σ s.1 s.2 r hr kH kE) φ _ e3 h4 ?_
  refine aw_lload_n X dX1_chosen_31 0 2 rfl rfl ?_
  cases h
  exact aw_lret X dX1_chosen_32
theorem AX1_chosen {E : AE} {l : Launch} (hE : EOK E l) (φ d : Nat) (v0 : Int32) (v1 : Int32) (σ : St) (y : Int64) (h : fX1_chosen φ v0 v1 σ = some y) : AMet E l yX1_chosen (ws_ yX1_chosen cX1_chosen 5 (some .long)) d [.inl v0, .inl v1] σ (some (.inr (.inl y))) σ := by
  refine amet_of hE (by decide +kernel) (Nat.le_of_ble_eq_true rfl) fun C e1 e2 X XI => ?_
  subst e1
  exact wX1_chosen X φ v0 v1 σ y h
theorem wX1_fraction_l6 {C : CT} {d : Nat} {Z : State → Prop} (X : Cx C cX1_fraction RX1 (some .int) 12 d) (φ : Nat) (this : Nat) (v1 : Int64) (v3 : Int64) (v5 : Int32) (σ : St) (v6 : Int64) (v8 : Int64) (y : (Int64 × Int64) ⊕ (Int64)) (h : fX1_fraction_l6 φ this v1 v3 v5 σ v6 v8 = some y) (kH : ∀ s : Int64 × Int64, y = .inl s → AW C 6 [(0, .inr (.inr (some this))), (1, .inr (.inl v1)), (3, .inr (.inl v3)), (5, .inl v5), (6, .inr (.inl s.1)), (8, .inr (.inl s.2))] [] σ Z) (kE0 : ∀ e : Int64, y = .inr e → AW C 31 [(0, .inr (.inr (some this))), (1, .inr (.inl v1)), (3, .inr (.inl v3)), (5, .inl v5), (6, .inr (.inl e))] [] σ Z) : AW C 6 [(0, .inr (.inr (some this))), (1, .inr (.inl v1)), (3, .inr (.inl v3)), (5, .inl v5), (6, .inr (.inl v6)), (8, .inr (.inl v8))] [] σ Z := by
  unfold fX1_fraction_l6 at h
  refine aw_lload X dX1_fraction_6 5 rfl ?_
  refine aw_lconst X (0 : Int64) dX1_fraction_8 rfl ?_
  refine aw_lcmp_eq X 31 dX1_fraction_9 dX1_fraction_10 rfl (fun c1 => ?_) (fun c1 => ?_)
  · rw [if_pos c1] at h
    cases h
    refine aw_sub [(0, .inr (.inr (some this))), (1, .inr (.inl v1)), (3, .inr (.inl v3)), (5, .inl v5), (6, .inr (.inl v6))] [0, 1, 2, 3, 4] rfl ?_
    exact kE0 v6 rfl
  · rw [if_neg c1] at h
    refine aw_lload X dX1_fraction_13 4 rfl ?_
    refine aw_lload X dX1_fraction_15 5 rfl ?_
    obtain ⟨hn2, h⟩ := chk_some h
    refine aw_lrem X dX1_fraction_17 hn2 ?_
    refine aw_lstore X dX1_fraction_18 (by decide) [(10, .inr (.inl (v6 - v6 / v8 * v8))), (0, .inr (.inr (some this))), (1, .inr (.inl v1)), (3, .inr (.inl v3)), (5, .inl v5), (6, .inr (.inl v6)), (8, .inr (.inl v8))] rfl ?_
    refine aw_lload X dX1_fraction_20 6 rfl ?_
    refine aw_lstore X dX1_fraction_22 (by decide) [(6, .inr (.inl v8)), (10, .inr (.inl (v6 - v6 / v8 * v8))), (0, .inr (.inr (some this))), (1, .inr (.inl v1)), (3, .inr (.inl v3)), (5, .inl v5), (8, .inr (.inl v8))] rfl ?_
    refine aw_lload X dX1_fraction_24 1 rfl ?_
    refine aw_lstore X dX1_fraction_26 (by decide) [(8, .inr (.inl (v6 - v6 / v8 * v8))), (6, .inr (.inl v8)), (10, .inr (.inl (v6 - v6 / v8 * v8))), (0, .inr (.inr (some this))), (1, .inr (.inl v1)), (3, .inr (.inl v3)), (5, .inl v5)] rfl ?_
    refine aw_goto X 6 dX1_fraction_28 rfl ?_
    cases h
    refine aw_sub [(0, .inr (.inr (some this))), (1, .inr (.inl v1)), (3, .inr (.inl v3)), (5, .inl v5), (6, .inr (.inl v8)), (8, .inr (.inl (v6 - v6 / v8 * v8)))] [3, 4, 5, 6, 1, 0] rfl ?_
    exact kH (v8, (v6 - v6 / v8 * v8)) rfl
theorem wX1_fraction {C : CT} {d : Nat} (X : Cx C cX1_fraction RX1 (some .int) 12 d) (φ : Nat) (this : Nat) (v1 : Int64) (v3 : Int64) (v5 : Int32) (σ : St) (y : Int32 × St) (h : fX1_fraction φ this v1 v3 v5 σ = some y) : AW C 0 [(0, .inr (.inr (some this))), (1, .inr (.inl v1)), (3, .inr (.inl v3)), (5, .inl v5)] [] σ (AQ C (some (.inl y.1)) y.2) := by
  unfold fX1_fraction at h
  refine aw_lload_n X dX1_fraction_0 1 1 rfl rfl ?_
  refine aw_lstore X dX1_fraction_1 (by decide) [(6, .inr (.inl v1)), (0, .inr (.inr (some this))), (1, .inr (.inl v1)), (3, .inr (.inl v3)), (5, .inl v5)] rfl ?_
  refine aw_lload_n X dX1_fraction_3 3 3 rfl rfl ?_
  refine aw_lstore X dX1_fraction_4 (by decide) [(8, .inr (.inl v3)), (6, .inr (.inl v1)), (0, .inr (.inr (some this))), (1, .inr (.inl v1)), (3, .inr (.inl v3)), (5, .inl v5)] rfl ?_
  obtain ⟨e3, h4, h⟩ := bind_some h
  refine aw_sub [(0, .inr (.inr (some this))), (1, .inr (.inl v1)), (3, .inr (.inl v3)), (5, .inl v5), (6, .inr (.inl v1)), (8, .inr (.inl v3))] [2, 3, 4, 5, 1, 0] rfl ?_
  refine aw_it (fun s => AW C 6 [(0, .inr (.inr (some this))), (1, .inr (.inl v1)), (3, .inr (.inl v3)), (5, .inl v5), (6, .inr (.inl s.1)), (8, .inr (.inl s.2))] [] σ (AQ C (some (.inl y.1)) y.2)) (fun e => AW C 31 [(0, .inr (.inr (some this))), (1, .inr (.inl v1)), (3, .inr (.inl v3)), (5, .inl v5), (6, .inr (.inl e))] [] σ (AQ C (some (.inl y.1)) y.2)) (fun s r hr kH kE => wX1_fraction_l6 X φ this v1 v3 v5 σ s.1 s.2 r hr kH kE) φ _ e3 h4 ?_
  refine aw_aload_n X dX1_fraction_31 0 0 rfl rfl ?_
  refine aw_lload_n X dX1_fraction_32 1 1 rfl rfl ?_
  refine aw_lload X dX1_fraction_33 4 rfl ?_
  obtain ⟨hn5, h⟩ := chk_some h
  refine aw_ldiv X dX1_fraction_35 hn5 ?_
  obtain ⟨s6, hs6, h⟩ := bind_some h
  refine aw_pfL X fl_X1_127 dX1_fraction_36 hs6 ?_
  refine aw_aload_n X dX1_fraction_39 0 0 rfl rfl ?_
  refine aw_lload_n X dX1_fraction_40 2 3 rfl rfl ?_
  refine aw_lload X dX1_fraction_41 4 rfl ?_
  obtain ⟨hn7, h⟩ := chk_some h
  refine aw_ldiv X dX1_fraction_43 hn7 ?_
  obtain ⟨s8, hs8, h⟩ := bind_some h
  refine aw_pfL X fl_X1_106 dX1_fraction_44 hs8 ?_
  refine aw_iload X dX1_fraction_47 3 rfl ?_
  cases h
  exact aw_iret X dX1_fraction_49
theorem AX1_fraction {E : AE} {l : Launch} (hE : EOK E l) (φ d : Nat) (this : Nat) (v1 : Int64) (v3 : Int64) (v5 : Int32) (σ : St) (y : Int32 × St) (h : fX1_fraction φ this v1 v3 v5 σ = some y) : AMet E l yX1_fraction (ws_ yX1_fraction cX1_fraction 12 (some .int)) d [.inr (.inr (some this)), .inr (.inl v1), .inr (.inl v3), .inl v5] σ (some (.inl y.1)) y.2 := by
  refine amet_of hE (by decide +kernel) (Nat.le_of_ble_eq_true rfl) fun C e1 e2 X XI => ?_
  subst e1
  exact wX1_fraction X φ this v1 v3 v5 σ y h
theorem wX1_odds {C : CT} {d : Nat} (X : Cx C cX1_odds RX1 (some .int) 6 (d + 3)) (φ : Nat) (this : Nat) (v1 : Int32) (v2 : Int32) (σ : St) (y : Int32 × St) (h : fX1_odds φ this v1 v2 σ = some y) : AW C 0 [(0, .inr (.inr (some this))), (1, .inl v1), (2, .inl v2)] [] σ (AQ C (some (.inl y.1)) y.2) := by
  unfold fX1_odds at h
  refine aw_aload_n X dX1_odds_0 0 0 rfl rfl ?_
  refine aw_iconst X (1 : Int32) dX1_odds_1 (by decide) ?_
  refine aw_iload_n X dX1_odds_2 1 1 rfl rfl ?_
  refine aw_iload_n X dX1_odds_3 2 2 rfl rfl ?_
  obtain ⟨y1, hy1, h⟩ := bind_some h
  refine aw_cV X (st := []) hy1 [.inl (1 : Int32), .inl v1, .inl v2] rfl rfl ml_X1_188 (fun o h => AX1_needTwo (Cx.ok X) φ d _ _ _ _ _ _ h) dX1_odds_4 (Nat.le_of_ble_eq_true rfl) ?_
  refine aw_istore_n X dX1_odds_7 3 rfl (by decide) [(3, .inl y1.1), (0, .inr (.inr (some this))), (1, .inl v1), (2, .inl v2)] rfl ?_
  refine aw_iload_n X dX1_odds_8 0 3 rfl rfl ?_
  refine aw_if_ge X 14 dX1_odds_9 rfl (fun c2 => ?_) (fun c2 => ?_)
  · rw [if_pos c2] at h
    refine aw_aload_n X dX1_odds_14 1 0 rfl rfl ?_
    obtain ⟨x3, hx3, h⟩ := bind_some h
    refine aw_gfR X fl_X1_29 dX1_odds_15 hx3 ?_
    refine aw_iload_n X dX1_odds_18 2 1 rfl rfl ?_
    obtain ⟨x4, hx4, h⟩ := bind_some h
    refine aw_iald X dX1_odds_19 hx4 ?_
    refine aw_istore X dX1_odds_20 (by decide) [(4, .inl x4), (3, .inl y1.1), (0, .inr (.inr (some this))), (1, .inl v1), (2, .inl v2)] rfl ?_
    refine aw_aload_n X dX1_odds_22 2 0 rfl rfl ?_
    obtain ⟨x5, hx5, h⟩ := bind_some h
    refine aw_gfR X fl_X1_29 dX1_odds_23 hx5 ?_
    refine aw_iload_n X dX1_odds_26 4 2 rfl rfl ?_
    obtain ⟨x6, hx6, h⟩ := bind_some h
    refine aw_iald X dX1_odds_27 hx6 ?_
    refine aw_istore X dX1_odds_28 (by decide) [(5, .inl x6), (4, .inl x4), (3, .inl y1.1), (0, .inr (.inr (some this))), (1, .inl v1), (2, .inl v2)] rfl ?_
    refine aw_iload X dX1_odds_30 0 rfl ?_
    refine aw_iload X dX1_odds_32 1 rfl ?_
    refine aw_icmp_le X 43 dX1_odds_34 rfl (fun c7 => ?_) (fun c7 => ?_)
    · rw [if_pos c7] at h
      refine aw_aload_n X dX1_odds_43 3 0 rfl rfl ?_
      refine aw_iload_n X dX1_odds_44 4 1 rfl rfl ?_
      refine aw_iload_n X dX1_odds_45 5 2 rfl rfl ?_
      obtain ⟨y8, hy8, h⟩ := bind_some h
      refine aw_cV X (st := []) hy8 [.inl v1, .inl v2] rfl rfl ml_X1_199 (fun o h => AX1_layWays (Cx.ok X) φ (d + 1) _ _ _ _ _ h) dX1_odds_46 (Nat.le_of_ble_eq_true rfl) ?_
      refine aw_aload_n X dX1_odds_49 3 0 rfl rfl ?_
      refine aw_aload_n X dX1_odds_50 3 0 rfl rfl ?_
      obtain ⟨x9, hx9, h⟩ := bind_some h
      refine aw_gfR X fl_X1_53 dX1_odds_51 hx9 ?_
      refine aw_iload X dX1_odds_54 0 rfl ?_
      obtain ⟨x10, hx10, h⟩ := bind_some h
      refine aw_lald X dX1_odds_56 hx10 ?_
      refine aw_iload X dX1_odds_57 1 rfl ?_
      refine aw_iload X dX1_odds_59 0 rfl ?_
      obtain ⟨y11, hy11, h⟩ := bind_some h
      refine aw_callS X (st := [.inr (.inl x10), .inr (.inr (some this))]) [.inl x4, .inl x6] rfl ml_X1_304 (AX1_chosen (Cx.ok X) φ (d + 2) _ _ _ _  hy11) dX1_odds_61 (Nat.le_of_ble_eq_true rfl) ?_
      refine aw_iconst X (1 : Int32) dX1_odds_64 (by decide) ?_
      obtain ⟨y12, hy12, h⟩ := bind_some h
      refine aw_cV X (st := []) hy12 [.inr (.inl x10), .inr (.inl y11), .inl (1 : Int32)] rfl rfl ml_X1_308 (fun o h => AX1_fraction (Cx.ok X) φ (d + 2) _ _ _ _ _ _ h) dX1_odds_65 (Nat.le_of_ble_eq_true rfl) ?_
      cases h
      exact aw_iret X dX1_odds_68
    · rw [if_neg c7] at h
      refine aw_aload_n X dX1_odds_37 3 0 rfl rfl ?_
      refine aw_iconst X (4 : Int32) dX1_odds_38 (by decide) ?_
      obtain ⟨y13, hy13, h⟩ := bind_some h
      refine aw_cV X (st := []) hy13 [.inl (4 : Int32)] rfl rfl ml_X1_134 (fun o h => AX1_meets (Cx.ok X) φ (d + 2) _ _ _ _ h) dX1_odds_39 (Nat.le_of_ble_eq_true rfl) ?_
      cases h
      exact aw_iret X dX1_odds_42
  · rw [if_neg c2] at h
    refine aw_iload_n X dX1_odds_12 0 3 rfl rfl ?_
    cases h
    exact aw_iret X dX1_odds_13
theorem AX1_odds {E : AE} {l : Launch} (hE : EOK E l) (φ d : Nat) (this : Nat) (v1 : Int32) (v2 : Int32) (σ : St) (y : Int32 × St) (h : fX1_odds φ this v1 v2 σ = some y) : AMet E l yX1_odds (ws_ yX1_odds cX1_odds 6 (some .int)) (d + 3) [.inr (.inr (some this)), .inl v1, .inl v2] σ (some (.inl y.1)) y.2 := by
  refine amet_of hE (by decide +kernel) (Nat.le_of_ble_eq_true rfl) fun C e1 e2 X XI => ?_
  subst e1
  exact wX1_odds X φ this v1 v2 σ y h
theorem wX1_byChance_l30 {C : CT} {d : Nat} {Z : State → Prop} (X : Cx C cX1_byChance RX1 (some .int) 7 (d + 3)) (φ : Nat) (this : Nat) (v2 : Int32) (σ : St) (v4 : Int64) (v6 : Int32) (y : (Int64 × Int32) ⊕ (Int64)) (h : fX1_byChance_l30 φ this v2 σ v4 v6 = some y) (kH : ∀ s : Int64 × Int32, y = .inl s → AW C 30 [(0, .inr (.inr (some this))), (2, .inl v2), (4, .inr (.inl s.1)), (6, .inl s.2)] [] σ Z) (kE0 : ∀ e : Int64, y = .inr e → AW C 68 [(0, .inr (.inr (some this))), (2, .inl v2), (4, .inr (.inl e))] [] σ Z) : AW C 30 [(0, .inr (.inr (some this))), (2, .inl v2), (4, .inr (.inl v4)), (6, .inl v6)] [] σ Z := by
  unfold fX1_byChance_l30 at h
  refine aw_iload X dX1_byChance_30 3 rfl ?_
  refine aw_iload_n X dX1_byChance_32 1 2 rfl rfl ?_
  refine aw_icmp_gt X 68 dX1_byChance_33 rfl (fun c6 => ?_) (fun c6 => ?_)
  · rw [if_pos c6] at h
    cases h
    refine aw_sub [(0, .inr (.inr (some this))), (2, .inl v2), (4, .inr (.inl v4))] [0, 1, 2] rfl ?_
    exact kE0 v4 rfl
  · rw [if_neg c6] at h
    refine aw_lload X dX1_byChance_36 2 rfl ?_
    refine aw_iload_n X dX1_byChance_38 1 2 rfl rfl ?_
    refine aw_iload X dX1_byChance_39 3 rfl ?_
    obtain ⟨y7, hy7, h⟩ := bind_some h
    refine aw_callS X (st := [.inr (.inl v4)]) [.inl v2, .inl v6] rfl ml_X1_304 (AX1_chosen (Cx.ok X) φ (d + 2) _ _ _ _  hy7) dX1_byChance_41 (Nat.le_of_ble_eq_true rfl) ?_
    refine aw_aload_n X dX1_byChance_44 0 0 rfl rfl ?_
    obtain ⟨x8, hx8, h⟩ := bind_some h
    refine aw_gfI X fl_X1_110 dX1_byChance_45 hx8 ?_
    refine aw_iconst X (1 : Int32) dX1_byChance_48 (by decide) ?_
    refine aw_isub X dX1_byChance_49 ?_
    refine aw_i2l X dX1_byChance_50 ?_
    refine aw_iload_n X dX1_byChance_51 1 2 rfl rfl ?_
    refine aw_iload X dX1_byChance_52 3 rfl ?_
    refine aw_isub X dX1_byChance_54 ?_
    obtain ⟨y9, hy9, h⟩ := bind_some h
    refine aw_callS X (st := [.inr (.inl y7), .inr (.inl v4)]) [.inr (.inl ((x8 - (1 : Int32)).toInt64)), .inl (v2 - v6)] rfl ml_X1_239 (AX1_powerOf (Cx.ok X) φ (d + 2) _ _ _ _  hy9) dX1_byChance_55 (Nat.le_of_ble_eq_true rfl) ?_
    refine aw_lmul X dX1_byChance_58 ?_
    refine aw_ladd X dX1_byChance_59 ?_
    refine aw_lstore X dX1_byChance_60 (by decide) [(4, .inr (.inl (v4 + (y7 * y9)))), (0, .inr (.inr (some this))), (2, .inl v2), (6, .inl v6)] rfl ?_
    refine aw_iinc X dX1_byChance_62 3 rfl (1 : Int32) rfl (by decide) [(6, .inl (v6 + (1 : Int32))), (4, .inr (.inl (v4 + (y7 * y9)))), (0, .inr (.inr (some this))), (2, .inl v2)] rfl ?_
    refine aw_goto X 30 dX1_byChance_65 rfl ?_
    cases h
    refine aw_sub [(0, .inr (.inr (some this))), (2, .inl v2), (4, .inr (.inl (v4 + (y7 * y9)))), (6, .inl (v6 + (1 : Int32)))] [2, 3, 1, 0] rfl ?_
    exact kH ((v4 + (y7 * y9)), (v6 + (1 : Int32))) rfl
theorem wX1_byChance {C : CT} {d : Nat} (X : Cx C cX1_byChance RX1 (some .int) 7 (d + 3)) (φ : Nat) (this : Nat) (v1 : Int32) (v2 : Int32) (σ : St) (y : Int32 × St) (h : fX1_byChance φ this v1 v2 σ = some y) : AW C 0 [(0, .inr (.inr (some this))), (1, .inl v1), (2, .inl v2)] [] σ (AQ C (some (.inl y.1)) y.2) := by
  unfold fX1_byChance at h
  refine aw_aload_n X dX1_byChance_0 0 0 rfl rfl ?_
  refine aw_iload_n X dX1_byChance_1 2 2 rfl rfl ?_
  refine aw_iconst X (0 : Int32) dX1_byChance_2 (by decide) ?_
  refine aw_bipush X (20 : Int32) dX1_byChance_3 (by decide) ?_
  obtain ⟨y1, hy1, h⟩ := bind_some h
  refine aw_callS X (st := [.inr (.inr (some this))]) [.inl v2, .inl (0 : Int32), .inl (20 : Int32)] rfl ml_X1_117 (AX1_in (Cx.ok X) φ (d + 2) _ _ _ _ _  hy1) dX1_byChance_5 (Nat.le_of_ble_eq_true rfl) ?_
  refine aw_iload_n X dX1_byChance_8 1 1 rfl rfl ?_
  obtain ⟨y2, hy2, h⟩ := bind_some h
  refine aw_cV X (st := []) hy2 [.inl y1, .inl v1] rfl rfl ml_X1_192 (fun o h => AX1_needWord (Cx.ok X) φ d _ _ _ _ _ h) dX1_byChance_9 (Nat.le_of_ble_eq_true rfl) ?_
  refine aw_istore_n X dX1_byChance_12 3 rfl (by decide) [(3, .inl y2.1), (0, .inr (.inr (some this))), (1, .inl v1), (2, .inl v2)] rfl ?_
  refine aw_iload_n X dX1_byChance_13 0 3 rfl rfl ?_
  refine aw_if_ge X 19 dX1_byChance_14 rfl (fun c3 => ?_) (fun c3 => ?_)
  · rw [if_pos c3] at h
    refine aw_lconst X (0 : Int64) dX1_byChance_19 rfl ?_
    refine aw_lstore X dX1_byChance_20 (by decide) [(4, .inr (.inl (0 : Int64))), (3, .inl y2.1), (0, .inr (.inr (some this))), (1, .inl v1), (2, .inl v2)] rfl ?_
    refine aw_aload_n X dX1_byChance_22 2 0 rfl rfl ?_
    obtain ⟨x4, hx4, h⟩ := bind_some h
    refine aw_gfR X fl_X1_29 dX1_byChance_23 hx4 ?_
    refine aw_iload_n X dX1_byChance_26 3 1 rfl rfl ?_
    obtain ⟨x5, hx5, h⟩ := bind_some h
    refine aw_iald X dX1_byChance_27 hx5 ?_
    refine aw_istore X dX1_byChance_28 (by decide) [(6, .inl x5), (4, .inr (.inl (0 : Int64))), (3, .inl y2.1), (0, .inr (.inr (some this))), (1, .inl v1), (2, .inl v2)] rfl ?_
    obtain ⟨e10, h11, h⟩ := bind_some h
    refine aw_sub [(0, .inr (.inr (some this))), (2, .inl v2), (4, .inr (.inl (0 : Int64))), (6, .inl x5)] [3, 5, 1, 0] rfl ?_
    refine aw_it (fun s => AW C 30 [(0, .inr (.inr (some this))), (2, .inl v2), (4, .inr (.inl s.1)), (6, .inl s.2)] [] y2.2 (AQ C (some (.inl y.1)) y.2)) (fun e => AW C 68 [(0, .inr (.inr (some this))), (2, .inl v2), (4, .inr (.inl e))] [] y2.2 (AQ C (some (.inl y.1)) y.2)) (fun s r hr kH kE => wX1_byChance_l30 X φ this v2 y2.2 s.1 s.2 r hr kH kE) φ _ e10 h11 ?_
    refine aw_aload_n X dX1_byChance_68 0 0 rfl rfl ?_
    refine aw_lload X dX1_byChance_69 2 rfl ?_
    refine aw_aload_n X dX1_byChance_71 0 0 rfl rfl ?_
    obtain ⟨x12, hx12, h⟩ := bind_some h
    refine aw_gfI X fl_X1_110 dX1_byChance_72 hx12 ?_
    refine aw_i2l X dX1_byChance_75 ?_
    refine aw_iload_n X dX1_byChance_76 1 2 rfl rfl ?_
    obtain ⟨y13, hy13, h⟩ := bind_some h
    refine aw_callS X (st := [.inr (.inl e10), .inr (.inr (some this))]) [.inr (.inl (x12.toInt64)), .inl v2] rfl ml_X1_239 (AX1_powerOf (Cx.ok X) φ (d + 2) _ _ _ _  hy13) dX1_byChance_77 (Nat.le_of_ble_eq_true rfl) ?_
    refine aw_iconst X (1 : Int32) dX1_byChance_80 (by decide) ?_
    obtain ⟨y14, hy14, h⟩ := bind_some h
    refine aw_cV X (st := []) hy14 [.inr (.inl e10), .inr (.inl y13), .inl (1 : Int32)] rfl rfl ml_X1_308 (fun o h => AX1_fraction (Cx.ok X) φ (d + 2) _ _ _ _ _ _ h) dX1_byChance_81 (Nat.le_of_ble_eq_true rfl) ?_
    cases h
    exact aw_iret X dX1_byChance_84
  · rw [if_neg c3] at h
    refine aw_iload_n X dX1_byChance_17 0 3 rfl rfl ?_
    cases h
    exact aw_iret X dX1_byChance_18
theorem AX1_byChance {E : AE} {l : Launch} (hE : EOK E l) (φ d : Nat) (this : Nat) (v1 : Int32) (v2 : Int32) (σ : St) (y : Int32 × St) (h : fX1_byChance φ this v1 v2 σ = some y) : AMet E l yX1_byChance (ws_ yX1_byChance cX1_byChance 7 (some .int)) (d + 3) [.inr (.inr (some this)), .inl v1, .inl v2] σ (some (.inl y.1)) y.2 := by
  refine amet_of hE (by decide +kernel) (Nat.le_of_ble_eq_true rfl) fun C e1 e2 X XI => ?_
  subst e1
  exact wX1_byChance X φ this v1 v2 σ y h
theorem wX1_counted_l4 {C : CT} {d : Nat} {Z : State → Prop} (X : Cx C cX1_counted RX1 (some .int) 5 (d + 1)) (φ : Nat) (this : Nat) (v1 : Int32) (σ : St) (v2 : Int32) (v3 : Int32) (y : (Int32 × Int32) ⊕ (Int32)) (h : fX1_counted_l4 φ this v1 σ v2 v3 = some y) (kH : ∀ s : Int32 × Int32, y = .inl s → AW C 4 [(0, .inr (.inr (some this))), (1, .inl v1), (2, .inl s.1), (3, .inl s.2)] [] σ Z) (kE0 : ∀ e : Int32, y = .inr e → AW C 38 [(0, .inr (.inr (some this))), (1, .inl v1), (2, .inl e)] [] σ Z) : AW C 4 [(0, .inr (.inr (some this))), (1, .inl v1), (2, .inl v2), (3, .inl v3)] [] σ Z := by
  unfold fX1_counted_l4 at h
  refine aw_iload_n X dX1_counted_4 3 3 rfl rfl ?_
  refine aw_bipush X (6 : Int32) dX1_counted_5 (by decide) ?_
  refine aw_icmp_ge X 38 dX1_counted_7 rfl (fun c1 => ?_) (fun c1 => ?_)
  · rw [if_pos c1] at h
    cases h
    refine aw_sub [(0, .inr (.inr (some this))), (1, .inl v1), (2, .inl v2)] [0, 1, 2] rfl ?_
    exact kE0 v2 rfl
  · rw [if_neg c1] at h
    refine aw_iload_n X dX1_counted_10 2 2 rfl rfl ?_
    refine aw_iload_n X dX1_counted_11 1 1 rfl rfl ?_
    refine aw_iconst X (1 : Int32) dX1_counted_12 (by decide) ?_
    refine aw_icmp_ne X 29 dX1_counted_13 rfl (fun c2 => ?_) (fun c2 => ?_)
    · rw [if_neg c2] at h
      refine aw_iconst X (0 : Int32) dX1_counted_29 (by decide) ?_
      refine aw_iadd X dX1_counted_30 ?_
      refine aw_istore_n X dX1_counted_31 2 rfl (by decide) [(2, .inl (v2 + (0 : Int32))), (0, .inr (.inr (some this))), (1, .inl v1), (3, .inl v3)] rfl ?_
      refine aw_iinc X dX1_counted_32 3 rfl (1 : Int32) rfl (by decide) [(3, .inl (v3 + (1 : Int32))), (2, .inl (v2 + (0 : Int32))), (0, .inr (.inr (some this))), (1, .inl v1)] rfl ?_
      refine aw_goto X 4 dX1_counted_35 rfl ?_
      cases h
      refine aw_sub [(0, .inr (.inr (some this))), (1, .inl v1), (2, .inl (v2 + (0 : Int32))), (3, .inl (v3 + (1 : Int32)))] [2, 3, 1, 0] rfl ?_
      exact kH ((v2 + (0 : Int32)), (v3 + (1 : Int32))) rfl
    · rw [if_pos c2] at h
      refine aw_aload_n X dX1_counted_16 0 0 rfl rfl ?_
      obtain ⟨x3, hx3, h⟩ := bind_some h
      refine aw_gfR X fl_X1_13 dX1_counted_17 hx3 ?_
      refine aw_iload_n X dX1_counted_20 3 3 rfl rfl ?_
      obtain ⟨x4, hx4, h⟩ := bind_some h
      refine aw_iald X dX1_counted_21 hx4 ?_
      refine aw_if_lt X 29 dX1_counted_22 rfl (fun c5 => ?_) (fun c5 => ?_)
      · rw [if_pos c5] at h
        refine aw_iconst X (0 : Int32) dX1_counted_29 (by decide) ?_
        refine aw_iadd X dX1_counted_30 ?_
        refine aw_istore_n X dX1_counted_31 2 rfl (by decide) [(2, .inl (v2 + (0 : Int32))), (0, .inr (.inr (some this))), (1, .inl v1), (3, .inl v3)] rfl ?_
        refine aw_iinc X dX1_counted_32 3 rfl (1 : Int32) rfl (by decide) [(3, .inl (v3 + (1 : Int32))), (2, .inl (v2 + (0 : Int32))), (0, .inr (.inr (some this))), (1, .inl v1)] rfl ?_
        refine aw_goto X 4 dX1_counted_35 rfl ?_
        cases h
        refine aw_sub [(0, .inr (.inr (some this))), (1, .inl v1), (2, .inl (v2 + (0 : Int32))), (3, .inl (v3 + (1 : Int32)))] [2, 3, 1, 0] rfl ?_
        exact kH ((v2 + (0 : Int32)), (v3 + (1 : Int32))) rfl
      · rw [if_neg c5] at h
        refine aw_iconst X (1 : Int32) dX1_counted_25 (by decide) ?_
        refine aw_goto X 30 dX1_counted_26 rfl ?_
        refine aw_iadd X dX1_counted_30 ?_
        refine aw_istore_n X dX1_counted_31 2 rfl (by decide) [(2, .inl (v2 + (1 : Int32))), (0, .inr (.inr (some this))), (1, .inl v1), (3, .inl v3)] rfl ?_
        refine aw_iinc X dX1_counted_32 3 rfl (1 : Int32) rfl (by decide) [(3, .inl (v3 + (1 : Int32))), (2, .inl (v2 + (1 : Int32))), (0, .inr (.inr (some this))), (1, .inl v1)] rfl ?_
        refine aw_goto X 4 dX1_counted_35 rfl ?_
        cases h
        refine aw_sub [(0, .inr (.inr (some this))), (1, .inl v1), (2, .inl (v2 + (1 : Int32))), (3, .inl (v3 + (1 : Int32)))] [2, 3, 1, 0] rfl ?_
        exact kH ((v2 + (1 : Int32)), (v3 + (1 : Int32))) rfl
theorem wX1_counted_l40 {C : CT} {d : Nat} {Z : State → Prop} (X : Cx C cX1_counted RX1 (some .int) 5 (d + 1)) (φ : Nat) (this : Nat) (v1 : Int32) (σ : St) (v2 : Int32) (v3 : Int32) (y : (Int32 × Int32) ⊕ (Int32)) (h : fX1_counted_l40 φ this v1 σ v2 v3 = some y) (kH : ∀ s : Int32 × Int32, y = .inl s → AW C 40 [(0, .inr (.inr (some this))), (1, .inl v1), (2, .inl s.1), (3, .inl s.2)] [] σ Z) (kE0 : ∀ e : Int32, y = .inr e → AW C 73 [(0, .inr (.inr (some this))), (1, .inl v1), (2, .inl e)] [] σ Z) : AW C 40 [(0, .inr (.inr (some this))), (1, .inl v1), (2, .inl v2), (3, .inl v3)] [] σ Z := by
  unfold fX1_counted_l40 at h
  refine aw_iload_n X dX1_counted_40 3 3 rfl rfl ?_
  refine aw_iconst X (4 : Int32) dX1_counted_41 (by decide) ?_
  refine aw_icmp_ge X 73 dX1_counted_42 rfl (fun c8 => ?_) (fun c8 => ?_)
  · rw [if_pos c8] at h
    cases h
    refine aw_sub [(0, .inr (.inr (some this))), (1, .inl v1), (2, .inl v2)] [0, 1, 2] rfl ?_
    exact kE0 v2 rfl
  · rw [if_neg c8] at h
    refine aw_iload_n X dX1_counted_45 2 2 rfl rfl ?_
    refine aw_iload_n X dX1_counted_46 1 1 rfl rfl ?_
    refine aw_iconst X (2 : Int32) dX1_counted_47 (by decide) ?_
    refine aw_icmp_ne X 64 dX1_counted_48 rfl (fun c9 => ?_) (fun c9 => ?_)
    · rw [if_neg c9] at h
      refine aw_iconst X (0 : Int32) dX1_counted_64 (by decide) ?_
      refine aw_iadd X dX1_counted_65 ?_
      refine aw_istore_n X dX1_counted_66 2 rfl (by decide) [(2, .inl (v2 + (0 : Int32))), (0, .inr (.inr (some this))), (1, .inl v1), (3, .inl v3)] rfl ?_
      refine aw_iinc X dX1_counted_67 3 rfl (1 : Int32) rfl (by decide) [(3, .inl (v3 + (1 : Int32))), (2, .inl (v2 + (0 : Int32))), (0, .inr (.inr (some this))), (1, .inl v1)] rfl ?_
      refine aw_goto X 40 dX1_counted_70 rfl ?_
      cases h
      refine aw_sub [(0, .inr (.inr (some this))), (1, .inl v1), (2, .inl (v2 + (0 : Int32))), (3, .inl (v3 + (1 : Int32)))] [2, 3, 1, 0] rfl ?_
      exact kH ((v2 + (0 : Int32)), (v3 + (1 : Int32))) rfl
    · rw [if_pos c9] at h
      refine aw_aload_n X dX1_counted_51 0 0 rfl rfl ?_
      obtain ⟨x10, hx10, h⟩ := bind_some h
      refine aw_gfR X fl_X1_22 dX1_counted_52 hx10 ?_
      refine aw_iload_n X dX1_counted_55 3 3 rfl rfl ?_
      obtain ⟨x11, hx11, h⟩ := bind_some h
      refine aw_iald X dX1_counted_56 hx11 ?_
      refine aw_if_lt X 64 dX1_counted_57 rfl (fun c12 => ?_) (fun c12 => ?_)
      · rw [if_pos c12] at h
        refine aw_iconst X (0 : Int32) dX1_counted_64 (by decide) ?_
        refine aw_iadd X dX1_counted_65 ?_
        refine aw_istore_n X dX1_counted_66 2 rfl (by decide) [(2, .inl (v2 + (0 : Int32))), (0, .inr (.inr (some this))), (1, .inl v1), (3, .inl v3)] rfl ?_
        refine aw_iinc X dX1_counted_67 3 rfl (1 : Int32) rfl (by decide) [(3, .inl (v3 + (1 : Int32))), (2, .inl (v2 + (0 : Int32))), (0, .inr (.inr (some this))), (1, .inl v1)] rfl ?_
        refine aw_goto X 40 dX1_counted_70 rfl ?_
        cases h
        refine aw_sub [(0, .inr (.inr (some this))), (1, .inl v1), (2, .inl (v2 + (0 : Int32))), (3, .inl (v3 + (1 : Int32)))] [2, 3, 1, 0] rfl ?_
        exact kH ((v2 + (0 : Int32)), (v3 + (1 : Int32))) rfl
      · rw [if_neg c12] at h
        refine aw_iconst X (1 : Int32) dX1_counted_60 (by decide) ?_
        refine aw_goto X 65 dX1_counted_61 rfl ?_
        refine aw_iadd X dX1_counted_65 ?_
        refine aw_istore_n X dX1_counted_66 2 rfl (by decide) [(2, .inl (v2 + (1 : Int32))), (0, .inr (.inr (some this))), (1, .inl v1), (3, .inl v3)] rfl ?_
        refine aw_iinc X dX1_counted_67 3 rfl (1 : Int32) rfl (by decide) [(3, .inl (v3 + (1 : Int32))), (2, .inl (v2 + (1 : Int32))), (0, .inr (.inr (some this))), (1, .inl v1)] rfl ?_
        refine aw_goto X 40 dX1_counted_70 rfl ?_
        cases h
        refine aw_sub [(0, .inr (.inr (some this))), (1, .inl v1), (2, .inl (v2 + (1 : Int32))), (3, .inl (v3 + (1 : Int32)))] [2, 3, 1, 0] rfl ?_
        exact kH ((v2 + (1 : Int32)), (v3 + (1 : Int32))) rfl
theorem wX1_counted_b123 {C : CT} {d : Nat} {Z : State → Prop} (X : Cx C cX1_counted RX1 (some .int) 5 (d + 1)) (φ : Nat) (this : Nat) (v1 : Int32) (v3 : Int32) (v4 : Int32) (k0 : Int32) (σ : St) (y : (Int32 × Int32) ⊕ (Int32)) (h : fX1_counted_b123 φ this v1 v3 v4 k0 σ = some y) (kH : ∀ s : Int32 × Int32, y = .inl s → AW C 75 [(0, .inr (.inr (some this))), (1, .inl v1), (2, .inl s.1), (3, .inl s.2)] [] σ Z) (kE0 : ∀ e : Int32, y = .inr e → AW C 151 [(0, .inr (.inr (some this))), (1, .inl v1), (2, .inl e)] [] σ Z) : AW C 123 [(0, .inr (.inr (some this))), (1, .inl v1), (3, .inl v3), (4, .inl v4)] [.inl k0] σ Z := by
  unfold fX1_counted_b123 at h
  refine aw_iload_n X dX1_counted_123 1 1 rfl rfl ?_
  refine aw_iconst X (5 : Int32) dX1_counted_124 (by decide) ?_
  refine aw_icmp_ne X 142 dX1_counted_125 rfl (fun c19 => ?_) (fun c19 => ?_)
  · rw [if_neg c19] at h
    refine aw_iconst X (0 : Int32) dX1_counted_142 (by decide) ?_
    refine aw_iadd X dX1_counted_143 ?_
    refine aw_istore_n X dX1_counted_144 2 rfl (by decide) [(2, .inl (k0 + (0 : Int32))), (0, .inr (.inr (some this))), (1, .inl v1), (3, .inl v3), (4, .inl v4)] rfl ?_
    refine aw_iinc X dX1_counted_145 3 rfl (1 : Int32) rfl (by decide) [(3, .inl (v3 + (1 : Int32))), (2, .inl (k0 + (0 : Int32))), (0, .inr (.inr (some this))), (1, .inl v1), (4, .inl v4)] rfl ?_
    refine aw_goto X 75 dX1_counted_148 rfl ?_
    cases h
    refine aw_sub [(0, .inr (.inr (some this))), (1, .inl v1), (2, .inl (k0 + (0 : Int32))), (3, .inl (v3 + (1 : Int32)))] [2, 3, 1, 0] rfl ?_
    exact kH ((k0 + (0 : Int32)), (v3 + (1 : Int32))) rfl
  · rw [if_pos c19] at h
    refine aw_iload X dX1_counted_128 3 rfl ?_
    refine aw_if_eq X 142 dX1_counted_130 rfl (fun c20 => ?_) (fun c20 => ?_)
    · rw [if_pos c20] at h
      refine aw_iconst X (0 : Int32) dX1_counted_142 (by decide) ?_
      refine aw_iadd X dX1_counted_143 ?_
      refine aw_istore_n X dX1_counted_144 2 rfl (by decide) [(2, .inl (k0 + (0 : Int32))), (0, .inr (.inr (some this))), (1, .inl v1), (3, .inl v3), (4, .inl v4)] rfl ?_
      refine aw_iinc X dX1_counted_145 3 rfl (1 : Int32) rfl (by decide) [(3, .inl (v3 + (1 : Int32))), (2, .inl (k0 + (0 : Int32))), (0, .inr (.inr (some this))), (1, .inl v1), (4, .inl v4)] rfl ?_
      refine aw_goto X 75 dX1_counted_148 rfl ?_
      cases h
      refine aw_sub [(0, .inr (.inr (some this))), (1, .inl v1), (2, .inl (k0 + (0 : Int32))), (3, .inl (v3 + (1 : Int32)))] [2, 3, 1, 0] rfl ?_
      exact kH ((k0 + (0 : Int32)), (v3 + (1 : Int32))) rfl
    · rw [if_neg c20] at h
      refine aw_aload_n X dX1_counted_133 0 0 rfl rfl ?_
      obtain ⟨x21, hx21, h⟩ := bind_some h
      refine aw_gfR X fl_X1_29 dX1_counted_134 hx21 ?_
      refine aw_iload_n X dX1_counted_137 2 3 rfl rfl ?_
      obtain ⟨x22, hx22, h⟩ := bind_some h
      refine aw_iald X dX1_counted_138 hx22 ?_
      refine aw_goto X 143 dX1_counted_139 rfl ?_
      refine aw_iadd X dX1_counted_143 ?_
      refine aw_istore_n X dX1_counted_144 2 rfl (by decide) [(2, .inl (k0 + x22)), (0, .inr (.inr (some this))), (1, .inl v1), (3, .inl v3), (4, .inl v4)] rfl ?_
      refine aw_iinc X dX1_counted_145 3 rfl (1 : Int32) rfl (by decide) [(3, .inl (v3 + (1 : Int32))), (2, .inl (k0 + x22)), (0, .inr (.inr (some this))), (1, .inl v1), (4, .inl v4)] rfl ?_
      refine aw_goto X 75 dX1_counted_148 rfl ?_
      cases h
      refine aw_sub [(0, .inr (.inr (some this))), (1, .inl v1), (2, .inl (k0 + x22)), (3, .inl (v3 + (1 : Int32)))] [2, 3, 1, 0] rfl ?_
      exact kH ((k0 + x22), (v3 + (1 : Int32))) rfl
theorem wX1_counted_b99 {C : CT} {d : Nat} {Z : State → Prop} (X : Cx C cX1_counted RX1 (some .int) 5 (d + 1)) (φ : Nat) (this : Nat) (v1 : Int32) (v3 : Int32) (v4 : Int32) (k0 : Int32) (σ : St) (y : (Int32 × Int32) ⊕ (Int32)) (h : fX1_counted_b99 φ this v1 v3 v4 k0 σ = some y) (kH : ∀ s : Int32 × Int32, y = .inl s → AW C 75 [(0, .inr (.inr (some this))), (1, .inl v1), (2, .inl s.1), (3, .inl s.2)] [] σ Z) (kE0 : ∀ e : Int32, y = .inr e → AW C 151 [(0, .inr (.inr (some this))), (1, .inl v1), (2, .inl e)] [] σ Z) : AW C 99 [(0, .inr (.inr (some this))), (1, .inl v1), (3, .inl v3), (4, .inl v4)] [.inl k0] σ Z := by
  unfold fX1_counted_b99 at h
  refine aw_iload_n X dX1_counted_99 1 1 rfl rfl ?_
  refine aw_iconst X (4 : Int32) dX1_counted_100 (by decide) ?_
  refine aw_icmp_ne X 123 dX1_counted_101 rfl (fun c18 => ?_) (fun c18 => ?_)
  · rw [if_neg c18] at h
    exact wX1_counted_b123 X φ this v1 v3 v4 k0 σ y h kH kE0
  · rw [if_pos c18] at h
    refine aw_iload X dX1_counted_104 3 rfl ?_
    refine aw_if_eq X 123 dX1_counted_106 rfl (fun c23 => ?_) (fun c23 => ?_)
    · rw [if_pos c23] at h
      exact wX1_counted_b123 X φ this v1 v3 v4 k0 σ y h kH kE0
    · rw [if_neg c23] at h
      refine aw_aload_n X dX1_counted_109 0 0 rfl rfl ?_
      obtain ⟨x24, hx24, h⟩ := bind_some h
      refine aw_gfR X fl_X1_35 dX1_counted_110 hx24 ?_
      refine aw_iload_n X dX1_counted_113 2 3 rfl rfl ?_
      obtain ⟨x25, hx25, h⟩ := bind_some h
      refine aw_iald X dX1_counted_114 hx25 ?_
      refine aw_iconst X (1 : Int32) dX1_counted_115 (by decide) ?_
      refine aw_icmp_le X 123 dX1_counted_116 rfl (fun c26 => ?_) (fun c26 => ?_)
      · rw [if_pos c26] at h
        exact wX1_counted_b123 X φ this v1 v3 v4 k0 σ y h kH kE0
      · rw [if_neg c26] at h
        refine aw_iconst X (1 : Int32) dX1_counted_119 (by decide) ?_
        refine aw_goto X 143 dX1_counted_120 rfl ?_
        refine aw_iadd X dX1_counted_143 ?_
        refine aw_istore_n X dX1_counted_144 2 rfl (by decide) [(2, .inl (k0 + (1 : Int32))), (0, .inr (.inr (some this))), (1, .inl v1), (3, .inl v3), (4, .inl v4)] rfl ?_
        refine aw_iinc X dX1_counted_145 3 rfl (1 : Int32) rfl (by decide) [(3, .inl (v3 + (1 : Int32))), (2, .inl (k0 + (1 : Int32))), (0, .inr (.inr (some this))), (1, .inl v1), (4, .inl v4)] rfl ?_
        refine aw_goto X 75 dX1_counted_148 rfl ?_
        cases h
        refine aw_sub [(0, .inr (.inr (some this))), (1, .inl v1), (2, .inl (k0 + (1 : Int32))), (3, .inl (v3 + (1 : Int32)))] [2, 3, 1, 0] rfl ?_
        exact kH ((k0 + (1 : Int32)), (v3 + (1 : Int32))) rfl
theorem wX1_counted_l75 {C : CT} {d : Nat} {Z : State → Prop} (X : Cx C cX1_counted RX1 (some .int) 5 (d + 1)) (φ : Nat) (this : Nat) (v1 : Int32) (σ : St) (v2 : Int32) (v3 : Int32) (y : (Int32 × Int32) ⊕ (Int32)) (h : fX1_counted_l75 φ this v1 σ v2 v3 = some y) (kH : ∀ s : Int32 × Int32, y = .inl s → AW C 75 [(0, .inr (.inr (some this))), (1, .inl v1), (2, .inl s.1), (3, .inl s.2)] [] σ Z) (kE0 : ∀ e : Int32, y = .inr e → AW C 151 [(0, .inr (.inr (some this))), (1, .inl v1), (2, .inl e)] [] σ Z) : AW C 75 [(0, .inr (.inr (some this))), (1, .inl v1), (2, .inl v2), (3, .inl v3)] [] σ Z := by
  unfold fX1_counted_l75 at h
  refine aw_iload_n X dX1_counted_75 3 3 rfl rfl ?_
  refine aw_bipush X (8 : Int32) dX1_counted_76 (by decide) ?_
  refine aw_icmp_ge X 151 dX1_counted_78 rfl (fun c15 => ?_) (fun c15 => ?_)
  · rw [if_pos c15] at h
    cases h
    refine aw_sub [(0, .inr (.inr (some this))), (1, .inl v1), (2, .inl v2)] [0, 1, 2] rfl ?_
    exact kE0 v2 rfl
  · rw [if_neg c15] at h
    refine aw_aload_n X dX1_counted_81 0 0 rfl rfl ?_
    refine aw_iload_n X dX1_counted_82 3 3 rfl rfl ?_
    obtain ⟨y16, hy16, h⟩ := bind_some h
    refine aw_cV X (st := []) hy16 [.inl v3] rfl rfl ml_X1_185 (fun o h => AX1_isThere (Cx.ok X) φ d _ _ _ _ h) dX1_counted_83 (Nat.le_of_ble_eq_true rfl) ?_
    refine aw_istore X dX1_counted_86 (by decide) [(4, .inl y16), (0, .inr (.inr (some this))), (1, .inl v1), (2, .inl v2), (3, .inl v3)] rfl ?_
    refine aw_iload_n X dX1_counted_88 3 2 rfl rfl ?_
    refine aw_iload_n X dX1_counted_89 2 1 rfl rfl ?_
    refine aw_iconst X (3 : Int32) dX1_counted_90 (by decide) ?_
    refine aw_icmp_ne X 99 dX1_counted_91 rfl (fun c17 => ?_) (fun c17 => ?_)
    · rw [if_neg c17] at h
      refine aw_sub [(0, .inr (.inr (some this))), (1, .inl v1), (3, .inl v3), (4, .inl y16)] [1, 2, 4, 0] rfl ?_
      exact wX1_counted_b99 X φ this v1 v3 y16 v2 σ y h kH kE0
    · rw [if_pos c17] at h
      refine aw_iload X dX1_counted_94 0 rfl ?_
      refine aw_if_ne X 119 dX1_counted_96 rfl (fun c27 => ?_) (fun c27 => ?_)
      · rw [if_neg c27] at h
        refine aw_iconst X (1 : Int32) dX1_counted_119 (by decide) ?_
        refine aw_goto X 143 dX1_counted_120 rfl ?_
        refine aw_iadd X dX1_counted_143 ?_
        refine aw_istore_n X dX1_counted_144 2 rfl (by decide) [(2, .inl (v2 + (1 : Int32))), (4, .inl y16), (0, .inr (.inr (some this))), (1, .inl v1), (3, .inl v3)] rfl ?_
        refine aw_iinc X dX1_counted_145 4 rfl (1 : Int32) rfl (by decide) [(3, .inl (v3 + (1 : Int32))), (2, .inl (v2 + (1 : Int32))), (4, .inl y16), (0, .inr (.inr (some this))), (1, .inl v1)] rfl ?_
        refine aw_goto X 75 dX1_counted_148 rfl ?_
        cases h
        refine aw_sub [(0, .inr (.inr (some this))), (1, .inl v1), (2, .inl (v2 + (1 : Int32))), (3, .inl (v3 + (1 : Int32)))] [3, 4, 1, 0] rfl ?_
        exact kH ((v2 + (1 : Int32)), (v3 + (1 : Int32))) rfl
      · rw [if_pos c27] at h
        refine aw_sub [(0, .inr (.inr (some this))), (1, .inl v1), (3, .inl v3), (4, .inl y16)] [1, 2, 4, 0] rfl ?_
        exact wX1_counted_b99 X φ this v1 v3 y16 v2 σ y h kH kE0
theorem wX1_counted {C : CT} {d : Nat} (X : Cx C cX1_counted RX1 (some .int) 5 (d + 1)) (φ : Nat) (this : Nat) (v1 : Int32) (σ : St) (y : Int32) (h : fX1_counted φ this v1 σ = some y) : AW C 0 [(0, .inr (.inr (some this))), (1, .inl v1)] [] σ (AQ C (some (.inl y)) σ) := by
  unfold fX1_counted at h
  refine aw_iconst X (0 : Int32) dX1_counted_0 (by decide) ?_
  refine aw_istore_n X dX1_counted_1 2 rfl (by decide) [(2, .inl (0 : Int32)), (0, .inr (.inr (some this))), (1, .inl v1)] rfl ?_
  refine aw_iconst X (0 : Int32) dX1_counted_2 (by decide) ?_
  refine aw_istore_n X dX1_counted_3 3 rfl (by decide) [(3, .inl (0 : Int32)), (2, .inl (0 : Int32)), (0, .inr (.inr (some this))), (1, .inl v1)] rfl ?_
  obtain ⟨e6, h7, h⟩ := bind_some h
  refine aw_sub [(0, .inr (.inr (some this))), (1, .inl v1), (2, .inl (0 : Int32)), (3, .inl (0 : Int32))] [2, 3, 1, 0] rfl ?_
  refine aw_it (fun s => AW C 4 [(0, .inr (.inr (some this))), (1, .inl v1), (2, .inl s.1), (3, .inl s.2)] [] σ (AQ C (some (.inl y)) σ)) (fun e => AW C 38 [(0, .inr (.inr (some this))), (1, .inl v1), (2, .inl e)] [] σ (AQ C (some (.inl y)) σ)) (fun s r hr kH kE => wX1_counted_l4 X φ this v1 σ s.1 s.2 r hr kH kE) φ _ e6 h7 ?_
  refine aw_iconst X (0 : Int32) dX1_counted_38 (by decide) ?_
  refine aw_istore_n X dX1_counted_39 3 rfl (by decide) [(3, .inl (0 : Int32)), (0, .inr (.inr (some this))), (1, .inl v1), (2, .inl e6)] rfl ?_
  obtain ⟨e13, h14, h⟩ := bind_some h
  refine aw_sub [(0, .inr (.inr (some this))), (1, .inl v1), (2, .inl e6), (3, .inl (0 : Int32))] [1, 2, 3, 0] rfl ?_
  refine aw_it (fun s => AW C 40 [(0, .inr (.inr (some this))), (1, .inl v1), (2, .inl s.1), (3, .inl s.2)] [] σ (AQ C (some (.inl y)) σ)) (fun e => AW C 73 [(0, .inr (.inr (some this))), (1, .inl v1), (2, .inl e)] [] σ (AQ C (some (.inl y)) σ)) (fun s r hr kH kE => wX1_counted_l40 X φ this v1 σ s.1 s.2 r hr kH kE) φ _ e13 h14 ?_
  refine aw_iconst X (0 : Int32) dX1_counted_73 (by decide) ?_
  refine aw_istore_n X dX1_counted_74 3 rfl (by decide) [(3, .inl (0 : Int32)), (0, .inr (.inr (some this))), (1, .inl v1), (2, .inl e13)] rfl ?_
  obtain ⟨e28, h29, h⟩ := bind_some h
  refine aw_sub [(0, .inr (.inr (some this))), (1, .inl v1), (2, .inl e13), (3, .inl (0 : Int32))] [1, 2, 3, 0] rfl ?_
  refine aw_it (fun s => AW C 75 [(0, .inr (.inr (some this))), (1, .inl v1), (2, .inl s.1), (3, .inl s.2)] [] σ (AQ C (some (.inl y)) σ)) (fun e => AW C 151 [(0, .inr (.inr (some this))), (1, .inl v1), (2, .inl e)] [] σ (AQ C (some (.inl y)) σ)) (fun s r hr kH kE => wX1_counted_l75 X φ this v1 σ s.1 s.2 r hr kH kE) φ _ e28 h29 ?_
  refine aw_iload_n X dX1_counted_151 1 1 rfl rfl ?_
  refine aw_if_ne X 162 dX1_counted_152 rfl (fun c30 => ?_) (fun c30 => ?_)
  · rw [if_neg c30] at h
    refine aw_iload_n X dX1_counted_162 2 2 rfl rfl ?_
    cases h
    exact aw_iret X dX1_counted_163
  · rw [if_pos c30] at h
    refine aw_aload_n X dX1_counted_155 0 0 rfl rfl ?_
    obtain ⟨x31, hx31, h⟩ := bind_some h
    refine aw_gfI X fl_X1_110 dX1_counted_156 hx31 ?_
    refine aw_goto X 163 dX1_counted_159 rfl ?_
    cases h
    exact aw_iret X dX1_counted_163
theorem AX1_counted {E : AE} {l : Launch} (hE : EOK E l) (φ d : Nat) (this : Nat) (v1 : Int32) (σ : St) (y : Int32) (h : fX1_counted φ this v1 σ = some y) : AMet E l yX1_counted (ws_ yX1_counted cX1_counted 5 (some .int)) (d + 1) [.inr (.inr (some this)), .inl v1] σ (some (.inl y)) σ := by
  refine amet_of hE (by decide +kernel) (Nat.le_of_ble_eq_true rfl) fun C e1 e2 X XI => ?_
  subst e1
  exact wX1_counted X φ this v1 σ y h
theorem wX1_count {C : CT} {d : Nat} (X : Cx C cX1_count RX1 (some .int) 2 (d + 2)) (φ : Nat) (this : Nat) (v1 : Int32) (σ : St) (y : Int32) (h : fX1_count φ this v1 σ = some y) : AW C 0 [(0, .inr (.inr (some this))), (1, .inl v1)] [] σ (AQ C (some (.inl y)) σ) := by
  unfold fX1_count at h
  refine aw_iload_n X dX1_count_0 1 1 rfl rfl ?_
  refine aw_iconst X (0 : Int32) dX1_count_1 (by decide) ?_
  refine aw_iconst X (5 : Int32) dX1_count_2 (by decide) ?_
  obtain ⟨y1, hy1, h⟩ := bind_some h
  refine aw_callS X (st := []) [.inl v1, .inl (0 : Int32), .inl (5 : Int32)] rfl ml_X1_117 (AX1_in (Cx.ok X) φ (d + 1) _ _ _ _ _  hy1) dX1_count_3 (Nat.le_of_ble_eq_true rfl) ?_
  refine aw_if_eq X 17 dX1_count_6 rfl (fun c2 => ?_) (fun c2 => ?_)
  · rw [if_pos c2] at h
    refine aw_iconst X (-1 : Int32) dX1_count_17 (by decide) ?_
    cases h
    exact aw_iret X dX1_count_18
  · rw [if_neg c2] at h
    refine aw_aload_n X dX1_count_9 0 0 rfl rfl ?_
    refine aw_iload_n X dX1_count_10 1 1 rfl rfl ?_
    obtain ⟨y3, hy3, h⟩ := bind_some h
    refine aw_cV X (st := []) hy3 [.inl v1] rfl rfl ml_X1_312 (fun o h => AX1_counted (Cx.ok X) φ d _ _ _ _ h) dX1_count_11 (Nat.le_of_ble_eq_true rfl) ?_
    refine aw_goto X 18 dX1_count_14 rfl ?_
    cases h
    exact aw_iret X dX1_count_18
theorem AX1_count {E : AE} {l : Launch} (hE : EOK E l) (φ d : Nat) (this : Nat) (v1 : Int32) (σ : St) (y : Int32) (h : fX1_count φ this v1 σ = some y) : AMet E l yX1_count (ws_ yX1_count cX1_count 2 (some .int)) (d + 2) [.inr (.inr (some this)), .inl v1] σ (some (.inl y)) σ := by
  refine amet_of hE (by decide +kernel) (Nat.le_of_ble_eq_true rfl) fun C e1 e2 X XI => ?_
  subst e1
  exact wX1_count X φ this v1 σ y h
