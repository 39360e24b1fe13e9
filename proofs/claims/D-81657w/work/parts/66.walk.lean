/-! walks (written by gen2.py): X1_mix X1_mixWord X1_digest -/
set_option maxRecDepth 100000
theorem wX1_mix {C : CT} {d : Nat} (X : Cx C cX1_mix RX1 none 3 d) (φ : Nat) (this : Nat) (v1 : Int64) (σ : St) (y : St) (h : fX1_mix φ this v1 σ = some y) : AW C 0 [(0, .inr (.inr (some this))), (1, .inr (.inl v1))] [] σ (AQ C none y) := by
  unfold fX1_mix at h
  refine aw_aload_n X dX1_mix_0 0 0 rfl rfl ?_
  refine aw_ldc2 X q1393 dX1_mix_1 ?_
  refine aw_aload_n X dX1_mix_4 0 0 rfl rfl ?_
  obtain ⟨x1, hx1, h⟩ := bind_some h
  refine aw_gfL X fl_X1_317 dX1_mix_5 hx1 ?_
  refine aw_lmul X dX1_mix_8 ?_
  refine aw_lload_n X dX1_mix_9 1 1 rfl rfl ?_
  refine aw_ladd X dX1_mix_10 ?_
  obtain ⟨s2, hs2, h⟩ := bind_some h
  refine aw_pfL X fl_X1_317 dX1_mix_11 hs2 ?_
  cases h
  exact aw_vret X dX1_mix_14
theorem AX1_mix {E : AE} {l : Launch} (hE : EOK E l) (φ d : Nat) (this : Nat) (v1 : Int64) (σ : St) (y : St) (h : fX1_mix φ this v1 σ = some y) : AMet E l yX1_mix (ws_ yX1_mix cX1_mix 3 none) d [.inr (.inr (some this)), .inr (.inl v1)] σ none y := by
  refine amet_of hE (by decide +kernel) (Nat.le_of_ble_eq_true rfl) fun C e1 e2 X XI => ?_
  subst e1
  exact wX1_mix X φ this v1 σ y h
theorem wX1_mixWord_l48 {C : CT} {d : Nat} {Z : State → Prop} (X : Cx C cX1_mixWord RX1 none 3 (d + 1)) (φ : Nat) (this : Nat) (v1 : Int32) (v2 : Int32) (σ : St) (y : (Int32 × St) ⊕ (St)) (h : fX1_mixWord_l48 φ this v1 v2 σ = some y) (kH : ∀ s : Int32 × St, y = .inl s → AW C 48 [(0, .inr (.inr (some this))), (1, .inl v1), (2, .inl s.1)] [] s.2 Z) (kE0 : ∀ e : St, y = .inr e → AW C 75 [] [] e Z) : AW C 48 [(0, .inr (.inr (some this))), (1, .inl v1), (2, .inl v2)] [] σ Z := by
  unfold fX1_mixWord_l48 at h
  refine aw_iload_n X dX1_mixWord_48 2 2 rfl rfl ?_
  refine aw_aload_n X dX1_mixWord_49 0 0 rfl rfl ?_
  obtain ⟨x14, hx14, h⟩ := bind_some h
  refine aw_gfR X fl_X1_29 dX1_mixWord_50 hx14 ?_
  refine aw_iload_n X dX1_mixWord_53 1 1 rfl rfl ?_
  obtain ⟨x15, hx15, h⟩ := bind_some h
  refine aw_iald X dX1_mixWord_54 hx15 ?_
  refine aw_icmp_ge X 75 dX1_mixWord_55 rfl (fun c16 => ?_) (fun c16 => ?_)
  · rw [if_pos c16] at h
    cases h
    refine aw_sub [] [] rfl ?_
    exact kE0 σ rfl
  · rw [if_neg c16] at h
    refine aw_aload_n X dX1_mixWord_58 0 0 rfl rfl ?_
    refine aw_aload_n X dX1_mixWord_59 0 0 rfl rfl ?_
    refine aw_iload_n X dX1_mixWord_60 1 1 rfl rfl ?_
    refine aw_iload_n X dX1_mixWord_61 2 2 rfl rfl ?_
    obtain ⟨y17, hy17, h⟩ := bind_some h
    refine aw_cV X (st := [.inr (.inr (some this))]) hy17 [.inl v1, .inl v2] rfl rfl ml_X1_148 (fun o h => AX1_at0 (Cx.ok X) φ d _ _ _ _ _ h) dX1_mixWord_62 (Nat.le_of_ble_eq_true rfl) ?_
    refine aw_i2l X dX1_mixWord_65 ?_
    obtain ⟨y18, hy18, h⟩ := bind_some h
    refine aw_cV X (st := []) hy18 [.inr (.inl (y17.toInt64))] rfl rfl ml_X1_320 (fun o h => AX1_mix (Cx.ok X) φ d _ _ _ _ h) dX1_mixWord_66 (Nat.le_of_ble_eq_true rfl) ?_
    refine aw_iinc X dX1_mixWord_69 2 rfl (1 : Int32) rfl (by decide) [(2, .inl (v2 + (1 : Int32))), (0, .inr (.inr (some this))), (1, .inl v1)] rfl ?_
    refine aw_goto X 48 dX1_mixWord_72 rfl ?_
    cases h
    refine aw_sub [(0, .inr (.inr (some this))), (1, .inl v1), (2, .inl (v2 + (1 : Int32)))] [1, 2, 0] rfl ?_
    exact kH ((v2 + (1 : Int32)), y18) rfl
theorem wX1_mixWord {C : CT} {d : Nat} (X : Cx C cX1_mixWord RX1 none 3 (d + 1)) (φ : Nat) (this : Nat) (v1 : Int32) (σ : St) (y : St) (h : fX1_mixWord φ this v1 σ = some y) : AW C 0 [(0, .inr (.inr (some this))), (1, .inl v1)] [] σ (AQ C none y) := by
  unfold fX1_mixWord at h
  refine aw_aload_n X dX1_mixWord_0 0 0 rfl rfl ?_
  refine aw_iload_n X dX1_mixWord_1 1 1 rfl rfl ?_
  obtain ⟨y1, hy1, h⟩ := bind_some h
  refine aw_cV X (st := []) hy1 [.inl v1] rfl rfl ml_X1_185 (fun o h => AX1_isThere (Cx.ok X) φ d _ _ _ _ h) dX1_mixWord_2 (Nat.le_of_ble_eq_true rfl) ?_
  refine aw_if_eq X 78 dX1_mixWord_5 rfl (fun c2 => ?_) (fun c2 => ?_)
  · rw [if_pos c2] at h
    refine aw_aload_n X dX1_mixWord_78 0 0 rfl rfl ?_
    refine aw_ldc2 X q1398 dX1_mixWord_79 ?_
    obtain ⟨y3, hy3, h⟩ := bind_some h
    refine aw_cV X (st := []) hy3 [.inr (.inl (-1 : Int64))] rfl rfl ml_X1_320 (fun o h => AX1_mix (Cx.ok X) φ d _ _ _ _ h) dX1_mixWord_82 (Nat.le_of_ble_eq_true rfl) ?_
    cases h
    exact aw_vret X dX1_mixWord_85
  · rw [if_neg c2] at h
    refine aw_aload_n X dX1_mixWord_8 0 0 rfl rfl ?_
    refine aw_aload_n X dX1_mixWord_9 0 0 rfl rfl ?_
    obtain ⟨x4, hx4, h⟩ := bind_some h
    refine aw_gfR X fl_X1_35 dX1_mixWord_10 hx4 ?_
    refine aw_iload_n X dX1_mixWord_13 1 1 rfl rfl ?_
    obtain ⟨x5, hx5, h⟩ := bind_some h
    refine aw_iald X dX1_mixWord_14 hx5 ?_
    refine aw_i2l X dX1_mixWord_15 ?_
    obtain ⟨y6, hy6, h⟩ := bind_some h
    refine aw_cV X (st := []) hy6 [.inr (.inl (x5.toInt64))] rfl rfl ml_X1_320 (fun o h => AX1_mix (Cx.ok X) φ d _ _ _ _ h) dX1_mixWord_16 (Nat.le_of_ble_eq_true rfl) ?_
    refine aw_aload_n X dX1_mixWord_19 0 0 rfl rfl ?_
    refine aw_aload_n X dX1_mixWord_20 0 0 rfl rfl ?_
    refine aw_iload_n X dX1_mixWord_21 1 1 rfl rfl ?_
    refine aw_aload_n X dX1_mixWord_22 0 0 rfl rfl ?_
    obtain ⟨x7, hx7, h⟩ := bind_some h
    refine aw_gfR X fl_X1_35 dX1_mixWord_23 hx7 ?_
    refine aw_iload_n X dX1_mixWord_26 1 1 rfl rfl ?_
    obtain ⟨x8, hx8, h⟩ := bind_some h
    refine aw_iald X dX1_mixWord_27 hx8 ?_
    obtain ⟨y9, hy9, h⟩ := bind_some h
    refine aw_cV X (st := [.inr (.inr (some this))]) hy9 [.inl v1, .inl x8] rfl rfl ml_X1_196 (fun o h => AX1_markOf (Cx.ok X) φ d _ _ _ _ _ h) dX1_mixWord_28 (Nat.le_of_ble_eq_true rfl) ?_
    refine aw_i2l X dX1_mixWord_31 ?_
    obtain ⟨y10, hy10, h⟩ := bind_some h
    refine aw_cV X (st := []) hy10 [.inr (.inl (y9.toInt64))] rfl rfl ml_X1_320 (fun o h => AX1_mix (Cx.ok X) φ d _ _ _ _ h) dX1_mixWord_32 (Nat.le_of_ble_eq_true rfl) ?_
    refine aw_aload_n X dX1_mixWord_35 0 0 rfl rfl ?_
    refine aw_aload_n X dX1_mixWord_36 0 0 rfl rfl ?_
    obtain ⟨x11, hx11, h⟩ := bind_some h
    refine aw_gfR X fl_X1_29 dX1_mixWord_37 hx11 ?_
    refine aw_iload_n X dX1_mixWord_40 1 1 rfl rfl ?_
    obtain ⟨x12, hx12, h⟩ := bind_some h
    refine aw_iald X dX1_mixWord_41 hx12 ?_
    refine aw_i2l X dX1_mixWord_42 ?_
    obtain ⟨y13, hy13, h⟩ := bind_some h
    refine aw_cV X (st := []) hy13 [.inr (.inl (x12.toInt64))] rfl rfl ml_X1_320 (fun o h => AX1_mix (Cx.ok X) φ d _ _ _ _ h) dX1_mixWord_43 (Nat.le_of_ble_eq_true rfl) ?_
    refine aw_iconst X (0 : Int32) dX1_mixWord_46 (by decide) ?_
    refine aw_istore_n X dX1_mixWord_47 2 rfl (by decide) [(2, .inl (0 : Int32)), (0, .inr (.inr (some this))), (1, .inl v1)] rfl ?_
    obtain ⟨e19, h20, h⟩ := bind_some h
    refine aw_sub [(0, .inr (.inr (some this))), (1, .inl v1), (2, .inl (0 : Int32))] [1, 2, 0] rfl ?_
    refine aw_it (fun s => AW C 48 [(0, .inr (.inr (some this))), (1, .inl v1), (2, .inl s.1)] [] s.2 (AQ C none y)) (fun e => AW C 75 [] [] e (AQ C none y)) (fun s r hr kH kE => wX1_mixWord_l48 X φ this v1 s.1 s.2 r hr kH kE) φ _ e19 h20 ?_
    refine aw_goto X 85 dX1_mixWord_75 rfl ?_
    cases h
    exact aw_vret X dX1_mixWord_85
theorem AX1_mixWord {E : AE} {l : Launch} (hE : EOK E l) (φ d : Nat) (this : Nat) (v1 : Int32) (σ : St) (y : St) (h : fX1_mixWord φ this v1 σ = some y) : AMet E l yX1_mixWord (ws_ yX1_mixWord cX1_mixWord 3 none) (d + 1) [.inr (.inr (some this)), .inl v1] σ none y := by
  refine amet_of hE (by decide +kernel) (Nat.le_of_ble_eq_true rfl) fun C e1 e2 X XI => ?_
  subst e1
  exact wX1_mixWord X φ this v1 σ y h
theorem wX1_digest_l9 {C : CT} {d : Nat} {Z : State → Prop} (X : Cx C cX1_digest RX1 (some .long) 3 (d + 2)) (φ : Nat) (this : Nat) (v1 : Int32) (σ : St) (y : (Int32 × St) ⊕ (St)) (h : fX1_digest_l9 φ this v1 σ = some y) (kH : ∀ s : Int32 × St, y = .inl s → AW C 9 [(0, .inr (.inr (some this))), (1, .inl s.1)] [] s.2 Z) (kE0 : ∀ e : St, y = .inr e → AW C 31 [(0, .inr (.inr (some this)))] [] e Z) : AW C 9 [(0, .inr (.inr (some this))), (1, .inl v1)] [] σ Z := by
  unfold fX1_digest_l9 at h
  refine aw_iload_n X dX1_digest_9 1 1 rfl rfl ?_
  refine aw_bipush X (6 : Int32) dX1_digest_10 (by decide) ?_
  refine aw_icmp_ge X 31 dX1_digest_12 rfl (fun c2 => ?_) (fun c2 => ?_)
  · rw [if_pos c2] at h
    cases h
    refine aw_sub [(0, .inr (.inr (some this)))] [0] rfl ?_
    exact kE0 σ rfl
  · rw [if_neg c2] at h
    refine aw_aload_n X dX1_digest_15 0 0 rfl rfl ?_
    refine aw_aload_n X dX1_digest_16 0 0 rfl rfl ?_
    refine aw_iload_n X dX1_digest_17 1 1 rfl rfl ?_
    obtain ⟨y3, hy3, h⟩ := bind_some h
    refine aw_cV X (st := [.inr (.inr (some this))]) hy3 [.inl v1] rfl rfl ml_X1_312 (fun o h => AX1_counted (Cx.ok X) φ d _ _ _ _ h) dX1_digest_18 (Nat.le_of_ble_eq_true rfl) ?_
    refine aw_i2l X dX1_digest_21 ?_
    obtain ⟨y4, hy4, h⟩ := bind_some h
    refine aw_cV X (st := []) hy4 [.inr (.inl (y3.toInt64))] rfl rfl ml_X1_320 (fun o h => AX1_mix (Cx.ok X) φ (d + 1) _ _ _ _ h) dX1_digest_22 (Nat.le_of_ble_eq_true rfl) ?_
    refine aw_iinc X dX1_digest_25 1 rfl (1 : Int32) rfl (by decide) [(1, .inl (v1 + (1 : Int32))), (0, .inr (.inr (some this)))] rfl ?_
    refine aw_goto X 9 dX1_digest_28 rfl ?_
    cases h
    refine aw_sub [(0, .inr (.inr (some this))), (1, .inl (v1 + (1 : Int32)))] [1, 0] rfl ?_
    exact kH ((v1 + (1 : Int32)), y4) rfl
theorem wX1_digest_l33 {C : CT} {d : Nat} {Z : State → Prop} (X : Cx C cX1_digest RX1 (some .long) 3 (d + 2)) (φ : Nat) (this : Nat) (v1 : Int32) (σ : St) (y : (Int32 × St) ⊕ (St)) (h : fX1_digest_l33 φ this v1 σ = some y) (kH : ∀ s : Int32 × St, y = .inl s → AW C 33 [(0, .inr (.inr (some this))), (1, .inl s.1)] [] s.2 Z) (kE0 : ∀ e : St, y = .inr e → AW C 50 [(0, .inr (.inr (some this)))] [] e Z) : AW C 33 [(0, .inr (.inr (some this))), (1, .inl v1)] [] σ Z := by
  unfold fX1_digest_l33 at h
  refine aw_iload_n X dX1_digest_33 1 1 rfl rfl ?_
  refine aw_bipush X (8 : Int32) dX1_digest_34 (by decide) ?_
  refine aw_icmp_ge X 50 dX1_digest_36 rfl (fun c7 => ?_) (fun c7 => ?_)
  · rw [if_pos c7] at h
    cases h
    refine aw_sub [(0, .inr (.inr (some this)))] [0] rfl ?_
    exact kE0 σ rfl
  · rw [if_neg c7] at h
    refine aw_aload_n X dX1_digest_39 0 0 rfl rfl ?_
    refine aw_iload_n X dX1_digest_40 1 1 rfl rfl ?_
    obtain ⟨y8, hy8, h⟩ := bind_some h
    refine aw_cV X (st := []) hy8 [.inl v1] rfl rfl ml_X1_328 (fun o h => AX1_mixWord (Cx.ok X) φ d _ _ _ _ h) dX1_digest_41 (Nat.le_of_ble_eq_true rfl) ?_
    refine aw_iinc X dX1_digest_44 1 rfl (1 : Int32) rfl (by decide) [(1, .inl (v1 + (1 : Int32))), (0, .inr (.inr (some this)))] rfl ?_
    refine aw_goto X 33 dX1_digest_47 rfl ?_
    cases h
    refine aw_sub [(0, .inr (.inr (some this))), (1, .inl (v1 + (1 : Int32)))] [1, 0] rfl ?_
    exact kH ((v1 + (1 : Int32)), y8) rfl
theorem wX1_digest_l71 {C : CT} {d : Nat} {Z : State → Prop} (X : Cx C cX1_digest RX1 (some .long) 3 (d + 2)) (φ : Nat) (this : Nat) (v1 : Int32) (v2 : Int32) (σ : St) (y : (Int32 × St) ⊕ (St)) (h : fX1_digest_l71 φ this v1 v2 σ = some y) (kH : ∀ s : Int32 × St, y = .inl s → AW C 71 [(0, .inr (.inr (some this))), (1, .inl v1), (2, .inl s.1)] [] s.2 Z) (kE0 : ∀ e : St, y = .inr e → AW C 98 [(0, .inr (.inr (some this))), (1, .inl v1)] [] e Z) : AW C 71 [(0, .inr (.inr (some this))), (1, .inl v1), (2, .inl v2)] [] σ Z := by
  unfold fX1_digest_l71 at h
  refine aw_iload_n X dX1_digest_71 2 2 rfl rfl ?_
  refine aw_aload_n X dX1_digest_72 0 0 rfl rfl ?_
  obtain ⟨x15, hx15, h⟩ := bind_some h
  refine aw_gfR X fl_X1_13 dX1_digest_73 hx15 ?_
  refine aw_iload_n X dX1_digest_76 1 1 rfl rfl ?_
  obtain ⟨x16, hx16, h⟩ := bind_some h
  refine aw_iald X dX1_digest_77 hx16 ?_
  refine aw_icmp_ge X 98 dX1_digest_78 rfl (fun c17 => ?_) (fun c17 => ?_)
  · rw [if_pos c17] at h
    cases h
    refine aw_sub [(0, .inr (.inr (some this))), (1, .inl v1)] [0, 1] rfl ?_
    exact kE0 σ rfl
  · rw [if_neg c17] at h
    refine aw_aload_n X dX1_digest_81 0 0 rfl rfl ?_
    refine aw_aload_n X dX1_digest_82 0 0 rfl rfl ?_
    refine aw_iload_n X dX1_digest_83 1 1 rfl rfl ?_
    refine aw_iload_n X dX1_digest_84 2 2 rfl rfl ?_
    obtain ⟨y18, hy18, h⟩ := bind_some h
    refine aw_cV X (st := [.inr (.inr (some this))]) hy18 [.inl v1, .inl v2] rfl rfl ml_X1_138 (fun o h => AX1_rowAt (Cx.ok X) φ (d + 1) _ _ _ _ _ h) dX1_digest_85 (Nat.le_of_ble_eq_true rfl) ?_
    refine aw_i2l X dX1_digest_88 ?_
    obtain ⟨y19, hy19, h⟩ := bind_some h
    refine aw_cV X (st := []) hy19 [.inr (.inl (y18.toInt64))] rfl rfl ml_X1_320 (fun o h => AX1_mix (Cx.ok X) φ (d + 1) _ _ _ _ h) dX1_digest_89 (Nat.le_of_ble_eq_true rfl) ?_
    refine aw_iinc X dX1_digest_92 2 rfl (1 : Int32) rfl (by decide) [(2, .inl (v2 + (1 : Int32))), (0, .inr (.inr (some this))), (1, .inl v1)] rfl ?_
    refine aw_goto X 71 dX1_digest_95 rfl ?_
    cases h
    refine aw_sub [(0, .inr (.inr (some this))), (1, .inl v1), (2, .inl (v2 + (1 : Int32)))] [1, 2, 0] rfl ?_
    exact kH ((v2 + (1 : Int32)), y19) rfl
theorem wX1_digest_l52 {C : CT} {d : Nat} {Z : State → Prop} (X : Cx C cX1_digest RX1 (some .long) 3 (d + 2)) (φ : Nat) (this : Nat) (v1 : Int32) (σ : St) (y : (Int32 × St) ⊕ (St)) (h : fX1_digest_l52 φ this v1 σ = some y) (kH : ∀ s : Int32 × St, y = .inl s → AW C 52 [(0, .inr (.inr (some this))), (1, .inl s.1)] [] s.2 Z) (kE0 : ∀ e : St, y = .inr e → AW C 104 [(0, .inr (.inr (some this)))] [] e Z) : AW C 52 [(0, .inr (.inr (some this))), (1, .inl v1)] [] σ Z := by
  unfold fX1_digest_l52 at h
  refine aw_iload_n X dX1_digest_52 1 1 rfl rfl ?_
  refine aw_bipush X (6 : Int32) dX1_digest_53 (by decide) ?_
  refine aw_icmp_ge X 104 dX1_digest_55 rfl (fun c11 => ?_) (fun c11 => ?_)
  · rw [if_pos c11] at h
    cases h
    refine aw_sub [(0, .inr (.inr (some this)))] [0] rfl ?_
    exact kE0 σ rfl
  · rw [if_neg c11] at h
    refine aw_aload_n X dX1_digest_58 0 0 rfl rfl ?_
    refine aw_aload_n X dX1_digest_59 0 0 rfl rfl ?_
    obtain ⟨x12, hx12, h⟩ := bind_some h
    refine aw_gfR X fl_X1_13 dX1_digest_60 hx12 ?_
    refine aw_iload_n X dX1_digest_63 1 1 rfl rfl ?_
    obtain ⟨x13, hx13, h⟩ := bind_some h
    refine aw_iald X dX1_digest_64 hx13 ?_
    refine aw_i2l X dX1_digest_65 ?_
    obtain ⟨y14, hy14, h⟩ := bind_some h
    refine aw_cV X (st := []) hy14 [.inr (.inl (x13.toInt64))] rfl rfl ml_X1_320 (fun o h => AX1_mix (Cx.ok X) φ (d + 1) _ _ _ _ h) dX1_digest_66 (Nat.le_of_ble_eq_true rfl) ?_
    refine aw_iconst X (0 : Int32) dX1_digest_69 (by decide) ?_
    refine aw_istore_n X dX1_digest_70 2 rfl (by decide) [(2, .inl (0 : Int32)), (0, .inr (.inr (some this))), (1, .inl v1)] rfl ?_
    obtain ⟨e20, h21, h⟩ := bind_some h
    refine aw_sub [(0, .inr (.inr (some this))), (1, .inl v1), (2, .inl (0 : Int32))] [1, 2, 0] rfl ?_
    refine aw_it (fun s => AW C 71 [(0, .inr (.inr (some this))), (1, .inl v1), (2, .inl s.1)] [] s.2 Z) (fun e => AW C 98 [(0, .inr (.inr (some this))), (1, .inl v1)] [] e Z) (fun s r hr kH kE => wX1_digest_l71 X φ this v1 s.1 s.2 r hr kH kE) φ _ e20 h21 ?_
    refine aw_iinc X dX1_digest_98 1 rfl (1 : Int32) rfl (by decide) [(1, .inl (v1 + (1 : Int32))), (0, .inr (.inr (some this)))] rfl ?_
    refine aw_goto X 52 dX1_digest_101 rfl ?_
    cases h
    refine aw_sub [(0, .inr (.inr (some this))), (1, .inl (v1 + (1 : Int32)))] [1, 0] rfl ?_
    exact kH ((v1 + (1 : Int32)), e20) rfl
theorem wX1_digest_l124 {C : CT} {d : Nat} {Z : State → Prop} (X : Cx C cX1_digest RX1 (some .long) 3 (d + 2)) (φ : Nat) (this : Nat) (v1 : Int32) (v2 : Int32) (σ : St) (y : (Int32 × St) ⊕ (St)) (h : fX1_digest_l124 φ this v1 v2 σ = some y) (kH : ∀ s : Int32 × St, y = .inl s → AW C 124 [(0, .inr (.inr (some this))), (1, .inl v1), (2, .inl s.1)] [] s.2 Z) (kE0 : ∀ e : St, y = .inr e → AW C 151 [(0, .inr (.inr (some this))), (1, .inl v1)] [] e Z) : AW C 124 [(0, .inr (.inr (some this))), (1, .inl v1), (2, .inl v2)] [] σ Z := by
  unfold fX1_digest_l124 at h
  refine aw_iload_n X dX1_digest_124 2 2 rfl rfl ?_
  refine aw_aload_n X dX1_digest_125 0 0 rfl rfl ?_
  obtain ⟨x28, hx28, h⟩ := bind_some h
  refine aw_gfR X fl_X1_22 dX1_digest_126 hx28 ?_
  refine aw_iload_n X dX1_digest_129 1 1 rfl rfl ?_
  obtain ⟨x29, hx29, h⟩ := bind_some h
  refine aw_iald X dX1_digest_130 hx29 ?_
  refine aw_icmp_ge X 151 dX1_digest_131 rfl (fun c30 => ?_) (fun c30 => ?_)
  · rw [if_pos c30] at h
    cases h
    refine aw_sub [(0, .inr (.inr (some this))), (1, .inl v1)] [0, 1] rfl ?_
    exact kE0 σ rfl
  · rw [if_neg c30] at h
    refine aw_aload_n X dX1_digest_134 0 0 rfl rfl ?_
    refine aw_aload_n X dX1_digest_135 0 0 rfl rfl ?_
    refine aw_iload_n X dX1_digest_136 1 1 rfl rfl ?_
    refine aw_iload_n X dX1_digest_137 2 2 rfl rfl ?_
    obtain ⟨y31, hy31, h⟩ := bind_some h
    refine aw_cV X (st := [.inr (.inr (some this))]) hy31 [.inl v1, .inl v2] rfl rfl ml_X1_172 (fun o h => AX1_byteAt (Cx.ok X) φ (d + 1) _ _ _ _ _ h) dX1_digest_138 (Nat.le_of_ble_eq_true rfl) ?_
    refine aw_i2l X dX1_digest_141 ?_
    obtain ⟨y32, hy32, h⟩ := bind_some h
    refine aw_cV X (st := []) hy32 [.inr (.inl (y31.toInt64))] rfl rfl ml_X1_320 (fun o h => AX1_mix (Cx.ok X) φ (d + 1) _ _ _ _ h) dX1_digest_142 (Nat.le_of_ble_eq_true rfl) ?_
    refine aw_iinc X dX1_digest_145 2 rfl (1 : Int32) rfl (by decide) [(2, .inl (v2 + (1 : Int32))), (0, .inr (.inr (some this))), (1, .inl v1)] rfl ?_
    refine aw_goto X 124 dX1_digest_148 rfl ?_
    cases h
    refine aw_sub [(0, .inr (.inr (some this))), (1, .inl v1), (2, .inl (v2 + (1 : Int32)))] [1, 2, 0] rfl ?_
    exact kH ((v2 + (1 : Int32)), y32) rfl
theorem wX1_digest_l106 {C : CT} {d : Nat} {Z : State → Prop} (X : Cx C cX1_digest RX1 (some .long) 3 (d + 2)) (φ : Nat) (this : Nat) (v1 : Int32) (σ : St) (y : (Int32 × St) ⊕ (St)) (h : fX1_digest_l106 φ this v1 σ = some y) (kH : ∀ s : Int32 × St, y = .inl s → AW C 106 [(0, .inr (.inr (some this))), (1, .inl s.1)] [] s.2 Z) (kE0 : ∀ e : St, y = .inr e → AW C 157 [(0, .inr (.inr (some this)))] [] e Z) : AW C 106 [(0, .inr (.inr (some this))), (1, .inl v1)] [] σ Z := by
  unfold fX1_digest_l106 at h
  refine aw_iload_n X dX1_digest_106 1 1 rfl rfl ?_
  refine aw_iconst X (4 : Int32) dX1_digest_107 (by decide) ?_
  refine aw_icmp_ge X 157 dX1_digest_108 rfl (fun c24 => ?_) (fun c24 => ?_)
  · rw [if_pos c24] at h
    cases h
    refine aw_sub [(0, .inr (.inr (some this)))] [0] rfl ?_
    exact kE0 σ rfl
  · rw [if_neg c24] at h
    refine aw_aload_n X dX1_digest_111 0 0 rfl rfl ?_
    refine aw_aload_n X dX1_digest_112 0 0 rfl rfl ?_
    obtain ⟨x25, hx25, h⟩ := bind_some h
    refine aw_gfR X fl_X1_22 dX1_digest_113 hx25 ?_
    refine aw_iload_n X dX1_digest_116 1 1 rfl rfl ?_
    obtain ⟨x26, hx26, h⟩ := bind_some h
    refine aw_iald X dX1_digest_117 hx26 ?_
    refine aw_i2l X dX1_digest_118 ?_
    obtain ⟨y27, hy27, h⟩ := bind_some h
    refine aw_cV X (st := []) hy27 [.inr (.inl (x26.toInt64))] rfl rfl ml_X1_320 (fun o h => AX1_mix (Cx.ok X) φ (d + 1) _ _ _ _ h) dX1_digest_119 (Nat.le_of_ble_eq_true rfl) ?_
    refine aw_iconst X (0 : Int32) dX1_digest_122 (by decide) ?_
    refine aw_istore_n X dX1_digest_123 2 rfl (by decide) [(2, .inl (0 : Int32)), (0, .inr (.inr (some this))), (1, .inl v1)] rfl ?_
    obtain ⟨e33, h34, h⟩ := bind_some h
    refine aw_sub [(0, .inr (.inr (some this))), (1, .inl v1), (2, .inl (0 : Int32))] [1, 2, 0] rfl ?_
    refine aw_it (fun s => AW C 124 [(0, .inr (.inr (some this))), (1, .inl v1), (2, .inl s.1)] [] s.2 Z) (fun e => AW C 151 [(0, .inr (.inr (some this))), (1, .inl v1)] [] e Z) (fun s r hr kH kE => wX1_digest_l124 X φ this v1 s.1 s.2 r hr kH kE) φ _ e33 h34 ?_
    refine aw_iinc X dX1_digest_151 1 rfl (1 : Int32) rfl (by decide) [(1, .inl (v1 + (1 : Int32))), (0, .inr (.inr (some this)))] rfl ?_
    refine aw_goto X 106 dX1_digest_154 rfl ?_
    cases h
    refine aw_sub [(0, .inr (.inr (some this))), (1, .inl (v1 + (1 : Int32)))] [1, 0] rfl ?_
    exact kH ((v1 + (1 : Int32)), e33) rfl
theorem wX1_digest {C : CT} {d : Nat} (X : Cx C cX1_digest RX1 (some .long) 3 (d + 2)) (φ : Nat) (this : Nat) (σ : St) (y : Int64 × St) (h : fX1_digest φ this σ = some y) : AW C 0 [(0, .inr (.inr (some this)))] [] σ (AQ C (some (.inr (.inl y.1))) y.2) := by
  unfold fX1_digest at h
  refine aw_aload_n X dX1_digest_0 0 0 rfl rfl ?_
  refine aw_ldc2 X q1388 dX1_digest_1 ?_
  obtain ⟨s1, hs1, h⟩ := bind_some h
  refine aw_pfL X fl_X1_317 dX1_digest_4 hs1 ?_
  refine aw_iconst X (0 : Int32) dX1_digest_7 (by decide) ?_
  refine aw_istore_n X dX1_digest_8 1 rfl (by decide) [(1, .inl (0 : Int32)), (0, .inr (.inr (some this)))] rfl ?_
  obtain ⟨e5, h6, h⟩ := bind_some h
  refine aw_sub [(0, .inr (.inr (some this))), (1, .inl (0 : Int32))] [1, 0] rfl ?_
  refine aw_it (fun s => AW C 9 [(0, .inr (.inr (some this))), (1, .inl s.1)] [] s.2 (AQ C (some (.inr (.inl y.1))) y.2)) (fun e => AW C 31 [(0, .inr (.inr (some this)))] [] e (AQ C (some (.inr (.inl y.1))) y.2)) (fun s r hr kH kE => wX1_digest_l9 X φ this s.1 s.2 r hr kH kE) φ _ e5 h6 ?_
  refine aw_iconst X (0 : Int32) dX1_digest_31 (by decide) ?_
  refine aw_istore_n X dX1_digest_32 1 rfl (by decide) [(1, .inl (0 : Int32)), (0, .inr (.inr (some this)))] rfl ?_
  obtain ⟨e9, h10, h⟩ := bind_some h
  refine aw_sub [(0, .inr (.inr (some this))), (1, .inl (0 : Int32))] [1, 0] rfl ?_
  refine aw_it (fun s => AW C 33 [(0, .inr (.inr (some this))), (1, .inl s.1)] [] s.2 (AQ C (some (.inr (.inl y.1))) y.2)) (fun e => AW C 50 [(0, .inr (.inr (some this)))] [] e (AQ C (some (.inr (.inl y.1))) y.2)) (fun s r hr kH kE => wX1_digest_l33 X φ this s.1 s.2 r hr kH kE) φ _ e9 h10 ?_
  refine aw_iconst X (0 : Int32) dX1_digest_50 (by decide) ?_
  refine aw_istore_n X dX1_digest_51 1 rfl (by decide) [(1, .inl (0 : Int32)), (0, .inr (.inr (some this)))] rfl ?_
  obtain ⟨e22, h23, h⟩ := bind_some h
  refine aw_sub [(0, .inr (.inr (some this))), (1, .inl (0 : Int32))] [1, 0] rfl ?_
  refine aw_it (fun s => AW C 52 [(0, .inr (.inr (some this))), (1, .inl s.1)] [] s.2 (AQ C (some (.inr (.inl y.1))) y.2)) (fun e => AW C 104 [(0, .inr (.inr (some this)))] [] e (AQ C (some (.inr (.inl y.1))) y.2)) (fun s r hr kH kE => wX1_digest_l52 X φ this s.1 s.2 r hr kH kE) φ _ e22 h23 ?_
  refine aw_iconst X (0 : Int32) dX1_digest_104 (by decide) ?_
  refine aw_istore_n X dX1_digest_105 1 rfl (by decide) [(1, .inl (0 : Int32)), (0, .inr (.inr (some this)))] rfl ?_
  obtain ⟨e35, h36, h⟩ := bind_some h
  refine aw_sub [(0, .inr (.inr (some this))), (1, .inl (0 : Int32))] [1, 0] rfl ?_
  refine aw_it (fun s => AW C 106 [(0, .inr (.inr (some this))), (1, .inl s.1)] [] s.2 (AQ C (some (.inr (.inl y.1))) y.2)) (fun e => AW C 157 [(0, .inr (.inr (some this)))] [] e (AQ C (some (.inr (.inl y.1))) y.2)) (fun s r hr kH kE => wX1_digest_l106 X φ this s.1 s.2 r hr kH kE) φ _ e35 h36 ?_
  refine aw_aload_n X dX1_digest_157 0 0 rfl rfl ?_
  obtain ⟨x37, hx37, h⟩ := bind_some h
  refine aw_gfL X fl_X1_317 dX1_digest_158 hx37 ?_
  cases h
  exact aw_lret X dX1_digest_161
theorem AX1_digest {E : AE} {l : Launch} (hE : EOK E l) (φ d : Nat) (this : Nat) (σ : St) (y : Int64 × St) (h : fX1_digest φ this σ = some y) : AMet E l yX1_digest (ws_ yX1_digest cX1_digest 3 (some .long)) (d + 2) [.inr (.inr (some this))] σ (some (.inr (.inl y.1))) y.2 := by
  refine amet_of hE (by decide +kernel) (Nat.le_of_ble_eq_true rfl) fun C e1 e2 X XI => ?_
  subst e1
  exact wX1_digest X φ this σ y h
