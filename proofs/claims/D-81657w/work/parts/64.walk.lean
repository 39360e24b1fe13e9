/-! walks (written by gen2.py): X1_fault X1_tell X1_isThere X1_needTwo X1_join X1_part X1_needWord X1_turn X1_erase X1_size X1_letter X1_kind X1_markOf X1_mark X1_layWays X1_tellsMany X1_ways X1_next X1_layPlaces X1_comesToRow X1_way X1_places X1_judge X1_bar X1_layInner X1_inner X1_rank X1_innersBy X1_byRank X1_archesFrom X1_arches X1_hasAll X1_layAbsent X1_powerOf X1_absent X1_has X1_added -/
set_option maxRecDepth 100000
theorem wX1_fault {C : CT} {d : Nat} (X : Cx C cX1_fault RX1 (some .int) 2 (d + 3)) (φ : Nat) (this : Nat) (v1 : Int32) (σ : St) (y : Int32 × St) (h : fX1_fault φ this v1 σ = some y) : AW C 0 [(0, .inr (.inr (some this))), (1, .inl v1)] [] σ (AQ C (some (.inl y.1)) y.2) := by
  unfold fX1_fault at h
  refine aw_iload_n X dX1_fault_0 1 1 rfl rfl ?_
  obtain ⟨y1, hy1, h⟩ := bind_some h
  refine aw_callS X (st := []) [.inl v1] rfl ml_X1_145 (AX1_isText (Cx.ok X) φ (d + 1) _ _ _  hy1) dX1_fault_1 (Nat.le_of_ble_eq_true rfl) ?_
  refine aw_if_ne X 9 dX1_fault_4 rfl (fun c2 => ?_) (fun c2 => ?_)
  · rw [if_neg c2] at h
    refine aw_aload_n X dX1_fault_9 0 0 rfl rfl ?_
    obtain ⟨x3, hx3, h⟩ := bind_some h
    refine aw_gfR X fl_X1_22 dX1_fault_10 hx3 ?_
    refine aw_iload_n X dX1_fault_13 1 1 rfl rfl ?_
    obtain ⟨x4, hx4, h⟩ := bind_some h
    refine aw_iald X dX1_fault_14 hx4 ?_
    refine aw_if_ge X 26 dX1_fault_15 rfl (fun c5 => ?_) (fun c5 => ?_)
    · rw [if_pos c5] at h
      refine aw_aload_n X dX1_fault_26 0 0 rfl rfl ?_
      refine aw_iload_n X dX1_fault_27 1 1 rfl rfl ?_
      obtain ⟨y6, hy6, h⟩ := bind_some h
      refine aw_cV X (st := []) hy6 [.inl v1] rfl rfl ml_X1_182 (fun o h => AX1_faultOf (Cx.ok X) φ d _ _ _ _ h) dX1_fault_28 (Nat.le_of_ble_eq_true rfl) ?_
      cases h
      exact aw_iret X dX1_fault_31
    · rw [if_neg c5] at h
      refine aw_aload_n X dX1_fault_18 0 0 rfl rfl ?_
      refine aw_iconst X (1 : Int32) dX1_fault_19 (by decide) ?_
      obtain ⟨y7, hy7, h⟩ := bind_some h
      refine aw_cV X (st := []) hy7 [.inl (1 : Int32)] rfl rfl ml_X1_134 (fun o h => AX1_meets (Cx.ok X) φ (d + 2) _ _ _ _ h) dX1_fault_20 (Nat.le_of_ble_eq_true rfl) ?_
      refine aw_goto X 31 dX1_fault_23 rfl ?_
      cases h
      exact aw_iret X dX1_fault_31
  · rw [if_pos c2] at h
    refine aw_iconst X (-1 : Int32) dX1_fault_7 (by decide) ?_
    cases h
    exact aw_iret X dX1_fault_8
theorem AX1_fault {E : AE} {l : Launch} (hE : EOK E l) (φ d : Nat) (this : Nat) (v1 : Int32) (σ : St) (y : Int32 × St) (h : fX1_fault φ this v1 σ = some y) : AMet E l yX1_fault (ws_ yX1_fault cX1_fault 2 (some .int)) (d + 3) [.inr (.inr (some this)), .inl v1] σ (some (.inl y.1)) y.2 := by
  refine amet_of hE (by decide +kernel) (Nat.le_of_ble_eq_true rfl) fun C e1 e2 X XI => ?_
  subst e1
  exact wX1_fault X φ this v1 σ y h
theorem wX1_tell {C : CT} {d : Nat} (X : Cx C cX1_tell RX1 (some .int) 3 (d + 3)) (φ : Nat) (this : Nat) (v1 : Int32) (v2 : Int32) (σ : St) (y : Int32 × St) (h : fX1_tell φ this v1 v2 σ = some y) : AW C 0 [(0, .inr (.inr (some this))), (1, .inl v1), (2, .inl v2)] [] σ (AQ C (some (.inl y.1)) y.2) := by
  unfold fX1_tell at h
  refine aw_iload_n X dX1_tell_0 1 1 rfl rfl ?_
  obtain ⟨y1, hy1, h⟩ := bind_some h
  refine aw_callS X (st := []) [.inl v1] rfl ml_X1_154 (AX1_isWord (Cx.ok X) φ (d + 1) _ _ _  hy1) dX1_tell_1 (Nat.le_of_ble_eq_true rfl) ?_
  refine aw_if_eq X 14 dX1_tell_4 rfl (fun c2 => ?_) (fun c2 => ?_)
  · rw [if_pos c2] at h
    refine aw_iconst X (-1 : Int32) dX1_tell_14 (by decide) ?_
    cases h
    exact aw_iret X dX1_tell_15
  · rw [if_neg c2] at h
    refine aw_iload_n X dX1_tell_7 2 2 rfl rfl ?_
    obtain ⟨y3, hy3, h⟩ := bind_some h
    refine aw_callS X (st := []) [.inl v2] rfl ml_X1_145 (AX1_isText (Cx.ok X) φ (d + 1) _ _ _  hy3) dX1_tell_8 (Nat.le_of_ble_eq_true rfl) ?_
    refine aw_if_ne X 16 dX1_tell_11 rfl (fun c4 => ?_) (fun c4 => ?_)
    · rw [if_neg c4] at h
      refine aw_aload_n X dX1_tell_16 0 0 rfl rfl ?_
      obtain ⟨x5, hx5, h⟩ := bind_some h
      refine aw_gfR X fl_X1_22 dX1_tell_17 hx5 ?_
      refine aw_iload_n X dX1_tell_20 2 2 rfl rfl ?_
      obtain ⟨x6, hx6, h⟩ := bind_some h
      refine aw_iald X dX1_tell_21 hx6 ?_
      refine aw_if_ge X 31 dX1_tell_22 rfl (fun c7 => ?_) (fun c7 => ?_)
      · rw [if_pos c7] at h
        refine aw_aload_n X dX1_tell_31 0 0 rfl rfl ?_
        refine aw_iload_n X dX1_tell_32 2 2 rfl rfl ?_
        obtain ⟨y8, hy8, h⟩ := bind_some h
        refine aw_cV X (st := []) hy8 [.inl v2] rfl rfl ml_X1_182 (fun o h => AX1_faultOf (Cx.ok X) φ d _ _ _ _ h) dX1_tell_33 (Nat.le_of_ble_eq_true rfl) ?_
        refine aw_bipush X (-9 : Int32) dX1_tell_36 (by decide) ?_
        refine aw_icmp_eq X 44 dX1_tell_38 rfl (fun c9 => ?_) (fun c9 => ?_)
        · rw [if_pos c9] at h
          refine aw_aload_n X dX1_tell_44 0 0 rfl rfl ?_
          obtain ⟨x10, hx10, h⟩ := bind_some h
          refine aw_gfZ X fl_X1_164 dX1_tell_45 hx10 ?_
          refine aw_if_eq X 56 dX1_tell_48 rfl (fun c11 => ?_) (fun c11 => ?_)
          · rw [if_pos c11] at h
            refine aw_aload_n X dX1_tell_56 0 0 rfl rfl ?_
            refine aw_iload_n X dX1_tell_57 1 1 rfl rfl ?_
            refine aw_iconst X (1 : Int32) dX1_tell_58 (by decide) ?_
            refine aw_iconst X (0 : Int32) dX1_tell_59 (by decide) ?_
            refine aw_aload_n X dX1_tell_60 0 0 rfl rfl ?_
            obtain ⟨x12, hx12, h⟩ := bind_some h
            refine aw_gfR X fl_X1_22 dX1_tell_61 hx12 ?_
            refine aw_iload_n X dX1_tell_64 2 2 rfl rfl ?_
            obtain ⟨x13, hx13, h⟩ := bind_some h
            refine aw_iald X dX1_tell_65 hx13 ?_
            obtain ⟨y14, hy14, h⟩ := bind_some h
            refine aw_cV X (st := []) hy14 [.inl v1, .inl (1 : Int32), .inl (0 : Int32), .inl x13] rfl rfl ml_X1_160 (fun o h => AX1_comes (Cx.ok X) φ (d + 2) _ _ _ _ _ _ _ h) dX1_tell_66 (Nat.le_of_ble_eq_true rfl) ?_
            cases h
            exact aw_iret X dX1_tell_69
          · rw [if_neg c11] at h
            refine aw_bipush X (-2 : Int32) dX1_tell_51 (by decide) ?_
            refine aw_goto X 69 dX1_tell_53 rfl ?_
            cases h
            exact aw_iret X dX1_tell_69
        · rw [if_neg c9] at h
          refine aw_bipush X (-4 : Int32) dX1_tell_41 (by decide) ?_
          cases h
          exact aw_iret X dX1_tell_43
      · rw [if_neg c7] at h
        refine aw_aload_n X dX1_tell_25 0 0 rfl rfl ?_
        refine aw_iconst X (1 : Int32) dX1_tell_26 (by decide) ?_
        obtain ⟨y15, hy15, h⟩ := bind_some h
        refine aw_cV X (st := []) hy15 [.inl (1 : Int32)] rfl rfl ml_X1_134 (fun o h => AX1_meets (Cx.ok X) φ (d + 2) _ _ _ _ h) dX1_tell_27 (Nat.le_of_ble_eq_true rfl) ?_
        cases h
        exact aw_iret X dX1_tell_30
    · rw [if_pos c4] at h
      refine aw_iconst X (-1 : Int32) dX1_tell_14 (by decide) ?_
      cases h
      exact aw_iret X dX1_tell_15
theorem AX1_tell {E : AE} {l : Launch} (hE : EOK E l) (φ d : Nat) (this : Nat) (v1 : Int32) (v2 : Int32) (σ : St) (y : Int32 × St) (h : fX1_tell φ this v1 v2 σ = some y) : AMet E l yX1_tell (ws_ yX1_tell cX1_tell 3 (some .int)) (d + 3) [.inr (.inr (some this)), .inl v1, .inl v2] σ (some (.inl y.1)) y.2 := by
  refine amet_of hE (by decide +kernel) (Nat.le_of_ble_eq_true rfl) fun C e1 e2 X XI => ?_
  subst e1
  exact wX1_tell X φ this v1 v2 σ y h
theorem wX1_isThere {C : CT} {d : Nat} (X : Cx C cX1_isThere RX1 (some .boolean) 2 d) (φ : Nat) (this : Nat) (v1 : Int32) (σ : St) (y : Int32) (h : fX1_isThere φ this v1 σ = some y) : AW C 0 [(0, .inr (.inr (some this))), (1, .inl v1)] [] σ (AQ C (some (.inl y)) σ) := by
  unfold fX1_isThere at h
  refine aw_aload_n X dX1_isThere_0 0 0 rfl rfl ?_
  obtain ⟨x1, hx1, h⟩ := bind_some h
  refine aw_gfR X fl_X1_29 dX1_isThere_1 hx1 ?_
  refine aw_iload_n X dX1_isThere_4 1 1 rfl rfl ?_
  obtain ⟨x2, hx2, h⟩ := bind_some h
  refine aw_iald X dX1_isThere_5 hx2 ?_
  refine aw_if_lt X 13 dX1_isThere_6 rfl (fun c3 => ?_) (fun c3 => ?_)
  · rw [if_pos c3] at h
    refine aw_iconst X (0 : Int32) dX1_isThere_13 (by decide) ?_
    cases h
    exact aw_zret X (Or.inl rfl) dX1_isThere_14
  · rw [if_neg c3] at h
    refine aw_iconst X (1 : Int32) dX1_isThere_9 (by decide) ?_
    refine aw_goto X 14 dX1_isThere_10 rfl ?_
    cases h
    exact aw_zret X (Or.inr rfl) dX1_isThere_14
theorem AX1_isThere {E : AE} {l : Launch} (hE : EOK E l) (φ d : Nat) (this : Nat) (v1 : Int32) (σ : St) (y : Int32) (h : fX1_isThere φ this v1 σ = some y) : AMet E l yX1_isThere (ws_ yX1_isThere cX1_isThere 2 (some .boolean)) d [.inr (.inr (some this)), .inl v1] σ (some (.inl y)) σ := by
  refine amet_of hE (by decide +kernel) (Nat.le_of_ble_eq_true rfl) fun C e1 e2 X XI => ?_
  subst e1
  exact wX1_isThere X φ this v1 σ y h
theorem wX1_needTwo_b42 {C : CT} {d : Nat} (X : Cx C cX1_needTwo RX1 (some .int) 4 (d + 2)) (φ : Nat) (this : Nat) (σ : St) (y : Int32 × St) (h : fX1_needTwo_b42 φ this σ = some y)  : AW C 42 [(0, .inr (.inr (some this)))] [] σ (AQ C (some (.inl y.1)) y.2) := by
  unfold fX1_needTwo_b42 at h
  refine aw_aload_n X dX1_needTwo_42 0 0 rfl rfl ?_
  refine aw_iconst X (1 : Int32) dX1_needTwo_43 (by decide) ?_
  obtain ⟨y8, hy8, h⟩ := bind_some h
  refine aw_cV X (st := []) hy8 [.inl (1 : Int32)] rfl rfl ml_X1_134 (fun o h => AX1_meets (Cx.ok X) φ (d + 1) _ _ _ _ h) dX1_needTwo_44 (Nat.le_of_ble_eq_true rfl) ?_
  cases h
  exact aw_iret X dX1_needTwo_47
theorem wX1_needTwo {C : CT} {d : Nat} (X : Cx C cX1_needTwo RX1 (some .int) 4 (d + 2)) (φ : Nat) (this : Nat) (v1 : Int32) (v2 : Int32) (v3 : Int32) (σ : St) (y : Int32 × St) (h : fX1_needTwo φ this v1 v2 v3 σ = some y) : AW C 0 [(0, .inr (.inr (some this))), (1, .inl v1), (2, .inl v2), (3, .inl v3)] [] σ (AQ C (some (.inl y.1)) y.2) := by
  unfold fX1_needTwo at h
  refine aw_iload_n X dX1_needTwo_0 2 2 rfl rfl ?_
  obtain ⟨y1, hy1, h⟩ := bind_some h
  refine aw_callS X (st := []) [.inl v2] rfl ml_X1_154 (AX1_isWord (Cx.ok X) φ d _ _ _  hy1) dX1_needTwo_1 (Nat.le_of_ble_eq_true rfl) ?_
  refine aw_if_eq X 18 dX1_needTwo_4 rfl (fun c2 => ?_) (fun c2 => ?_)
  · rw [if_pos c2] at h
    refine aw_iconst X (-1 : Int32) dX1_needTwo_18 (by decide) ?_
    refine aw_goto X 47 dX1_needTwo_19 rfl ?_
    cases h
    exact aw_iret X dX1_needTwo_47
  · rw [if_neg c2] at h
    refine aw_iload_n X dX1_needTwo_7 3 3 rfl rfl ?_
    obtain ⟨y3, hy3, h⟩ := bind_some h
    refine aw_callS X (st := []) [.inl v3] rfl ml_X1_154 (AX1_isWord (Cx.ok X) φ d _ _ _  hy3) dX1_needTwo_8 (Nat.le_of_ble_eq_true rfl) ?_
    refine aw_if_eq X 18 dX1_needTwo_11 rfl (fun c4 => ?_) (fun c4 => ?_)
    · rw [if_pos c4] at h
      refine aw_iconst X (-1 : Int32) dX1_needTwo_18 (by decide) ?_
      refine aw_goto X 47 dX1_needTwo_19 rfl ?_
      cases h
      exact aw_iret X dX1_needTwo_47
    · rw [if_neg c4] at h
      refine aw_iload_n X dX1_needTwo_14 1 1 rfl rfl ?_
      refine aw_if_ne X 22 dX1_needTwo_15 rfl (fun c5 => ?_) (fun c5 => ?_)
      · rw [if_neg c5] at h
        refine aw_aload_n X dX1_needTwo_22 0 0 rfl rfl ?_
        refine aw_iload_n X dX1_needTwo_23 2 2 rfl rfl ?_
        obtain ⟨y6, hy6, h⟩ := bind_some h
        refine aw_cV X (st := []) hy6 [.inl v2] rfl rfl ml_X1_185 (fun o h => AX1_isThere (Cx.ok X) φ (d + 1) _ _ _ _ h) dX1_needTwo_24 (Nat.le_of_ble_eq_true rfl) ?_
        refine aw_if_eq X 42 dX1_needTwo_27 rfl (fun c7 => ?_) (fun c7 => ?_)
        · rw [if_pos c7] at h
          refine aw_sub [(0, .inr (.inr (some this)))] [0] rfl ?_
          exact wX1_needTwo_b42 X φ this σ y h
        · rw [if_neg c7] at h
          refine aw_aload_n X dX1_needTwo_30 0 0 rfl rfl ?_
          refine aw_iload_n X dX1_needTwo_31 3 3 rfl rfl ?_
          obtain ⟨y9, hy9, h⟩ := bind_some h
          refine aw_cV X (st := []) hy9 [.inl v3] rfl rfl ml_X1_185 (fun o h => AX1_isThere (Cx.ok X) φ (d + 1) _ _ _ _ h) dX1_needTwo_32 (Nat.le_of_ble_eq_true rfl) ?_
          refine aw_if_eq X 42 dX1_needTwo_35 rfl (fun c10 => ?_) (fun c10 => ?_)
          · rw [if_pos c10] at h
            refine aw_sub [(0, .inr (.inr (some this)))] [0] rfl ?_
            exact wX1_needTwo_b42 X φ this σ y h
          · rw [if_neg c10] at h
            refine aw_iconst X (0 : Int32) dX1_needTwo_38 (by decide) ?_
            refine aw_goto X 47 dX1_needTwo_39 rfl ?_
            cases h
            exact aw_iret X dX1_needTwo_47
      · rw [if_pos c5] at h
        refine aw_iconst X (-1 : Int32) dX1_needTwo_18 (by decide) ?_
        refine aw_goto X 47 dX1_needTwo_19 rfl ?_
        cases h
        exact aw_iret X dX1_needTwo_47
theorem AX1_needTwo {E : AE} {l : Launch} (hE : EOK E l) (φ d : Nat) (this : Nat) (v1 : Int32) (v2 : Int32) (v3 : Int32) (σ : St) (y : Int32 × St) (h : fX1_needTwo φ this v1 v2 v3 σ = some y) : AMet E l yX1_needTwo (ws_ yX1_needTwo cX1_needTwo 4 (some .int)) (d + 2) [.inr (.inr (some this)), .inl v1, .inl v2, .inl v3] σ (some (.inl y.1)) y.2 := by
  refine amet_of hE (by decide +kernel) (Nat.le_of_ble_eq_true rfl) fun C e1 e2 X XI => ?_
  subst e1
  exact wX1_needTwo X φ this v1 v2 v3 σ y h
theorem wX1_join_l48 {C : CT} {d : Nat} {Z : State → Prop} (X : Cx C cX1_join RX1 (some .int) 7 (d + 3)) (φ : Nat) (this : Nat) (v1 : Int32) (v2 : Int32) (v3 : Int32) (v5 : Int32) (v6 : Int32) (σ : St) (y : (Int32 × St) ⊕ (St)) (h : fX1_join_l48 φ this v1 v2 v3 v5 v6 σ = some y) (kH : ∀ s : Int32 × St, y = .inl s → AW C 48 [(0, .inr (.inr (some this))), (1, .inl v1), (2, .inl v2), (3, .inl v3), (5, .inl v5), (6, .inl s.1)] [] s.2 Z) (kE0 : ∀ e : St, y = .inr e → AW C 103 [(0, .inr (.inr (some this))), (1, .inl v1), (2, .inl v2), (5, .inl v5)] [] e Z) : AW C 48 [(0, .inr (.inr (some this))), (1, .inl v1), (2, .inl v2), (3, .inl v3), (5, .inl v5), (6, .inl v6)] [] σ Z := by
  unfold fX1_join_l48 at h
  refine aw_iload X dX1_join_48 5 rfl ?_
  refine aw_iload X dX1_join_50 4 rfl ?_
  refine aw_icmp_ge X 103 dX1_join_52 rfl (fun c9 => ?_) (fun c9 => ?_)
  · rw [if_pos c9] at h
    cases h
    refine aw_sub [(0, .inr (.inr (some this))), (1, .inl v1), (2, .inl v2), (5, .inl v5)] [0, 1, 2, 4] rfl ?_
    exact kE0 σ rfl
  · rw [if_neg c9] at h
    refine aw_aload_n X dX1_join_55 0 0 rfl rfl ?_
    obtain ⟨x10, hx10, h⟩ := bind_some h
    refine aw_gfR X fl_X1_44 dX1_join_56 hx10 ?_
    refine aw_iload X dX1_join_59 5 rfl ?_
    refine aw_iload X dX1_join_61 5 rfl ?_
    refine aw_aload_n X dX1_join_63 0 0 rfl rfl ?_
    obtain ⟨x11, hx11, h⟩ := bind_some h
    refine aw_gfR X fl_X1_29 dX1_join_64 hx11 ?_
    refine aw_iload_n X dX1_join_67 2 2 rfl rfl ?_
    obtain ⟨x12, hx12, h⟩ := bind_some h
    refine aw_iald X dX1_join_68 hx12 ?_
    refine aw_icmp_ge X 82 dX1_join_69 rfl (fun c13 => ?_) (fun c13 => ?_)
    · rw [if_pos c13] at h
      refine aw_aload_n X dX1_join_82 0 0 rfl rfl ?_
      refine aw_iload_n X dX1_join_83 3 3 rfl rfl ?_
      refine aw_iload X dX1_join_84 5 rfl ?_
      refine aw_aload_n X dX1_join_86 0 0 rfl rfl ?_
      obtain ⟨x14, hx14, h⟩ := bind_some h
      refine aw_gfR X fl_X1_29 dX1_join_87 hx14 ?_
      refine aw_iload_n X dX1_join_90 2 2 rfl rfl ?_
      obtain ⟨x15, hx15, h⟩ := bind_some h
      refine aw_iald X dX1_join_91 hx15 ?_
      refine aw_isub X dX1_join_92 ?_
      obtain ⟨y16, hy16, h⟩ := bind_some h
      refine aw_cV X (st := [.inl v6, .inr (.inr x10)]) hy16 [.inl v3, .inl (v6 - x15)] rfl rfl ml_X1_148 (fun o h => AX1_at0 (Cx.ok X) φ (d + 2) _ _ _ _ _ h) dX1_join_93 (Nat.le_of_ble_eq_true rfl) ?_
      obtain ⟨s17, hs17, h⟩ := bind_some h
      refine aw_iast X dX1_join_96 hs17 ?_
      refine aw_iinc X dX1_join_97 5 rfl (1 : Int32) rfl (by decide) [(6, .inl (v6 + (1 : Int32))), (0, .inr (.inr (some this))), (1, .inl v1), (2, .inl v2), (3, .inl v3), (5, .inl v5)] rfl ?_
      refine aw_goto X 48 dX1_join_100 rfl ?_
      cases h
      refine aw_sub [(0, .inr (.inr (some this))), (1, .inl v1), (2, .inl v2), (3, .inl v3), (5, .inl v5), (6, .inl (v6 + (1 : Int32)))] [1, 2, 3, 4, 5, 0] rfl ?_
      exact kH ((v6 + (1 : Int32)), s17) rfl
    · rw [if_neg c13] at h
      refine aw_aload_n X dX1_join_72 0 0 rfl rfl ?_
      refine aw_iload_n X dX1_join_73 2 2 rfl rfl ?_
      refine aw_iload X dX1_join_74 5 rfl ?_
      obtain ⟨y18, hy18, h⟩ := bind_some h
      refine aw_cV X (st := [.inl v6, .inr (.inr x10)]) hy18 [.inl v2, .inl v6] rfl rfl ml_X1_148 (fun o h => AX1_at0 (Cx.ok X) φ (d + 2) _ _ _ _ _ h) dX1_join_76 (Nat.le_of_ble_eq_true rfl) ?_
      refine aw_goto X 96 dX1_join_79 rfl ?_
      obtain ⟨s19, hs19, h⟩ := bind_some h
      refine aw_iast X dX1_join_96 hs19 ?_
      refine aw_iinc X dX1_join_97 5 rfl (1 : Int32) rfl (by decide) [(6, .inl (v6 + (1 : Int32))), (0, .inr (.inr (some this))), (1, .inl v1), (2, .inl v2), (3, .inl v3), (5, .inl v5)] rfl ?_
      refine aw_goto X 48 dX1_join_100 rfl ?_
      cases h
      refine aw_sub [(0, .inr (.inr (some this))), (1, .inl v1), (2, .inl v2), (3, .inl v3), (5, .inl v5), (6, .inl (v6 + (1 : Int32)))] [1, 2, 3, 4, 5, 0] rfl ?_
      exact kH ((v6 + (1 : Int32)), s19) rfl
theorem wX1_join {C : CT} {d : Nat} (X : Cx C cX1_join RX1 (some .int) 7 (d + 3)) (φ : Nat) (this : Nat) (v1 : Int32) (v2 : Int32) (v3 : Int32) (σ : St) (y : Int32 × St) (h : fX1_join φ this v1 v2 v3 σ = some y) : AW C 0 [(0, .inr (.inr (some this))), (1, .inl v1), (2, .inl v2), (3, .inl v3)] [] σ (AQ C (some (.inl y.1)) y.2) := by
  unfold fX1_join at h
  refine aw_aload_n X dX1_join_0 0 0 rfl rfl ?_
  refine aw_iload_n X dX1_join_1 1 1 rfl rfl ?_
  obtain ⟨y1, hy1, h⟩ := bind_some h
  refine aw_callS X (st := [.inr (.inr (some this))]) [.inl v1] rfl ml_X1_154 (AX1_isWord (Cx.ok X) φ (d + 1) _ _ _  hy1) dX1_join_2 (Nat.le_of_ble_eq_true rfl) ?_
  refine aw_iload_n X dX1_join_5 2 2 rfl rfl ?_
  refine aw_iload_n X dX1_join_6 3 3 rfl rfl ?_
  obtain ⟨y2, hy2, h⟩ := bind_some h
  refine aw_cV X (st := []) hy2 [.inl y1, .inl v2, .inl v3] rfl rfl ml_X1_188 (fun o h => AX1_needTwo (Cx.ok X) φ d _ _ _ _ _ _ h) dX1_join_7 (Nat.le_of_ble_eq_true rfl) ?_
  refine aw_istore X dX1_join_10 (by decide) [(4, .inl y2.1), (0, .inr (.inr (some this))), (1, .inl v1), (2, .inl v2), (3, .inl v3)] rfl ?_
  refine aw_iload X dX1_join_12 0 rfl ?_
  refine aw_if_ge X 20 dX1_join_14 rfl (fun c3 => ?_) (fun c3 => ?_)
  · rw [if_pos c3] at h
    refine aw_aload_n X dX1_join_20 1 0 rfl rfl ?_
    obtain ⟨x4, hx4, h⟩ := bind_some h
    refine aw_gfR X fl_X1_29 dX1_join_21 hx4 ?_
    refine aw_iload_n X dX1_join_24 3 2 rfl rfl ?_
    obtain ⟨x5, hx5, h⟩ := bind_some h
    refine aw_iald X dX1_join_25 hx5 ?_
    refine aw_aload_n X dX1_join_26 1 0 rfl rfl ?_
    obtain ⟨x6, hx6, h⟩ := bind_some h
    refine aw_gfR X fl_X1_29 dX1_join_27 hx6 ?_
    refine aw_iload_n X dX1_join_30 4 3 rfl rfl ?_
    obtain ⟨x7, hx7, h⟩ := bind_some h
    refine aw_iald X dX1_join_31 hx7 ?_
    refine aw_iadd X dX1_join_32 ?_
    refine aw_istore X dX1_join_33 (by decide) [(5, .inl (x5 + x7)), (4, .inl y2.1), (0, .inr (.inr (some this))), (1, .inl v1), (2, .inl v2), (3, .inl v3)] rfl ?_
    refine aw_iload X dX1_join_35 0 rfl ?_
    refine aw_bipush X (40 : Int32) dX1_join_37 (by decide) ?_
    refine aw_icmp_le X 45 dX1_join_39 rfl (fun c8 => ?_) (fun c8 => ?_)
    · rw [if_pos c8] at h
      refine aw_iconst X (0 : Int32) dX1_join_45 (by decide) ?_
      refine aw_istore X dX1_join_46 (by decide) [(6, .inl (0 : Int32)), (5, .inl (x5 + x7)), (4, .inl y2.1), (0, .inr (.inr (some this))), (1, .inl v1), (2, .inl v2), (3, .inl v3)] rfl ?_
      obtain ⟨e20, h21, h⟩ := bind_some h
      refine aw_sub [(0, .inr (.inr (some this))), (1, .inl v1), (2, .inl v2), (3, .inl v3), (5, .inl (x5 + x7)), (6, .inl (0 : Int32))] [3, 4, 5, 6, 1, 0] rfl ?_
      refine aw_it (fun s => AW C 48 [(0, .inr (.inr (some this))), (1, .inl v1), (2, .inl v2), (3, .inl v3), (5, .inl (x5 + x7)), (6, .inl s.1)] [] s.2 (AQ C (some (.inl y.1)) y.2)) (fun e => AW C 103 [(0, .inr (.inr (some this))), (1, .inl v1), (2, .inl v2), (5, .inl (x5 + x7))] [] e (AQ C (some (.inl y.1)) y.2)) (fun s r hr kH kE => wX1_join_l48 X φ this v1 v2 v3 (x5 + x7) s.1 s.2 r hr kH kE) φ _ e20 h21 ?_
      refine aw_aload_n X dX1_join_103 0 0 rfl rfl ?_
      refine aw_iload X dX1_join_104 3 rfl ?_
      obtain ⟨s22, hs22, h⟩ := bind_some h
      refine aw_pfI X fl_X1_151 dX1_join_106 hs22 ?_
      refine aw_aload_n X dX1_join_109 0 0 rfl rfl ?_
      refine aw_iload_n X dX1_join_110 1 1 rfl rfl ?_
      refine aw_iconst X (2 : Int32) dX1_join_111 (by decide) ?_
      refine aw_iload_n X dX1_join_112 2 2 rfl rfl ?_
      refine aw_iconst X (0 : Int32) dX1_join_113 (by decide) ?_
      obtain ⟨y23, hy23, h⟩ := bind_some h
      refine aw_cV X (st := []) hy23 [.inl v1, .inl (2 : Int32), .inl v2, .inl (0 : Int32)] rfl rfl ml_X1_160 (fun o h => AX1_comes (Cx.ok X) φ (d + 2) _ _ _ _ _ _ _ h) dX1_join_114 (Nat.le_of_ble_eq_true rfl) ?_
      cases h
      exact aw_iret X dX1_join_117
    · rw [if_neg c8] at h
      refine aw_bipush X (-2 : Int32) dX1_join_42 (by decide) ?_
      cases h
      exact aw_iret X dX1_join_44
  · rw [if_neg c3] at h
    refine aw_iload X dX1_join_17 0 rfl ?_
    cases h
    exact aw_iret X dX1_join_19
theorem AX1_join {E : AE} {l : Launch} (hE : EOK E l) (φ d : Nat) (this : Nat) (v1 : Int32) (v2 : Int32) (v3 : Int32) (σ : St) (y : Int32 × St) (h : fX1_join φ this v1 v2 v3 σ = some y) : AMet E l yX1_join (ws_ yX1_join cX1_join 7 (some .int)) (d + 3) [.inr (.inr (some this)), .inl v1, .inl v2, .inl v3] σ (some (.inl y.1)) y.2 := by
  refine amet_of hE (by decide +kernel) (Nat.le_of_ble_eq_true rfl) fun C e1 e2 X XI => ?_
  subst e1
  exact wX1_join X φ this v1 v2 v3 σ y h
theorem wX1_part_b62 {C : CT} {d : Nat} (X : Cx C cX1_part RX1 (some .int) 6 (d + 2)) (φ : Nat) (this : Nat) (σ : St) (y : Int32 × St) (h : fX1_part_b62 φ this σ = some y)  : AW C 62 [(0, .inr (.inr (some this)))] [] σ (AQ C (some (.inl y.1)) y.2) := by
  unfold fX1_part_b62 at h
  refine aw_aload_n X dX1_part_62 0 0 rfl rfl ?_
  refine aw_iconst X (2 : Int32) dX1_part_63 (by decide) ?_
  obtain ⟨y9, hy9, h⟩ := bind_some h
  refine aw_cV X (st := []) hy9 [.inl (2 : Int32)] rfl rfl ml_X1_134 (fun o h => AX1_meets (Cx.ok X) φ (d + 1) _ _ _ _ h) dX1_part_64 (Nat.le_of_ble_eq_true rfl) ?_
  cases h
  exact aw_iret X dX1_part_67
theorem wX1_part_l71 {C : CT} {d : Nat} {Z : State → Prop} (X : Cx C cX1_part RX1 (some .int) 6 (d + 2)) (φ : Nat) (this : Nat) (v1 : Int32) (v2 : Int32) (v3 : Int32) (v4 : Int32) (v5 : Int32) (σ : St) (y : (Int32 × St) ⊕ (St)) (h : fX1_part_l71 φ this v1 v2 v3 v4 v5 σ = some y) (kH : ∀ s : Int32 × St, y = .inl s → AW C 71 [(0, .inr (.inr (some this))), (1, .inl v1), (2, .inl v2), (3, .inl v3), (4, .inl v4), (5, .inl s.1)] [] s.2 Z) (kE0 : ∀ e : St, y = .inr e → AW C 100 [(0, .inr (.inr (some this))), (1, .inl v1), (2, .inl v2), (4, .inl v4)] [] e Z) : AW C 71 [(0, .inr (.inr (some this))), (1, .inl v1), (2, .inl v2), (3, .inl v3), (4, .inl v4), (5, .inl v5)] [] σ Z := by
  unfold fX1_part_l71 at h
  refine aw_iload X dX1_part_71 5 rfl ?_
  refine aw_iload X dX1_part_73 4 rfl ?_
  refine aw_icmp_ge X 100 dX1_part_75 rfl (fun c13 => ?_) (fun c13 => ?_)
  · rw [if_pos c13] at h
    cases h
    refine aw_sub [(0, .inr (.inr (some this))), (1, .inl v1), (2, .inl v2), (4, .inl v4)] [0, 1, 2, 4] rfl ?_
    exact kE0 σ rfl
  · rw [if_neg c13] at h
    refine aw_aload_n X dX1_part_78 0 0 rfl rfl ?_
    obtain ⟨x14, hx14, h⟩ := bind_some h
    refine aw_gfR X fl_X1_44 dX1_part_79 hx14 ?_
    refine aw_iload X dX1_part_82 5 rfl ?_
    refine aw_aload_n X dX1_part_84 0 0 rfl rfl ?_
    refine aw_iload_n X dX1_part_85 2 2 rfl rfl ?_
    refine aw_iload_n X dX1_part_86 3 3 rfl rfl ?_
    refine aw_iload X dX1_part_87 5 rfl ?_
    refine aw_iadd X dX1_part_89 ?_
    obtain ⟨y15, hy15, h⟩ := bind_some h
    refine aw_cV X (st := [.inl v5, .inr (.inr x14)]) hy15 [.inl v2, .inl (v3 + v5)] rfl rfl ml_X1_148 (fun o h => AX1_at0 (Cx.ok X) φ (d + 1) _ _ _ _ _ h) dX1_part_90 (Nat.le_of_ble_eq_true rfl) ?_
    obtain ⟨s16, hs16, h⟩ := bind_some h
    refine aw_iast X dX1_part_93 hs16 ?_
    refine aw_iinc X dX1_part_94 5 rfl (1 : Int32) rfl (by decide) [(5, .inl (v5 + (1 : Int32))), (0, .inr (.inr (some this))), (1, .inl v1), (2, .inl v2), (3, .inl v3), (4, .inl v4)] rfl ?_
    refine aw_goto X 71 dX1_part_97 rfl ?_
    cases h
    refine aw_sub [(0, .inr (.inr (some this))), (1, .inl v1), (2, .inl v2), (3, .inl v3), (4, .inl v4), (5, .inl (v5 + (1 : Int32)))] [1, 2, 3, 4, 5, 0] rfl ?_
    exact kH ((v5 + (1 : Int32)), s16) rfl
theorem wX1_part {C : CT} {d : Nat} (X : Cx C cX1_part RX1 (some .int) 6 (d + 2)) (φ : Nat) (this : Nat) (v1 : Int32) (v2 : Int32) (v3 : Int32) (v4 : Int32) (σ : St) (y : Int32 × St) (h : fX1_part φ this v1 v2 v3 v4 σ = some y) : AW C 0 [(0, .inr (.inr (some this))), (1, .inl v1), (2, .inl v2), (3, .inl v3), (4, .inl v4)] [] σ (AQ C (some (.inl y.1)) y.2) := by
  unfold fX1_part at h
  refine aw_iload_n X dX1_part_0 1 1 rfl rfl ?_
  obtain ⟨y1, hy1, h⟩ := bind_some h
  refine aw_callS X (st := []) [.inl v1] rfl ml_X1_154 (AX1_isWord (Cx.ok X) φ d _ _ _  hy1) dX1_part_1 (Nat.le_of_ble_eq_true rfl) ?_
  refine aw_if_eq X 14 dX1_part_4 rfl (fun c2 => ?_) (fun c2 => ?_)
  · rw [if_pos c2] at h
    refine aw_iconst X (-1 : Int32) dX1_part_14 (by decide) ?_
    cases h
    exact aw_iret X dX1_part_15
  · rw [if_neg c2] at h
    refine aw_iload_n X dX1_part_7 2 2 rfl rfl ?_
    obtain ⟨y3, hy3, h⟩ := bind_some h
    refine aw_callS X (st := []) [.inl v2] rfl ml_X1_154 (AX1_isWord (Cx.ok X) φ d _ _ _  hy3) dX1_part_8 (Nat.le_of_ble_eq_true rfl) ?_
    refine aw_if_ne X 16 dX1_part_11 rfl (fun c4 => ?_) (fun c4 => ?_)
    · rw [if_neg c4] at h
      refine aw_iload X dX1_part_16 4 rfl ?_
      refine aw_if_ge X 27 dX1_part_18 rfl (fun c5 => ?_) (fun c5 => ?_)
      · rw [if_pos c5] at h
        refine aw_aload_n X dX1_part_27 0 0 rfl rfl ?_
        refine aw_iload_n X dX1_part_28 2 2 rfl rfl ?_
        obtain ⟨y6, hy6, h⟩ := bind_some h
        refine aw_cV X (st := []) hy6 [.inl v2] rfl rfl ml_X1_185 (fun o h => AX1_isThere (Cx.ok X) φ (d + 1) _ _ _ _ h) dX1_part_29 (Nat.le_of_ble_eq_true rfl) ?_
        refine aw_if_ne X 41 dX1_part_32 rfl (fun c7 => ?_) (fun c7 => ?_)
        · rw [if_neg c7] at h
          refine aw_iload_n X dX1_part_41 3 3 rfl rfl ?_
          refine aw_if_lt X 62 dX1_part_42 rfl (fun c8 => ?_) (fun c8 => ?_)
          · rw [if_pos c8] at h
            refine aw_sub [(0, .inr (.inr (some this)))] [0] rfl ?_
            exact wX1_part_b62 X φ this σ y h
          · rw [if_neg c8] at h
            refine aw_iload_n X dX1_part_45 3 3 rfl rfl ?_
            refine aw_i2l X dX1_part_46 ?_
            refine aw_iload X dX1_part_47 4 rfl ?_
            refine aw_i2l X dX1_part_49 ?_
            refine aw_ladd X dX1_part_50 ?_
            refine aw_aload_n X dX1_part_51 0 0 rfl rfl ?_
            obtain ⟨x10, hx10, h⟩ := bind_some h
            refine aw_gfR X fl_X1_29 dX1_part_52 hx10 ?_
            refine aw_iload_n X dX1_part_55 2 2 rfl rfl ?_
            obtain ⟨x11, hx11, h⟩ := bind_some h
            refine aw_iald X dX1_part_56 hx11 ?_
            refine aw_i2l X dX1_part_57 ?_
            refine aw_lcmp_le X 68 dX1_part_58 dX1_part_59 rfl (fun c12 => ?_) (fun c12 => ?_)
            · rw [if_pos c12] at h
              refine aw_iconst X (0 : Int32) dX1_part_68 (by decide) ?_
              refine aw_istore X dX1_part_69 (by decide) [(5, .inl (0 : Int32)), (0, .inr (.inr (some this))), (1, .inl v1), (2, .inl v2), (3, .inl v3), (4, .inl v4)] rfl ?_
              obtain ⟨e17, h18, h⟩ := bind_some h
              refine aw_sub [(0, .inr (.inr (some this))), (1, .inl v1), (2, .inl v2), (3, .inl v3), (4, .inl v4), (5, .inl (0 : Int32))] [1, 2, 3, 4, 5, 0] rfl ?_
              refine aw_it (fun s => AW C 71 [(0, .inr (.inr (some this))), (1, .inl v1), (2, .inl v2), (3, .inl v3), (4, .inl v4), (5, .inl s.1)] [] s.2 (AQ C (some (.inl y.1)) y.2)) (fun e => AW C 100 [(0, .inr (.inr (some this))), (1, .inl v1), (2, .inl v2), (4, .inl v4)] [] e (AQ C (some (.inl y.1)) y.2)) (fun s r hr kH kE => wX1_part_l71 X φ this v1 v2 v3 v4 s.1 s.2 r hr kH kE) φ _ e17 h18 ?_
              refine aw_aload_n X dX1_part_100 0 0 rfl rfl ?_
              refine aw_iload X dX1_part_101 3 rfl ?_
              obtain ⟨s19, hs19, h⟩ := bind_some h
              refine aw_pfI X fl_X1_151 dX1_part_103 hs19 ?_
              refine aw_aload_n X dX1_part_106 0 0 rfl rfl ?_
              refine aw_iload_n X dX1_part_107 1 1 rfl rfl ?_
              refine aw_iconst X (2 : Int32) dX1_part_108 (by decide) ?_
              refine aw_iload_n X dX1_part_109 2 2 rfl rfl ?_
              refine aw_iconst X (0 : Int32) dX1_part_110 (by decide) ?_
              obtain ⟨y20, hy20, h⟩ := bind_some h
              refine aw_cV X (st := []) hy20 [.inl v1, .inl (2 : Int32), .inl v2, .inl (0 : Int32)] rfl rfl ml_X1_160 (fun o h => AX1_comes (Cx.ok X) φ (d + 1) _ _ _ _ _ _ _ h) dX1_part_111 (Nat.le_of_ble_eq_true rfl) ?_
              cases h
              exact aw_iret X dX1_part_114
            · rw [if_neg c12] at h
              refine aw_sub [(0, .inr (.inr (some this)))] [0] rfl ?_
              exact wX1_part_b62 X φ this σ y h
        · rw [if_pos c7] at h
          refine aw_aload_n X dX1_part_35 0 0 rfl rfl ?_
          refine aw_iconst X (1 : Int32) dX1_part_36 (by decide) ?_
          obtain ⟨y21, hy21, h⟩ := bind_some h
          refine aw_cV X (st := []) hy21 [.inl (1 : Int32)] rfl rfl ml_X1_134 (fun o h => AX1_meets (Cx.ok X) φ (d + 1) _ _ _ _ h) dX1_part_37 (Nat.le_of_ble_eq_true rfl) ?_
          cases h
          exact aw_iret X dX1_part_40
      · rw [if_neg c5] at h
        refine aw_aload_n X dX1_part_21 0 0 rfl rfl ?_
        refine aw_iconst X (5 : Int32) dX1_part_22 (by decide) ?_
        obtain ⟨y22, hy22, h⟩ := bind_some h
        refine aw_cV X (st := []) hy22 [.inl (5 : Int32)] rfl rfl ml_X1_134 (fun o h => AX1_meets (Cx.ok X) φ (d + 1) _ _ _ _ h) dX1_part_23 (Nat.le_of_ble_eq_true rfl) ?_
        cases h
        exact aw_iret X dX1_part_26
    · rw [if_pos c4] at h
      refine aw_iconst X (-1 : Int32) dX1_part_14 (by decide) ?_
      cases h
      exact aw_iret X dX1_part_15
theorem AX1_part {E : AE} {l : Launch} (hE : EOK E l) (φ d : Nat) (this : Nat) (v1 : Int32) (v2 : Int32) (v3 : Int32) (v4 : Int32) (σ : St) (y : Int32 × St) (h : fX1_part φ this v1 v2 v3 v4 σ = some y) : AMet E l yX1_part (ws_ yX1_part cX1_part 6 (some .int)) (d + 2) [.inr (.inr (some this)), .inl v1, .inl v2, .inl v3, .inl v4] σ (some (.inl y.1)) y.2 := by
  refine amet_of hE (by decide +kernel) (Nat.le_of_ble_eq_true rfl) fun C e1 e2 X XI => ?_
  subst e1
  exact wX1_part X φ this v1 v2 v3 v4 σ y h
theorem wX1_needWord {C : CT} {d : Nat} (X : Cx C cX1_needWord RX1 (some .int) 3 (d + 2)) (φ : Nat) (this : Nat) (v1 : Int32) (v2 : Int32) (σ : St) (y : Int32 × St) (h : fX1_needWord φ this v1 v2 σ = some y) : AW C 0 [(0, .inr (.inr (some this))), (1, .inl v1), (2, .inl v2)] [] σ (AQ C (some (.inl y.1)) y.2) := by
  unfold fX1_needWord at h
  refine aw_iload_n X dX1_needWord_0 2 2 rfl rfl ?_
  obtain ⟨y1, hy1, h⟩ := bind_some h
  refine aw_callS X (st := []) [.inl v2] rfl ml_X1_154 (AX1_isWord (Cx.ok X) φ d _ _ _  hy1) dX1_needWord_1 (Nat.le_of_ble_eq_true rfl) ?_
  refine aw_if_eq X 11 dX1_needWord_4 rfl (fun c2 => ?_) (fun c2 => ?_)
  · rw [if_pos c2] at h
    refine aw_iconst X (-1 : Int32) dX1_needWord_11 (by decide) ?_
    refine aw_goto X 32 dX1_needWord_12 rfl ?_
    cases h
    exact aw_iret X dX1_needWord_32
  · rw [if_neg c2] at h
    refine aw_iload_n X dX1_needWord_7 1 1 rfl rfl ?_
    refine aw_if_ne X 15 dX1_needWord_8 rfl (fun c3 => ?_) (fun c3 => ?_)
    · rw [if_neg c3] at h
      refine aw_aload_n X dX1_needWord_15 0 0 rfl rfl ?_
      refine aw_iload_n X dX1_needWord_16 2 2 rfl rfl ?_
      obtain ⟨y4, hy4, h⟩ := bind_some h
      refine aw_cV X (st := []) hy4 [.inl v2] rfl rfl ml_X1_185 (fun o h => AX1_isThere (Cx.ok X) φ (d + 1) _ _ _ _ h) dX1_needWord_17 (Nat.le_of_ble_eq_true rfl) ?_
      refine aw_if_eq X 27 dX1_needWord_20 rfl (fun c5 => ?_) (fun c5 => ?_)
      · rw [if_pos c5] at h
        refine aw_aload_n X dX1_needWord_27 0 0 rfl rfl ?_
        refine aw_iconst X (1 : Int32) dX1_needWord_28 (by decide) ?_
        obtain ⟨y6, hy6, h⟩ := bind_some h
        refine aw_cV X (st := []) hy6 [.inl (1 : Int32)] rfl rfl ml_X1_134 (fun o h => AX1_meets (Cx.ok X) φ (d + 1) _ _ _ _ h) dX1_needWord_29 (Nat.le_of_ble_eq_true rfl) ?_
        cases h
        exact aw_iret X dX1_needWord_32
      · rw [if_neg c5] at h
        refine aw_iconst X (0 : Int32) dX1_needWord_23 (by decide) ?_
        refine aw_goto X 32 dX1_needWord_24 rfl ?_
        cases h
        exact aw_iret X dX1_needWord_32
    · rw [if_pos c3] at h
      refine aw_iconst X (-1 : Int32) dX1_needWord_11 (by decide) ?_
      refine aw_goto X 32 dX1_needWord_12 rfl ?_
      cases h
      exact aw_iret X dX1_needWord_32
theorem AX1_needWord {E : AE} {l : Launch} (hE : EOK E l) (φ d : Nat) (this : Nat) (v1 : Int32) (v2 : Int32) (σ : St) (y : Int32 × St) (h : fX1_needWord φ this v1 v2 σ = some y) : AMet E l yX1_needWord (ws_ yX1_needWord cX1_needWord 3 (some .int)) (d + 2) [.inr (.inr (some this)), .inl v1, .inl v2] σ (some (.inl y.1)) y.2 := by
  refine amet_of hE (by decide +kernel) (Nat.le_of_ble_eq_true rfl) fun C e1 e2 X XI => ?_
  subst e1
  exact wX1_needWord X φ this v1 v2 σ y h
theorem wX1_turn_l49 {C : CT} {d : Nat} {Z : State → Prop} (X : Cx C cX1_turn RX1 (some .int) 6 (d + 3)) (φ : Nat) (this : Nat) (v1 : Int32) (v2 : Int32) (v3 : Int32) (v5 : Int32) (σ : St) (y : (Int32 × St) ⊕ (St)) (h : fX1_turn_l49 φ this v1 v2 v3 v5 σ = some y) (kH : ∀ s : Int32 × St, y = .inl s → AW C 49 [(0, .inr (.inr (some this))), (1, .inl v1), (2, .inl v2), (3, .inl v3), (5, .inl s.1)] [] s.2 Z) (kE0 : ∀ e : St, y = .inr e → AW C 106 [(0, .inr (.inr (some this))), (1, .inl v1), (2, .inl v2), (3, .inl v3)] [] e Z) : AW C 49 [(0, .inr (.inr (some this))), (1, .inl v1), (2, .inl v2), (3, .inl v3), (5, .inl v5)] [] σ Z := by
  unfold fX1_turn_l49 at h
  refine aw_iload X dX1_turn_49 4 rfl ?_
  refine aw_aload_n X dX1_turn_51 0 0 rfl rfl ?_
  obtain ⟨x8, hx8, h⟩ := bind_some h
  refine aw_gfI X fl_X1_151 dX1_turn_52 hx8 ?_
  refine aw_icmp_ge X 106 dX1_turn_55 rfl (fun c9 => ?_) (fun c9 => ?_)
  · rw [if_pos c9] at h
    cases h
    refine aw_sub [(0, .inr (.inr (some this))), (1, .inl v1), (2, .inl v2), (3, .inl v3)] [0, 1, 2, 3] rfl ?_
    exact kE0 σ rfl
  · rw [if_neg c9] at h
    refine aw_aload_n X dX1_turn_58 0 0 rfl rfl ?_
    obtain ⟨x10, hx10, h⟩ := bind_some h
    refine aw_gfR X fl_X1_44 dX1_turn_59 hx10 ?_
    refine aw_iload X dX1_turn_62 4 rfl ?_
    refine aw_iload_n X dX1_turn_64 3 3 rfl rfl ?_
    refine aw_if_ne X 85 dX1_turn_65 rfl (fun c11 => ?_) (fun c11 => ?_)
    · rw [if_neg c11] at h
      refine aw_aload_n X dX1_turn_85 0 0 rfl rfl ?_
      obtain ⟨x12, hx12, h⟩ := bind_some h
      refine aw_gfI X fl_X1_110 dX1_turn_86 hx12 ?_
      refine aw_iconst X (1 : Int32) dX1_turn_89 (by decide) ?_
      refine aw_isub X dX1_turn_90 ?_
      refine aw_aload_n X dX1_turn_91 0 0 rfl rfl ?_
      refine aw_iload_n X dX1_turn_92 2 2 rfl rfl ?_
      refine aw_iload X dX1_turn_93 4 rfl ?_
      obtain ⟨y13, hy13, h⟩ := bind_some h
      refine aw_cV X (st := [.inl (x12 - (1 : Int32)), .inl v5, .inr (.inr x10)]) hy13 [.inl v2, .inl v5] rfl rfl ml_X1_148 (fun o h => AX1_at0 (Cx.ok X) φ (d + 2) _ _ _ _ _ h) dX1_turn_95 (Nat.le_of_ble_eq_true rfl) ?_
      refine aw_isub X dX1_turn_98 ?_
      obtain ⟨s14, hs14, h⟩ := bind_some h
      refine aw_iast X dX1_turn_99 hs14 ?_
      refine aw_iinc X dX1_turn_100 4 rfl (1 : Int32) rfl (by decide) [(5, .inl (v5 + (1 : Int32))), (0, .inr (.inr (some this))), (1, .inl v1), (2, .inl v2), (3, .inl v3)] rfl ?_
      refine aw_goto X 49 dX1_turn_103 rfl ?_
      cases h
      refine aw_sub [(0, .inr (.inr (some this))), (1, .inl v1), (2, .inl v2), (3, .inl v3), (5, .inl (v5 + (1 : Int32)))] [1, 2, 3, 4, 0] rfl ?_
      exact kH ((v5 + (1 : Int32)), s14) rfl
    · rw [if_pos c11] at h
      refine aw_aload_n X dX1_turn_68 0 0 rfl rfl ?_
      refine aw_iload_n X dX1_turn_69 2 2 rfl rfl ?_
      refine aw_aload_n X dX1_turn_70 0 0 rfl rfl ?_
      obtain ⟨x15, hx15, h⟩ := bind_some h
      refine aw_gfI X fl_X1_151 dX1_turn_71 hx15 ?_
      refine aw_iconst X (1 : Int32) dX1_turn_74 (by decide) ?_
      refine aw_isub X dX1_turn_75 ?_
      refine aw_iload X dX1_turn_76 4 rfl ?_
      refine aw_isub X dX1_turn_78 ?_
      obtain ⟨y16, hy16, h⟩ := bind_some h
      refine aw_cV X (st := [.inl v5, .inr (.inr x10)]) hy16 [.inl v2, .inl ((x15 - (1 : Int32)) - v5)] rfl rfl ml_X1_148 (fun o h => AX1_at0 (Cx.ok X) φ (d + 2) _ _ _ _ _ h) dX1_turn_79 (Nat.le_of_ble_eq_true rfl) ?_
      refine aw_goto X 99 dX1_turn_82 rfl ?_
      obtain ⟨s17, hs17, h⟩ := bind_some h
      refine aw_iast X dX1_turn_99 hs17 ?_
      refine aw_iinc X dX1_turn_100 4 rfl (1 : Int32) rfl (by decide) [(5, .inl (v5 + (1 : Int32))), (0, .inr (.inr (some this))), (1, .inl v1), (2, .inl v2), (3, .inl v3)] rfl ?_
      refine aw_goto X 49 dX1_turn_103 rfl ?_
      cases h
      refine aw_sub [(0, .inr (.inr (some this))), (1, .inl v1), (2, .inl v2), (3, .inl v3), (5, .inl (v5 + (1 : Int32)))] [1, 2, 3, 4, 0] rfl ?_
      exact kH ((v5 + (1 : Int32)), s17) rfl
theorem wX1_turn_b22 {C : CT} {d : Nat} (X : Cx C cX1_turn RX1 (some .int) 6 (d + 3)) (φ : Nat) (this : Nat) (v1 : Int32) (v2 : Int32) (v3 : Int32) (k0 : Option Nat) (k1 : Int32) (σ : St) (y : Int32 × St) (h : fX1_turn_b22 φ this v1 v2 v3 k0 k1 σ = some y)  : AW C 22 [(0, .inr (.inr (some this))), (1, .inl v1), (2, .inl v2), (3, .inl v3)] [.inl k1, .inr (.inr k0)] σ (AQ C (some (.inl y.1)) y.2) := by
  unfold fX1_turn_b22 at h
  refine aw_iload_n X dX1_turn_22 2 2 rfl rfl ?_
  obtain ⟨y3, hy3, h⟩ := bind_some h
  refine aw_cV X (st := []) hy3 [.inl k1, .inl v2] rfl rfl ml_X1_192 (fun o h => AX1_needWord (Cx.ok X) φ d _ _ _ _ _ h) dX1_turn_23 (Nat.le_of_ble_eq_true rfl) ?_
  refine aw_istore X dX1_turn_26 (by decide) [(4, .inl y3.1), (0, .inr (.inr (some this))), (1, .inl v1), (2, .inl v2), (3, .inl v3)] rfl ?_
  refine aw_iload X dX1_turn_28 0 rfl ?_
  refine aw_if_ge X 36 dX1_turn_30 rfl (fun c4 => ?_) (fun c4 => ?_)
  · rw [if_pos c4] at h
    refine aw_aload_n X dX1_turn_36 1 0 rfl rfl ?_
    refine aw_aload_n X dX1_turn_37 1 0 rfl rfl ?_
    obtain ⟨x5, hx5, h⟩ := bind_some h
    refine aw_gfR X fl_X1_29 dX1_turn_38 hx5 ?_
    refine aw_iload_n X dX1_turn_41 3 2 rfl rfl ?_
    obtain ⟨x6, hx6, h⟩ := bind_some h
    refine aw_iald X dX1_turn_42 hx6 ?_
    obtain ⟨s7, hs7, h⟩ := bind_some h
    refine aw_pfI X fl_X1_151 dX1_turn_43 hs7 ?_
    refine aw_iconst X (0 : Int32) dX1_turn_46 (by decide) ?_
    refine aw_istore X dX1_turn_47 (by decide) [(5, .inl (0 : Int32)), (4, .inl y3.1), (0, .inr (.inr (some this))), (1, .inl v1), (2, .inl v2), (3, .inl v3)] rfl ?_
    obtain ⟨e18, h19, h⟩ := bind_some h
    refine aw_sub [(0, .inr (.inr (some this))), (1, .inl v1), (2, .inl v2), (3, .inl v3), (5, .inl (0 : Int32))] [2, 3, 4, 5, 0] rfl ?_
    refine aw_it (fun s => AW C 49 [(0, .inr (.inr (some this))), (1, .inl v1), (2, .inl v2), (3, .inl v3), (5, .inl s.1)] [] s.2 (AQ C (some (.inl y.1)) y.2)) (fun e => AW C 106 [(0, .inr (.inr (some this))), (1, .inl v1), (2, .inl v2), (3, .inl v3)] [] e (AQ C (some (.inl y.1)) y.2)) (fun s r hr kH kE => wX1_turn_l49 X φ this v1 v2 v3 s.1 s.2 r hr kH kE) φ _ e18 h19 ?_
    refine aw_aload_n X dX1_turn_106 0 0 rfl rfl ?_
    refine aw_iload_n X dX1_turn_107 1 1 rfl rfl ?_
    refine aw_iconst X (3 : Int32) dX1_turn_108 (by decide) ?_
    refine aw_iload_n X dX1_turn_109 2 2 rfl rfl ?_
    refine aw_iload_n X dX1_turn_110 3 3 rfl rfl ?_
    obtain ⟨y20, hy20, h⟩ := bind_some h
    refine aw_cV X (st := []) hy20 [.inl v1, .inl (3 : Int32), .inl v2, .inl v3] rfl rfl ml_X1_160 (fun o h => AX1_comes (Cx.ok X) φ (d + 2) _ _ _ _ _ _ _ h) dX1_turn_111 (Nat.le_of_ble_eq_true rfl) ?_
    cases h
    exact aw_iret X dX1_turn_114
  · rw [if_neg c4] at h
    refine aw_iload X dX1_turn_33 0 rfl ?_
    cases h
    exact aw_iret X dX1_turn_35
theorem wX1_turn_b21 {C : CT} {d : Nat} (X : Cx C cX1_turn RX1 (some .int) 6 (d + 3)) (φ : Nat) (this : Nat) (v1 : Int32) (v2 : Int32) (v3 : Int32) (k0 : Option Nat) (σ : St) (y : Int32 × St) (h : fX1_turn_b21 φ this v1 v2 v3 k0 σ = some y)  : AW C 21 [(0, .inr (.inr (some this))), (1, .inl v1), (2, .inl v2), (3, .inl v3)] [.inr (.inr k0)] σ (AQ C (some (.inl y.1)) y.2) := by
  unfold fX1_turn_b21 at h
  refine aw_iconst X (0 : Int32) dX1_turn_21 (by decide) ?_
  exact wX1_turn_b22 X φ this v1 v2 v3 k0 (0 : Int32) σ y h
theorem wX1_turn {C : CT} {d : Nat} (X : Cx C cX1_turn RX1 (some .int) 6 (d + 3)) (φ : Nat) (this : Nat) (v1 : Int32) (v2 : Int32) (v3 : Int32) (σ : St) (y : Int32 × St) (h : fX1_turn φ this v1 v2 v3 σ = some y) : AW C 0 [(0, .inr (.inr (some this))), (1, .inl v1), (2, .inl v2), (3, .inl v3)] [] σ (AQ C (some (.inl y.1)) y.2) := by
  unfold fX1_turn at h
  refine aw_aload_n X dX1_turn_0 0 0 rfl rfl ?_
  refine aw_iload_n X dX1_turn_1 1 1 rfl rfl ?_
  obtain ⟨y1, hy1, h⟩ := bind_some h
  refine aw_callS X (st := [.inr (.inr (some this))]) [.inl v1] rfl ml_X1_154 (AX1_isWord (Cx.ok X) φ (d + 1) _ _ _  hy1) dX1_turn_2 (Nat.le_of_ble_eq_true rfl) ?_
  refine aw_if_eq X 21 dX1_turn_5 rfl (fun c2 => ?_) (fun c2 => ?_)
  · rw [if_pos c2] at h
    exact wX1_turn_b21 X φ this v1 v2 v3 (some this) σ y h
  · rw [if_neg c2] at h
    refine aw_iload_n X dX1_turn_8 3 3 rfl rfl ?_
    refine aw_iconst X (0 : Int32) dX1_turn_9 (by decide) ?_
    refine aw_iconst X (1 : Int32) dX1_turn_10 (by decide) ?_
    obtain ⟨y21, hy21, h⟩ := bind_some h
    refine aw_callS X (st := [.inr (.inr (some this))]) [.inl v3, .inl (0 : Int32), .inl (1 : Int32)] rfl ml_X1_117 (AX1_in (Cx.ok X) φ (d + 2) _ _ _ _ _  hy21) dX1_turn_11 (Nat.le_of_ble_eq_true rfl) ?_
    refine aw_if_eq X 21 dX1_turn_14 rfl (fun c22 => ?_) (fun c22 => ?_)
    · rw [if_pos c22] at h
      exact wX1_turn_b21 X φ this v1 v2 v3 (some this) σ y h
    · rw [if_neg c22] at h
      refine aw_iconst X (1 : Int32) dX1_turn_17 (by decide) ?_
      refine aw_goto X 22 dX1_turn_18 rfl ?_
      exact wX1_turn_b22 X φ this v1 v2 v3 (some this) (1 : Int32) σ y h
theorem AX1_turn {E : AE} {l : Launch} (hE : EOK E l) (φ d : Nat) (this : Nat) (v1 : Int32) (v2 : Int32) (v3 : Int32) (σ : St) (y : Int32 × St) (h : fX1_turn φ this v1 v2 v3 σ = some y) : AMet E l yX1_turn (ws_ yX1_turn cX1_turn 6 (some .int)) (d + 3) [.inr (.inr (some this)), .inl v1, .inl v2, .inl v3] σ (some (.inl y.1)) y.2 := by
  refine amet_of hE (by decide +kernel) (Nat.le_of_ble_eq_true rfl) fun C e1 e2 X XI => ?_
  subst e1
  exact wX1_turn X φ this v1 v2 v3 σ y h
theorem wX1_erase {C : CT} {d : Nat} (X : Cx C cX1_erase RX1 (some .int) 3 (d + 3)) (φ : Nat) (this : Nat) (v1 : Int32) (σ : St) (y : Int32 × St) (h : fX1_erase φ this v1 σ = some y) : AW C 0 [(0, .inr (.inr (some this))), (1, .inl v1)] [] σ (AQ C (some (.inl y.1)) y.2) := by
  unfold fX1_erase at h
  refine aw_aload_n X dX1_erase_0 0 0 rfl rfl ?_
  refine aw_iconst X (1 : Int32) dX1_erase_1 (by decide) ?_
  refine aw_iload_n X dX1_erase_2 1 1 rfl rfl ?_
  obtain ⟨y1, hy1, h⟩ := bind_some h
  refine aw_cV X (st := []) hy1 [.inl (1 : Int32), .inl v1] rfl rfl ml_X1_192 (fun o h => AX1_needWord (Cx.ok X) φ d _ _ _ _ _ h) dX1_erase_3 (Nat.le_of_ble_eq_true rfl) ?_
  refine aw_istore_n X dX1_erase_6 2 rfl (by decide) [(2, .inl y1.1), (0, .inr (.inr (some this))), (1, .inl v1)] rfl ?_
  refine aw_iload_n X dX1_erase_7 0 2 rfl rfl ?_
  refine aw_if_ge X 13 dX1_erase_8 rfl (fun c2 => ?_) (fun c2 => ?_)
  · rw [if_pos c2] at h
    refine aw_aload_n X dX1_erase_13 1 0 rfl rfl ?_
    obtain ⟨x3, hx3, h⟩ := bind_some h
    refine aw_gfR X fl_X1_29 dX1_erase_14 hx3 ?_
    refine aw_iload_n X dX1_erase_17 2 1 rfl rfl ?_
    refine aw_iconst X (-1 : Int32) dX1_erase_18 (by decide) ?_
    obtain ⟨s4, hs4, h⟩ := bind_some h
    refine aw_iast X dX1_erase_19 hs4 ?_
    refine aw_iconst X (1 : Int32) dX1_erase_20 (by decide) ?_
    cases h
    exact aw_iret X dX1_erase_21
  · rw [if_neg c2] at h
    refine aw_iload_n X dX1_erase_11 0 2 rfl rfl ?_
    cases h
    exact aw_iret X dX1_erase_12
theorem AX1_erase {E : AE} {l : Launch} (hE : EOK E l) (φ d : Nat) (this : Nat) (v1 : Int32) (σ : St) (y : Int32 × St) (h : fX1_erase φ this v1 σ = some y) : AMet E l yX1_erase (ws_ yX1_erase cX1_erase 3 (some .int)) (d + 3) [.inr (.inr (some this)), .inl v1] σ (some (.inl y.1)) y.2 := by
  refine amet_of hE (by decide +kernel) (Nat.le_of_ble_eq_true rfl) fun C e1 e2 X XI => ?_
  subst e1
  exact wX1_erase X φ this v1 σ y h
theorem wX1_size {C : CT} {d : Nat} (X : Cx C cX1_size RX1 (some .int) 3 (d + 3)) (φ : Nat) (this : Nat) (v1 : Int32) (σ : St) (y : Int32 × St) (h : fX1_size φ this v1 σ = some y) : AW C 0 [(0, .inr (.inr (some this))), (1, .inl v1)] [] σ (AQ C (some (.inl y.1)) y.2) := by
  unfold fX1_size at h
  refine aw_aload_n X dX1_size_0 0 0 rfl rfl ?_
  refine aw_iconst X (1 : Int32) dX1_size_1 (by decide) ?_
  refine aw_iload_n X dX1_size_2 1 1 rfl rfl ?_
  obtain ⟨y1, hy1, h⟩ := bind_some h
  refine aw_cV X (st := []) hy1 [.inl (1 : Int32), .inl v1] rfl rfl ml_X1_192 (fun o h => AX1_needWord (Cx.ok X) φ d _ _ _ _ _ h) dX1_size_3 (Nat.le_of_ble_eq_true rfl) ?_
  refine aw_istore_n X dX1_size_6 2 rfl (by decide) [(2, .inl y1.1), (0, .inr (.inr (some this))), (1, .inl v1)] rfl ?_
  refine aw_iload_n X dX1_size_7 0 2 rfl rfl ?_
  refine aw_if_ge X 15 dX1_size_8 rfl (fun c2 => ?_) (fun c2 => ?_)
  · rw [if_pos c2] at h
    refine aw_aload_n X dX1_size_15 1 0 rfl rfl ?_
    obtain ⟨x3, hx3, h⟩ := bind_some h
    refine aw_gfR X fl_X1_29 dX1_size_16 hx3 ?_
    refine aw_iload_n X dX1_size_19 2 1 rfl rfl ?_
    obtain ⟨x4, hx4, h⟩ := bind_some h
    refine aw_iald X dX1_size_20 hx4 ?_
    cases h
    exact aw_iret X dX1_size_21
  · rw [if_neg c2] at h
    refine aw_iload_n X dX1_size_11 0 2 rfl rfl ?_
    refine aw_goto X 21 dX1_size_12 rfl ?_
    cases h
    exact aw_iret X dX1_size_21
theorem AX1_size {E : AE} {l : Launch} (hE : EOK E l) (φ d : Nat) (this : Nat) (v1 : Int32) (σ : St) (y : Int32 × St) (h : fX1_size φ this v1 σ = some y) : AMet E l yX1_size (ws_ yX1_size cX1_size 3 (some .int)) (d + 3) [.inr (.inr (some this)), .inl v1] σ (some (.inl y.1)) y.2 := by
  refine amet_of hE (by decide +kernel) (Nat.le_of_ble_eq_true rfl) fun C e1 e2 X XI => ?_
  subst e1
  exact wX1_size X φ this v1 σ y h
theorem wX1_letter {C : CT} {d : Nat} (X : Cx C cX1_letter RX1 (some .int) 4 (d + 3)) (φ : Nat) (this : Nat) (v1 : Int32) (v2 : Int32) (σ : St) (y : Int32 × St) (h : fX1_letter φ this v1 v2 σ = some y) : AW C 0 [(0, .inr (.inr (some this))), (1, .inl v1), (2, .inl v2)] [] σ (AQ C (some (.inl y.1)) y.2) := by
  unfold fX1_letter at h
  refine aw_aload_n X dX1_letter_0 0 0 rfl rfl ?_
  refine aw_iconst X (1 : Int32) dX1_letter_1 (by decide) ?_
  refine aw_iload_n X dX1_letter_2 1 1 rfl rfl ?_
  obtain ⟨y1, hy1, h⟩ := bind_some h
  refine aw_cV X (st := []) hy1 [.inl (1 : Int32), .inl v1] rfl rfl ml_X1_192 (fun o h => AX1_needWord (Cx.ok X) φ d _ _ _ _ _ h) dX1_letter_3 (Nat.le_of_ble_eq_true rfl) ?_
  refine aw_istore_n X dX1_letter_6 3 rfl (by decide) [(3, .inl y1.1), (0, .inr (.inr (some this))), (1, .inl v1), (2, .inl v2)] rfl ?_
  refine aw_iload_n X dX1_letter_7 0 3 rfl rfl ?_
  refine aw_if_ge X 15 dX1_letter_8 rfl (fun c2 => ?_) (fun c2 => ?_)
  · rw [if_pos c2] at h
    refine aw_iload_n X dX1_letter_15 3 2 rfl rfl ?_
    refine aw_iconst X (0 : Int32) dX1_letter_16 (by decide) ?_
    refine aw_aload_n X dX1_letter_17 1 0 rfl rfl ?_
    obtain ⟨x3, hx3, h⟩ := bind_some h
    refine aw_gfR X fl_X1_29 dX1_letter_18 hx3 ?_
    refine aw_iload_n X dX1_letter_21 2 1 rfl rfl ?_
    obtain ⟨x4, hx4, h⟩ := bind_some h
    refine aw_iald X dX1_letter_22 hx4 ?_
    refine aw_iconst X (1 : Int32) dX1_letter_23 (by decide) ?_
    refine aw_isub X dX1_letter_24 ?_
    obtain ⟨y5, hy5, h⟩ := bind_some h
    refine aw_callS X (st := []) [.inl v2, .inl (0 : Int32), .inl (x4 - (1 : Int32))] rfl ml_X1_117 (AX1_in (Cx.ok X) φ (d + 2) _ _ _ _ _  hy5) dX1_letter_25 (Nat.le_of_ble_eq_true rfl) ?_
    refine aw_if_eq X 40 dX1_letter_28 rfl (fun c6 => ?_) (fun c6 => ?_)
    · rw [if_pos c6] at h
      refine aw_aload_n X dX1_letter_40 1 0 rfl rfl ?_
      refine aw_iconst X (2 : Int32) dX1_letter_41 (by decide) ?_
      obtain ⟨y7, hy7, h⟩ := bind_some h
      refine aw_cV X (st := []) hy7 [.inl (2 : Int32)] rfl rfl ml_X1_134 (fun o h => AX1_meets (Cx.ok X) φ (d + 2) _ _ _ _ h) dX1_letter_42 (Nat.le_of_ble_eq_true rfl) ?_
      cases h
      exact aw_iret X dX1_letter_45
    · rw [if_neg c6] at h
      refine aw_aload_n X dX1_letter_31 1 0 rfl rfl ?_
      refine aw_iload_n X dX1_letter_32 2 1 rfl rfl ?_
      refine aw_iload_n X dX1_letter_33 3 2 rfl rfl ?_
      obtain ⟨y8, hy8, h⟩ := bind_some h
      refine aw_cV X (st := []) hy8 [.inl v1, .inl v2] rfl rfl ml_X1_148 (fun o h => AX1_at0 (Cx.ok X) φ (d + 2) _ _ _ _ _ h) dX1_letter_34 (Nat.le_of_ble_eq_true rfl) ?_
      refine aw_goto X 45 dX1_letter_37 rfl ?_
      cases h
      exact aw_iret X dX1_letter_45
  · rw [if_neg c2] at h
    refine aw_iload_n X dX1_letter_11 0 3 rfl rfl ?_
    refine aw_goto X 45 dX1_letter_12 rfl ?_
    cases h
    exact aw_iret X dX1_letter_45
theorem AX1_letter {E : AE} {l : Launch} (hE : EOK E l) (φ d : Nat) (this : Nat) (v1 : Int32) (v2 : Int32) (σ : St) (y : Int32 × St) (h : fX1_letter φ this v1 v2 σ = some y) : AMet E l yX1_letter (ws_ yX1_letter cX1_letter 4 (some .int)) (d + 3) [.inr (.inr (some this)), .inl v1, .inl v2] σ (some (.inl y.1)) y.2 := by
  refine amet_of hE (by decide +kernel) (Nat.le_of_ble_eq_true rfl) fun C e1 e2 X XI => ?_
  subst e1
  exact wX1_letter X φ this v1 v2 σ y h
theorem wX1_kind {C : CT} {d : Nat} (X : Cx C cX1_kind RX1 (some .int) 3 (d + 3)) (φ : Nat) (this : Nat) (v1 : Int32) (σ : St) (y : Int32 × St) (h : fX1_kind φ this v1 σ = some y) : AW C 0 [(0, .inr (.inr (some this))), (1, .inl v1)] [] σ (AQ C (some (.inl y.1)) y.2) := by
  unfold fX1_kind at h
  refine aw_aload_n X dX1_kind_0 0 0 rfl rfl ?_
  refine aw_iconst X (1 : Int32) dX1_kind_1 (by decide) ?_
  refine aw_iload_n X dX1_kind_2 1 1 rfl rfl ?_
  obtain ⟨y1, hy1, h⟩ := bind_some h
  refine aw_cV X (st := []) hy1 [.inl (1 : Int32), .inl v1] rfl rfl ml_X1_192 (fun o h => AX1_needWord (Cx.ok X) φ d _ _ _ _ _ h) dX1_kind_3 (Nat.le_of_ble_eq_true rfl) ?_
  refine aw_istore_n X dX1_kind_6 2 rfl (by decide) [(2, .inl y1.1), (0, .inr (.inr (some this))), (1, .inl v1)] rfl ?_
  refine aw_iload_n X dX1_kind_7 0 2 rfl rfl ?_
  refine aw_if_ge X 15 dX1_kind_8 rfl (fun c2 => ?_) (fun c2 => ?_)
  · rw [if_pos c2] at h
    refine aw_aload_n X dX1_kind_15 1 0 rfl rfl ?_
    obtain ⟨x3, hx3, h⟩ := bind_some h
    refine aw_gfR X fl_X1_35 dX1_kind_16 hx3 ?_
    refine aw_iload_n X dX1_kind_19 2 1 rfl rfl ?_
    obtain ⟨x4, hx4, h⟩ := bind_some h
    refine aw_iald X dX1_kind_20 hx4 ?_
    cases h
    exact aw_iret X dX1_kind_21
  · rw [if_neg c2] at h
    refine aw_iload_n X dX1_kind_11 0 2 rfl rfl ?_
    refine aw_goto X 21 dX1_kind_12 rfl ?_
    cases h
    exact aw_iret X dX1_kind_21
theorem AX1_kind {E : AE} {l : Launch} (hE : EOK E l) (φ d : Nat) (this : Nat) (v1 : Int32) (σ : St) (y : Int32 × St) (h : fX1_kind φ this v1 σ = some y) : AMet E l yX1_kind (ws_ yX1_kind cX1_kind 3 (some .int)) (d + 3) [.inr (.inr (some this)), .inl v1] σ (some (.inl y.1)) y.2 := by
  refine amet_of hE (by decide +kernel) (Nat.le_of_ble_eq_true rfl) fun C e1 e2 X XI => ?_
  subst e1
  exact wX1_kind X φ this v1 σ y h
theorem wX1_markOf {C : CT} {d : Nat} (X : Cx C cX1_markOf RX1 (some .int) 3 d) (φ : Nat) (this : Nat) (v1 : Int32) (v2 : Int32) (σ : St) (y : Int32) (h : fX1_markOf φ this v1 v2 σ = some y) : AW C 0 [(0, .inr (.inr (some this))), (1, .inl v1), (2, .inl v2)] [] σ (AQ C (some (.inl y)) σ) := by
  unfold fX1_markOf at h
  refine aw_iload_n X dX1_markOf_0 2 2 rfl rfl ?_
  refine aw_if_ne X 8 dX1_markOf_1 rfl (fun c1 => ?_) (fun c1 => ?_)
  · rw [if_neg c1] at h
    refine aw_iload_n X dX1_markOf_8 2 2 rfl rfl ?_
    refine aw_iconst X (2 : Int32) dX1_markOf_9 (by decide) ?_
    refine aw_icmp_ne X 22 dX1_markOf_10 rfl (fun c2 => ?_) (fun c2 => ?_)
    · rw [if_neg c2] at h
      refine aw_aload_n X dX1_markOf_22 0 0 rfl rfl ?_
      obtain ⟨x3, hx3, h⟩ := bind_some h
      refine aw_gfR X fl_X1_41 dX1_markOf_23 hx3 ?_
      refine aw_iload_n X dX1_markOf_26 1 1 rfl rfl ?_
      obtain ⟨x4, hx4, h⟩ := bind_some h
      refine aw_iald X dX1_markOf_27 hx4 ?_
      cases h
      exact aw_iret X dX1_markOf_28
    · rw [if_pos c2] at h
      refine aw_aload_n X dX1_markOf_13 0 0 rfl rfl ?_
      obtain ⟨x5, hx5, h⟩ := bind_some h
      refine aw_gfR X fl_X1_38 dX1_markOf_14 hx5 ?_
      refine aw_iload_n X dX1_markOf_17 1 1 rfl rfl ?_
      obtain ⟨x6, hx6, h⟩ := bind_some h
      refine aw_iald X dX1_markOf_18 hx6 ?_
      refine aw_goto X 28 dX1_markOf_19 rfl ?_
      cases h
      exact aw_iret X dX1_markOf_28
  · rw [if_pos c1] at h
    refine aw_iconst X (0 : Int32) dX1_markOf_4 (by decide) ?_
    refine aw_goto X 28 dX1_markOf_5 rfl ?_
    cases h
    exact aw_iret X dX1_markOf_28
theorem AX1_markOf {E : AE} {l : Launch} (hE : EOK E l) (φ d : Nat) (this : Nat) (v1 : Int32) (v2 : Int32) (σ : St) (y : Int32) (h : fX1_markOf φ this v1 v2 σ = some y) : AMet E l yX1_markOf (ws_ yX1_markOf cX1_markOf 3 (some .int)) d [.inr (.inr (some this)), .inl v1, .inl v2] σ (some (.inl y)) σ := by
  refine amet_of hE (by decide +kernel) (Nat.le_of_ble_eq_true rfl) fun C e1 e2 X XI => ?_
  subst e1
  exact wX1_markOf X φ this v1 v2 σ y h
theorem wX1_mark_b48 {C : CT} {d : Nat} (X : Cx C cX1_mark RX1 (some .int) 5 (d + 3)) (φ : Nat) (this : Nat) (v1 : Int32) (v2 : Int32) (k0 : Int32) (σ : St) (y : Int32 × St) (h : fX1_mark_b48 φ this v1 v2 k0 σ = some y)  : AW C 48 [(0, .inr (.inr (some this))), (1, .inl v1), (2, .inl v2)] [.inl k0] σ (AQ C (some (.inl y.1)) y.2) := by
  unfold fX1_mark_b48 at h
  refine aw_istore X dX1_mark_48 (by decide) [(4, .inl k0), (0, .inr (.inr (some this))), (1, .inl v1), (2, .inl v2)] rfl ?_
  refine aw_iload X dX1_mark_50 0 rfl ?_
  refine aw_if_eq X 64 dX1_mark_52 rfl (fun c7 => ?_) (fun c7 => ?_)
  · rw [if_pos c7] at h
    refine aw_aload_n X dX1_mark_64 1 0 rfl rfl ?_
    refine aw_iconst X (3 : Int32) dX1_mark_65 (by decide) ?_
    obtain ⟨y8, hy8, h⟩ := bind_some h
    refine aw_cV X (st := []) hy8 [.inl (3 : Int32)] rfl rfl ml_X1_134 (fun o h => AX1_meets (Cx.ok X) φ (d + 2) _ _ _ _ h) dX1_mark_66 (Nat.le_of_ble_eq_true rfl) ?_
    cases h
    exact aw_iret X dX1_mark_69
  · rw [if_neg c7] at h
    refine aw_aload_n X dX1_mark_55 1 0 rfl rfl ?_
    refine aw_iload_n X dX1_mark_56 2 1 rfl rfl ?_
    refine aw_iload_n X dX1_mark_57 3 2 rfl rfl ?_
    obtain ⟨y9, hy9, h⟩ := bind_some h
    refine aw_cV X (st := []) hy9 [.inl v1, .inl v2] rfl rfl ml_X1_196 (fun o h => AX1_markOf (Cx.ok X) φ (d + 2) _ _ _ _ _ h) dX1_mark_58 (Nat.le_of_ble_eq_true rfl) ?_
    refine aw_goto X 69 dX1_mark_61 rfl ?_
    cases h
    exact aw_iret X dX1_mark_69
theorem wX1_mark_b43 {C : CT} {d : Nat} (X : Cx C cX1_mark RX1 (some .int) 5 (d + 3)) (φ : Nat) (this : Nat) (v1 : Int32) (v2 : Int32) (σ : St) (y : Int32 × St) (h : fX1_mark_b43 φ this v1 v2 σ = some y)  : AW C 43 [(0, .inr (.inr (some this))), (1, .inl v1), (2, .inl v2)] [] σ (AQ C (some (.inl y.1)) y.2) := by
  unfold fX1_mark_b43 at h
  refine aw_iconst X (1 : Int32) dX1_mark_43 (by decide) ?_
  refine aw_goto X 48 dX1_mark_44 rfl ?_
  exact wX1_mark_b48 X φ this v1 v2 (1 : Int32) σ y h
theorem wX1_mark_b47 {C : CT} {d : Nat} (X : Cx C cX1_mark RX1 (some .int) 5 (d + 3)) (φ : Nat) (this : Nat) (v1 : Int32) (v2 : Int32) (σ : St) (y : Int32 × St) (h : fX1_mark_b47 φ this v1 v2 σ = some y)  : AW C 47 [(0, .inr (.inr (some this))), (1, .inl v1), (2, .inl v2)] [] σ (AQ C (some (.inl y.1)) y.2) := by
  unfold fX1_mark_b47 at h
  refine aw_iconst X (0 : Int32) dX1_mark_47 (by decide) ?_
  exact wX1_mark_b48 X φ this v1 v2 (0 : Int32) σ y h
theorem wX1_mark {C : CT} {d : Nat} (X : Cx C cX1_mark RX1 (some .int) 5 (d + 3)) (φ : Nat) (this : Nat) (v1 : Int32) (v2 : Int32) (σ : St) (y : Int32 × St) (h : fX1_mark φ this v1 v2 σ = some y) : AW C 0 [(0, .inr (.inr (some this))), (1, .inl v1), (2, .inl v2)] [] σ (AQ C (some (.inl y.1)) y.2) := by
  unfold fX1_mark at h
  refine aw_aload_n X dX1_mark_0 0 0 rfl rfl ?_
  refine aw_iload_n X dX1_mark_1 2 2 rfl rfl ?_
  refine aw_iconst X (1 : Int32) dX1_mark_2 (by decide) ?_
  refine aw_iconst X (4 : Int32) dX1_mark_3 (by decide) ?_
  obtain ⟨y1, hy1, h⟩ := bind_some h
  refine aw_callS X (st := [.inr (.inr (some this))]) [.inl v2, .inl (1 : Int32), .inl (4 : Int32)] rfl ml_X1_117 (AX1_in (Cx.ok X) φ (d + 2) _ _ _ _ _  hy1) dX1_mark_4 (Nat.le_of_ble_eq_true rfl) ?_
  refine aw_iload_n X dX1_mark_7 1 1 rfl rfl ?_
  obtain ⟨y2, hy2, h⟩ := bind_some h
  refine aw_cV X (st := []) hy2 [.inl y1, .inl v1] rfl rfl ml_X1_192 (fun o h => AX1_needWord (Cx.ok X) φ d _ _ _ _ _ h) dX1_mark_8 (Nat.le_of_ble_eq_true rfl) ?_
  refine aw_istore_n X dX1_mark_11 3 rfl (by decide) [(3, .inl y2.1), (0, .inr (.inr (some this))), (1, .inl v1), (2, .inl v2)] rfl ?_
  refine aw_iload_n X dX1_mark_12 0 3 rfl rfl ?_
  refine aw_if_ge X 18 dX1_mark_13 rfl (fun c3 => ?_) (fun c3 => ?_)
  · rw [if_pos c3] at h
    refine aw_aload_n X dX1_mark_18 1 0 rfl rfl ?_
    obtain ⟨x4, hx4, h⟩ := bind_some h
    refine aw_gfR X fl_X1_35 dX1_mark_19 hx4 ?_
    refine aw_iload_n X dX1_mark_22 2 1 rfl rfl ?_
    obtain ⟨x5, hx5, h⟩ := bind_some h
    refine aw_iald X dX1_mark_23 hx5 ?_
    refine aw_iload_n X dX1_mark_24 3 2 rfl rfl ?_
    refine aw_icmp_eq X 43 dX1_mark_25 rfl (fun c6 => ?_) (fun c6 => ?_)
    · rw [if_pos c6] at h
      refine aw_sub [(0, .inr (.inr (some this))), (1, .inl v1), (2, .inl v2)] [1, 2, 3] rfl ?_
      exact wX1_mark_b43 X φ this v1 v2 y2.2 y h
    · rw [if_neg c6] at h
      refine aw_iload_n X dX1_mark_28 3 2 rfl rfl ?_
      refine aw_iconst X (2 : Int32) dX1_mark_29 (by decide) ?_
      refine aw_icmp_ne X 47 dX1_mark_30 rfl (fun c10 => ?_) (fun c10 => ?_)
      · rw [if_neg c10] at h
        refine aw_sub [(0, .inr (.inr (some this))), (1, .inl v1), (2, .inl v2)] [1, 2, 3] rfl ?_
        exact wX1_mark_b47 X φ this v1 v2 y2.2 y h
      · rw [if_pos c10] at h
        refine aw_aload_n X dX1_mark_33 1 0 rfl rfl ?_
        obtain ⟨x11, hx11, h⟩ := bind_some h
        refine aw_gfR X fl_X1_35 dX1_mark_34 hx11 ?_
        refine aw_iload_n X dX1_mark_37 2 1 rfl rfl ?_
        obtain ⟨x12, hx12, h⟩ := bind_some h
        refine aw_iald X dX1_mark_38 hx12 ?_
        refine aw_iconst X (2 : Int32) dX1_mark_39 (by decide) ?_
        refine aw_icmp_le X 47 dX1_mark_40 rfl (fun c13 => ?_) (fun c13 => ?_)
        · rw [if_pos c13] at h
          refine aw_sub [(0, .inr (.inr (some this))), (1, .inl v1), (2, .inl v2)] [1, 2, 3] rfl ?_
          exact wX1_mark_b47 X φ this v1 v2 y2.2 y h
        · rw [if_neg c13] at h
          refine aw_sub [(0, .inr (.inr (some this))), (1, .inl v1), (2, .inl v2)] [1, 2, 3] rfl ?_
          exact wX1_mark_b43 X φ this v1 v2 y2.2 y h
  · rw [if_neg c3] at h
    refine aw_iload_n X dX1_mark_16 0 3 rfl rfl ?_
    cases h
    exact aw_iret X dX1_mark_17
theorem AX1_mark {E : AE} {l : Launch} (hE : EOK E l) (φ d : Nat) (this : Nat) (v1 : Int32) (v2 : Int32) (σ : St) (y : Int32 × St) (h : fX1_mark φ this v1 v2 σ = some y) : AMet E l yX1_mark (ws_ yX1_mark cX1_mark 5 (some .int)) (d + 3) [.inr (.inr (some this)), .inl v1, .inl v2] σ (some (.inl y.1)) y.2 := by
  refine amet_of hE (by decide +kernel) (Nat.le_of_ble_eq_true rfl) fun C e1 e2 X XI => ?_
  subst e1
  exact wX1_mark X φ this v1 v2 σ y h
theorem wX1_layWays_l2 {C : CT} {d : Nat} {Z : State → Prop} (X : Cx C cX1_layWays RX1 none 5 (d + 1)) (φ : Nat) (this : Nat) (v1 : Int32) (v2 : Int32) (v3 : Int32) (σ : St) (y : (Int32 × St) ⊕ (St)) (h : fX1_layWays_l2 φ this v1 v2 v3 σ = some y) (kH : ∀ s : Int32 × St, y = .inl s → AW C 2 [(0, .inr (.inr (some this))), (1, .inl v1), (2, .inl v2), (3, .inl s.1)] [] s.2 Z) (kE0 : ∀ e : St, y = .inr e → AW C 29 [(0, .inr (.inr (some this))), (1, .inl v1), (2, .inl v2)] [] e Z) : AW C 2 [(0, .inr (.inr (some this))), (1, .inl v1), (2, .inl v2), (3, .inl v3)] [] σ Z := by
  unfold fX1_layWays_l2 at h
  refine aw_iload_n X dX1_layWays_2 3 3 rfl rfl ?_
  refine aw_bipush X (40 : Int32) dX1_layWays_3 (by decide) ?_
  refine aw_icmp_gt X 29 dX1_layWays_5 rfl (fun c1 => ?_) (fun c1 => ?_)
  · rw [if_pos c1] at h
    cases h
    refine aw_sub [(0, .inr (.inr (some this))), (1, .inl v1), (2, .inl v2)] [0, 1, 2] rfl ?_
    exact kE0 σ rfl
  · rw [if_neg c1] at h
    refine aw_aload_n X dX1_layWays_8 0 0 rfl rfl ?_
    obtain ⟨x2, hx2, h⟩ := bind_some h
    refine aw_gfR X fl_X1_53 dX1_layWays_9 hx2 ?_
    refine aw_iload_n X dX1_layWays_12 3 3 rfl rfl ?_
    refine aw_iload_n X dX1_layWays_13 3 3 rfl rfl ?_
    refine aw_if_ne X 21 dX1_layWays_14 rfl (fun c3 => ?_) (fun c3 => ?_)
    · rw [if_neg c3] at h
      refine aw_lconst X (0 : Int64) dX1_layWays_21 rfl ?_
      obtain ⟨s4, hs4, h⟩ := bind_some h
      refine aw_last X dX1_layWays_22 hs4 ?_
      refine aw_iinc X dX1_layWays_23 3 rfl (1 : Int32) rfl (by decide) [(3, .inl (v3 + (1 : Int32))), (0, .inr (.inr (some this))), (1, .inl v1), (2, .inl v2)] rfl ?_
      refine aw_goto X 2 dX1_layWays_26 rfl ?_
      cases h
      refine aw_sub [(0, .inr (.inr (some this))), (1, .inl v1), (2, .inl v2), (3, .inl (v3 + (1 : Int32)))] [1, 2, 3, 0] rfl ?_
      exact kH ((v3 + (1 : Int32)), s4) rfl
    · rw [if_pos c3] at h
      refine aw_lconst X (1 : Int64) dX1_layWays_17 rfl ?_
      refine aw_goto X 22 dX1_layWays_18 rfl ?_
      obtain ⟨s5, hs5, h⟩ := bind_some h
      refine aw_last X dX1_layWays_22 hs5 ?_
      refine aw_iinc X dX1_layWays_23 3 rfl (1 : Int32) rfl (by decide) [(3, .inl (v3 + (1 : Int32))), (0, .inr (.inr (some this))), (1, .inl v1), (2, .inl v2)] rfl ?_
      refine aw_goto X 2 dX1_layWays_26 rfl ?_
      cases h
      refine aw_sub [(0, .inr (.inr (some this))), (1, .inl v1), (2, .inl v2), (3, .inl (v3 + (1 : Int32)))] [1, 2, 3, 0] rfl ?_
      exact kH ((v3 + (1 : Int32)), s5) rfl
theorem wX1_layWays_l49 {C : CT} {d : Nat} {Z : State → Prop} (X : Cx C cX1_layWays RX1 none 5 (d + 1)) (φ : Nat) (this : Nat) (v1 : Int32) (v2 : Int32) (v3 : Int32) (v4 : Int32) (σ : St) (y : (Int32 × St) ⊕ (St)) (h : fX1_layWays_l49 φ this v1 v2 v3 v4 σ = some y) (kH : ∀ s : Int32 × St, y = .inl s → AW C 49 [(0, .inr (.inr (some this))), (1, .inl v1), (2, .inl v2), (3, .inl v3), (4, .inl s.1)] [] s.2 Z) (kE0 : ∀ e : St, y = .inr e → AW C 101 [(0, .inr (.inr (some this))), (1, .inl v1), (2, .inl v2), (3, .inl v3)] [] e Z) : AW C 49 [(0, .inr (.inr (some this))), (1, .inl v1), (2, .inl v2), (3, .inl v3), (4, .inl v4)] [] σ Z := by
  unfold fX1_layWays_l49 at h
  refine aw_iload X dX1_layWays_49 4 rfl ?_
  refine aw_if_le X 101 dX1_layWays_51 rfl (fun c13 => ?_) (fun c13 => ?_)
  · rw [if_pos c13] at h
    cases h
    refine aw_sub [(0, .inr (.inr (some this))), (1, .inl v1), (2, .inl v2), (3, .inl v3)] [0, 1, 2, 3] rfl ?_
    exact kE0 σ rfl
  · rw [if_neg c13] at h
    refine aw_aload_n X dX1_layWays_54 0 0 rfl rfl ?_
    obtain ⟨x14, hx14, h⟩ := bind_some h
    refine aw_gfR X fl_X1_53 dX1_layWays_55 hx14 ?_
    refine aw_iload X dX1_layWays_58 4 rfl ?_
    refine aw_dup2 X dX1_layWays_60 rfl rfl ?_
    obtain ⟨x15, hx15, h⟩ := bind_some h
    refine aw_lald X dX1_layWays_61 hx15 ?_
    refine aw_aload_n X dX1_layWays_62 0 0 rfl rfl ?_
    refine aw_iload_n X dX1_layWays_63 1 1 rfl rfl ?_
    refine aw_iload_n X dX1_layWays_64 3 3 rfl rfl ?_
    obtain ⟨y16, hy16, h⟩ := bind_some h
    refine aw_cV X (st := [.inr (.inl x15), .inl v4, .inr (.inr x14)]) hy16 [.inl v1, .inl v3] rfl rfl ml_X1_148 (fun o h => AX1_at0 (Cx.ok X) φ d _ _ _ _ _ h) dX1_layWays_65 (Nat.le_of_ble_eq_true rfl) ?_
    refine aw_aload_n X dX1_layWays_68 0 0 rfl rfl ?_
    refine aw_iload_n X dX1_layWays_69 2 2 rfl rfl ?_
    refine aw_iload X dX1_layWays_70 4 rfl ?_
    refine aw_iconst X (1 : Int32) dX1_layWays_72 (by decide) ?_
    refine aw_isub X dX1_layWays_73 ?_
    obtain ⟨y17, hy17, h⟩ := bind_some h
    refine aw_cV X (st := [.inl y16, .inr (.inl x15), .inl v4, .inr (.inr x14)]) hy17 [.inl v2, .inl (v4 - (1 : Int32))] rfl rfl ml_X1_148 (fun o h => AX1_at0 (Cx.ok X) φ d _ _ _ _ _ h) dX1_layWays_74 (Nat.le_of_ble_eq_true rfl) ?_
    refine aw_icmp_ne X 92 dX1_layWays_77 rfl (fun c18 => ?_) (fun c18 => ?_)
    · rw [if_neg c18] at h
      refine aw_lconst X (0 : Int64) dX1_layWays_92 rfl ?_
      refine aw_ladd X dX1_layWays_93 ?_
      obtain ⟨s19, hs19, h⟩ := bind_some h
      refine aw_last X dX1_layWays_94 hs19 ?_
      refine aw_iinc X dX1_layWays_95 4 rfl (-1 : Int32) rfl (by decide) [(4, .inl (v4 + (-1 : Int32))), (0, .inr (.inr (some this))), (1, .inl v1), (2, .inl v2), (3, .inl v3)] rfl ?_
      refine aw_goto X 49 dX1_layWays_98 rfl ?_
      cases h
      refine aw_sub [(0, .inr (.inr (some this))), (1, .inl v1), (2, .inl v2), (3, .inl v3), (4, .inl (v4 + (-1 : Int32)))] [1, 2, 3, 4, 0] rfl ?_
      exact kH ((v4 + (-1 : Int32)), s19) rfl
    · rw [if_pos c18] at h
      refine aw_aload_n X dX1_layWays_80 0 0 rfl rfl ?_
      obtain ⟨x20, hx20, h⟩ := bind_some h
      refine aw_gfR X fl_X1_53 dX1_layWays_81 hx20 ?_
      refine aw_iload X dX1_layWays_84 4 rfl ?_
      refine aw_iconst X (1 : Int32) dX1_layWays_86 (by decide) ?_
      refine aw_isub X dX1_layWays_87 ?_
      obtain ⟨x21, hx21, h⟩ := bind_some h
      refine aw_lald X dX1_layWays_88 hx21 ?_
      refine aw_goto X 93 dX1_layWays_89 rfl ?_
      refine aw_ladd X dX1_layWays_93 ?_
      obtain ⟨s22, hs22, h⟩ := bind_some h
      refine aw_last X dX1_layWays_94 hs22 ?_
      refine aw_iinc X dX1_layWays_95 4 rfl (-1 : Int32) rfl (by decide) [(4, .inl (v4 + (-1 : Int32))), (0, .inr (.inr (some this))), (1, .inl v1), (2, .inl v2), (3, .inl v3)] rfl ?_
      refine aw_goto X 49 dX1_layWays_98 rfl ?_
      cases h
      refine aw_sub [(0, .inr (.inr (some this))), (1, .inl v1), (2, .inl v2), (3, .inl v3), (4, .inl (v4 + (-1 : Int32)))] [1, 2, 3, 4, 0] rfl ?_
      exact kH ((v4 + (-1 : Int32)), s22) rfl
theorem wX1_layWays_l31 {C : CT} {d : Nat} {Z : State → Prop} (X : Cx C cX1_layWays RX1 none 5 (d + 1)) (φ : Nat) (this : Nat) (v1 : Int32) (v2 : Int32) (v3 : Int32) (σ : St) (y : (Int32 × St) ⊕ (St)) (h : fX1_layWays_l31 φ this v1 v2 v3 σ = some y) (kH : ∀ s : Int32 × St, y = .inl s → AW C 31 [(0, .inr (.inr (some this))), (1, .inl v1), (2, .inl v2), (3, .inl s.1)] [] s.2 Z) (kE0 : ∀ e : St, y = .inr e → AW C 107 [] [] e Z) : AW C 31 [(0, .inr (.inr (some this))), (1, .inl v1), (2, .inl v2), (3, .inl v3)] [] σ Z := by
  unfold fX1_layWays_l31 at h
  refine aw_iload_n X dX1_layWays_31 3 3 rfl rfl ?_
  refine aw_aload_n X dX1_layWays_32 0 0 rfl rfl ?_
  obtain ⟨x8, hx8, h⟩ := bind_some h
  refine aw_gfR X fl_X1_29 dX1_layWays_33 hx8 ?_
  refine aw_iload_n X dX1_layWays_36 1 1 rfl rfl ?_
  obtain ⟨x9, hx9, h⟩ := bind_some h
  refine aw_iald X dX1_layWays_37 hx9 ?_
  refine aw_icmp_ge X 107 dX1_layWays_38 rfl (fun c10 => ?_) (fun c10 => ?_)
  · rw [if_pos c10] at h
    cases h
    refine aw_sub [] [] rfl ?_
    exact kE0 σ rfl
  · rw [if_neg c10] at h
    refine aw_aload_n X dX1_layWays_41 0 0 rfl rfl ?_
    obtain ⟨x11, hx11, h⟩ := bind_some h
    refine aw_gfR X fl_X1_29 dX1_layWays_42 hx11 ?_
    refine aw_iload_n X dX1_layWays_45 2 2 rfl rfl ?_
    obtain ⟨x12, hx12, h⟩ := bind_some h
    refine aw_iald X dX1_layWays_46 hx12 ?_
    refine aw_istore X dX1_layWays_47 (by decide) [(4, .inl x12), (0, .inr (.inr (some this))), (1, .inl v1), (2, .inl v2), (3, .inl v3)] rfl ?_
    obtain ⟨e23, h24, h⟩ := bind_some h
    refine aw_sub [(0, .inr (.inr (some this))), (1, .inl v1), (2, .inl v2), (3, .inl v3), (4, .inl x12)] [1, 2, 3, 4, 0] rfl ?_
    refine aw_it (fun s => AW C 49 [(0, .inr (.inr (some this))), (1, .inl v1), (2, .inl v2), (3, .inl v3), (4, .inl s.1)] [] s.2 Z) (fun e => AW C 101 [(0, .inr (.inr (some this))), (1, .inl v1), (2, .inl v2), (3, .inl v3)] [] e Z) (fun s r hr kH kE => wX1_layWays_l49 X φ this v1 v2 v3 s.1 s.2 r hr kH kE) φ _ e23 h24 ?_
    refine aw_iinc X dX1_layWays_101 3 rfl (1 : Int32) rfl (by decide) [(3, .inl (v3 + (1 : Int32))), (0, .inr (.inr (some this))), (1, .inl v1), (2, .inl v2)] rfl ?_
    refine aw_goto X 31 dX1_layWays_104 rfl ?_
    cases h
    refine aw_sub [(0, .inr (.inr (some this))), (1, .inl v1), (2, .inl v2), (3, .inl (v3 + (1 : Int32)))] [1, 2, 3, 0] rfl ?_
    exact kH ((v3 + (1 : Int32)), e23) rfl
theorem wX1_layWays {C : CT} {d : Nat} (X : Cx C cX1_layWays RX1 none 5 (d + 1)) (φ : Nat) (this : Nat) (v1 : Int32) (v2 : Int32) (σ : St) (y : St) (h : fX1_layWays φ this v1 v2 σ = some y) : AW C 0 [(0, .inr (.inr (some this))), (1, .inl v1), (2, .inl v2)] [] σ (AQ C none y) := by
  unfold fX1_layWays at h
  refine aw_iconst X (0 : Int32) dX1_layWays_0 (by decide) ?_
  refine aw_istore_n X dX1_layWays_1 3 rfl (by decide) [(3, .inl (0 : Int32)), (0, .inr (.inr (some this))), (1, .inl v1), (2, .inl v2)] rfl ?_
  obtain ⟨e6, h7, h⟩ := bind_some h
  refine aw_sub [(0, .inr (.inr (some this))), (1, .inl v1), (2, .inl v2), (3, .inl (0 : Int32))] [1, 2, 3, 0] rfl ?_
  refine aw_it (fun s => AW C 2 [(0, .inr (.inr (some this))), (1, .inl v1), (2, .inl v2), (3, .inl s.1)] [] s.2 (AQ C none y)) (fun e => AW C 29 [(0, .inr (.inr (some this))), (1, .inl v1), (2, .inl v2)] [] e (AQ C none y)) (fun s r hr kH kE => wX1_layWays_l2 X φ this v1 v2 s.1 s.2 r hr kH kE) φ _ e6 h7 ?_
  refine aw_iconst X (0 : Int32) dX1_layWays_29 (by decide) ?_
  refine aw_istore_n X dX1_layWays_30 3 rfl (by decide) [(3, .inl (0 : Int32)), (0, .inr (.inr (some this))), (1, .inl v1), (2, .inl v2)] rfl ?_
  obtain ⟨e25, h26, h⟩ := bind_some h
  refine aw_sub [(0, .inr (.inr (some this))), (1, .inl v1), (2, .inl v2), (3, .inl (0 : Int32))] [1, 2, 3, 0] rfl ?_
  refine aw_it (fun s => AW C 31 [(0, .inr (.inr (some this))), (1, .inl v1), (2, .inl v2), (3, .inl s.1)] [] s.2 (AQ C none y)) (fun e => AW C 107 [] [] e (AQ C none y)) (fun s r hr kH kE => wX1_layWays_l31 X φ this v1 v2 s.1 s.2 r hr kH kE) φ _ e25 h26 ?_
  cases h
  exact aw_vret X dX1_layWays_107
theorem AX1_layWays {E : AE} {l : Launch} (hE : EOK E l) (φ d : Nat) (this : Nat) (v1 : Int32) (v2 : Int32) (σ : St) (y : St) (h : fX1_layWays φ this v1 v2 σ = some y) : AMet E l yX1_layWays (ws_ yX1_layWays cX1_layWays 5 none) (d + 1) [.inr (.inr (some this)), .inl v1, .inl v2] σ none y := by
  refine amet_of hE (by decide +kernel) (Nat.le_of_ble_eq_true rfl) fun C e1 e2 X XI => ?_
  subst e1
  exact wX1_layWays X φ this v1 v2 σ y h
theorem wX1_tellsMany {C : CT} {d : Nat} (X : Cx C cX1_tellsMany RX1 (some .int) 4 d) (φ : Nat) (this : Nat) (v1 : Int64) (v3 : Int32) (σ : St) (y : Int32 × St) (h : fX1_tellsMany φ this v1 v3 σ = some y) : AW C 0 [(0, .inr (.inr (some this))), (1, .inr (.inl v1)), (3, .inl v3)] [] σ (AQ C (some (.inl y.1)) y.2) := by
  unfold fX1_tellsMany at h
  refine aw_aload_n X dX1_tellsMany_0 0 0 rfl rfl ?_
  refine aw_lload_n X dX1_tellsMany_1 1 1 rfl rfl ?_
  obtain ⟨s1, hs1, h⟩ := bind_some h
  refine aw_pfL X fl_X1_124 dX1_tellsMany_2 hs1 ?_
  refine aw_iload_n X dX1_tellsMany_5 2 3 rfl rfl ?_
  cases h
  exact aw_iret X dX1_tellsMany_6
theorem AX1_tellsMany {E : AE} {l : Launch} (hE : EOK E l) (φ d : Nat) (this : Nat) (v1 : Int64) (v3 : Int32) (σ : St) (y : Int32 × St) (h : fX1_tellsMany φ this v1 v3 σ = some y) : AMet E l yX1_tellsMany (ws_ yX1_tellsMany cX1_tellsMany 4 (some .int)) d [.inr (.inr (some this)), .inr (.inl v1), .inl v3] σ (some (.inl y.1)) y.2 := by
  refine amet_of hE (by decide +kernel) (Nat.le_of_ble_eq_true rfl) fun C e1 e2 X XI => ?_
  subst e1
  exact wX1_tellsMany X φ this v1 v3 σ y h
theorem wX1_ways_b48 {C : CT} {d : Nat} (X : Cx C cX1_ways RX1 (some .int) 6 (d + 3)) (φ : Nat) (k0 : Option Nat) (k1 : Int64) (k2 : Int32) (σ : St) (y : Int32 × St) (h : fX1_ways_b48 φ k0 k1 k2 σ = some y)  : AW C 48 [] [.inl k2, .inr (.inl k1), .inr (.inr k0)] σ (AQ C (some (.inl y.1)) y.2) := by
  unfold fX1_ways_b48 at h
  obtain ⟨y9, hy9, h⟩ := bind_some h
  refine aw_cV X (st := []) hy9 [.inr (.inl k1), .inl k2] rfl rfl ml_X1_202 (fun o h => AX1_tellsMany (Cx.ok X) φ (d + 2) _ _ _ _ _ h) dX1_ways_48 (Nat.le_of_ble_eq_true rfl) ?_
  cases h
  exact aw_iret X dX1_ways_51
theorem wX1_ways {C : CT} {d : Nat} (X : Cx C cX1_ways RX1 (some .int) 6 (d + 3)) (φ : Nat) (this : Nat) (v1 : Int32) (v2 : Int32) (σ : St) (y : Int32 × St) (h : fX1_ways φ this v1 v2 σ = some y) : AW C 0 [(0, .inr (.inr (some this))), (1, .inl v1), (2, .inl v2)] [] σ (AQ C (some (.inl y.1)) y.2) := by
  unfold fX1_ways at h
  refine aw_aload_n X dX1_ways_0 0 0 rfl rfl ?_
  refine aw_iconst X (1 : Int32) dX1_ways_1 (by decide) ?_
  refine aw_iload_n X dX1_ways_2 1 1 rfl rfl ?_
  refine aw_iload_n X dX1_ways_3 2 2 rfl rfl ?_
  obtain ⟨y1, hy1, h⟩ := bind_some h
  refine aw_cV X (st := []) hy1 [.inl (1 : Int32), .inl v1, .inl v2] rfl rfl ml_X1_188 (fun o h => AX1_needTwo (Cx.ok X) φ d _ _ _ _ _ _ h) dX1_ways_4 (Nat.le_of_ble_eq_true rfl) ?_
  refine aw_istore_n X dX1_ways_7 3 rfl (by decide) [(3, .inl y1.1), (0, .inr (.inr (some this))), (1, .inl v1), (2, .inl v2)] rfl ?_
  refine aw_iload_n X dX1_ways_8 0 3 rfl rfl ?_
  refine aw_if_ge X 14 dX1_ways_9 rfl (fun c2 => ?_) (fun c2 => ?_)
  · rw [if_pos c2] at h
    refine aw_aload_n X dX1_ways_14 1 0 rfl rfl ?_
    refine aw_iload_n X dX1_ways_15 2 1 rfl rfl ?_
    refine aw_iload_n X dX1_ways_16 3 2 rfl rfl ?_
    obtain ⟨y3, hy3, h⟩ := bind_some h
    refine aw_cV X (st := []) hy3 [.inl v1, .inl v2] rfl rfl ml_X1_199 (fun o h => AX1_layWays (Cx.ok X) φ (d + 1) _ _ _ _ _ h) dX1_ways_17 (Nat.le_of_ble_eq_true rfl) ?_
    refine aw_aload_n X dX1_ways_20 1 0 rfl rfl ?_
    obtain ⟨x4, hx4, h⟩ := bind_some h
    refine aw_gfR X fl_X1_53 dX1_ways_21 hx4 ?_
    refine aw_aload_n X dX1_ways_24 1 0 rfl rfl ?_
    obtain ⟨x5, hx5, h⟩ := bind_some h
    refine aw_gfR X fl_X1_29 dX1_ways_25 hx5 ?_
    refine aw_iload_n X dX1_ways_28 3 2 rfl rfl ?_
    obtain ⟨x6, hx6, h⟩ := bind_some h
    refine aw_iald X dX1_ways_29 hx6 ?_
    obtain ⟨x7, hx7, h⟩ := bind_some h
    refine aw_lald X dX1_ways_30 hx7 ?_
    refine aw_lstore X dX1_ways_31 (by decide) [(4, .inr (.inl x7)), (3, .inl y1.1), (0, .inr (.inr (some this))), (1, .inl v1), (2, .inl v2)] rfl ?_
    refine aw_aload_n X dX1_ways_33 2 0 rfl rfl ?_
    refine aw_lload X dX1_ways_34 0 rfl ?_
    refine aw_lload X dX1_ways_36 0 rfl ?_
    refine aw_lconst X (0 : Int64) dX1_ways_38 rfl ?_
    refine aw_lcmp_le X 47 dX1_ways_39 dX1_ways_40 rfl (fun c8 => ?_) (fun c8 => ?_)
    · rw [if_pos c8] at h
      refine aw_iconst X (0 : Int32) dX1_ways_47 (by decide) ?_
      refine aw_sub [] [] rfl ?_
      exact wX1_ways_b48 X φ (some this) x7 (0 : Int32) y3 y h
    · rw [if_neg c8] at h
      refine aw_iconst X (1 : Int32) dX1_ways_43 (by decide) ?_
      refine aw_goto X 48 dX1_ways_44 rfl ?_
      refine aw_sub [] [] rfl ?_
      exact wX1_ways_b48 X φ (some this) x7 (1 : Int32) y3 y h
  · rw [if_neg c2] at h
    refine aw_iload_n X dX1_ways_12 0 3 rfl rfl ?_
    cases h
    exact aw_iret X dX1_ways_13
theorem AX1_ways {E : AE} {l : Launch} (hE : EOK E l) (φ d : Nat) (this : Nat) (v1 : Int32) (v2 : Int32) (σ : St) (y : Int32 × St) (h : fX1_ways φ this v1 v2 σ = some y) : AMet E l yX1_ways (ws_ yX1_ways cX1_ways 6 (some .int)) (d + 3) [.inr (.inr (some this)), .inl v1, .inl v2] σ (some (.inl y.1)) y.2 := by
  refine amet_of hE (by decide +kernel) (Nat.le_of_ble_eq_true rfl) fun C e1 e2 X XI => ?_
  subst e1
  exact wX1_ways X φ this v1 v2 σ y h
theorem wX1_next_l3 {C : CT} {d : Nat} {Z : State → Prop} (X : Cx C cX1_next RX1 (some .int) 5 (d + 1)) (φ : Nat) (this : Nat) (v1 : Int32) (v3 : Int32) (σ : St) (v4 : Int32) (y : (Int32) ⊕ ((Unit) ⊕ (Int32))) (h : fX1_next_l3 φ this v1 v3 σ v4 = some y) (kH : ∀ s : Int32, y = .inl s → AW C 3 [(0, .inr (.inr (some this))), (1, .inl v1), (3, .inl v3), (4, .inl s)] [] σ Z) (kE0 : ∀ e : Unit, y = .inr (.inl e) → AW C 34 [] [] σ Z) (kE1 : ∀ e : Int32, y = .inr (.inr e) → AW C 25 [(4, .inl e)] [] σ Z) : AW C 3 [(0, .inr (.inr (some this))), (1, .inl v1), (3, .inl v3), (4, .inl v4)] [] σ Z := by
  unfold fX1_next_l3 at h
  refine aw_iload X dX1_next_3 3 rfl ?_
  refine aw_aload_n X dX1_next_5 0 0 rfl rfl ?_
  obtain ⟨x1, hx1, h⟩ := bind_some h
  refine aw_gfR X fl_X1_29 dX1_next_6 hx1 ?_
  refine aw_iload_n X dX1_next_9 1 1 rfl rfl ?_
  obtain ⟨x2, hx2, h⟩ := bind_some h
  refine aw_iald X dX1_next_10 hx2 ?_
  refine aw_icmp_ge X 34 dX1_next_11 rfl (fun c3 => ?_) (fun c3 => ?_)
  · rw [if_pos c3] at h
    cases h
    refine aw_sub [] [] rfl ?_
    exact kE0 () rfl
  · rw [if_neg c3] at h
    refine aw_aload_n X dX1_next_14 0 0 rfl rfl ?_
    refine aw_iload_n X dX1_next_15 1 1 rfl rfl ?_
    refine aw_iload X dX1_next_16 3 rfl ?_
    obtain ⟨y4, hy4, h⟩ := bind_some h
    refine aw_cV X (st := []) hy4 [.inl v1, .inl v4] rfl rfl ml_X1_148 (fun o h => AX1_at0 (Cx.ok X) φ d _ _ _ _ _ h) dX1_next_18 (Nat.le_of_ble_eq_true rfl) ?_
    refine aw_iload_n X dX1_next_21 2 3 rfl rfl ?_
    refine aw_icmp_ne X 28 dX1_next_22 rfl (fun c5 => ?_) (fun c5 => ?_)
    · rw [if_neg c5] at h
      refine aw_iinc X dX1_next_28 3 rfl (1 : Int32) rfl (by decide) [(4, .inl (v4 + (1 : Int32))), (0, .inr (.inr (some this))), (1, .inl v1), (3, .inl v3)] rfl ?_
      refine aw_goto X 3 dX1_next_31 rfl ?_
      cases h
      refine aw_sub [(0, .inr (.inr (some this))), (1, .inl v1), (3, .inl v3), (4, .inl (v4 + (1 : Int32)))] [1, 2, 3, 0] rfl ?_
      exact kH (v4 + (1 : Int32)) rfl
    · rw [if_pos c5] at h
      cases h
      refine aw_sub [(4, .inl v4)] [3] rfl ?_
      exact kE1 v4 rfl
theorem wX1_next {C : CT} {d : Nat} (X : Cx C cX1_next RX1 (some .int) 5 (d + 1)) (φ : Nat) (this : Nat) (v1 : Int32) (v2 : Int32) (v3 : Int32) (σ : St) (y : Int32) (h : fX1_next φ this v1 v2 v3 σ = some y) : AW C 0 [(0, .inr (.inr (some this))), (1, .inl v1), (2, .inl v2), (3, .inl v3)] [] σ (AQ C (some (.inl y)) σ) := by
  unfold fX1_next at h
  refine aw_iload_n X dX1_next_0 2 2 rfl rfl ?_
  refine aw_istore X dX1_next_1 (by decide) [(4, .inl v2), (0, .inr (.inr (some this))), (1, .inl v1), (2, .inl v2), (3, .inl v3)] rfl ?_
  obtain ⟨e6, h7, h⟩ := bind_some h
  refine aw_sub [(0, .inr (.inr (some this))), (1, .inl v1), (3, .inl v3), (4, .inl v2)] [1, 2, 4, 0] rfl ?_
  refine aw_it (fun s => AW C 3 [(0, .inr (.inr (some this))), (1, .inl v1), (3, .inl v3), (4, .inl s)] [] σ (AQ C (some (.inl y)) σ)) (fun e => match e with | (.inl e) => AW C 34 [] [] σ (AQ C (some (.inl y)) σ) | (.inr e) => AW C 25 [(4, .inl e)] [] σ (AQ C (some (.inl y)) σ)) (fun s r hr kH kE => wX1_next_l3 X φ this v1 v3 σ s r hr kH (fun e he => kE (.inl e) he) (fun e he => kE (.inr e) he)) φ _ e6 h7 ?_
  rcases e6 with e8 | e9
  · refine aw_bipush X (-9 : Int32) dX1_next_34 (by decide) ?_
    cases h
    exact aw_iret X dX1_next_36
  · refine aw_iload X dX1_next_25 0 rfl ?_
    cases h
    exact aw_iret X dX1_next_27
theorem AX1_next {E : AE} {l : Launch} (hE : EOK E l) (φ d : Nat) (this : Nat) (v1 : Int32) (v2 : Int32) (v3 : Int32) (σ : St) (y : Int32) (h : fX1_next φ this v1 v2 v3 σ = some y) : AMet E l yX1_next (ws_ yX1_next cX1_next 5 (some .int)) (d + 1) [.inr (.inr (some this)), .inl v1, .inl v2, .inl v3] σ (some (.inl y)) σ := by
  refine amet_of hE (by decide +kernel) (Nat.le_of_ble_eq_true rfl) fun C e1 e2 X XI => ?_
  subst e1
  exact wX1_next X φ this v1 v2 v3 σ y h
theorem wX1_layPlaces_l13 {C : CT} {d : Nat} {Z : State → Prop} (X : Cx C cX1_layPlaces RX1 (some .boolean) 7 (d + 2)) (φ : Nat) (this : Nat) (v1 : Int32) (v2 : Int32) (v3 : Int32) (v4 : Int32) (v5 : Int32) (σ : St) (y : (Int32 × Int32 × St) ⊕ ((St) ⊕ (St))) (h : fX1_layPlaces_l13 φ this v1 v2 v3 v4 v5 σ = some y) (kH : ∀ s : Int32 × Int32 × St, y = .inl s → AW C 13 [(0, .inr (.inr (some this))), (1, .inl v1), (2, .inl v2), (3, .inl v3), (4, .inl s.1), (5, .inl s.2.1)] [] s.2.2 Z) (kE0 : ∀ e : St, y = .inr (.inl e) → AW C 65 [(0, .inr (.inr (some this))), (1, .inl v1), (2, .inl v2), (3, .inl v3)] [] e Z) (kE1 : ∀ e : St, y = .inr (.inr e) → AW C 42 [] [] e Z) : AW C 13 [(0, .inr (.inr (some this))), (1, .inl v1), (2, .inl v2), (3, .inl v3), (4, .inl v4), (5, .inl v5)] [] σ Z := by
  unfold fX1_layPlaces_l13 at h
  refine aw_iload X dX1_layPlaces_13 5 rfl ?_
  refine aw_iload_n X dX1_layPlaces_15 3 3 rfl rfl ?_
  refine aw_icmp_ge X 65 dX1_layPlaces_16 rfl (fun c3 => ?_) (fun c3 => ?_)
  · rw [if_pos c3] at h
    cases h
    refine aw_sub [(0, .inr (.inr (some this))), (1, .inl v1), (2, .inl v2), (3, .inl v3)] [0, 1, 2, 3] rfl ?_
    exact kE0 σ rfl
  · rw [if_neg c3] at h
    refine aw_aload_n X dX1_layPlaces_19 0 0 rfl rfl ?_
    refine aw_iload_n X dX1_layPlaces_20 1 1 rfl rfl ?_
    refine aw_iload X dX1_layPlaces_21 4 rfl ?_
    refine aw_aload_n X dX1_layPlaces_23 0 0 rfl rfl ?_
    refine aw_iload_n X dX1_layPlaces_24 2 2 rfl rfl ?_
    refine aw_iload X dX1_layPlaces_25 5 rfl ?_
    obtain ⟨y4, hy4, h⟩ := bind_some h
    refine aw_cV X (st := [.inl v4, .inl v1, .inr (.inr (some this))]) hy4 [.inl v2, .inl v5] rfl rfl ml_X1_148 (fun o h => AX1_at0 (Cx.ok X) φ (d + 1) _ _ _ _ _ h) dX1_layPlaces_27 (Nat.le_of_ble_eq_true rfl) ?_
    obtain ⟨y5, hy5, h⟩ := bind_some h
    refine aw_cV X (st := []) hy5 [.inl v1, .inl v4, .inl y4] rfl rfl ml_X1_206 (fun o h => AX1_next (Cx.ok X) φ d _ _ _ _ _ _ h) dX1_layPlaces_30 (Nat.le_of_ble_eq_true rfl) ?_
    refine aw_istore X dX1_layPlaces_33 (by decide) [(6, .inl y5), (0, .inr (.inr (some this))), (1, .inl v1), (2, .inl v2), (3, .inl v3), (4, .inl v4), (5, .inl v5)] rfl ?_
    refine aw_iload X dX1_layPlaces_35 0 rfl ?_
    refine aw_bipush X (-9 : Int32) dX1_layPlaces_37 (by decide) ?_
    refine aw_icmp_ne X 44 dX1_layPlaces_39 rfl (fun c6 => ?_) (fun c6 => ?_)
    · rw [if_neg c6] at h
      refine aw_aload_n X dX1_layPlaces_44 1 0 rfl rfl ?_
      obtain ⟨x7, hx7, h⟩ := bind_some h
      refine aw_gfR X fl_X1_57 dX1_layPlaces_45 hx7 ?_
      refine aw_iload X dX1_layPlaces_48 6 rfl ?_
      refine aw_iload X dX1_layPlaces_50 0 rfl ?_
      obtain ⟨s8, hs8, h⟩ := bind_some h
      refine aw_iast X dX1_layPlaces_52 hs8 ?_
      refine aw_iload X dX1_layPlaces_53 0 rfl ?_
      refine aw_iconst X (1 : Int32) dX1_layPlaces_55 (by decide) ?_
      refine aw_iadd X dX1_layPlaces_56 ?_
      refine aw_istore X dX1_layPlaces_57 (by decide) [(4, .inl (y5 + (1 : Int32))), (6, .inl y5), (0, .inr (.inr (some this))), (1, .inl v1), (2, .inl v2), (3, .inl v3), (5, .inl v5)] rfl ?_
      refine aw_iinc X dX1_layPlaces_59 6 rfl (1 : Int32) rfl (by decide) [(5, .inl (v5 + (1 : Int32))), (4, .inl (y5 + (1 : Int32))), (6, .inl y5), (0, .inr (.inr (some this))), (1, .inl v1), (2, .inl v2), (3, .inl v3)] rfl ?_
      refine aw_goto X 13 dX1_layPlaces_62 rfl ?_
      cases h
      refine aw_sub [(0, .inr (.inr (some this))), (1, .inl v1), (2, .inl v2), (3, .inl v3), (4, .inl (y5 + (1 : Int32))), (5, .inl (v5 + (1 : Int32)))] [3, 4, 5, 6, 1, 0] rfl ?_
      exact kH ((y5 + (1 : Int32)), (v5 + (1 : Int32)), s8) rfl
    · rw [if_pos c6] at h
      cases h
      refine aw_sub [] [] rfl ?_
      exact kE1 σ rfl
theorem wX1_layPlaces_l85 {C : CT} {d : Nat} {Z : State → Prop} (X : Cx C cX1_layPlaces RX1 (some .boolean) 7 (d + 2)) (φ : Nat) (this : Nat) (v1 : Int32) (v2 : Int32) (v6 : Int32) (σ : St) (v5 : Int32) (y : (Int32) ⊕ (Int32)) (h : fX1_layPlaces_l85 φ this v1 v2 v6 σ v5 = some y) (kH : ∀ s : Int32, y = .inl s → AW C 85 [(0, .inr (.inr (some this))), (1, .inl v1), (2, .inl v2), (5, .inl s), (6, .inl v6)] [] σ Z) (kE0 : ∀ e : Int32, y = .inr e → AW C 108 [(0, .inr (.inr (some this))), (1, .inl v1), (2, .inl v2), (5, .inl e), (6, .inl v6)] [] σ Z) : AW C 85 [(0, .inr (.inr (some this))), (1, .inl v1), (2, .inl v2), (5, .inl v5), (6, .inl v6)] [] σ Z := by
  unfold fX1_layPlaces_l85 at h
  refine aw_aload_n X dX1_layPlaces_85 0 0 rfl rfl ?_
  refine aw_iload_n X dX1_layPlaces_86 1 1 rfl rfl ?_
  refine aw_iload X dX1_layPlaces_87 3 rfl ?_
  obtain ⟨y16, hy16, h⟩ := bind_some h
  refine aw_cV X (st := []) hy16 [.inl v1, .inl v5] rfl rfl ml_X1_148 (fun o h => AX1_at0 (Cx.ok X) φ (d + 1) _ _ _ _ _ h) dX1_layPlaces_89 (Nat.le_of_ble_eq_true rfl) ?_
  refine aw_aload_n X dX1_layPlaces_92 0 0 rfl rfl ?_
  refine aw_iload_n X dX1_layPlaces_93 2 2 rfl rfl ?_
  refine aw_iload X dX1_layPlaces_94 4 rfl ?_
  obtain ⟨y17, hy17, h⟩ := bind_some h
  refine aw_cV X (st := [.inl y16]) hy17 [.inl v2, .inl v6] rfl rfl ml_X1_148 (fun o h => AX1_at0 (Cx.ok X) φ (d + 1) _ _ _ _ _ h) dX1_layPlaces_96 (Nat.le_of_ble_eq_true rfl) ?_
  refine aw_icmp_eq X 108 dX1_layPlaces_99 rfl (fun c18 => ?_) (fun c18 => ?_)
  · rw [if_pos c18] at h
    cases h
    exact kE0 v5 rfl
  · rw [if_neg c18] at h
    refine aw_iinc X dX1_layPlaces_102 3 rfl (-1 : Int32) rfl (by decide) [(5, .inl (v5 + (-1 : Int32))), (0, .inr (.inr (some this))), (1, .inl v1), (2, .inl v2), (6, .inl v6)] rfl ?_
    refine aw_goto X 85 dX1_layPlaces_105 rfl ?_
    cases h
    refine aw_sub [(0, .inr (.inr (some this))), (1, .inl v1), (2, .inl v2), (5, .inl (v5 + (-1 : Int32))), (6, .inl v6)] [1, 2, 3, 0, 4] rfl ?_
    exact kH (v5 + (-1 : Int32)) rfl
theorem wX1_layPlaces_l80 {C : CT} {d : Nat} {Z : State → Prop} (X : Cx C cX1_layPlaces RX1 (some .boolean) 7 (d + 2)) (φ : Nat) (this : Nat) (v1 : Int32) (v2 : Int32) (v5 : Int32) (v6 : Int32) (σ : St) (y : (Int32 × Int32 × St) ⊕ (St)) (h : fX1_layPlaces_l80 φ this v1 v2 v5 v6 σ = some y) (kH : ∀ s : Int32 × Int32 × St, y = .inl s → AW C 80 [(0, .inr (.inr (some this))), (1, .inl v1), (2, .inl v2), (5, .inl s.1), (6, .inl s.2.1)] [] s.2.2 Z) (kE0 : ∀ e : St, y = .inr e → AW C 126 [] [] e Z) : AW C 80 [(0, .inr (.inr (some this))), (1, .inl v1), (2, .inl v2), (5, .inl v5), (6, .inl v6)] [] σ Z := by
  unfold fX1_layPlaces_l80 at h
  refine aw_iload X dX1_layPlaces_80 4 rfl ?_
  refine aw_if_lt X 126 dX1_layPlaces_82 rfl (fun c15 => ?_) (fun c15 => ?_)
  · rw [if_pos c15] at h
    cases h
    refine aw_sub [] [] rfl ?_
    exact kE0 σ rfl
  · rw [if_neg c15] at h
    obtain ⟨e19, h20, h⟩ := bind_some h
    refine aw_it (fun s => AW C 85 [(0, .inr (.inr (some this))), (1, .inl v1), (2, .inl v2), (5, .inl s), (6, .inl v6)] [] σ Z) (fun e => AW C 108 [(0, .inr (.inr (some this))), (1, .inl v1), (2, .inl v2), (5, .inl e), (6, .inl v6)] [] σ Z) (fun s r hr kH kE => wX1_layPlaces_l85 X φ this v1 v2 v6 σ s r hr kH kE) φ _ e19 h20 ?_
    refine aw_aload_n X dX1_layPlaces_108 0 0 rfl rfl ?_
    obtain ⟨x21, hx21, h⟩ := bind_some h
    refine aw_gfR X fl_X1_60 dX1_layPlaces_109 hx21 ?_
    refine aw_iload X dX1_layPlaces_112 4 rfl ?_
    refine aw_iload X dX1_layPlaces_114 3 rfl ?_
    obtain ⟨s22, hs22, h⟩ := bind_some h
    refine aw_iast X dX1_layPlaces_116 hs22 ?_
    refine aw_iinc X dX1_layPlaces_117 3 rfl (-1 : Int32) rfl (by decide) [(5, .inl (e19 + (-1 : Int32))), (0, .inr (.inr (some this))), (1, .inl v1), (2, .inl v2), (6, .inl v6)] rfl ?_
    refine aw_iinc X dX1_layPlaces_120 4 rfl (-1 : Int32) rfl (by decide) [(6, .inl (v6 + (-1 : Int32))), (5, .inl (e19 + (-1 : Int32))), (0, .inr (.inr (some this))), (1, .inl v1), (2, .inl v2)] rfl ?_
    refine aw_goto X 80 dX1_layPlaces_123 rfl ?_
    cases h
    refine aw_sub [(0, .inr (.inr (some this))), (1, .inl v1), (2, .inl v2), (5, .inl (e19 + (-1 : Int32))), (6, .inl (v6 + (-1 : Int32)))] [2, 3, 4, 1, 0] rfl ?_
    exact kH ((e19 + (-1 : Int32)), (v6 + (-1 : Int32)), s22) rfl
theorem wX1_layPlaces {C : CT} {d : Nat} (X : Cx C cX1_layPlaces RX1 (some .boolean) 7 (d + 2)) (φ : Nat) (this : Nat) (v1 : Int32) (v2 : Int32) (σ : St) (y : Int32 × St) (h : fX1_layPlaces φ this v1 v2 σ = some y) : AW C 0 [(0, .inr (.inr (some this))), (1, .inl v1), (2, .inl v2)] [] σ (AQ C (some (.inl y.1)) y.2) := by
  unfold fX1_layPlaces at h
  refine aw_aload_n X dX1_layPlaces_0 0 0 rfl rfl ?_
  obtain ⟨x1, hx1, h⟩ := bind_some h
  refine aw_gfR X fl_X1_29 dX1_layPlaces_1 hx1 ?_
  refine aw_iload_n X dX1_layPlaces_4 2 2 rfl rfl ?_
  obtain ⟨x2, hx2, h⟩ := bind_some h
  refine aw_iald X dX1_layPlaces_5 hx2 ?_
  refine aw_istore_n X dX1_layPlaces_6 3 rfl (by decide) [(3, .inl x2), (0, .inr (.inr (some this))), (1, .inl v1), (2, .inl v2)] rfl ?_
  refine aw_iconst X (0 : Int32) dX1_layPlaces_7 (by decide) ?_
  refine aw_istore X dX1_layPlaces_8 (by decide) [(4, .inl (0 : Int32)), (3, .inl x2), (0, .inr (.inr (some this))), (1, .inl v1), (2, .inl v2)] rfl ?_
  refine aw_iconst X (0 : Int32) dX1_layPlaces_10 (by decide) ?_
  refine aw_istore X dX1_layPlaces_11 (by decide) [(5, .inl (0 : Int32)), (4, .inl (0 : Int32)), (3, .inl x2), (0, .inr (.inr (some this))), (1, .inl v1), (2, .inl v2)] rfl ?_
  obtain ⟨e9, h10, h⟩ := bind_some h
  refine aw_sub [(0, .inr (.inr (some this))), (1, .inl v1), (2, .inl v2), (3, .inl x2), (4, .inl (0 : Int32)), (5, .inl (0 : Int32))] [3, 4, 5, 2, 1, 0] rfl ?_
  refine aw_it (fun s => AW C 13 [(0, .inr (.inr (some this))), (1, .inl v1), (2, .inl v2), (3, .inl x2), (4, .inl s.1), (5, .inl s.2.1)] [] s.2.2 (AQ C (some (.inl y.1)) y.2)) (fun e => match e with | (.inl e) => AW C 65 [(0, .inr (.inr (some this))), (1, .inl v1), (2, .inl v2), (3, .inl x2)] [] e (AQ C (some (.inl y.1)) y.2) | (.inr e) => AW C 42 [] [] e (AQ C (some (.inl y.1)) y.2)) (fun s r hr kH kE => wX1_layPlaces_l13 X φ this v1 v2 x2 s.1 s.2.1 s.2.2 r hr kH (fun e he => kE (.inl e) he) (fun e he => kE (.inr e) he)) φ _ e9 h10 ?_
  rcases e9 with e11 | e12
  · refine aw_aload_n X dX1_layPlaces_65 0 0 rfl rfl ?_
    obtain ⟨x13, hx13, h⟩ := bind_some h
    refine aw_gfR X fl_X1_29 dX1_layPlaces_66 hx13 ?_
    refine aw_iload_n X dX1_layPlaces_69 1 1 rfl rfl ?_
    obtain ⟨x14, hx14, h⟩ := bind_some h
    refine aw_iald X dX1_layPlaces_70 hx14 ?_
    refine aw_iconst X (1 : Int32) dX1_layPlaces_71 (by decide) ?_
    refine aw_isub X dX1_layPlaces_72 ?_
    refine aw_istore X dX1_layPlaces_73 (by decide) [(5, .inl (x14 - (1 : Int32))), (0, .inr (.inr (some this))), (1, .inl v1), (2, .inl v2), (3, .inl x2)] rfl ?_
    refine aw_iload_n X dX1_layPlaces_75 4 3 rfl rfl ?_
    refine aw_iconst X (1 : Int32) dX1_layPlaces_76 (by decide) ?_
    refine aw_isub X dX1_layPlaces_77 ?_
    refine aw_istore X dX1_layPlaces_78 (by decide) [(6, .inl (x2 - (1 : Int32))), (5, .inl (x14 - (1 : Int32))), (0, .inr (.inr (some this))), (1, .inl v1), (2, .inl v2), (3, .inl x2)] rfl ?_
    obtain ⟨e23, h24, h⟩ := bind_some h
    refine aw_sub [(0, .inr (.inr (some this))), (1, .inl v1), (2, .inl v2), (5, .inl (x14 - (1 : Int32))), (6, .inl (x2 - (1 : Int32)))] [2, 3, 4, 1, 0] rfl ?_
    refine aw_it (fun s => AW C 80 [(0, .inr (.inr (some this))), (1, .inl v1), (2, .inl v2), (5, .inl s.1), (6, .inl s.2.1)] [] s.2.2 (AQ C (some (.inl y.1)) y.2)) (fun e => AW C 126 [] [] e (AQ C (some (.inl y.1)) y.2)) (fun s r hr kH kE => wX1_layPlaces_l80 X φ this v1 v2 s.1 s.2.1 s.2.2 r hr kH kE) φ _ e23 h24 ?_
    refine aw_iconst X (1 : Int32) dX1_layPlaces_126 (by decide) ?_
    cases h
    exact aw_zret X (Or.inr rfl) dX1_layPlaces_127
  · refine aw_iconst X (0 : Int32) dX1_layPlaces_42 (by decide) ?_
    cases h
    exact aw_zret X (Or.inl rfl) dX1_layPlaces_43
theorem AX1_layPlaces {E : AE} {l : Launch} (hE : EOK E l) (φ d : Nat) (this : Nat) (v1 : Int32) (v2 : Int32) (σ : St) (y : Int32 × St) (h : fX1_layPlaces φ this v1 v2 σ = some y) : AMet E l yX1_layPlaces (ws_ yX1_layPlaces cX1_layPlaces 7 (some .boolean)) (d + 2) [.inr (.inr (some this)), .inl v1, .inl v2] σ (some (.inl y.1)) y.2 := by
  refine amet_of hE (by decide +kernel) (Nat.le_of_ble_eq_true rfl) fun C e1 e2 X XI => ?_
  subst e1
  exact wX1_layPlaces X φ this v1 v2 σ y h
theorem wX1_comesToRow_l12 {C : CT} {d : Nat} {Z : State → Prop} (X : Cx C cX1_comesToRow RX1 none 3 d) (φ : Nat) (this : Nat) (v1 : Int32) (v2 : Int32) (σ : St) (y : (Int32 × St) ⊕ (St)) (h : fX1_comesToRow_l12 φ this v1 v2 σ = some y) (kH : ∀ s : Int32 × St, y = .inl s → AW C 12 [(0, .inr (.inr (some this))), (1, .inl v1), (2, .inl s.1)] [] s.2 Z) (kE0 : ∀ e : St, y = .inr e → AW C 53 [] [] e Z) : AW C 12 [(0, .inr (.inr (some this))), (1, .inl v1), (2, .inl v2)] [] σ Z := by
  unfold fX1_comesToRow_l12 at h
  refine aw_iload_n X dX1_comesToRow_12 2 2 rfl rfl ?_
  refine aw_bipush X (40 : Int32) dX1_comesToRow_13 (by decide) ?_
  refine aw_icmp_ge X 53 dX1_comesToRow_15 rfl (fun c4 => ?_) (fun c4 => ?_)
  · rw [if_pos c4] at h
    cases h
    refine aw_sub [] [] rfl ?_
    exact kE0 σ rfl
  · rw [if_neg c4] at h
    refine aw_aload_n X dX1_comesToRow_18 0 0 rfl rfl ?_
    obtain ⟨x5, hx5, h⟩ := bind_some h
    refine aw_gfR X fl_X1_16 dX1_comesToRow_19 hx5 ?_
    refine aw_bipush X (40 : Int32) dX1_comesToRow_22 (by decide) ?_
    refine aw_iload_n X dX1_comesToRow_24 1 1 rfl rfl ?_
    refine aw_imul X dX1_comesToRow_25 ?_
    refine aw_iload_n X dX1_comesToRow_26 2 2 rfl rfl ?_
    refine aw_iadd X dX1_comesToRow_27 ?_
    refine aw_iload_n X dX1_comesToRow_28 2 2 rfl rfl ?_
    refine aw_aload_n X dX1_comesToRow_29 0 0 rfl rfl ?_
    obtain ⟨x6, hx6, h⟩ := bind_some h
    refine aw_gfI X fl_X1_151 dX1_comesToRow_30 hx6 ?_
    refine aw_icmp_ge X 45 dX1_comesToRow_33 rfl (fun c7 => ?_) (fun c7 => ?_)
    · rw [if_pos c7] at h
      refine aw_iconst X (0 : Int32) dX1_comesToRow_45 (by decide) ?_
      obtain ⟨s8, hs8, h⟩ := bind_some h
      refine aw_iast X dX1_comesToRow_46 hs8 ?_
      refine aw_iinc X dX1_comesToRow_47 2 rfl (1 : Int32) rfl (by decide) [(2, .inl (v2 + (1 : Int32))), (0, .inr (.inr (some this))), (1, .inl v1)] rfl ?_
      refine aw_goto X 12 dX1_comesToRow_50 rfl ?_
      cases h
      refine aw_sub [(0, .inr (.inr (some this))), (1, .inl v1), (2, .inl (v2 + (1 : Int32)))] [1, 2, 0] rfl ?_
      exact kH ((v2 + (1 : Int32)), s8) rfl
    · rw [if_neg c7] at h
      refine aw_aload_n X dX1_comesToRow_36 0 0 rfl rfl ?_
      obtain ⟨x9, hx9, h⟩ := bind_some h
      refine aw_gfR X fl_X1_44 dX1_comesToRow_37 hx9 ?_
      refine aw_iload_n X dX1_comesToRow_40 2 2 rfl rfl ?_
      obtain ⟨x10, hx10, h⟩ := bind_some h
      refine aw_iald X dX1_comesToRow_41 hx10 ?_
      refine aw_goto X 46 dX1_comesToRow_42 rfl ?_
      obtain ⟨s11, hs11, h⟩ := bind_some h
      refine aw_iast X dX1_comesToRow_46 hs11 ?_
      refine aw_iinc X dX1_comesToRow_47 2 rfl (1 : Int32) rfl (by decide) [(2, .inl (v2 + (1 : Int32))), (0, .inr (.inr (some this))), (1, .inl v1)] rfl ?_
      refine aw_goto X 12 dX1_comesToRow_50 rfl ?_
      cases h
      refine aw_sub [(0, .inr (.inr (some this))), (1, .inl v1), (2, .inl (v2 + (1 : Int32)))] [1, 2, 0] rfl ?_
      exact kH ((v2 + (1 : Int32)), s11) rfl
theorem wX1_comesToRow {C : CT} {d : Nat} (X : Cx C cX1_comesToRow RX1 none 3 d) (φ : Nat) (this : Nat) (v1 : Int32) (σ : St) (y : St) (h : fX1_comesToRow φ this v1 σ = some y) : AW C 0 [(0, .inr (.inr (some this))), (1, .inl v1)] [] σ (AQ C none y) := by
  unfold fX1_comesToRow at h
  refine aw_aload_n X dX1_comesToRow_0 0 0 rfl rfl ?_
  obtain ⟨x1, hx1, h⟩ := bind_some h
  refine aw_gfR X fl_X1_13 dX1_comesToRow_1 hx1 ?_
  refine aw_iload_n X dX1_comesToRow_4 1 1 rfl rfl ?_
  refine aw_aload_n X dX1_comesToRow_5 0 0 rfl rfl ?_
  obtain ⟨x2, hx2, h⟩ := bind_some h
  refine aw_gfI X fl_X1_151 dX1_comesToRow_6 hx2 ?_
  obtain ⟨s3, hs3, h⟩ := bind_some h
  refine aw_iast X dX1_comesToRow_9 hs3 ?_
  refine aw_iconst X (0 : Int32) dX1_comesToRow_10 (by decide) ?_
  refine aw_istore_n X dX1_comesToRow_11 2 rfl (by decide) [(2, .inl (0 : Int32)), (0, .inr (.inr (some this))), (1, .inl v1)] rfl ?_
  obtain ⟨e12, h13, h⟩ := bind_some h
  refine aw_sub [(0, .inr (.inr (some this))), (1, .inl v1), (2, .inl (0 : Int32))] [1, 2, 0] rfl ?_
  refine aw_it (fun s => AW C 12 [(0, .inr (.inr (some this))), (1, .inl v1), (2, .inl s.1)] [] s.2 (AQ C none y)) (fun e => AW C 53 [] [] e (AQ C none y)) (fun s r hr kH kE => wX1_comesToRow_l12 X φ this v1 s.1 s.2 r hr kH kE) φ _ e12 h13 ?_
  cases h
  exact aw_vret X dX1_comesToRow_53
theorem AX1_comesToRow {E : AE} {l : Launch} (hE : EOK E l) (φ d : Nat) (this : Nat) (v1 : Int32) (σ : St) (y : St) (h : fX1_comesToRow φ this v1 σ = some y) : AMet E l yX1_comesToRow (ws_ yX1_comesToRow cX1_comesToRow 3 none) d [.inr (.inr (some this)), .inl v1] σ none y := by
  refine amet_of hE (by decide +kernel) (Nat.le_of_ble_eq_true rfl) fun C e1 e2 X XI => ?_
  subst e1
  exact wX1_comesToRow X φ this v1 σ y h
theorem wX1_way_l45 {C : CT} {d : Nat} {Z : State → Prop} (X : Cx C cX1_way RX1 (some .int) 7 (d + 3)) (φ : Nat) (this : Nat) (v3 : Int32) (v4 : Int32) (v6 : Int32) (σ : St) (y : (Int32 × St) ⊕ (St)) (h : fX1_way_l45 φ this v3 v4 v6 σ = some y) (kH : ∀ s : Int32 × St, y = .inl s → AW C 45 [(0, .inr (.inr (some this))), (3, .inl v3), (4, .inl v4), (6, .inl s.1)] [] s.2 Z) (kE0 : ∀ e : St, y = .inr e → AW C 89 [(0, .inr (.inr (some this))), (3, .inl v3)] [] e Z) : AW C 45 [(0, .inr (.inr (some this))), (3, .inl v3), (4, .inl v4), (6, .inl v6)] [] σ Z := by
  unfold fX1_way_l45 at h
  refine aw_iload X dX1_way_45 3 rfl ?_
  refine aw_aload_n X dX1_way_47 0 0 rfl rfl ?_
  obtain ⟨x9, hx9, h⟩ := bind_some h
  refine aw_gfI X fl_X1_151 dX1_way_48 hx9 ?_
  refine aw_icmp_ge X 89 dX1_way_51 rfl (fun c10 => ?_) (fun c10 => ?_)
  · rw [if_pos c10] at h
    cases h
    refine aw_sub [(0, .inr (.inr (some this))), (3, .inl v3)] [0, 1] rfl ?_
    exact kE0 σ rfl
  · rw [if_neg c10] at h
    refine aw_aload_n X dX1_way_54 0 0 rfl rfl ?_
    obtain ⟨x11, hx11, h⟩ := bind_some h
    refine aw_gfR X fl_X1_44 dX1_way_55 hx11 ?_
    refine aw_iload X dX1_way_58 3 rfl ?_
    refine aw_iload X dX1_way_60 2 rfl ?_
    refine aw_if_eq X 75 dX1_way_62 rfl (fun c12 => ?_) (fun c12 => ?_)
    · rw [if_pos c12] at h
      refine aw_aload_n X dX1_way_75 0 0 rfl rfl ?_
      obtain ⟨x13, hx13, h⟩ := bind_some h
      refine aw_gfR X fl_X1_57 dX1_way_76 hx13 ?_
      refine aw_iload X dX1_way_79 3 rfl ?_
      obtain ⟨x14, hx14, h⟩ := bind_some h
      refine aw_iald X dX1_way_81 hx14 ?_
      obtain ⟨s15, hs15, h⟩ := bind_some h
      refine aw_iast X dX1_way_82 hs15 ?_
      refine aw_iinc X dX1_way_83 3 rfl (1 : Int32) rfl (by decide) [(6, .inl (v6 + (1 : Int32))), (0, .inr (.inr (some this))), (3, .inl v3), (4, .inl v4)] rfl ?_
      refine aw_goto X 45 dX1_way_86 rfl ?_
      cases h
      refine aw_sub [(0, .inr (.inr (some this))), (3, .inl v3), (4, .inl v4), (6, .inl (v6 + (1 : Int32)))] [1, 2, 3, 0] rfl ?_
      exact kH ((v6 + (1 : Int32)), s15) rfl
    · rw [if_neg c12] at h
      refine aw_aload_n X dX1_way_65 0 0 rfl rfl ?_
      obtain ⟨x16, hx16, h⟩ := bind_some h
      refine aw_gfR X fl_X1_60 dX1_way_66 hx16 ?_
      refine aw_iload X dX1_way_69 3 rfl ?_
      obtain ⟨x17, hx17, h⟩ := bind_some h
      refine aw_iald X dX1_way_71 hx17 ?_
      refine aw_goto X 82 dX1_way_72 rfl ?_
      obtain ⟨s18, hs18, h⟩ := bind_some h
      refine aw_iast X dX1_way_82 hs18 ?_
      refine aw_iinc X dX1_way_83 3 rfl (1 : Int32) rfl (by decide) [(6, .inl (v6 + (1 : Int32))), (0, .inr (.inr (some this))), (3, .inl v3), (4, .inl v4)] rfl ?_
      refine aw_goto X 45 dX1_way_86 rfl ?_
      cases h
      refine aw_sub [(0, .inr (.inr (some this))), (3, .inl v3), (4, .inl v4), (6, .inl (v6 + (1 : Int32)))] [1, 2, 3, 0] rfl ?_
      exact kH ((v6 + (1 : Int32)), s18) rfl
theorem wX1_way {C : CT} {d : Nat} (X : Cx C cX1_way RX1 (some .int) 7 (d + 3)) (φ : Nat) (this : Nat) (v1 : Int32) (v2 : Int32) (v3 : Int32) (v4 : Int32) (σ : St) (y : Int32 × St) (h : fX1_way φ this v1 v2 v3 v4 σ = some y) : AW C 0 [(0, .inr (.inr (some this))), (1, .inl v1), (2, .inl v2), (3, .inl v3), (4, .inl v4)] [] σ (AQ C (some (.inl y.1)) y.2) := by
  unfold fX1_way at h
  refine aw_aload_n X dX1_way_0 0 0 rfl rfl ?_
  refine aw_iload_n X dX1_way_1 3 3 rfl rfl ?_
  obtain ⟨y1, hy1, h⟩ := bind_some h
  refine aw_callS X (st := [.inr (.inr (some this))]) [.inl v3] rfl ml_X1_130 (AX1_isRow (Cx.ok X) φ (d + 1) _ _ _  hy1) dX1_way_2 (Nat.le_of_ble_eq_true rfl) ?_
  refine aw_iload_n X dX1_way_5 1 1 rfl rfl ?_
  refine aw_iload_n X dX1_way_6 2 2 rfl rfl ?_
  obtain ⟨y2, hy2, h⟩ := bind_some h
  refine aw_cV X (st := []) hy2 [.inl y1, .inl v1, .inl v2] rfl rfl ml_X1_188 (fun o h => AX1_needTwo (Cx.ok X) φ d _ _ _ _ _ _ h) dX1_way_7 (Nat.le_of_ble_eq_true rfl) ?_
  refine aw_istore X dX1_way_10 (by decide) [(5, .inl y2.1), (0, .inr (.inr (some this))), (1, .inl v1), (2, .inl v2), (3, .inl v3), (4, .inl v4)] rfl ?_
  refine aw_iload X dX1_way_12 0 rfl ?_
  refine aw_if_ge X 20 dX1_way_14 rfl (fun c3 => ?_) (fun c3 => ?_)
  · rw [if_pos c3] at h
    refine aw_aload_n X dX1_way_20 1 0 rfl rfl ?_
    refine aw_iload_n X dX1_way_21 2 1 rfl rfl ?_
    refine aw_iload_n X dX1_way_22 3 2 rfl rfl ?_
    obtain ⟨y4, hy4, h⟩ := bind_some h
    refine aw_cV X (st := []) hy4 [.inl v1, .inl v2] rfl rfl ml_X1_210 (fun o h => AX1_layPlaces (Cx.ok X) φ d _ _ _ _ _ h) dX1_way_23 (Nat.le_of_ble_eq_true rfl) ?_
    refine aw_if_ne X 32 dX1_way_26 rfl (fun c5 => ?_) (fun c5 => ?_)
    · rw [if_neg c5] at h
      refine aw_aload_n X dX1_way_32 1 0 rfl rfl ?_
      refine aw_aload_n X dX1_way_33 1 0 rfl rfl ?_
      obtain ⟨x6, hx6, h⟩ := bind_some h
      refine aw_gfR X fl_X1_29 dX1_way_34 hx6 ?_
      refine aw_iload_n X dX1_way_37 3 2 rfl rfl ?_
      obtain ⟨x7, hx7, h⟩ := bind_some h
      refine aw_iald X dX1_way_38 hx7 ?_
      obtain ⟨s8, hs8, h⟩ := bind_some h
      refine aw_pfI X fl_X1_151 dX1_way_39 hs8 ?_
      refine aw_iconst X (0 : Int32) dX1_way_42 (by decide) ?_
      refine aw_istore X dX1_way_43 (by decide) [(6, .inl (0 : Int32)), (5, .inl y2.1), (0, .inr (.inr (some this))), (1, .inl v1), (2, .inl v2), (3, .inl v3), (4, .inl v4)] rfl ?_
      obtain ⟨e19, h20, h⟩ := bind_some h
      refine aw_sub [(0, .inr (.inr (some this))), (3, .inl v3), (4, .inl v4), (6, .inl (0 : Int32))] [2, 5, 6, 0] rfl ?_
      refine aw_it (fun s => AW C 45 [(0, .inr (.inr (some this))), (3, .inl v3), (4, .inl v4), (6, .inl s.1)] [] s.2 (AQ C (some (.inl y.1)) y.2)) (fun e => AW C 89 [(0, .inr (.inr (some this))), (3, .inl v3)] [] e (AQ C (some (.inl y.1)) y.2)) (fun s r hr kH kE => wX1_way_l45 X φ this v3 v4 s.1 s.2 r hr kH kE) φ _ e19 h20 ?_
      refine aw_aload_n X dX1_way_89 0 0 rfl rfl ?_
      refine aw_iload_n X dX1_way_90 1 3 rfl rfl ?_
      obtain ⟨y21, hy21, h⟩ := bind_some h
      refine aw_cV X (st := []) hy21 [.inl v3] rfl rfl ml_X1_214 (fun o h => AX1_comesToRow (Cx.ok X) φ (d + 2) _ _ _ _ h) dX1_way_91 (Nat.le_of_ble_eq_true rfl) ?_
      refine aw_aload_n X dX1_way_94 0 0 rfl rfl ?_
      obtain ⟨x22, hx22, h⟩ := bind_some h
      refine aw_gfI X fl_X1_151 dX1_way_95 hx22 ?_
      cases h
      exact aw_iret X dX1_way_98
    · rw [if_pos c5] at h
      refine aw_bipush X (-9 : Int32) dX1_way_29 (by decide) ?_
      cases h
      exact aw_iret X dX1_way_31
  · rw [if_neg c3] at h
    refine aw_iload X dX1_way_17 0 rfl ?_
    cases h
    exact aw_iret X dX1_way_19
theorem AX1_way {E : AE} {l : Launch} (hE : EOK E l) (φ d : Nat) (this : Nat) (v1 : Int32) (v2 : Int32) (v3 : Int32) (v4 : Int32) (σ : St) (y : Int32 × St) (h : fX1_way φ this v1 v2 v3 v4 σ = some y) : AMet E l yX1_way (ws_ yX1_way cX1_way 7 (some .int)) (d + 3) [.inr (.inr (some this)), .inl v1, .inl v2, .inl v3, .inl v4] σ (some (.inl y.1)) y.2 := by
  refine amet_of hE (by decide +kernel) (Nat.le_of_ble_eq_true rfl) fun C e1 e2 X XI => ?_
  subst e1
  exact wX1_way X φ this v1 v2 v3 v4 σ y h
theorem wX1_places_b112 {C : CT} {d : Nat} {Z : State → Prop} (X : Cx C cX1_places RX1 (some .int) 12 (d + 3)) (φ : Nat) (this : Nat) (v1 : Int32) (v2 : Int32) (v3 : Int32) (v5 : Int64) (v7 : Int32) (v8 : Int32) (v9 : Int32) (v10 : Int32) (k0 : Int32) (σ : St) (y : (Int32 × Int32) ⊕ (Int32)) (h : fX1_places_b112 φ this v1 v2 v3 v5 v7 v8 v9 v10 k0 σ = some y) (kH : ∀ s : Int32 × Int32, y = .inl s → AW C 55 [(0, .inr (.inr (some this))), (1, .inl v1), (2, .inl v2), (3, .inl v3), (5, .inr (.inl v5)), (7, .inl v7), (8, .inl v8), (9, .inl s.1), (10, .inl s.2)] [] σ Z) (kE0 : ∀ e : Int32, y = .inr e → AW C 166 [(0, .inr (.inr (some this))), (1, .inl v1), (2, .inl v2), (3, .inl v3), (5, .inr (.inl v5)), (7, .inl v7), (8, .inl v8), (9, .inl e)] [] σ Z) : AW C 112 [(0, .inr (.inr (some this))), (1, .inl v1), (2, .inl v2), (3, .inl v3), (5, .inr (.inl v5)), (7, .inl v7), (8, .inl v8), (9, .inl v9), (10, .inl v10)] [.inl k0] σ Z := by
  unfold fX1_places_b112 at h
  refine aw_istore X dX1_places_112 (by decide) [(11, .inl k0), (0, .inr (.inr (some this))), (1, .inl v1), (2, .inl v2), (3, .inl v3), (5, .inr (.inl v5)), (7, .inl v7), (8, .inl v8), (9, .inl v9), (10, .inl v10)] rfl ?_
  refine aw_iload X dX1_places_114 8 rfl ?_
  refine aw_if_ne X 153 dX1_places_116 rfl (fun c14 => ?_) (fun c14 => ?_)
  · rw [if_neg c14] at h
    refine aw_iconst X (1 : Int32) dX1_places_153 (by decide) ?_
    refine aw_goto X 158 dX1_places_154 rfl ?_
    refine aw_istore X dX1_places_158 (by decide) [(9, .inl (1 : Int32)), (11, .inl k0), (0, .inr (.inr (some this))), (1, .inl v1), (2, .inl v2), (3, .inl v3), (5, .inr (.inl v5)), (7, .inl v7), (8, .inl v8), (10, .inl v10)] rfl ?_
    refine aw_iinc X dX1_places_160 9 rfl (1 : Int32) rfl (by decide) [(10, .inl (v10 + (1 : Int32))), (9, .inl (1 : Int32)), (11, .inl k0), (0, .inr (.inr (some this))), (1, .inl v1), (2, .inl v2), (3, .inl v3), (5, .inr (.inl v5)), (7, .inl v7), (8, .inl v8)] rfl ?_
    refine aw_goto X 55 dX1_places_163 rfl ?_
    cases h
    refine aw_sub [(0, .inr (.inr (some this))), (1, .inl v1), (2, .inl v2), (3, .inl v3), (5, .inr (.inl v5)), (7, .inl v7), (8, .inl v8), (9, .inl (1 : Int32)), (10, .inl (v10 + (1 : Int32)))] [3, 4, 5, 6, 7, 8, 9, 1, 0] rfl ?_
    exact kH ((1 : Int32), (v10 + (1 : Int32))) rfl
  · rw [if_pos c14] at h
    refine aw_iload_n X dX1_places_119 4 3 rfl rfl ?_
    refine aw_if_eq X 148 dX1_places_120 rfl (fun c15 => ?_) (fun c15 => ?_)
    · rw [if_pos c15] at h
      refine aw_iload X dX1_places_148 0 rfl ?_
      refine aw_if_eq X 157 dX1_places_150 rfl (fun c16 => ?_) (fun c16 => ?_)
      · rw [if_pos c16] at h
        refine aw_iconst X (0 : Int32) dX1_places_157 (by decide) ?_
        refine aw_istore X dX1_places_158 (by decide) [(9, .inl (0 : Int32)), (11, .inl k0), (0, .inr (.inr (some this))), (1, .inl v1), (2, .inl v2), (3, .inl v3), (5, .inr (.inl v5)), (7, .inl v7), (8, .inl v8), (10, .inl v10)] rfl ?_
        refine aw_iinc X dX1_places_160 9 rfl (1 : Int32) rfl (by decide) [(10, .inl (v10 + (1 : Int32))), (9, .inl (0 : Int32)), (11, .inl k0), (0, .inr (.inr (some this))), (1, .inl v1), (2, .inl v2), (3, .inl v3), (5, .inr (.inl v5)), (7, .inl v7), (8, .inl v8)] rfl ?_
        refine aw_goto X 55 dX1_places_163 rfl ?_
        cases h
        refine aw_sub [(0, .inr (.inr (some this))), (1, .inl v1), (2, .inl v2), (3, .inl v3), (5, .inr (.inl v5)), (7, .inl v7), (8, .inl v8), (9, .inl (0 : Int32)), (10, .inl (v10 + (1 : Int32)))] [3, 4, 5, 6, 7, 8, 9, 1, 0] rfl ?_
        exact kH ((0 : Int32), (v10 + (1 : Int32))) rfl
      · rw [if_neg c16] at h
        refine aw_iconst X (1 : Int32) dX1_places_153 (by decide) ?_
        refine aw_goto X 158 dX1_places_154 rfl ?_
        refine aw_istore X dX1_places_158 (by decide) [(9, .inl (1 : Int32)), (11, .inl k0), (0, .inr (.inr (some this))), (1, .inl v1), (2, .inl v2), (3, .inl v3), (5, .inr (.inl v5)), (7, .inl v7), (8, .inl v8), (10, .inl v10)] rfl ?_
        refine aw_iinc X dX1_places_160 9 rfl (1 : Int32) rfl (by decide) [(10, .inl (v10 + (1 : Int32))), (9, .inl (1 : Int32)), (11, .inl k0), (0, .inr (.inr (some this))), (1, .inl v1), (2, .inl v2), (3, .inl v3), (5, .inr (.inl v5)), (7, .inl v7), (8, .inl v8)] rfl ?_
        refine aw_goto X 55 dX1_places_163 rfl ?_
        cases h
        refine aw_sub [(0, .inr (.inr (some this))), (1, .inl v1), (2, .inl v2), (3, .inl v3), (5, .inr (.inl v5)), (7, .inl v7), (8, .inl v8), (9, .inl (1 : Int32)), (10, .inl (v10 + (1 : Int32)))] [3, 4, 5, 6, 7, 8, 9, 1, 0] rfl ?_
        exact kH ((1 : Int32), (v10 + (1 : Int32))) rfl
    · rw [if_neg c15] at h
      refine aw_iload X dX1_places_123 0 rfl ?_
      refine aw_if_eq X 157 dX1_places_125 rfl (fun c17 => ?_) (fun c17 => ?_)
      · rw [if_pos c17] at h
        refine aw_iconst X (0 : Int32) dX1_places_157 (by decide) ?_
        refine aw_istore X dX1_places_158 (by decide) [(9, .inl (0 : Int32)), (11, .inl k0), (0, .inr (.inr (some this))), (1, .inl v1), (2, .inl v2), (3, .inl v3), (5, .inr (.inl v5)), (7, .inl v7), (8, .inl v8), (10, .inl v10)] rfl ?_
        refine aw_iinc X dX1_places_160 9 rfl (1 : Int32) rfl (by decide) [(10, .inl (v10 + (1 : Int32))), (9, .inl (0 : Int32)), (11, .inl k0), (0, .inr (.inr (some this))), (1, .inl v1), (2, .inl v2), (3, .inl v3), (5, .inr (.inl v5)), (7, .inl v7), (8, .inl v8)] rfl ?_
        refine aw_goto X 55 dX1_places_163 rfl ?_
        cases h
        refine aw_sub [(0, .inr (.inr (some this))), (1, .inl v1), (2, .inl v2), (3, .inl v3), (5, .inr (.inl v5)), (7, .inl v7), (8, .inl v8), (9, .inl (0 : Int32)), (10, .inl (v10 + (1 : Int32)))] [3, 4, 5, 6, 7, 8, 9, 1, 0] rfl ?_
        exact kH ((0 : Int32), (v10 + (1 : Int32))) rfl
      · rw [if_neg c17] at h
        refine aw_aload_n X dX1_places_128 1 0 rfl rfl ?_
        obtain ⟨x18, hx18, h⟩ := bind_some h
        refine aw_gfR X fl_X1_57 dX1_places_129 hx18 ?_
        refine aw_iload X dX1_places_132 9 rfl ?_
        obtain ⟨x19, hx19, h⟩ := bind_some h
        refine aw_iald X dX1_places_134 hx19 ?_
        refine aw_aload_n X dX1_places_135 1 0 rfl rfl ?_
        obtain ⟨x20, hx20, h⟩ := bind_some h
        refine aw_gfR X fl_X1_60 dX1_places_136 hx20 ?_
        refine aw_iload X dX1_places_139 9 rfl ?_
        obtain ⟨x21, hx21, h⟩ := bind_some h
        refine aw_iald X dX1_places_141 hx21 ?_
        refine aw_icmp_ne X 157 dX1_places_142 rfl (fun c22 => ?_) (fun c22 => ?_)
        · rw [if_neg c22] at h
          refine aw_iconst X (0 : Int32) dX1_places_157 (by decide) ?_
          refine aw_istore X dX1_places_158 (by decide) [(9, .inl (0 : Int32)), (11, .inl k0), (0, .inr (.inr (some this))), (1, .inl v1), (2, .inl v2), (3, .inl v3), (5, .inr (.inl v5)), (7, .inl v7), (8, .inl v8), (10, .inl v10)] rfl ?_
          refine aw_iinc X dX1_places_160 9 rfl (1 : Int32) rfl (by decide) [(10, .inl (v10 + (1 : Int32))), (9, .inl (0 : Int32)), (11, .inl k0), (0, .inr (.inr (some this))), (1, .inl v1), (2, .inl v2), (3, .inl v3), (5, .inr (.inl v5)), (7, .inl v7), (8, .inl v8)] rfl ?_
          refine aw_goto X 55 dX1_places_163 rfl ?_
          cases h
          refine aw_sub [(0, .inr (.inr (some this))), (1, .inl v1), (2, .inl v2), (3, .inl v3), (5, .inr (.inl v5)), (7, .inl v7), (8, .inl v8), (9, .inl (0 : Int32)), (10, .inl (v10 + (1 : Int32)))] [3, 4, 5, 6, 7, 8, 9, 1, 0] rfl ?_
          exact kH ((0 : Int32), (v10 + (1 : Int32))) rfl
        · rw [if_pos c22] at h
          refine aw_goto X 153 dX1_places_145 rfl ?_
          refine aw_iconst X (1 : Int32) dX1_places_153 (by decide) ?_
          refine aw_goto X 158 dX1_places_154 rfl ?_
          refine aw_istore X dX1_places_158 (by decide) [(9, .inl (1 : Int32)), (11, .inl k0), (0, .inr (.inr (some this))), (1, .inl v1), (2, .inl v2), (3, .inl v3), (5, .inr (.inl v5)), (7, .inl v7), (8, .inl v8), (10, .inl v10)] rfl ?_
          refine aw_iinc X dX1_places_160 9 rfl (1 : Int32) rfl (by decide) [(10, .inl (v10 + (1 : Int32))), (9, .inl (1 : Int32)), (11, .inl k0), (0, .inr (.inr (some this))), (1, .inl v1), (2, .inl v2), (3, .inl v3), (5, .inr (.inl v5)), (7, .inl v7), (8, .inl v8)] rfl ?_
          refine aw_goto X 55 dX1_places_163 rfl ?_
          cases h
          refine aw_sub [(0, .inr (.inr (some this))), (1, .inl v1), (2, .inl v2), (3, .inl v3), (5, .inr (.inl v5)), (7, .inl v7), (8, .inl v8), (9, .inl (1 : Int32)), (10, .inl (v10 + (1 : Int32)))] [3, 4, 5, 6, 7, 8, 9, 1, 0] rfl ?_
          exact kH ((1 : Int32), (v10 + (1 : Int32))) rfl
theorem wX1_places_b111 {C : CT} {d : Nat} {Z : State → Prop} (X : Cx C cX1_places RX1 (some .int) 12 (d + 3)) (φ : Nat) (this : Nat) (v1 : Int32) (v2 : Int32) (v3 : Int32) (v5 : Int64) (v7 : Int32) (v8 : Int32) (v9 : Int32) (v10 : Int32) (σ : St) (y : (Int32 × Int32) ⊕ (Int32)) (h : fX1_places_b111 φ this v1 v2 v3 v5 v7 v8 v9 v10 σ = some y) (kH : ∀ s : Int32 × Int32, y = .inl s → AW C 55 [(0, .inr (.inr (some this))), (1, .inl v1), (2, .inl v2), (3, .inl v3), (5, .inr (.inl v5)), (7, .inl v7), (8, .inl v8), (9, .inl s.1), (10, .inl s.2)] [] σ Z) (kE0 : ∀ e : Int32, y = .inr e → AW C 166 [(0, .inr (.inr (some this))), (1, .inl v1), (2, .inl v2), (3, .inl v3), (5, .inr (.inl v5)), (7, .inl v7), (8, .inl v8), (9, .inl e)] [] σ Z) : AW C 111 [(0, .inr (.inr (some this))), (1, .inl v1), (2, .inl v2), (3, .inl v3), (5, .inr (.inl v5)), (7, .inl v7), (8, .inl v8), (9, .inl v9), (10, .inl v10)] [] σ Z := by
  unfold fX1_places_b111 at h
  refine aw_iconst X (0 : Int32) dX1_places_111 (by decide) ?_
  exact wX1_places_b112 X φ this v1 v2 v3 v5 v7 v8 v9 v10 (0 : Int32) σ y h kH kE0
theorem wX1_places_l55 {C : CT} {d : Nat} {Z : State → Prop} (X : Cx C cX1_places RX1 (some .int) 12 (d + 3)) (φ : Nat) (this : Nat) (v1 : Int32) (v2 : Int32) (v3 : Int32) (v5 : Int64) (v7 : Int32) (v8 : Int32) (σ : St) (v9 : Int32) (v10 : Int32) (y : (Int32 × Int32) ⊕ (Int32)) (h : fX1_places_l55 φ this v1 v2 v3 v5 v7 v8 σ v9 v10 = some y) (kH : ∀ s : Int32 × Int32, y = .inl s → AW C 55 [(0, .inr (.inr (some this))), (1, .inl v1), (2, .inl v2), (3, .inl v3), (5, .inr (.inl v5)), (7, .inl v7), (8, .inl v8), (9, .inl s.1), (10, .inl s.2)] [] σ Z) (kE0 : ∀ e : Int32, y = .inr e → AW C 166 [(0, .inr (.inr (some this))), (1, .inl v1), (2, .inl v2), (3, .inl v3), (5, .inr (.inl v5)), (7, .inl v7), (8, .inl v8), (9, .inl e)] [] σ Z) : AW C 55 [(0, .inr (.inr (some this))), (1, .inl v1), (2, .inl v2), (3, .inl v3), (5, .inr (.inl v5)), (7, .inl v7), (8, .inl v8), (9, .inl v9), (10, .inl v10)] [] σ Z := by
  unfold fX1_places_l55 at h
  refine aw_iload X dX1_places_55 8 rfl ?_
  refine aw_aload_n X dX1_places_57 0 0 rfl rfl ?_
  obtain ⟨x8, hx8, h⟩ := bind_some h
  refine aw_gfR X fl_X1_29 dX1_places_58 hx8 ?_
  refine aw_iload_n X dX1_places_61 2 2 rfl rfl ?_
  obtain ⟨x9, hx9, h⟩ := bind_some h
  refine aw_iald X dX1_places_62 hx9 ?_
  refine aw_icmp_ge X 166 dX1_places_63 rfl (fun c10 => ?_) (fun c10 => ?_)
  · rw [if_pos c10] at h
    cases h
    refine aw_sub [(0, .inr (.inr (some this))), (1, .inl v1), (2, .inl v2), (3, .inl v3), (5, .inr (.inl v5)), (7, .inl v7), (8, .inl v8), (9, .inl v9)] [0, 1, 2, 3, 4, 5, 6, 7] rfl ?_
    exact kE0 v9 rfl
  · rw [if_neg c10] at h
    refine aw_aload_n X dX1_places_66 0 0 rfl rfl ?_
    refine aw_iload_n X dX1_places_67 1 1 rfl rfl ?_
    refine aw_iload X dX1_places_68 6 rfl ?_
    obtain ⟨y11, hy11, h⟩ := bind_some h
    refine aw_cV X (st := []) hy11 [.inl v1, .inl v8] rfl rfl ml_X1_148 (fun o h => AX1_at0 (Cx.ok X) φ (d + 2) _ _ _ _ _ h) dX1_places_70 (Nat.le_of_ble_eq_true rfl) ?_
    refine aw_aload_n X dX1_places_73 0 0 rfl rfl ?_
    refine aw_iload_n X dX1_places_74 2 2 rfl rfl ?_
    refine aw_iload X dX1_places_75 8 rfl ?_
    obtain ⟨y12, hy12, h⟩ := bind_some h
    refine aw_cV X (st := [.inl y11]) hy12 [.inl v2, .inl v10] rfl rfl ml_X1_148 (fun o h => AX1_at0 (Cx.ok X) φ (d + 2) _ _ _ _ _ h) dX1_places_77 (Nat.le_of_ble_eq_true rfl) ?_
    refine aw_icmp_ne X 111 dX1_places_80 rfl (fun c13 => ?_) (fun c13 => ?_)
    · rw [if_neg c13] at h
      exact wX1_places_b111 X φ this v1 v2 v3 v5 v7 v8 v9 v10 σ y h kH kE0
    · rw [if_pos c13] at h
      refine aw_iload X dX1_places_83 6 rfl ?_
      refine aw_aload_n X dX1_places_85 0 0 rfl rfl ?_
      obtain ⟨x23, hx23, h⟩ := bind_some h
      refine aw_gfR X fl_X1_57 dX1_places_86 hx23 ?_
      refine aw_iload X dX1_places_89 8 rfl ?_
      obtain ⟨x24, hx24, h⟩ := bind_some h
      refine aw_iald X dX1_places_91 hx24 ?_
      refine aw_icmp_lt X 111 dX1_places_92 rfl (fun c25 => ?_) (fun c25 => ?_)
      · rw [if_pos c25] at h
        exact wX1_places_b111 X φ this v1 v2 v3 v5 v7 v8 v9 v10 σ y h kH kE0
      · rw [if_neg c25] at h
        refine aw_iload X dX1_places_95 6 rfl ?_
        refine aw_aload_n X dX1_places_97 0 0 rfl rfl ?_
        obtain ⟨x26, hx26, h⟩ := bind_some h
        refine aw_gfR X fl_X1_60 dX1_places_98 hx26 ?_
        refine aw_iload X dX1_places_101 8 rfl ?_
        obtain ⟨x27, hx27, h⟩ := bind_some h
        refine aw_iald X dX1_places_103 hx27 ?_
        refine aw_icmp_gt X 111 dX1_places_104 rfl (fun c28 => ?_) (fun c28 => ?_)
        · rw [if_pos c28] at h
          exact wX1_places_b111 X φ this v1 v2 v3 v5 v7 v8 v9 v10 σ y h kH kE0
        · rw [if_neg c28] at h
          refine aw_iconst X (1 : Int32) dX1_places_107 (by decide) ?_
          refine aw_goto X 112 dX1_places_108 rfl ?_
          exact wX1_places_b112 X φ this v1 v2 v3 v5 v7 v8 v9 v10 (1 : Int32) σ y h kH kE0
theorem wX1_places_b181 {C : CT} {d : Nat} {Z : State → Prop} (X : Cx C cX1_places RX1 (some .int) 12 (d + 3)) (φ : Nat) (this : Nat) (v1 : Int32) (v2 : Int32) (v3 : Int32) (v7 : Int32) (v8 : Int32) (v9 : Int32) (k0 : Int64) (k1 : Int64) (σ : St) (y : (Int64 × Int32 × Int32) ⊕ (Int64 × Int32)) (h : fX1_places_b181 φ this v1 v2 v3 v7 v8 v9 k0 k1 σ = some y) (kH : ∀ s : Int64 × Int32 × Int32, y = .inl s → AW C 38 [(0, .inr (.inr (some this))), (1, .inl v1), (2, .inl v2), (3, .inl v3), (5, .inr (.inl s.1)), (7, .inl s.2.1), (8, .inl s.2.2)] [] σ Z) (kE0 : ∀ e : Int64 × Int32, y = .inr e → AW C 205 [(0, .inr (.inr (some this))), (5, .inr (.inl e.1)), (7, .inl e.2)] [] σ Z) : AW C 181 [(0, .inr (.inr (some this))), (1, .inl v1), (2, .inl v2), (3, .inl v3), (7, .inl v7), (8, .inl v8), (9, .inl v9)] [.inr (.inl k1), .inr (.inl k0)] σ Z := by
  unfold fX1_places_b181 at h
  refine aw_lor X dX1_places_181 ?_
  refine aw_lstore X dX1_places_182 (by decide) [(5, .inr (.inl (k0 ||| k1))), (0, .inr (.inr (some this))), (1, .inl v1), (2, .inl v2), (3, .inl v3), (7, .inl v7), (8, .inl v8), (9, .inl v9)] rfl ?_
  refine aw_iload X dX1_places_184 5 rfl ?_
  refine aw_iload X dX1_places_186 7 rfl ?_
  refine aw_if_eq X 195 dX1_places_188 rfl (fun c32 => ?_) (fun c32 => ?_)
  · rw [if_pos c32] at h
    refine aw_iconst X (0 : Int32) dX1_places_195 (by decide) ?_
    refine aw_iadd X dX1_places_196 ?_
    refine aw_istore X dX1_places_197 (by decide) [(7, .inl (v7 + (0 : Int32))), (5, .inr (.inl (k0 ||| k1))), (0, .inr (.inr (some this))), (1, .inl v1), (2, .inl v2), (3, .inl v3), (8, .inl v8), (9, .inl v9)] rfl ?_
    refine aw_iinc X dX1_places_199 6 rfl (1 : Int32) rfl (by decide) [(8, .inl (v8 + (1 : Int32))), (7, .inl (v7 + (0 : Int32))), (5, .inr (.inl (k0 ||| k1))), (0, .inr (.inr (some this))), (1, .inl v1), (2, .inl v2), (3, .inl v3), (9, .inl v9)] rfl ?_
    refine aw_goto X 38 dX1_places_202 rfl ?_
    cases h
    refine aw_sub [(0, .inr (.inr (some this))), (1, .inl v1), (2, .inl v2), (3, .inl v3), (5, .inr (.inl (k0 ||| k1))), (7, .inl (v7 + (0 : Int32))), (8, .inl (v8 + (1 : Int32)))] [3, 4, 5, 6, 2, 1, 0] rfl ?_
    exact kH ((k0 ||| k1), (v7 + (0 : Int32)), (v8 + (1 : Int32))) rfl
  · rw [if_neg c32] at h
    refine aw_iconst X (1 : Int32) dX1_places_191 (by decide) ?_
    refine aw_goto X 196 dX1_places_192 rfl ?_
    refine aw_iadd X dX1_places_196 ?_
    refine aw_istore X dX1_places_197 (by decide) [(7, .inl (v7 + (1 : Int32))), (5, .inr (.inl (k0 ||| k1))), (0, .inr (.inr (some this))), (1, .inl v1), (2, .inl v2), (3, .inl v3), (8, .inl v8), (9, .inl v9)] rfl ?_
    refine aw_iinc X dX1_places_199 6 rfl (1 : Int32) rfl (by decide) [(8, .inl (v8 + (1 : Int32))), (7, .inl (v7 + (1 : Int32))), (5, .inr (.inl (k0 ||| k1))), (0, .inr (.inr (some this))), (1, .inl v1), (2, .inl v2), (3, .inl v3), (9, .inl v9)] rfl ?_
    refine aw_goto X 38 dX1_places_202 rfl ?_
    cases h
    refine aw_sub [(0, .inr (.inr (some this))), (1, .inl v1), (2, .inl v2), (3, .inl v3), (5, .inr (.inl (k0 ||| k1))), (7, .inl (v7 + (1 : Int32))), (8, .inl (v8 + (1 : Int32)))] [3, 4, 5, 6, 2, 1, 0] rfl ?_
    exact kH ((k0 ||| k1), (v7 + (1 : Int32)), (v8 + (1 : Int32))) rfl
theorem wX1_places_l38 {C : CT} {d : Nat} {Z : State → Prop} (X : Cx C cX1_places RX1 (some .int) 12 (d + 3)) (φ : Nat) (this : Nat) (v1 : Int32) (v2 : Int32) (v3 : Int32) (σ : St) (v5 : Int64) (v7 : Int32) (v8 : Int32) (y : (Int64 × Int32 × Int32) ⊕ (Int64 × Int32)) (h : fX1_places_l38 φ this v1 v2 v3 σ v5 v7 v8 = some y) (kH : ∀ s : Int64 × Int32 × Int32, y = .inl s → AW C 38 [(0, .inr (.inr (some this))), (1, .inl v1), (2, .inl v2), (3, .inl v3), (5, .inr (.inl s.1)), (7, .inl s.2.1), (8, .inl s.2.2)] [] σ Z) (kE0 : ∀ e : Int64 × Int32, y = .inr e → AW C 205 [(0, .inr (.inr (some this))), (5, .inr (.inl e.1)), (7, .inl e.2)] [] σ Z) : AW C 38 [(0, .inr (.inr (some this))), (1, .inl v1), (2, .inl v2), (3, .inl v3), (5, .inr (.inl v5)), (7, .inl v7), (8, .inl v8)] [] σ Z := by
  unfold fX1_places_l38 at h
  refine aw_iload X dX1_places_38 6 rfl ?_
  refine aw_aload_n X dX1_places_40 0 0 rfl rfl ?_
  obtain ⟨x5, hx5, h⟩ := bind_some h
  refine aw_gfR X fl_X1_29 dX1_places_41 hx5 ?_
  refine aw_iload_n X dX1_places_44 1 1 rfl rfl ?_
  obtain ⟨x6, hx6, h⟩ := bind_some h
  refine aw_iald X dX1_places_45 hx6 ?_
  refine aw_icmp_ge X 205 dX1_places_46 rfl (fun c7 => ?_) (fun c7 => ?_)
  · rw [if_pos c7] at h
    cases h
    refine aw_sub [(0, .inr (.inr (some this))), (5, .inr (.inl v5)), (7, .inl v7)] [0, 4, 5] rfl ?_
    exact kE0 (v5, v7) rfl
  · rw [if_neg c7] at h
    refine aw_iconst X (0 : Int32) dX1_places_49 (by decide) ?_
    refine aw_istore X dX1_places_50 (by decide) [(9, .inl (0 : Int32)), (0, .inr (.inr (some this))), (1, .inl v1), (2, .inl v2), (3, .inl v3), (5, .inr (.inl v5)), (7, .inl v7), (8, .inl v8)] rfl ?_
    refine aw_iconst X (0 : Int32) dX1_places_52 (by decide) ?_
    refine aw_istore X dX1_places_53 (by decide) [(10, .inl (0 : Int32)), (9, .inl (0 : Int32)), (0, .inr (.inr (some this))), (1, .inl v1), (2, .inl v2), (3, .inl v3), (5, .inr (.inl v5)), (7, .inl v7), (8, .inl v8)] rfl ?_
    obtain ⟨e29, h30, h⟩ := bind_some h
    refine aw_sub [(0, .inr (.inr (some this))), (1, .inl v1), (2, .inl v2), (3, .inl v3), (5, .inr (.inl v5)), (7, .inl v7), (8, .inl v8), (9, .inl (0 : Int32)), (10, .inl (0 : Int32))] [2, 3, 4, 5, 6, 7, 8, 1, 0] rfl ?_
    refine aw_it (fun s => AW C 55 [(0, .inr (.inr (some this))), (1, .inl v1), (2, .inl v2), (3, .inl v3), (5, .inr (.inl v5)), (7, .inl v7), (8, .inl v8), (9, .inl s.1), (10, .inl s.2)] [] σ Z) (fun e => AW C 166 [(0, .inr (.inr (some this))), (1, .inl v1), (2, .inl v2), (3, .inl v3), (5, .inr (.inl v5)), (7, .inl v7), (8, .inl v8), (9, .inl e)] [] σ Z) (fun s r hr kH kE => wX1_places_l55 X φ this v1 v2 v3 v5 v7 v8 σ s.1 s.2 r hr kH kE) φ _ e29 h30 ?_
    refine aw_lload X dX1_places_166 4 rfl ?_
    refine aw_iload X dX1_places_168 7 rfl ?_
    refine aw_if_eq X 180 dX1_places_170 rfl (fun c31 => ?_) (fun c31 => ?_)
    · rw [if_pos c31] at h
      refine aw_lconst X (0 : Int64) dX1_places_180 rfl ?_
      refine aw_sub [(0, .inr (.inr (some this))), (1, .inl v1), (2, .inl v2), (3, .inl v3), (7, .inl v7), (8, .inl v8), (9, .inl e29)] [0, 1, 2, 3, 5, 6, 7] rfl ?_
      exact wX1_places_b181 X φ this v1 v2 v3 v7 v8 e29 v5 (0 : Int64) σ y h kH kE0
    · rw [if_neg c31] at h
      refine aw_lconst X (1 : Int64) dX1_places_173 rfl ?_
      refine aw_iload X dX1_places_174 6 rfl ?_
      refine aw_lshl X dX1_places_176 ?_
      refine aw_goto X 181 dX1_places_177 rfl ?_
      refine aw_sub [(0, .inr (.inr (some this))), (1, .inl v1), (2, .inl v2), (3, .inl v3), (7, .inl v7), (8, .inl v8), (9, .inl e29)] [0, 1, 2, 3, 5, 6, 7] rfl ?_
      exact wX1_places_b181 X φ this v1 v2 v3 v7 v8 e29 v5 ((1 : Int64) <<< (v8.toInt64 &&& 63)) σ y h kH kE0
theorem wX1_places {C : CT} {d : Nat} (X : Cx C cX1_places RX1 (some .int) 12 (d + 3)) (φ : Nat) (this : Nat) (v1 : Int32) (v2 : Int32) (v3 : Int32) (σ : St) (y : Int32 × St) (h : fX1_places φ this v1 v2 v3 σ = some y) : AW C 0 [(0, .inr (.inr (some this))), (1, .inl v1), (2, .inl v2), (3, .inl v3)] [] σ (AQ C (some (.inl y.1)) y.2) := by
  unfold fX1_places at h
  refine aw_aload_n X dX1_places_0 0 0 rfl rfl ?_
  refine aw_iconst X (1 : Int32) dX1_places_1 (by decide) ?_
  refine aw_iload_n X dX1_places_2 1 1 rfl rfl ?_
  refine aw_iload_n X dX1_places_3 2 2 rfl rfl ?_
  obtain ⟨y1, hy1, h⟩ := bind_some h
  refine aw_cV X (st := []) hy1 [.inl (1 : Int32), .inl v1, .inl v2] rfl rfl ml_X1_188 (fun o h => AX1_needTwo (Cx.ok X) φ d _ _ _ _ _ _ h) dX1_places_4 (Nat.le_of_ble_eq_true rfl) ?_
  refine aw_istore X dX1_places_7 (by decide) [(4, .inl y1.1), (0, .inr (.inr (some this))), (1, .inl v1), (2, .inl v2), (3, .inl v3)] rfl ?_
  refine aw_iload X dX1_places_9 0 rfl ?_
  refine aw_if_ge X 17 dX1_places_11 rfl (fun c2 => ?_) (fun c2 => ?_)
  · rw [if_pos c2] at h
    refine aw_aload_n X dX1_places_17 1 0 rfl rfl ?_
    refine aw_iload_n X dX1_places_18 2 1 rfl rfl ?_
    refine aw_iload_n X dX1_places_19 3 2 rfl rfl ?_
    obtain ⟨y3, hy3, h⟩ := bind_some h
    refine aw_cV X (st := []) hy3 [.inl v1, .inl v2] rfl rfl ml_X1_210 (fun o h => AX1_layPlaces (Cx.ok X) φ d _ _ _ _ _ h) dX1_places_20 (Nat.le_of_ble_eq_true rfl) ?_
    refine aw_if_ne X 29 dX1_places_23 rfl (fun c4 => ?_) (fun c4 => ?_)
    · rw [if_neg c4] at h
      refine aw_lconst X (0 : Int64) dX1_places_29 rfl ?_
      refine aw_lstore X dX1_places_30 (by decide) [(5, .inr (.inl (0 : Int64))), (4, .inl y1.1), (0, .inr (.inr (some this))), (1, .inl v1), (2, .inl v2), (3, .inl v3)] rfl ?_
      refine aw_iconst X (0 : Int32) dX1_places_32 (by decide) ?_
      refine aw_istore X dX1_places_33 (by decide) [(7, .inl (0 : Int32)), (5, .inr (.inl (0 : Int64))), (4, .inl y1.1), (0, .inr (.inr (some this))), (1, .inl v1), (2, .inl v2), (3, .inl v3)] rfl ?_
      refine aw_iconst X (0 : Int32) dX1_places_35 (by decide) ?_
      refine aw_istore X dX1_places_36 (by decide) [(8, .inl (0 : Int32)), (7, .inl (0 : Int32)), (5, .inr (.inl (0 : Int64))), (4, .inl y1.1), (0, .inr (.inr (some this))), (1, .inl v1), (2, .inl v2), (3, .inl v3)] rfl ?_
      obtain ⟨e33, h34, h⟩ := bind_some h
      refine aw_sub [(0, .inr (.inr (some this))), (1, .inl v1), (2, .inl v2), (3, .inl v3), (5, .inr (.inl (0 : Int64))), (7, .inl (0 : Int32)), (8, .inl (0 : Int32))] [4, 5, 6, 7, 2, 1, 0] rfl ?_
      refine aw_it (fun s => AW C 38 [(0, .inr (.inr (some this))), (1, .inl v1), (2, .inl v2), (3, .inl v3), (5, .inr (.inl s.1)), (7, .inl s.2.1), (8, .inl s.2.2)] [] y3.2 (AQ C (some (.inl y.1)) y.2)) (fun e => AW C 205 [(0, .inr (.inr (some this))), (5, .inr (.inl e.1)), (7, .inl e.2)] [] y3.2 (AQ C (some (.inl y.1)) y.2)) (fun s r hr kH kE => wX1_places_l38 X φ this v1 v2 v3 y3.2 s.1 s.2.1 s.2.2 r hr kH kE) φ _ e33 h34 ?_
      refine aw_aload_n X dX1_places_205 0 0 rfl rfl ?_
      refine aw_lload X dX1_places_206 1 rfl ?_
      refine aw_iload X dX1_places_208 2 rfl ?_
      obtain ⟨y35, hy35, h⟩ := bind_some h
      refine aw_cV X (st := []) hy35 [.inr (.inl e33.1), .inl e33.2] rfl rfl ml_X1_202 (fun o h => AX1_tellsMany (Cx.ok X) φ (d + 2) _ _ _ _ _ h) dX1_places_210 (Nat.le_of_ble_eq_true rfl) ?_
      cases h
      exact aw_iret X dX1_places_213
    · rw [if_pos c4] at h
      refine aw_bipush X (-9 : Int32) dX1_places_26 (by decide) ?_
      cases h
      exact aw_iret X dX1_places_28
  · rw [if_neg c2] at h
    refine aw_iload X dX1_places_14 0 rfl ?_
    cases h
    exact aw_iret X dX1_places_16
theorem AX1_places {E : AE} {l : Launch} (hE : EOK E l) (φ d : Nat) (this : Nat) (v1 : Int32) (v2 : Int32) (v3 : Int32) (σ : St) (y : Int32 × St) (h : fX1_places φ this v1 v2 v3 σ = some y) : AMet E l yX1_places (ws_ yX1_places cX1_places 12 (some .int)) (d + 3) [.inr (.inr (some this)), .inl v1, .inl v2, .inl v3] σ (some (.inl y.1)) y.2 := by
  refine amet_of hE (by decide +kernel) (Nat.le_of_ble_eq_true rfl) fun C e1 e2 X XI => ?_
  subst e1
  exact wX1_places X φ this v1 v2 v3 σ y h
theorem wX1_judge_b48 {C : CT} {d : Nat} (X : Cx C cX1_judge RX1 (some .int) 8 (d + 2)) (φ : Nat) (this : Nat) (σ : St) (y : Int32 × St) (h : fX1_judge_b48 φ this σ = some y)  : AW C 48 [(0, .inr (.inr (some this)))] [] σ (AQ C (some (.inl y.1)) y.2) := by
  unfold fX1_judge_b48 at h
  refine aw_aload_n X dX1_judge_48 0 0 rfl rfl ?_
  refine aw_iconst X (1 : Int32) dX1_judge_49 (by decide) ?_
  obtain ⟨y9, hy9, h⟩ := bind_some h
  refine aw_cV X (st := []) hy9 [.inl (1 : Int32)] rfl rfl ml_X1_134 (fun o h => AX1_meets (Cx.ok X) φ (d + 1) _ _ _ _ h) dX1_judge_50 (Nat.le_of_ble_eq_true rfl) ?_
  cases h
  exact aw_iret X dX1_judge_53
theorem wX1_judge_l82 {C : CT} {d : Nat} {Z : State → Prop} (X : Cx C cX1_judge RX1 (some .int) 8 (d + 2)) (φ : Nat) (this : Nat) (v1 : Int32) (v2 : Int32) (v3 : Int32) (σ : St) (v4 : Int32) (v5 : Int32) (v6 : Int32) (y : (Int32 × Int32 × Int32) ⊕ (Int32)) (h : fX1_judge_l82 φ this v1 v2 v3 σ v4 v5 v6 = some y) (kH : ∀ s : Int32 × Int32 × Int32, y = .inl s → AW C 82 [(0, .inr (.inr (some this))), (1, .inl v1), (2, .inl v2), (3, .inl v3), (4, .inl s.1), (5, .inl s.2.1), (6, .inl s.2.2)] [] σ Z) (kE0 : ∀ e : Int32, y = .inr e → AW C 159 [(4, .inl e)] [] σ Z) : AW C 82 [(0, .inr (.inr (some this))), (1, .inl v1), (2, .inl v2), (3, .inl v3), (4, .inl v4), (5, .inl v5), (6, .inl v6)] [] σ Z := by
  unfold fX1_judge_l82 at h
  refine aw_iload X dX1_judge_82 6 rfl ?_
  refine aw_aload_n X dX1_judge_84 0 0 rfl rfl ?_
  obtain ⟨x20, hx20, h⟩ := bind_some h
  refine aw_gfR X fl_X1_13 dX1_judge_85 hx20 ?_
  refine aw_iload_n X dX1_judge_88 3 3 rfl rfl ?_
  obtain ⟨x21, hx21, h⟩ := bind_some h
  refine aw_iald X dX1_judge_89 hx21 ?_
  refine aw_icmp_ge X 159 dX1_judge_90 rfl (fun c22 => ?_) (fun c22 => ?_)
  · rw [if_pos c22] at h
    cases h
    refine aw_sub [(4, .inl v4)] [4] rfl ?_
    exact kE0 v4 rfl
  · rw [if_neg c22] at h
    refine aw_iload X dX1_judge_93 4 rfl ?_
    refine aw_if_eq X 159 dX1_judge_95 rfl (fun c23 => ?_) (fun c23 => ?_)
    · rw [if_pos c23] at h
      cases h
      refine aw_sub [(4, .inl v4)] [4] rfl ?_
      exact kE0 v4 rfl
    · rw [if_neg c23] at h
      refine aw_aload_n X dX1_judge_98 0 0 rfl rfl ?_
      refine aw_iload_n X dX1_judge_99 3 3 rfl rfl ?_
      refine aw_iload X dX1_judge_100 6 rfl ?_
      obtain ⟨y24, hy24, h⟩ := bind_some h
      refine aw_cV X (st := []) hy24 [.inl v3, .inl v6] rfl rfl ml_X1_138 (fun o h => AX1_rowAt (Cx.ok X) φ (d + 1) _ _ _ _ _ h) dX1_judge_102 (Nat.le_of_ble_eq_true rfl) ?_
      refine aw_istore X dX1_judge_105 (by decide) [(7, .inl y24), (0, .inr (.inr (some this))), (1, .inl v1), (2, .inl v2), (3, .inl v3), (4, .inl v4), (5, .inl v5), (6, .inl v6)] rfl ?_
      refine aw_iload X dX1_judge_107 0 rfl ?_
      refine aw_iload X dX1_judge_109 6 rfl ?_
      refine aw_icmp_le X 146 dX1_judge_111 rfl (fun c25 => ?_) (fun c25 => ?_)
      · rw [if_pos c25] at h
        refine aw_iconst X (0 : Int32) dX1_judge_146 (by decide) ?_
        refine aw_istore X dX1_judge_147 (by decide) [(4, .inl (0 : Int32)), (7, .inl y24), (0, .inr (.inr (some this))), (1, .inl v1), (2, .inl v2), (3, .inl v3), (5, .inl v5), (6, .inl v6)] rfl ?_
        refine aw_iload X dX1_judge_149 1 rfl ?_
        refine aw_istore X dX1_judge_151 (by decide) [(5, .inl y24), (4, .inl (0 : Int32)), (7, .inl y24), (0, .inr (.inr (some this))), (1, .inl v1), (2, .inl v2), (3, .inl v3), (6, .inl v6)] rfl ?_
        refine aw_iinc X dX1_judge_153 7 rfl (1 : Int32) rfl (by decide) [(6, .inl (v6 + (1 : Int32))), (5, .inl y24), (4, .inl (0 : Int32)), (7, .inl y24), (0, .inr (.inr (some this))), (1, .inl v1), (2, .inl v2), (3, .inl v3)] rfl ?_
        refine aw_goto X 82 dX1_judge_156 rfl ?_
        cases h
        refine aw_sub [(0, .inr (.inr (some this))), (1, .inl v1), (2, .inl v2), (3, .inl v3), (4, .inl (0 : Int32)), (5, .inl y24), (6, .inl (v6 + (1 : Int32)))] [4, 5, 6, 7, 2, 1, 0] rfl ?_
        exact kH ((0 : Int32), y24, (v6 + (1 : Int32))) rfl
      · rw [if_neg c25] at h
        refine aw_iload X dX1_judge_114 0 rfl ?_
        refine aw_aload_n X dX1_judge_116 1 0 rfl rfl ?_
        obtain ⟨x26, hx26, h⟩ := bind_some h
        refine aw_gfR X fl_X1_29 dX1_judge_117 hx26 ?_
        refine aw_iload_n X dX1_judge_120 2 1 rfl rfl ?_
        obtain ⟨x27, hx27, h⟩ := bind_some h
        refine aw_iald X dX1_judge_121 hx27 ?_
        refine aw_icmp_ge X 146 dX1_judge_122 rfl (fun c28 => ?_) (fun c28 => ?_)
        · rw [if_pos c28] at h
          refine aw_iconst X (0 : Int32) dX1_judge_146 (by decide) ?_
          refine aw_istore X dX1_judge_147 (by decide) [(4, .inl (0 : Int32)), (7, .inl y24), (0, .inr (.inr (some this))), (1, .inl v1), (2, .inl v2), (3, .inl v3), (5, .inl v5), (6, .inl v6)] rfl ?_
          refine aw_iload X dX1_judge_149 1 rfl ?_
          refine aw_istore X dX1_judge_151 (by decide) [(5, .inl y24), (4, .inl (0 : Int32)), (7, .inl y24), (0, .inr (.inr (some this))), (1, .inl v1), (2, .inl v2), (3, .inl v3), (6, .inl v6)] rfl ?_
          refine aw_iinc X dX1_judge_153 7 rfl (1 : Int32) rfl (by decide) [(6, .inl (v6 + (1 : Int32))), (5, .inl y24), (4, .inl (0 : Int32)), (7, .inl y24), (0, .inr (.inr (some this))), (1, .inl v1), (2, .inl v2), (3, .inl v3)] rfl ?_
          refine aw_goto X 82 dX1_judge_156 rfl ?_
          cases h
          refine aw_sub [(0, .inr (.inr (some this))), (1, .inl v1), (2, .inl v2), (3, .inl v3), (4, .inl (0 : Int32)), (5, .inl y24), (6, .inl (v6 + (1 : Int32)))] [4, 5, 6, 7, 2, 1, 0] rfl ?_
          exact kH ((0 : Int32), y24, (v6 + (1 : Int32))) rfl
        · rw [if_neg c28] at h
          refine aw_aload_n X dX1_judge_125 1 0 rfl rfl ?_
          refine aw_iload_n X dX1_judge_126 2 1 rfl rfl ?_
          refine aw_iload X dX1_judge_127 0 rfl ?_
          obtain ⟨y29, hy29, h⟩ := bind_some h
          refine aw_cV X (st := []) hy29 [.inl v1, .inl y24] rfl rfl ml_X1_148 (fun o h => AX1_at0 (Cx.ok X) φ (d + 1) _ _ _ _ _ h) dX1_judge_129 (Nat.le_of_ble_eq_true rfl) ?_
          refine aw_aload_n X dX1_judge_132 1 0 rfl rfl ?_
          refine aw_iload_n X dX1_judge_133 3 2 rfl rfl ?_
          refine aw_iload X dX1_judge_134 7 rfl ?_
          obtain ⟨y30, hy30, h⟩ := bind_some h
          refine aw_cV X (st := [.inl y29]) hy30 [.inl v2, .inl v6] rfl rfl ml_X1_148 (fun o h => AX1_at0 (Cx.ok X) φ (d + 1) _ _ _ _ _ h) dX1_judge_136 (Nat.le_of_ble_eq_true rfl) ?_
          refine aw_icmp_ne X 146 dX1_judge_139 rfl (fun c31 => ?_) (fun c31 => ?_)
          · rw [if_neg c31] at h
            refine aw_iconst X (0 : Int32) dX1_judge_146 (by decide) ?_
            refine aw_istore X dX1_judge_147 (by decide) [(4, .inl (0 : Int32)), (7, .inl y24), (0, .inr (.inr (some this))), (1, .inl v1), (2, .inl v2), (3, .inl v3), (5, .inl v5), (6, .inl v6)] rfl ?_
            refine aw_iload X dX1_judge_149 1 rfl ?_
            refine aw_istore X dX1_judge_151 (by decide) [(5, .inl y24), (4, .inl (0 : Int32)), (7, .inl y24), (0, .inr (.inr (some this))), (1, .inl v1), (2, .inl v2), (3, .inl v3), (6, .inl v6)] rfl ?_
            refine aw_iinc X dX1_judge_153 7 rfl (1 : Int32) rfl (by decide) [(6, .inl (v6 + (1 : Int32))), (5, .inl y24), (4, .inl (0 : Int32)), (7, .inl y24), (0, .inr (.inr (some this))), (1, .inl v1), (2, .inl v2), (3, .inl v3)] rfl ?_
            refine aw_goto X 82 dX1_judge_156 rfl ?_
            cases h
            refine aw_sub [(0, .inr (.inr (some this))), (1, .inl v1), (2, .inl v2), (3, .inl v3), (4, .inl (0 : Int32)), (5, .inl y24), (6, .inl (v6 + (1 : Int32)))] [4, 5, 6, 7, 2, 1, 0] rfl ?_
            exact kH ((0 : Int32), y24, (v6 + (1 : Int32))) rfl
          · rw [if_pos c31] at h
            refine aw_iconst X (1 : Int32) dX1_judge_142 (by decide) ?_
            refine aw_goto X 147 dX1_judge_143 rfl ?_
            refine aw_istore X dX1_judge_147 (by decide) [(4, .inl (1 : Int32)), (7, .inl y24), (0, .inr (.inr (some this))), (1, .inl v1), (2, .inl v2), (3, .inl v3), (5, .inl v5), (6, .inl v6)] rfl ?_
            refine aw_iload X dX1_judge_149 1 rfl ?_
            refine aw_istore X dX1_judge_151 (by decide) [(5, .inl y24), (4, .inl (1 : Int32)), (7, .inl y24), (0, .inr (.inr (some this))), (1, .inl v1), (2, .inl v2), (3, .inl v3), (6, .inl v6)] rfl ?_
            refine aw_iinc X dX1_judge_153 7 rfl (1 : Int32) rfl (by decide) [(6, .inl (v6 + (1 : Int32))), (5, .inl y24), (4, .inl (1 : Int32)), (7, .inl y24), (0, .inr (.inr (some this))), (1, .inl v1), (2, .inl v2), (3, .inl v3)] rfl ?_
            refine aw_goto X 82 dX1_judge_156 rfl ?_
            cases h
            refine aw_sub [(0, .inr (.inr (some this))), (1, .inl v1), (2, .inl v2), (3, .inl v3), (4, .inl (1 : Int32)), (5, .inl y24), (6, .inl (v6 + (1 : Int32)))] [4, 5, 6, 7, 2, 1, 0] rfl ?_
            exact kH ((1 : Int32), y24, (v6 + (1 : Int32))) rfl
theorem wX1_judge {C : CT} {d : Nat} (X : Cx C cX1_judge RX1 (some .int) 8 (d + 2)) (φ : Nat) (this : Nat) (v1 : Int32) (v2 : Int32) (v3 : Int32) (σ : St) (y : Int32 × St) (h : fX1_judge φ this v1 v2 v3 σ = some y) : AW C 0 [(0, .inr (.inr (some this))), (1, .inl v1), (2, .inl v2), (3, .inl v3)] [] σ (AQ C (some (.inl y.1)) y.2) := by
  unfold fX1_judge at h
  refine aw_iload_n X dX1_judge_0 1 1 rfl rfl ?_
  obtain ⟨y1, hy1, h⟩ := bind_some h
  refine aw_callS X (st := []) [.inl v1] rfl ml_X1_154 (AX1_isWord (Cx.ok X) φ d _ _ _  hy1) dX1_judge_1 (Nat.le_of_ble_eq_true rfl) ?_
  refine aw_if_eq X 21 dX1_judge_4 rfl (fun c2 => ?_) (fun c2 => ?_)
  · rw [if_pos c2] at h
    refine aw_iconst X (-1 : Int32) dX1_judge_21 (by decide) ?_
    cases h
    exact aw_iret X dX1_judge_22
  · rw [if_neg c2] at h
    refine aw_iload_n X dX1_judge_7 2 2 rfl rfl ?_
    obtain ⟨y3, hy3, h⟩ := bind_some h
    refine aw_callS X (st := []) [.inl v2] rfl ml_X1_154 (AX1_isWord (Cx.ok X) φ d _ _ _  hy3) dX1_judge_8 (Nat.le_of_ble_eq_true rfl) ?_
    refine aw_if_eq X 21 dX1_judge_11 rfl (fun c4 => ?_) (fun c4 => ?_)
    · rw [if_pos c4] at h
      refine aw_iconst X (-1 : Int32) dX1_judge_21 (by decide) ?_
      cases h
      exact aw_iret X dX1_judge_22
    · rw [if_neg c4] at h
      refine aw_iload_n X dX1_judge_14 3 3 rfl rfl ?_
      obtain ⟨y5, hy5, h⟩ := bind_some h
      refine aw_callS X (st := []) [.inl v3] rfl ml_X1_130 (AX1_isRow (Cx.ok X) φ d _ _ _  hy5) dX1_judge_15 (Nat.le_of_ble_eq_true rfl) ?_
      refine aw_if_ne X 23 dX1_judge_18 rfl (fun c6 => ?_) (fun c6 => ?_)
      · rw [if_neg c6] at h
        refine aw_aload_n X dX1_judge_23 0 0 rfl rfl ?_
        refine aw_iload_n X dX1_judge_24 1 1 rfl rfl ?_
        obtain ⟨y7, hy7, h⟩ := bind_some h
        refine aw_cV X (st := []) hy7 [.inl v1] rfl rfl ml_X1_185 (fun o h => AX1_isThere (Cx.ok X) φ (d + 1) _ _ _ _ h) dX1_judge_25 (Nat.le_of_ble_eq_true rfl) ?_
        refine aw_if_eq X 48 dX1_judge_28 rfl (fun c8 => ?_) (fun c8 => ?_)
        · rw [if_pos c8] at h
          refine aw_sub [(0, .inr (.inr (some this)))] [0] rfl ?_
          exact wX1_judge_b48 X φ this σ y h
        · rw [if_neg c8] at h
          refine aw_aload_n X dX1_judge_31 0 0 rfl rfl ?_
          refine aw_iload_n X dX1_judge_32 2 2 rfl rfl ?_
          obtain ⟨y10, hy10, h⟩ := bind_some h
          refine aw_cV X (st := []) hy10 [.inl v2] rfl rfl ml_X1_185 (fun o h => AX1_isThere (Cx.ok X) φ (d + 1) _ _ _ _ h) dX1_judge_33 (Nat.le_of_ble_eq_true rfl) ?_
          refine aw_if_eq X 48 dX1_judge_36 rfl (fun c11 => ?_) (fun c11 => ?_)
          · rw [if_pos c11] at h
            refine aw_sub [(0, .inr (.inr (some this)))] [0] rfl ?_
            exact wX1_judge_b48 X φ this σ y h
          · rw [if_neg c11] at h
            refine aw_aload_n X dX1_judge_39 0 0 rfl rfl ?_
            obtain ⟨x12, hx12, h⟩ := bind_some h
            refine aw_gfR X fl_X1_13 dX1_judge_40 hx12 ?_
            refine aw_iload_n X dX1_judge_43 3 3 rfl rfl ?_
            obtain ⟨x13, hx13, h⟩ := bind_some h
            refine aw_iald X dX1_judge_44 hx13 ?_
            refine aw_if_ge X 54 dX1_judge_45 rfl (fun c14 => ?_) (fun c14 => ?_)
            · rw [if_pos c14] at h
              refine aw_aload_n X dX1_judge_54 0 0 rfl rfl ?_
              obtain ⟨x15, hx15, h⟩ := bind_some h
              refine aw_gfR X fl_X1_13 dX1_judge_55 hx15 ?_
              refine aw_iload_n X dX1_judge_58 3 3 rfl rfl ?_
              obtain ⟨x16, hx16, h⟩ := bind_some h
              refine aw_iald X dX1_judge_59 hx16 ?_
              refine aw_aload_n X dX1_judge_60 0 0 rfl rfl ?_
              obtain ⟨x17, hx17, h⟩ := bind_some h
              refine aw_gfR X fl_X1_29 dX1_judge_61 hx17 ?_
              refine aw_iload_n X dX1_judge_64 2 2 rfl rfl ?_
              obtain ⟨x18, hx18, h⟩ := bind_some h
              refine aw_iald X dX1_judge_65 hx18 ?_
              refine aw_icmp_ne X 73 dX1_judge_66 rfl (fun c19 => ?_) (fun c19 => ?_)
              · rw [if_neg c19] at h
                refine aw_iconst X (0 : Int32) dX1_judge_73 (by decide) ?_
                refine aw_istore X dX1_judge_74 (by decide) [(4, .inl (0 : Int32)), (0, .inr (.inr (some this))), (1, .inl v1), (2, .inl v2), (3, .inl v3)] rfl ?_
                refine aw_iconst X (-1 : Int32) dX1_judge_76 (by decide) ?_
                refine aw_istore X dX1_judge_77 (by decide) [(5, .inl (-1 : Int32)), (4, .inl (0 : Int32)), (0, .inr (.inr (some this))), (1, .inl v1), (2, .inl v2), (3, .inl v3)] rfl ?_
                refine aw_iconst X (0 : Int32) dX1_judge_79 (by decide) ?_
                refine aw_istore X dX1_judge_80 (by decide) [(6, .inl (0 : Int32)), (5, .inl (-1 : Int32)), (4, .inl (0 : Int32)), (0, .inr (.inr (some this))), (1, .inl v1), (2, .inl v2), (3, .inl v3)] rfl ?_
                obtain ⟨e32, h33, h⟩ := bind_some h
                refine aw_sub [(0, .inr (.inr (some this))), (1, .inl v1), (2, .inl v2), (3, .inl v3), (4, .inl (0 : Int32)), (5, .inl (-1 : Int32)), (6, .inl (0 : Int32))] [3, 4, 5, 6, 2, 1, 0] rfl ?_
                refine aw_it (fun s => AW C 82 [(0, .inr (.inr (some this))), (1, .inl v1), (2, .inl v2), (3, .inl v3), (4, .inl s.1), (5, .inl s.2.1), (6, .inl s.2.2)] [] σ (AQ C (some (.inl y.1)) y.2)) (fun e => AW C 159 [(4, .inl e)] [] σ (AQ C (some (.inl y.1)) y.2)) (fun s r hr kH kE => wX1_judge_l82 X φ this v1 v2 v3 σ s.1 s.2.1 s.2.2 r hr kH kE) φ _ e32 h33 ?_
                refine aw_iload X dX1_judge_159 0 rfl ?_
                refine aw_if_eq X 168 dX1_judge_161 rfl (fun c34 => ?_) (fun c34 => ?_)
                · rw [if_pos c34] at h
                  refine aw_iconst X (0 : Int32) dX1_judge_168 (by decide) ?_
                  cases h
                  exact aw_iret X dX1_judge_169
                · rw [if_neg c34] at h
                  refine aw_iconst X (1 : Int32) dX1_judge_164 (by decide) ?_
                  refine aw_goto X 169 dX1_judge_165 rfl ?_
                  cases h
                  exact aw_iret X dX1_judge_169
              · rw [if_pos c19] at h
                refine aw_iconst X (1 : Int32) dX1_judge_69 (by decide) ?_
                refine aw_goto X 74 dX1_judge_70 rfl ?_
                refine aw_istore X dX1_judge_74 (by decide) [(4, .inl (1 : Int32)), (0, .inr (.inr (some this))), (1, .inl v1), (2, .inl v2), (3, .inl v3)] rfl ?_
                refine aw_iconst X (-1 : Int32) dX1_judge_76 (by decide) ?_
                refine aw_istore X dX1_judge_77 (by decide) [(5, .inl (-1 : Int32)), (4, .inl (1 : Int32)), (0, .inr (.inr (some this))), (1, .inl v1), (2, .inl v2), (3, .inl v3)] rfl ?_
                refine aw_iconst X (0 : Int32) dX1_judge_79 (by decide) ?_
                refine aw_istore X dX1_judge_80 (by decide) [(6, .inl (0 : Int32)), (5, .inl (-1 : Int32)), (4, .inl (1 : Int32)), (0, .inr (.inr (some this))), (1, .inl v1), (2, .inl v2), (3, .inl v3)] rfl ?_
                obtain ⟨e35, h36, h⟩ := bind_some h
                refine aw_sub [(0, .inr (.inr (some this))), (1, .inl v1), (2, .inl v2), (3, .inl v3), (4, .inl (1 : Int32)), (5, .inl (-1 : Int32)), (6, .inl (0 : Int32))] [3, 4, 5, 6, 2, 1, 0] rfl ?_
                refine aw_it (fun s => AW C 82 [(0, .inr (.inr (some this))), (1, .inl v1), (2, .inl v2), (3, .inl v3), (4, .inl s.1), (5, .inl s.2.1), (6, .inl s.2.2)] [] σ (AQ C (some (.inl y.1)) y.2)) (fun e => AW C 159 [(4, .inl e)] [] σ (AQ C (some (.inl y.1)) y.2)) (fun s r hr kH kE => wX1_judge_l82 X φ this v1 v2 v3 σ s.1 s.2.1 s.2.2 r hr kH kE) φ _ e35 h36 ?_
                refine aw_iload X dX1_judge_159 0 rfl ?_
                refine aw_if_eq X 168 dX1_judge_161 rfl (fun c37 => ?_) (fun c37 => ?_)
                · rw [if_pos c37] at h
                  refine aw_iconst X (0 : Int32) dX1_judge_168 (by decide) ?_
                  cases h
                  exact aw_iret X dX1_judge_169
                · rw [if_neg c37] at h
                  refine aw_iconst X (1 : Int32) dX1_judge_164 (by decide) ?_
                  refine aw_goto X 169 dX1_judge_165 rfl ?_
                  cases h
                  exact aw_iret X dX1_judge_169
            · rw [if_neg c14] at h
              refine aw_sub [(0, .inr (.inr (some this)))] [0] rfl ?_
              exact wX1_judge_b48 X φ this σ y h
      · rw [if_pos c6] at h
        refine aw_iconst X (-1 : Int32) dX1_judge_21 (by decide) ?_
        cases h
        exact aw_iret X dX1_judge_22
theorem AX1_judge {E : AE} {l : Launch} (hE : EOK E l) (φ d : Nat) (this : Nat) (v1 : Int32) (v2 : Int32) (v3 : Int32) (σ : St) (y : Int32 × St) (h : fX1_judge φ this v1 v2 v3 σ = some y) : AMet E l yX1_judge (ws_ yX1_judge cX1_judge 8 (some .int)) (d + 2) [.inr (.inr (some this)), .inl v1, .inl v2, .inl v3] σ (some (.inl y.1)) y.2 := by
  refine amet_of hE (by decide +kernel) (Nat.le_of_ble_eq_true rfl) fun C e1 e2 X XI => ?_
  subst e1
  exact wX1_judge X φ this v1 v2 v3 σ y h
theorem wX1_bar_l33 {C : CT} {d : Nat} {Z : State → Prop} (X : Cx C cX1_bar RX1 (some .int) 7 (d + 3)) (φ : Nat) (this : Nat) (v1 : Int32) (v2 : Int32) (v4 : Int32) (v5 : Int32) (σ : St) (y : (Int32 × St) ⊕ (St)) (h : fX1_bar_l33 φ this v1 v2 v4 v5 σ = some y) (kH : ∀ s : Int32 × St, y = .inl s → AW C 33 [(0, .inr (.inr (some this))), (1, .inl v1), (2, .inl v2), (4, .inl v4), (5, .inl s.1)] [] s.2 Z) (kE0 : ∀ e : St, y = .inr e → AW C 65 [(0, .inr (.inr (some this))), (1, .inl v1), (2, .inl v2), (4, .inl v4)] [] e Z) : AW C 33 [(0, .inr (.inr (some this))), (1, .inl v1), (2, .inl v2), (4, .inl v4), (5, .inl v5)] [] σ Z := by
  unfold fX1_bar_l33 at h
  refine aw_iload X dX1_bar_33 4 rfl ?_
  refine aw_iload X dX1_bar_35 3 rfl ?_
  refine aw_icmp_gt X 65 dX1_bar_37 rfl (fun c6 => ?_) (fun c6 => ?_)
  · rw [if_pos c6] at h
    cases h
    refine aw_sub [(0, .inr (.inr (some this))), (1, .inl v1), (2, .inl v2), (4, .inl v4)] [0, 1, 2, 3] rfl ?_
    exact kE0 σ rfl
  · rw [if_neg c6] at h
    refine aw_aload_n X dX1_bar_40 0 0 rfl rfl ?_
    obtain ⟨x7, hx7, h⟩ := bind_some h
    refine aw_gfR X fl_X1_63 dX1_bar_41 hx7 ?_
    refine aw_iload X dX1_bar_44 4 rfl ?_
    refine aw_iload X dX1_bar_46 4 rfl ?_
    refine aw_if_ne X 55 dX1_bar_48 rfl (fun c8 => ?_) (fun c8 => ?_)
    · rw [if_neg c8] at h
      refine aw_sipush X (1000 : Int32) dX1_bar_55 (by decide) ?_
      obtain ⟨s9, hs9, h⟩ := bind_some h
      refine aw_iast X dX1_bar_58 hs9 ?_
      refine aw_iinc X dX1_bar_59 4 rfl (1 : Int32) rfl (by decide) [(5, .inl (v5 + (1 : Int32))), (0, .inr (.inr (some this))), (1, .inl v1), (2, .inl v2), (4, .inl v4)] rfl ?_
      refine aw_goto X 33 dX1_bar_62 rfl ?_
      cases h
      refine aw_sub [(0, .inr (.inr (some this))), (1, .inl v1), (2, .inl v2), (4, .inl v4), (5, .inl (v5 + (1 : Int32)))] [1, 2, 3, 4, 0] rfl ?_
      exact kH ((v5 + (1 : Int32)), s9) rfl
    · rw [if_pos c8] at h
      refine aw_iconst X (0 : Int32) dX1_bar_51 (by decide) ?_
      refine aw_goto X 58 dX1_bar_52 rfl ?_
      obtain ⟨s10, hs10, h⟩ := bind_some h
      refine aw_iast X dX1_bar_58 hs10 ?_
      refine aw_iinc X dX1_bar_59 4 rfl (1 : Int32) rfl (by decide) [(5, .inl (v5 + (1 : Int32))), (0, .inr (.inr (some this))), (1, .inl v1), (2, .inl v2), (4, .inl v4)] rfl ?_
      refine aw_goto X 33 dX1_bar_62 rfl ?_
      cases h
      refine aw_sub [(0, .inr (.inr (some this))), (1, .inl v1), (2, .inl v2), (4, .inl v4), (5, .inl (v5 + (1 : Int32)))] [1, 2, 3, 4, 0] rfl ?_
      exact kH ((v5 + (1 : Int32)), s10) rfl
theorem wX1_bar_b153 {C : CT} {d : Nat} {Z : State → Prop} (X : Cx C cX1_bar RX1 (some .int) 7 (d + 3)) (φ : Nat) (this : Nat) (v1 : Int32) (v2 : Int32) (v4 : Int32) (v5 : Int32) (v6 : Int32) (k0 : Option Nat) (k1 : Int32) (k2 : Int32) (σ : St) (y : (Int32 × St) ⊕ (St)) (h : fX1_bar_b153 φ this v1 v2 v4 v5 v6 k0 k1 k2 σ = some y) (kH : ∀ s : Int32 × St, y = .inl s → AW C 85 [(0, .inr (.inr (some this))), (1, .inl v1), (2, .inl v2), (4, .inl v4), (5, .inl v5), (6, .inl s.1)] [] s.2 Z) (kE0 : ∀ e : St, y = .inr e → AW C 171 [(0, .inr (.inr (some this))), (1, .inl v1), (2, .inl v2), (4, .inl v4), (5, .inl v5)] [] e Z) : AW C 153 [(0, .inr (.inr (some this))), (1, .inl v1), (2, .inl v2), (4, .inl v4), (5, .inl v5), (6, .inl v6)] [.inl k2, .inl k1, .inr (.inr k0)] σ Z := by
  unfold fX1_bar_b153 at h
  obtain ⟨s28, hs28, h⟩ := bind_some h
  refine aw_iast X dX1_bar_153 hs28 ?_
  refine aw_aload_n X dX1_bar_154 0 0 rfl rfl ?_
  obtain ⟨x29, hx29, h⟩ := bind_some h
  refine aw_gfR X fl_X1_63 dX1_bar_155 hx29 ?_
  refine aw_iload X dX1_bar_158 5 rfl ?_
  refine aw_dup2 X dX1_bar_160 rfl rfl ?_
  obtain ⟨x30, hx30, h⟩ := bind_some h
  refine aw_iald X dX1_bar_161 hx30 ?_
  refine aw_iconst X (1 : Int32) dX1_bar_162 (by decide) ?_
  refine aw_iadd X dX1_bar_163 ?_
  obtain ⟨s31, hs31, h⟩ := bind_some h
  refine aw_iast X dX1_bar_164 hs31 ?_
  refine aw_iinc X dX1_bar_165 5 rfl (-1 : Int32) rfl (by decide) [(6, .inl (v6 + (-1 : Int32))), (0, .inr (.inr (some this))), (1, .inl v1), (2, .inl v2), (4, .inl v4), (5, .inl v5)] rfl ?_
  refine aw_goto X 85 dX1_bar_168 rfl ?_
  cases h
  refine aw_sub [(0, .inr (.inr (some this))), (1, .inl v1), (2, .inl v2), (4, .inl v4), (5, .inl v5), (6, .inl (v6 + (-1 : Int32)))] [1, 2, 3, 4, 5, 0] rfl ?_
  exact kH ((v6 + (-1 : Int32)), s31) rfl
theorem wX1_bar_l85 {C : CT} {d : Nat} {Z : State → Prop} (X : Cx C cX1_bar RX1 (some .int) 7 (d + 3)) (φ : Nat) (this : Nat) (v1 : Int32) (v2 : Int32) (v4 : Int32) (v5 : Int32) (v6 : Int32) (σ : St) (y : (Int32 × St) ⊕ (St)) (h : fX1_bar_l85 φ this v1 v2 v4 v5 v6 σ = some y) (kH : ∀ s : Int32 × St, y = .inl s → AW C 85 [(0, .inr (.inr (some this))), (1, .inl v1), (2, .inl v2), (4, .inl v4), (5, .inl v5), (6, .inl s.1)] [] s.2 Z) (kE0 : ∀ e : St, y = .inr e → AW C 171 [(0, .inr (.inr (some this))), (1, .inl v1), (2, .inl v2), (4, .inl v4), (5, .inl v5)] [] e Z) : AW C 85 [(0, .inr (.inr (some this))), (1, .inl v1), (2, .inl v2), (4, .inl v4), (5, .inl v5), (6, .inl v6)] [] σ Z := by
  unfold fX1_bar_l85 at h
  refine aw_iload X dX1_bar_85 5 rfl ?_
  refine aw_if_lt X 171 dX1_bar_87 rfl (fun c16 => ?_) (fun c16 => ?_)
  · rw [if_pos c16] at h
    cases h
    refine aw_sub [(0, .inr (.inr (some this))), (1, .inl v1), (2, .inl v2), (4, .inl v4), (5, .inl v5)] [0, 1, 2, 3, 4] rfl ?_
    exact kE0 σ rfl
  · rw [if_neg c16] at h
    refine aw_aload_n X dX1_bar_90 0 0 rfl rfl ?_
    refine aw_iload_n X dX1_bar_91 1 1 rfl rfl ?_
    refine aw_iload X dX1_bar_92 4 rfl ?_
    obtain ⟨y17, hy17, h⟩ := bind_some h
    refine aw_cV X (st := []) hy17 [.inl v1, .inl v5] rfl rfl ml_X1_148 (fun o h => AX1_at0 (Cx.ok X) φ (d + 2) _ _ _ _ _ h) dX1_bar_94 (Nat.le_of_ble_eq_true rfl) ?_
    refine aw_aload_n X dX1_bar_97 0 0 rfl rfl ?_
    refine aw_iload_n X dX1_bar_98 2 2 rfl rfl ?_
    refine aw_iload X dX1_bar_99 5 rfl ?_
    obtain ⟨y18, hy18, h⟩ := bind_some h
    refine aw_cV X (st := [.inl y17]) hy18 [.inl v2, .inl v6] rfl rfl ml_X1_148 (fun o h => AX1_at0 (Cx.ok X) φ (d + 2) _ _ _ _ _ h) dX1_bar_101 (Nat.le_of_ble_eq_true rfl) ?_
    refine aw_icmp_ne X 165 dX1_bar_104 rfl (fun c19 => ?_) (fun c19 => ?_)
    · rw [if_neg c19] at h
      refine aw_iinc X dX1_bar_165 5 rfl (-1 : Int32) rfl (by decide) [(6, .inl (v6 + (-1 : Int32))), (0, .inr (.inr (some this))), (1, .inl v1), (2, .inl v2), (4, .inl v4), (5, .inl v5)] rfl ?_
      refine aw_goto X 85 dX1_bar_168 rfl ?_
      cases h
      refine aw_sub [(0, .inr (.inr (some this))), (1, .inl v1), (2, .inl v2), (4, .inl v4), (5, .inl v5), (6, .inl (v6 + (-1 : Int32)))] [1, 2, 3, 4, 5, 0] rfl ?_
      exact kH ((v6 + (-1 : Int32)), σ) rfl
    · rw [if_pos c19] at h
      refine aw_aload_n X dX1_bar_107 0 0 rfl rfl ?_
      obtain ⟨x20, hx20, h⟩ := bind_some h
      refine aw_gfR X fl_X1_63 dX1_bar_108 hx20 ?_
      refine aw_iload X dX1_bar_111 5 rfl ?_
      refine aw_iconst X (1 : Int32) dX1_bar_113 (by decide) ?_
      refine aw_iadd X dX1_bar_114 ?_
      refine aw_aload_n X dX1_bar_115 0 0 rfl rfl ?_
      obtain ⟨x21, hx21, h⟩ := bind_some h
      refine aw_gfR X fl_X1_63 dX1_bar_116 hx21 ?_
      refine aw_iload X dX1_bar_119 5 rfl ?_
      obtain ⟨x22, hx22, h⟩ := bind_some h
      refine aw_iald X dX1_bar_121 hx22 ?_
      refine aw_aload_n X dX1_bar_122 0 0 rfl rfl ?_
      obtain ⟨x23, hx23, h⟩ := bind_some h
      refine aw_gfR X fl_X1_63 dX1_bar_123 hx23 ?_
      refine aw_iload X dX1_bar_126 5 rfl ?_
      refine aw_iconst X (1 : Int32) dX1_bar_128 (by decide) ?_
      refine aw_iadd X dX1_bar_129 ?_
      obtain ⟨x24, hx24, h⟩ := bind_some h
      refine aw_iald X dX1_bar_130 hx24 ?_
      refine aw_icmp_ge X 144 dX1_bar_131 rfl (fun c25 => ?_) (fun c25 => ?_)
      · rw [if_pos c25] at h
        refine aw_aload_n X dX1_bar_144 0 0 rfl rfl ?_
        obtain ⟨x26, hx26, h⟩ := bind_some h
        refine aw_gfR X fl_X1_63 dX1_bar_145 hx26 ?_
        refine aw_iload X dX1_bar_148 5 rfl ?_
        refine aw_iconst X (1 : Int32) dX1_bar_150 (by decide) ?_
        refine aw_iadd X dX1_bar_151 ?_
        obtain ⟨x27, hx27, h⟩ := bind_some h
        refine aw_iald X dX1_bar_152 hx27 ?_
        exact wX1_bar_b153 X φ this v1 v2 v4 v5 v6 x20 (v6 + (1 : Int32)) x27 σ y h kH kE0
      · rw [if_neg c25] at h
        refine aw_aload_n X dX1_bar_134 0 0 rfl rfl ?_
        obtain ⟨x32, hx32, h⟩ := bind_some h
        refine aw_gfR X fl_X1_63 dX1_bar_135 hx32 ?_
        refine aw_iload X dX1_bar_138 5 rfl ?_
        obtain ⟨x33, hx33, h⟩ := bind_some h
        refine aw_iald X dX1_bar_140 hx33 ?_
        refine aw_goto X 153 dX1_bar_141 rfl ?_
        exact wX1_bar_b153 X φ this v1 v2 v4 v5 v6 x20 (v6 + (1 : Int32)) x33 σ y h kH kE0
theorem wX1_bar_l68 {C : CT} {d : Nat} {Z : State → Prop} (X : Cx C cX1_bar RX1 (some .int) 7 (d + 3)) (φ : Nat) (this : Nat) (v1 : Int32) (v2 : Int32) (v4 : Int32) (v5 : Int32) (σ : St) (y : (Int32 × St) ⊕ (St)) (h : fX1_bar_l68 φ this v1 v2 v4 v5 σ = some y) (kH : ∀ s : Int32 × St, y = .inl s → AW C 68 [(0, .inr (.inr (some this))), (1, .inl v1), (2, .inl v2), (4, .inl v4), (5, .inl s.1)] [] s.2 Z) (kE0 : ∀ e : St, y = .inr e → AW C 177 [(0, .inr (.inr (some this))), (4, .inl v4)] [] e Z) : AW C 68 [(0, .inr (.inr (some this))), (1, .inl v1), (2, .inl v2), (4, .inl v4), (5, .inl v5)] [] σ Z := by
  unfold fX1_bar_l68 at h
  refine aw_iload X dX1_bar_68 4 rfl ?_
  refine aw_aload_n X dX1_bar_70 0 0 rfl rfl ?_
  obtain ⟨x13, hx13, h⟩ := bind_some h
  refine aw_gfR X fl_X1_29 dX1_bar_71 hx13 ?_
  refine aw_iload_n X dX1_bar_74 1 1 rfl rfl ?_
  obtain ⟨x14, hx14, h⟩ := bind_some h
  refine aw_iald X dX1_bar_75 hx14 ?_
  refine aw_icmp_ge X 177 dX1_bar_76 rfl (fun c15 => ?_) (fun c15 => ?_)
  · rw [if_pos c15] at h
    cases h
    refine aw_sub [(0, .inr (.inr (some this))), (4, .inl v4)] [0, 3] rfl ?_
    exact kE0 σ rfl
  · rw [if_neg c15] at h
    refine aw_iload X dX1_bar_79 3 rfl ?_
    refine aw_iconst X (1 : Int32) dX1_bar_81 (by decide) ?_
    refine aw_isub X dX1_bar_82 ?_
    refine aw_istore X dX1_bar_83 (by decide) [(6, .inl (v4 - (1 : Int32))), (0, .inr (.inr (some this))), (1, .inl v1), (2, .inl v2), (4, .inl v4), (5, .inl v5)] rfl ?_
    obtain ⟨e34, h35, h⟩ := bind_some h
    refine aw_sub [(0, .inr (.inr (some this))), (1, .inl v1), (2, .inl v2), (4, .inl v4), (5, .inl v5), (6, .inl (v4 - (1 : Int32)))] [1, 2, 3, 4, 5, 0] rfl ?_
    refine aw_it (fun s => AW C 85 [(0, .inr (.inr (some this))), (1, .inl v1), (2, .inl v2), (4, .inl v4), (5, .inl v5), (6, .inl s.1)] [] s.2 Z) (fun e => AW C 171 [(0, .inr (.inr (some this))), (1, .inl v1), (2, .inl v2), (4, .inl v4), (5, .inl v5)] [] e Z) (fun s r hr kH kE => wX1_bar_l85 X φ this v1 v2 v4 v5 s.1 s.2 r hr kH kE) φ _ e34 h35 ?_
    refine aw_iinc X dX1_bar_171 4 rfl (1 : Int32) rfl (by decide) [(5, .inl (v5 + (1 : Int32))), (0, .inr (.inr (some this))), (1, .inl v1), (2, .inl v2), (4, .inl v4)] rfl ?_
    refine aw_goto X 68 dX1_bar_174 rfl ?_
    cases h
    refine aw_sub [(0, .inr (.inr (some this))), (1, .inl v1), (2, .inl v2), (4, .inl v4), (5, .inl (v5 + (1 : Int32)))] [1, 2, 3, 4, 0] rfl ?_
    exact kH ((v5 + (1 : Int32)), e34) rfl
theorem wX1_bar_l185 {C : CT} {d : Nat} {Z : State → Prop} (X : Cx C cX1_bar RX1 (some .int) 7 (d + 3)) (φ : Nat) (this : Nat) (v4 : Int32) (σ : St) (v5 : Int32) (v6 : Int32) (y : (Int32 × Int32) ⊕ (Int32)) (h : fX1_bar_l185 φ this v4 σ v5 v6 = some y) (kH : ∀ s : Int32 × Int32, y = .inl s → AW C 185 [(0, .inr (.inr (some this))), (4, .inl v4), (5, .inl s.1), (6, .inl s.2)] [] σ Z) (kE0 : ∀ e : Int32, y = .inr e → AW C 224 [(5, .inl e)] [] σ Z) : AW C 185 [(0, .inr (.inr (some this))), (4, .inl v4), (5, .inl v5), (6, .inl v6)] [] σ Z := by
  unfold fX1_bar_l185 at h
  refine aw_iload X dX1_bar_185 3 rfl ?_
  refine aw_iload X dX1_bar_187 1 rfl ?_
  refine aw_icmp_ge X 224 dX1_bar_189 rfl (fun c38 => ?_) (fun c38 => ?_)
  · rw [if_pos c38] at h
    cases h
    refine aw_sub [(5, .inl v5)] [2] rfl ?_
    exact kE0 v5 rfl
  · rw [if_neg c38] at h
    refine aw_aload_n X dX1_bar_192 0 0 rfl rfl ?_
    obtain ⟨x39, hx39, h⟩ := bind_some h
    refine aw_gfR X fl_X1_63 dX1_bar_193 hx39 ?_
    refine aw_iload X dX1_bar_196 3 rfl ?_
    obtain ⟨x40, hx40, h⟩ := bind_some h
    refine aw_iald X dX1_bar_198 hx40 ?_
    refine aw_iload X dX1_bar_199 2 rfl ?_
    refine aw_icmp_ge X 214 dX1_bar_201 rfl (fun c41 => ?_) (fun c41 => ?_)
    · rw [if_pos c41] at h
      refine aw_iload X dX1_bar_214 2 rfl ?_
      refine aw_istore X dX1_bar_216 (by decide) [(5, .inl v5), (0, .inr (.inr (some this))), (4, .inl v4), (6, .inl v6)] rfl ?_
      refine aw_iinc X dX1_bar_218 3 rfl (1 : Int32) rfl (by decide) [(6, .inl (v6 + (1 : Int32))), (5, .inl v5), (0, .inr (.inr (some this))), (4, .inl v4)] rfl ?_
      refine aw_goto X 185 dX1_bar_221 rfl ?_
      cases h
      refine aw_sub [(0, .inr (.inr (some this))), (4, .inl v4), (5, .inl v5), (6, .inl (v6 + (1 : Int32)))] [2, 3, 1, 0] rfl ?_
      exact kH (v5, (v6 + (1 : Int32))) rfl
    · rw [if_neg c41] at h
      refine aw_aload_n X dX1_bar_204 0 0 rfl rfl ?_
      obtain ⟨x42, hx42, h⟩ := bind_some h
      refine aw_gfR X fl_X1_63 dX1_bar_205 hx42 ?_
      refine aw_iload X dX1_bar_208 3 rfl ?_
      obtain ⟨x43, hx43, h⟩ := bind_some h
      refine aw_iald X dX1_bar_210 hx43 ?_
      refine aw_goto X 216 dX1_bar_211 rfl ?_
      refine aw_istore X dX1_bar_216 (by decide) [(5, .inl x43), (0, .inr (.inr (some this))), (4, .inl v4), (6, .inl v6)] rfl ?_
      refine aw_iinc X dX1_bar_218 3 rfl (1 : Int32) rfl (by decide) [(6, .inl (v6 + (1 : Int32))), (5, .inl x43), (0, .inr (.inr (some this))), (4, .inl v4)] rfl ?_
      refine aw_goto X 185 dX1_bar_221 rfl ?_
      cases h
      refine aw_sub [(0, .inr (.inr (some this))), (4, .inl v4), (5, .inl x43), (6, .inl (v6 + (1 : Int32)))] [2, 3, 1, 0] rfl ?_
      exact kH (x43, (v6 + (1 : Int32))) rfl
theorem wX1_bar {C : CT} {d : Nat} (X : Cx C cX1_bar RX1 (some .int) 7 (d + 3)) (φ : Nat) (this : Nat) (v1 : Int32) (v2 : Int32) (σ : St) (y : Int32 × St) (h : fX1_bar φ this v1 v2 σ = some y) : AW C 0 [(0, .inr (.inr (some this))), (1, .inl v1), (2, .inl v2)] [] σ (AQ C (some (.inl y.1)) y.2) := by
  unfold fX1_bar at h
  refine aw_aload_n X dX1_bar_0 0 0 rfl rfl ?_
  refine aw_iconst X (1 : Int32) dX1_bar_1 (by decide) ?_
  refine aw_iload_n X dX1_bar_2 1 1 rfl rfl ?_
  refine aw_iload_n X dX1_bar_3 2 2 rfl rfl ?_
  obtain ⟨y1, hy1, h⟩ := bind_some h
  refine aw_cV X (st := []) hy1 [.inl (1 : Int32), .inl v1, .inl v2] rfl rfl ml_X1_188 (fun o h => AX1_needTwo (Cx.ok X) φ d _ _ _ _ _ _ h) dX1_bar_4 (Nat.le_of_ble_eq_true rfl) ?_
  refine aw_istore_n X dX1_bar_7 3 rfl (by decide) [(3, .inl y1.1), (0, .inr (.inr (some this))), (1, .inl v1), (2, .inl v2)] rfl ?_
  refine aw_iload_n X dX1_bar_8 0 3 rfl rfl ?_
  refine aw_if_ge X 14 dX1_bar_9 rfl (fun c2 => ?_) (fun c2 => ?_)
  · rw [if_pos c2] at h
    refine aw_aload_n X dX1_bar_14 1 0 rfl rfl ?_
    obtain ⟨x3, hx3, h⟩ := bind_some h
    refine aw_gfR X fl_X1_29 dX1_bar_15 hx3 ?_
    refine aw_iload_n X dX1_bar_18 3 2 rfl rfl ?_
    obtain ⟨x4, hx4, h⟩ := bind_some h
    refine aw_iald X dX1_bar_19 hx4 ?_
    refine aw_istore X dX1_bar_20 (by decide) [(4, .inl x4), (3, .inl y1.1), (0, .inr (.inr (some this))), (1, .inl v1), (2, .inl v2)] rfl ?_
    refine aw_iload X dX1_bar_22 0 rfl ?_
    refine aw_if_ne X 30 dX1_bar_24 rfl (fun c5 => ?_) (fun c5 => ?_)
    · rw [if_neg c5] at h
      refine aw_iconst X (0 : Int32) dX1_bar_30 (by decide) ?_
      refine aw_istore X dX1_bar_31 (by decide) [(5, .inl (0 : Int32)), (4, .inl x4), (3, .inl y1.1), (0, .inr (.inr (some this))), (1, .inl v1), (2, .inl v2)] rfl ?_
      obtain ⟨e11, h12, h⟩ := bind_some h
      refine aw_sub [(0, .inr (.inr (some this))), (1, .inl v1), (2, .inl v2), (4, .inl x4), (5, .inl (0 : Int32))] [3, 4, 5, 1, 0] rfl ?_
      refine aw_it (fun s => AW C 33 [(0, .inr (.inr (some this))), (1, .inl v1), (2, .inl v2), (4, .inl x4), (5, .inl s.1)] [] s.2 (AQ C (some (.inl y.1)) y.2)) (fun e => AW C 65 [(0, .inr (.inr (some this))), (1, .inl v1), (2, .inl v2), (4, .inl x4)] [] e (AQ C (some (.inl y.1)) y.2)) (fun s r hr kH kE => wX1_bar_l33 X φ this v1 v2 x4 s.1 s.2 r hr kH kE) φ _ e11 h12 ?_
      refine aw_iconst X (0 : Int32) dX1_bar_65 (by decide) ?_
      refine aw_istore X dX1_bar_66 (by decide) [(5, .inl (0 : Int32)), (0, .inr (.inr (some this))), (1, .inl v1), (2, .inl v2), (4, .inl x4)] rfl ?_
      obtain ⟨e36, h37, h⟩ := bind_some h
      refine aw_sub [(0, .inr (.inr (some this))), (1, .inl v1), (2, .inl v2), (4, .inl x4), (5, .inl (0 : Int32))] [1, 2, 3, 4, 0] rfl ?_
      refine aw_it (fun s => AW C 68 [(0, .inr (.inr (some this))), (1, .inl v1), (2, .inl v2), (4, .inl x4), (5, .inl s.1)] [] s.2 (AQ C (some (.inl y.1)) y.2)) (fun e => AW C 177 [(0, .inr (.inr (some this))), (4, .inl x4)] [] e (AQ C (some (.inl y.1)) y.2)) (fun s r hr kH kE => wX1_bar_l68 X φ this v1 v2 x4 s.1 s.2 r hr kH kE) φ _ e36 h37 ?_
      refine aw_sipush X (1000 : Int32) dX1_bar_177 (by decide) ?_
      refine aw_istore X dX1_bar_180 (by decide) [(5, .inl (1000 : Int32)), (0, .inr (.inr (some this))), (4, .inl x4)] rfl ?_
      refine aw_iconst X (0 : Int32) dX1_bar_182 (by decide) ?_
      refine aw_istore X dX1_bar_183 (by decide) [(6, .inl (0 : Int32)), (5, .inl (1000 : Int32)), (0, .inr (.inr (some this))), (4, .inl x4)] rfl ?_
      obtain ⟨e44, h45, h⟩ := bind_some h
      refine aw_sub [(0, .inr (.inr (some this))), (4, .inl x4), (5, .inl (1000 : Int32)), (6, .inl (0 : Int32))] [2, 3, 1, 0] rfl ?_
      refine aw_it (fun s => AW C 185 [(0, .inr (.inr (some this))), (4, .inl x4), (5, .inl s.1), (6, .inl s.2)] [] e36 (AQ C (some (.inl y.1)) y.2)) (fun e => AW C 224 [(5, .inl e)] [] e36 (AQ C (some (.inl y.1)) y.2)) (fun s r hr kH kE => wX1_bar_l185 X φ this x4 e36 s.1 s.2 r hr kH kE) φ _ e44 h45 ?_
      refine aw_iload X dX1_bar_224 0 rfl ?_
      cases h
      exact aw_iret X dX1_bar_226
    · rw [if_pos c5] at h
      refine aw_bipush X (-4 : Int32) dX1_bar_27 (by decide) ?_
      cases h
      exact aw_iret X dX1_bar_29
  · rw [if_neg c2] at h
    refine aw_iload_n X dX1_bar_12 0 3 rfl rfl ?_
    cases h
    exact aw_iret X dX1_bar_13
theorem AX1_bar {E : AE} {l : Launch} (hE : EOK E l) (φ d : Nat) (this : Nat) (v1 : Int32) (v2 : Int32) (σ : St) (y : Int32 × St) (h : fX1_bar φ this v1 v2 σ = some y) : AMet E l yX1_bar (ws_ yX1_bar cX1_bar 7 (some .int)) (d + 3) [.inr (.inr (some this)), .inl v1, .inl v2] σ (some (.inl y.1)) y.2 := by
  refine amet_of hE (by decide +kernel) (Nat.le_of_ble_eq_true rfl) fun C e1 e2 X XI => ?_
  subst e1
  exact wX1_bar X φ this v1 v2 σ y h
theorem wX1_layInner_l16 {C : CT} {d : Nat} {Z : State → Prop} (X : Cx C cX1_layInner RX1 none 7 (d + 2)) (φ : Nat) (this : Nat) (v1 : Int32) (v3 : Int32) (v4 : Int32) (σ : St) (y : (Int32 × St) ⊕ (St)) (h : fX1_layInner_l16 φ this v1 v3 v4 σ = some y) (kH : ∀ s : Int32 × St, y = .inl s → AW C 16 [(0, .inr (.inr (some this))), (1, .inl v1), (3, .inl v3), (4, .inl s.1)] [] s.2 Z) (kE0 : ∀ e : St, y = .inr e → AW C 51 [(0, .inr (.inr (some this))), (1, .inl v1), (3, .inl v3)] [] e Z) : AW C 16 [(0, .inr (.inr (some this))), (1, .inl v1), (3, .inl v3), (4, .inl v4)] [] σ Z := by
  unfold fX1_layInner_l16 at h
  refine aw_iload X dX1_layInner_16 3 rfl ?_
  refine aw_bipush X (40 : Int32) dX1_layInner_18 (by decide) ?_
  refine aw_icmp_gt X 51 dX1_layInner_20 rfl (fun c4 => ?_) (fun c4 => ?_)
  · rw [if_pos c4] at h
    cases h
    refine aw_sub [(0, .inr (.inr (some this))), (1, .inl v1), (3, .inl v3)] [0, 1, 2] rfl ?_
    exact kE0 σ rfl
  · rw [if_neg c4] at h
    refine aw_aload_n X dX1_layInner_23 0 0 rfl rfl ?_
    obtain ⟨x5, hx5, h⟩ := bind_some h
    refine aw_gfR X fl_X1_66 dX1_layInner_24 hx5 ?_
    refine aw_bipush X (41 : Int32) dX1_layInner_27 (by decide) ?_
    refine aw_iload_n X dX1_layInner_29 2 3 rfl rfl ?_
    refine aw_imul X dX1_layInner_30 ?_
    refine aw_iload X dX1_layInner_31 3 rfl ?_
    refine aw_iadd X dX1_layInner_33 ?_
    refine aw_iload X dX1_layInner_34 3 rfl ?_
    refine aw_if_ne X 43 dX1_layInner_36 rfl (fun c6 => ?_) (fun c6 => ?_)
    · rw [if_neg c6] at h
      refine aw_lconst X (0 : Int64) dX1_layInner_43 rfl ?_
      obtain ⟨s7, hs7, h⟩ := bind_some h
      refine aw_last X dX1_layInner_44 hs7 ?_
      refine aw_iinc X dX1_layInner_45 3 rfl (1 : Int32) rfl (by decide) [(4, .inl (v4 + (1 : Int32))), (0, .inr (.inr (some this))), (1, .inl v1), (3, .inl v3)] rfl ?_
      refine aw_goto X 16 dX1_layInner_48 rfl ?_
      cases h
      refine aw_sub [(0, .inr (.inr (some this))), (1, .inl v1), (3, .inl v3), (4, .inl (v4 + (1 : Int32)))] [1, 2, 3, 0] rfl ?_
      exact kH ((v4 + (1 : Int32)), s7) rfl
    · rw [if_pos c6] at h
      refine aw_lconst X (1 : Int64) dX1_layInner_39 rfl ?_
      refine aw_goto X 44 dX1_layInner_40 rfl ?_
      obtain ⟨s8, hs8, h⟩ := bind_some h
      refine aw_last X dX1_layInner_44 hs8 ?_
      refine aw_iinc X dX1_layInner_45 3 rfl (1 : Int32) rfl (by decide) [(4, .inl (v4 + (1 : Int32))), (0, .inr (.inr (some this))), (1, .inl v1), (3, .inl v3)] rfl ?_
      refine aw_goto X 16 dX1_layInner_48 rfl ?_
      cases h
      refine aw_sub [(0, .inr (.inr (some this))), (1, .inl v1), (3, .inl v3), (4, .inl (v4 + (1 : Int32)))] [1, 2, 3, 0] rfl ?_
      exact kH ((v4 + (1 : Int32)), s8) rfl
theorem wX1_layInner_l76 {C : CT} {d : Nat} {Z : State → Prop} (X : Cx C cX1_layInner RX1 none 7 (d + 2)) (φ : Nat) (this : Nat) (v1 : Int32) (v3 : Int32) (v4 : Int32) (v5 : Int32) (v6 : Int32) (σ : St) (y : (Int32 × St) ⊕ (St)) (h : fX1_layInner_l76 φ this v1 v3 v4 v5 v6 σ = some y) (kH : ∀ s : Int32 × St, y = .inl s → AW C 76 [(0, .inr (.inr (some this))), (1, .inl v1), (3, .inl v3), (4, .inl v4), (5, .inl v5), (6, .inl s.1)] [] s.2 Z) (kE0 : ∀ e : St, y = .inr e → AW C 128 [(0, .inr (.inr (some this))), (1, .inl v1), (3, .inl v3), (4, .inl v4)] [] e Z) : AW C 76 [(0, .inr (.inr (some this))), (1, .inl v1), (3, .inl v3), (4, .inl v4), (5, .inl v5), (6, .inl v6)] [] σ Z := by
  unfold fX1_layInner_l76 at h
  refine aw_iload X dX1_layInner_76 5 rfl ?_
  refine aw_bipush X (40 : Int32) dX1_layInner_78 (by decide) ?_
  refine aw_icmp_gt X 128 dX1_layInner_80 rfl (fun c14 => ?_) (fun c14 => ?_)
  · rw [if_pos c14] at h
    cases h
    refine aw_sub [(0, .inr (.inr (some this))), (1, .inl v1), (3, .inl v3), (4, .inl v4)] [0, 1, 2, 3] rfl ?_
    exact kE0 σ rfl
  · rw [if_neg c14] at h
    refine aw_iload X dX1_layInner_83 4 rfl ?_
    refine aw_bipush X (-9 : Int32) dX1_layInner_85 (by decide) ?_
    refine aw_icmp_eq X 128 dX1_layInner_87 rfl (fun c15 => ?_) (fun c15 => ?_)
    · rw [if_pos c15] at h
      cases h
      refine aw_sub [(0, .inr (.inr (some this))), (1, .inl v1), (3, .inl v3), (4, .inl v4)] [0, 1, 2, 3] rfl ?_
      exact kE0 σ rfl
    · rw [if_neg c15] at h
      refine aw_aload_n X dX1_layInner_90 0 0 rfl rfl ?_
      obtain ⟨x16, hx16, h⟩ := bind_some h
      refine aw_gfR X fl_X1_66 dX1_layInner_91 hx16 ?_
      refine aw_bipush X (41 : Int32) dX1_layInner_94 (by decide) ?_
      refine aw_iload_n X dX1_layInner_96 2 3 rfl rfl ?_
      refine aw_imul X dX1_layInner_97 ?_
      refine aw_iload X dX1_layInner_98 5 rfl ?_
      refine aw_iadd X dX1_layInner_100 ?_
      refine aw_dup2 X dX1_layInner_101 rfl rfl ?_
      obtain ⟨x17, hx17, h⟩ := bind_some h
      refine aw_lald X dX1_layInner_102 hx17 ?_
      refine aw_aload_n X dX1_layInner_103 0 0 rfl rfl ?_
      obtain ⟨x18, hx18, h⟩ := bind_some h
      refine aw_gfR X fl_X1_66 dX1_layInner_104 hx18 ?_
      refine aw_bipush X (41 : Int32) dX1_layInner_107 (by decide) ?_
      refine aw_iload X dX1_layInner_109 4 rfl ?_
      refine aw_iconst X (1 : Int32) dX1_layInner_111 (by decide) ?_
      refine aw_iadd X dX1_layInner_112 ?_
      refine aw_imul X dX1_layInner_113 ?_
      refine aw_iload X dX1_layInner_114 5 rfl ?_
      refine aw_iadd X dX1_layInner_116 ?_
      refine aw_iconst X (1 : Int32) dX1_layInner_117 (by decide) ?_
      refine aw_isub X dX1_layInner_118 ?_
      obtain ⟨x19, hx19, h⟩ := bind_some h
      refine aw_lald X dX1_layInner_119 hx19 ?_
      refine aw_ladd X dX1_layInner_120 ?_
      obtain ⟨s20, hs20, h⟩ := bind_some h
      refine aw_last X dX1_layInner_121 hs20 ?_
      refine aw_iinc X dX1_layInner_122 5 rfl (1 : Int32) rfl (by decide) [(6, .inl (v6 + (1 : Int32))), (0, .inr (.inr (some this))), (1, .inl v1), (3, .inl v3), (4, .inl v4), (5, .inl v5)] rfl ?_
      refine aw_goto X 76 dX1_layInner_125 rfl ?_
      cases h
      refine aw_sub [(0, .inr (.inr (some this))), (1, .inl v1), (3, .inl v3), (4, .inl v4), (5, .inl v5), (6, .inl (v6 + (1 : Int32)))] [1, 2, 3, 4, 5, 0] rfl ?_
      exact kH ((v6 + (1 : Int32)), s20) rfl
theorem wX1_layInner_l54 {C : CT} {d : Nat} {Z : State → Prop} (X : Cx C cX1_layInner RX1 none 7 (d + 2)) (φ : Nat) (this : Nat) (v1 : Int32) (v3 : Int32) (v4 : Int32) (σ : St) (y : (Int32 × St) ⊕ (St)) (h : fX1_layInner_l54 φ this v1 v3 v4 σ = some y) (kH : ∀ s : Int32 × St, y = .inl s → AW C 54 [(0, .inr (.inr (some this))), (1, .inl v1), (3, .inl v3), (4, .inl s.1)] [] s.2 Z) (kE0 : ∀ e : St, y = .inr e → AW C 134 [(0, .inr (.inr (some this))), (1, .inl v1), (3, .inl v3)] [] e Z) : AW C 54 [(0, .inr (.inr (some this))), (1, .inl v1), (3, .inl v3), (4, .inl v4)] [] σ Z := by
  unfold fX1_layInner_l54 at h
  refine aw_iload X dX1_layInner_54 3 rfl ?_
  refine aw_aload_n X dX1_layInner_56 0 0 rfl rfl ?_
  obtain ⟨x11, hx11, h⟩ := bind_some h
  refine aw_gfI X fl_X1_110 dX1_layInner_57 hx11 ?_
  refine aw_icmp_ge X 134 dX1_layInner_60 rfl (fun c12 => ?_) (fun c12 => ?_)
  · rw [if_pos c12] at h
    cases h
    refine aw_sub [(0, .inr (.inr (some this))), (1, .inl v1), (3, .inl v3)] [0, 1, 2] rfl ?_
    exact kE0 σ rfl
  · rw [if_neg c12] at h
    refine aw_aload_n X dX1_layInner_63 0 0 rfl rfl ?_
    refine aw_iload_n X dX1_layInner_64 1 1 rfl rfl ?_
    refine aw_iload_n X dX1_layInner_65 2 3 rfl rfl ?_
    refine aw_iload X dX1_layInner_66 3 rfl ?_
    obtain ⟨y13, hy13, h⟩ := bind_some h
    refine aw_cV X (st := []) hy13 [.inl v1, .inl v3, .inl v4] rfl rfl ml_X1_206 (fun o h => AX1_next (Cx.ok X) φ d _ _ _ _ _ _ h) dX1_layInner_68 (Nat.le_of_ble_eq_true rfl) ?_
    refine aw_istore X dX1_layInner_71 (by decide) [(5, .inl y13), (0, .inr (.inr (some this))), (1, .inl v1), (3, .inl v3), (4, .inl v4)] rfl ?_
    refine aw_iconst X (1 : Int32) dX1_layInner_73 (by decide) ?_
    refine aw_istore X dX1_layInner_74 (by decide) [(6, .inl (1 : Int32)), (5, .inl y13), (0, .inr (.inr (some this))), (1, .inl v1), (3, .inl v3), (4, .inl v4)] rfl ?_
    obtain ⟨e21, h22, h⟩ := bind_some h
    refine aw_sub [(0, .inr (.inr (some this))), (1, .inl v1), (3, .inl v3), (4, .inl v4), (5, .inl y13), (6, .inl (1 : Int32))] [2, 3, 4, 5, 1, 0] rfl ?_
    refine aw_it (fun s => AW C 76 [(0, .inr (.inr (some this))), (1, .inl v1), (3, .inl v3), (4, .inl v4), (5, .inl y13), (6, .inl s.1)] [] s.2 Z) (fun e => AW C 128 [(0, .inr (.inr (some this))), (1, .inl v1), (3, .inl v3), (4, .inl v4)] [] e Z) (fun s r hr kH kE => wX1_layInner_l76 X φ this v1 v3 v4 y13 s.1 s.2 r hr kH kE) φ _ e21 h22 ?_
    refine aw_iinc X dX1_layInner_128 3 rfl (1 : Int32) rfl (by decide) [(4, .inl (v4 + (1 : Int32))), (0, .inr (.inr (some this))), (1, .inl v1), (3, .inl v3)] rfl ?_
    refine aw_goto X 54 dX1_layInner_131 rfl ?_
    cases h
    refine aw_sub [(0, .inr (.inr (some this))), (1, .inl v1), (3, .inl v3), (4, .inl (v4 + (1 : Int32)))] [1, 2, 3, 0] rfl ?_
    exact kH ((v4 + (1 : Int32)), e21) rfl
theorem wX1_layInner_l9 {C : CT} {d : Nat} {Z : State → Prop} (X : Cx C cX1_layInner RX1 none 7 (d + 2)) (φ : Nat) (this : Nat) (v1 : Int32) (v3 : Int32) (σ : St) (y : (Int32 × St) ⊕ (St)) (h : fX1_layInner_l9 φ this v1 v3 σ = some y) (kH : ∀ s : Int32 × St, y = .inl s → AW C 9 [(0, .inr (.inr (some this))), (1, .inl v1), (3, .inl s.1)] [] s.2 Z) (kE0 : ∀ e : St, y = .inr e → AW C 140 [] [] e Z) : AW C 9 [(0, .inr (.inr (some this))), (1, .inl v1), (3, .inl v3)] [] σ Z := by
  unfold fX1_layInner_l9 at h
  refine aw_iload_n X dX1_layInner_9 2 3 rfl rfl ?_
  refine aw_if_lt X 140 dX1_layInner_10 rfl (fun c3 => ?_) (fun c3 => ?_)
  · rw [if_pos c3] at h
    cases h
    refine aw_sub [] [] rfl ?_
    exact kE0 σ rfl
  · rw [if_neg c3] at h
    refine aw_iconst X (0 : Int32) dX1_layInner_13 (by decide) ?_
    refine aw_istore X dX1_layInner_14 (by decide) [(4, .inl (0 : Int32)), (0, .inr (.inr (some this))), (1, .inl v1), (3, .inl v3)] rfl ?_
    obtain ⟨e9, h10, h⟩ := bind_some h
    refine aw_sub [(0, .inr (.inr (some this))), (1, .inl v1), (3, .inl v3), (4, .inl (0 : Int32))] [1, 2, 3, 0] rfl ?_
    refine aw_it (fun s => AW C 16 [(0, .inr (.inr (some this))), (1, .inl v1), (3, .inl v3), (4, .inl s.1)] [] s.2 Z) (fun e => AW C 51 [(0, .inr (.inr (some this))), (1, .inl v1), (3, .inl v3)] [] e Z) (fun s r hr kH kE => wX1_layInner_l16 X φ this v1 v3 s.1 s.2 r hr kH kE) φ _ e9 h10 ?_
    refine aw_iconst X (0 : Int32) dX1_layInner_51 (by decide) ?_
    refine aw_istore X dX1_layInner_52 (by decide) [(4, .inl (0 : Int32)), (0, .inr (.inr (some this))), (1, .inl v1), (3, .inl v3)] rfl ?_
    obtain ⟨e23, h24, h⟩ := bind_some h
    refine aw_sub [(0, .inr (.inr (some this))), (1, .inl v1), (3, .inl v3), (4, .inl (0 : Int32))] [1, 2, 3, 0] rfl ?_
    refine aw_it (fun s => AW C 54 [(0, .inr (.inr (some this))), (1, .inl v1), (3, .inl v3), (4, .inl s.1)] [] s.2 Z) (fun e => AW C 134 [(0, .inr (.inr (some this))), (1, .inl v1), (3, .inl v3)] [] e Z) (fun s r hr kH kE => wX1_layInner_l54 X φ this v1 v3 s.1 s.2 r hr kH kE) φ _ e23 h24 ?_
    refine aw_iinc X dX1_layInner_134 2 rfl (-1 : Int32) rfl (by decide) [(3, .inl (v3 + (-1 : Int32))), (0, .inr (.inr (some this))), (1, .inl v1)] rfl ?_
    refine aw_goto X 9 dX1_layInner_137 rfl ?_
    cases h
    refine aw_sub [(0, .inr (.inr (some this))), (1, .inl v1), (3, .inl (v3 + (-1 : Int32)))] [1, 2, 0] rfl ?_
    exact kH ((v3 + (-1 : Int32)), e23) rfl
theorem wX1_layInner {C : CT} {d : Nat} (X : Cx C cX1_layInner RX1 none 7 (d + 2)) (φ : Nat) (this : Nat) (v1 : Int32) (σ : St) (y : St) (h : fX1_layInner φ this v1 σ = some y) : AW C 0 [(0, .inr (.inr (some this))), (1, .inl v1)] [] σ (AQ C none y) := by
  unfold fX1_layInner at h
  refine aw_aload_n X dX1_layInner_0 0 0 rfl rfl ?_
  obtain ⟨x1, hx1, h⟩ := bind_some h
  refine aw_gfR X fl_X1_29 dX1_layInner_1 hx1 ?_
  refine aw_iload_n X dX1_layInner_4 1 1 rfl rfl ?_
  obtain ⟨x2, hx2, h⟩ := bind_some h
  refine aw_iald X dX1_layInner_5 hx2 ?_
  refine aw_istore_n X dX1_layInner_6 2 rfl (by decide) [(2, .inl x2), (0, .inr (.inr (some this))), (1, .inl v1)] rfl ?_
  refine aw_iload_n X dX1_layInner_7 0 2 rfl rfl ?_
  refine aw_istore_n X dX1_layInner_8 3 rfl (by decide) [(3, .inl x2), (2, .inl x2), (0, .inr (.inr (some this))), (1, .inl v1)] rfl ?_
  obtain ⟨e25, h26, h⟩ := bind_some h
  refine aw_sub [(0, .inr (.inr (some this))), (1, .inl v1), (3, .inl x2)] [2, 3, 0] rfl ?_
  refine aw_it (fun s => AW C 9 [(0, .inr (.inr (some this))), (1, .inl v1), (3, .inl s.1)] [] s.2 (AQ C none y)) (fun e => AW C 140 [] [] e (AQ C none y)) (fun s r hr kH kE => wX1_layInner_l9 X φ this v1 s.1 s.2 r hr kH kE) φ _ e25 h26 ?_
  cases h
  exact aw_vret X dX1_layInner_140
theorem AX1_layInner {E : AE} {l : Launch} (hE : EOK E l) (φ d : Nat) (this : Nat) (v1 : Int32) (σ : St) (y : St) (h : fX1_layInner φ this v1 σ = some y) : AMet E l yX1_layInner (ws_ yX1_layInner cX1_layInner 7 none) (d + 2) [.inr (.inr (some this)), .inl v1] σ none y := by
  refine amet_of hE (by decide +kernel) (Nat.le_of_ble_eq_true rfl) fun C e1 e2 X XI => ?_
  subst e1
  exact wX1_layInner X φ this v1 σ y h
theorem wX1_inner_b65 {C : CT} {d : Nat} {Z : State → Prop} (X : Cx C cX1_inner RX1 (some .int) 7 (d + 3)) (φ : Nat) (this : Nat) (v2 : Int32) (v6 : Int32) (k0 : Int64) (σ : St) (y : (Int64 × Int32) ⊕ (Int64)) (h : fX1_inner_b65 φ this v2 v6 k0 σ = some y) (kH : ∀ s : Int64 × Int32, y = .inl s → AW C 44 [(0, .inr (.inr (some this))), (2, .inl v2), (4, .inr (.inl s.1)), (6, .inl s.2)] [] σ Z) (kE0 : ∀ e : Int64, y = .inr e → AW C 85 [(0, .inr (.inr (some this))), (4, .inr (.inl e))] [] σ Z) : AW C 65 [(0, .inr (.inr (some this))), (2, .inl v2), (6, .inl v6)] [.inr (.inl k0)] σ Z := by
  unfold fX1_inner_b65 at h
  refine aw_aload_n X dX1_inner_65 0 0 rfl rfl ?_
  obtain ⟨x7, hx7, h⟩ := bind_some h
  refine aw_gfR X fl_X1_66 dX1_inner_66 hx7 ?_
  refine aw_iload X dX1_inner_69 2 rfl ?_
  obtain ⟨x8, hx8, h⟩ := bind_some h
  refine aw_lald X dX1_inner_71 hx8 ?_
  refine aw_goto X 76 dX1_inner_72 rfl ?_
  refine aw_ladd X dX1_inner_76 ?_
  refine aw_lstore X dX1_inner_77 (by decide) [(4, .inr (.inl (k0 + x8))), (0, .inr (.inr (some this))), (2, .inl v2), (6, .inl v6)] rfl ?_
  refine aw_iinc X dX1_inner_79 3 rfl (1 : Int32) rfl (by decide) [(6, .inl (v6 + (1 : Int32))), (4, .inr (.inl (k0 + x8))), (0, .inr (.inr (some this))), (2, .inl v2)] rfl ?_
  refine aw_goto X 44 dX1_inner_82 rfl ?_
  cases h
  refine aw_sub [(0, .inr (.inr (some this))), (2, .inl v2), (4, .inr (.inl (k0 + x8))), (6, .inl (v6 + (1 : Int32)))] [2, 3, 1, 0] rfl ?_
  exact kH ((k0 + x8), (v6 + (1 : Int32))) rfl
theorem wX1_inner_l44 {C : CT} {d : Nat} {Z : State → Prop} (X : Cx C cX1_inner RX1 (some .int) 7 (d + 3)) (φ : Nat) (this : Nat) (v2 : Int32) (σ : St) (v4 : Int64) (v6 : Int32) (y : (Int64 × Int32) ⊕ (Int64)) (h : fX1_inner_l44 φ this v2 σ v4 v6 = some y) (kH : ∀ s : Int64 × Int32, y = .inl s → AW C 44 [(0, .inr (.inr (some this))), (2, .inl v2), (4, .inr (.inl s.1)), (6, .inl s.2)] [] σ Z) (kE0 : ∀ e : Int64, y = .inr e → AW C 85 [(0, .inr (.inr (some this))), (4, .inr (.inl e))] [] σ Z) : AW C 44 [(0, .inr (.inr (some this))), (2, .inl v2), (4, .inr (.inl v4)), (6, .inl v6)] [] σ Z := by
  unfold fX1_inner_l44 at h
  refine aw_iload X dX1_inner_44 3 rfl ?_
  refine aw_bipush X (40 : Int32) dX1_inner_46 (by decide) ?_
  refine aw_icmp_gt X 85 dX1_inner_48 rfl (fun c5 => ?_) (fun c5 => ?_)
  · rw [if_pos c5] at h
    cases h
    refine aw_sub [(0, .inr (.inr (some this))), (4, .inr (.inl v4))] [0, 2] rfl ?_
    exact kE0 v4 rfl
  · rw [if_neg c5] at h
    refine aw_lload X dX1_inner_51 2 rfl ?_
    refine aw_iload_n X dX1_inner_53 1 2 rfl rfl ?_
    refine aw_bipush X (-9 : Int32) dX1_inner_54 (by decide) ?_
    refine aw_icmp_eq X 65 dX1_inner_56 rfl (fun c6 => ?_) (fun c6 => ?_)
    · rw [if_pos c6] at h
      refine aw_sub [(0, .inr (.inr (some this))), (2, .inl v2), (6, .inl v6)] [0, 1, 3] rfl ?_
      exact wX1_inner_b65 X φ this v2 v6 v4 σ y h kH kE0
    · rw [if_neg c6] at h
      refine aw_iload_n X dX1_inner_59 1 2 rfl rfl ?_
      refine aw_iload X dX1_inner_60 3 rfl ?_
      refine aw_icmp_ne X 75 dX1_inner_62 rfl (fun c9 => ?_) (fun c9 => ?_)
      · rw [if_neg c9] at h
        refine aw_lconst X (0 : Int64) dX1_inner_75 rfl ?_
        refine aw_ladd X dX1_inner_76 ?_
        refine aw_lstore X dX1_inner_77 (by decide) [(4, .inr (.inl (v4 + (0 : Int64)))), (0, .inr (.inr (some this))), (2, .inl v2), (6, .inl v6)] rfl ?_
        refine aw_iinc X dX1_inner_79 3 rfl (1 : Int32) rfl (by decide) [(6, .inl (v6 + (1 : Int32))), (4, .inr (.inl (v4 + (0 : Int64)))), (0, .inr (.inr (some this))), (2, .inl v2)] rfl ?_
        refine aw_goto X 44 dX1_inner_82 rfl ?_
        cases h
        refine aw_sub [(0, .inr (.inr (some this))), (2, .inl v2), (4, .inr (.inl (v4 + (0 : Int64)))), (6, .inl (v6 + (1 : Int32)))] [2, 3, 1, 0] rfl ?_
        exact kH ((v4 + (0 : Int64)), (v6 + (1 : Int32))) rfl
      · rw [if_pos c9] at h
        refine aw_sub [(0, .inr (.inr (some this))), (2, .inl v2), (6, .inl v6)] [0, 1, 3] rfl ?_
        exact wX1_inner_b65 X φ this v2 v6 v4 σ y h kH kE0
theorem wX1_inner_b22 {C : CT} {d : Nat} (X : Cx C cX1_inner RX1 (some .int) 7 (d + 3)) (φ : Nat) (this : Nat) (v1 : Int32) (v2 : Int32) (k0 : Option Nat) (k1 : Int32) (σ : St) (y : Int32 × St) (h : fX1_inner_b22 φ this v1 v2 k0 k1 σ = some y)  : AW C 22 [(0, .inr (.inr (some this))), (1, .inl v1), (2, .inl v2)] [.inl k1, .inr (.inr k0)] σ (AQ C (some (.inl y.1)) y.2) := by
  unfold fX1_inner_b22 at h
  refine aw_iload_n X dX1_inner_22 1 1 rfl rfl ?_
  obtain ⟨y2, hy2, h⟩ := bind_some h
  refine aw_cV X (st := []) hy2 [.inl k1, .inl v1] rfl rfl ml_X1_192 (fun o h => AX1_needWord (Cx.ok X) φ d _ _ _ _ _ h) dX1_inner_23 (Nat.le_of_ble_eq_true rfl) ?_
  refine aw_istore_n X dX1_inner_26 3 rfl (by decide) [(3, .inl y2.1), (0, .inr (.inr (some this))), (1, .inl v1), (2, .inl v2)] rfl ?_
  refine aw_iload_n X dX1_inner_27 0 3 rfl rfl ?_
  refine aw_if_ge X 33 dX1_inner_28 rfl (fun c3 => ?_) (fun c3 => ?_)
  · rw [if_pos c3] at h
    refine aw_aload_n X dX1_inner_33 1 0 rfl rfl ?_
    refine aw_iload_n X dX1_inner_34 2 1 rfl rfl ?_
    obtain ⟨y4, hy4, h⟩ := bind_some h
    refine aw_cV X (st := []) hy4 [.inl v1] rfl rfl ml_X1_217 (fun o h => AX1_layInner (Cx.ok X) φ d _ _ _ _ h) dX1_inner_35 (Nat.le_of_ble_eq_true rfl) ?_
    refine aw_lconst X (0 : Int64) dX1_inner_38 rfl ?_
    refine aw_lstore X dX1_inner_39 (by decide) [(4, .inr (.inl (0 : Int64))), (3, .inl y2.1), (0, .inr (.inr (some this))), (1, .inl v1), (2, .inl v2)] rfl ?_
    refine aw_iconst X (0 : Int32) dX1_inner_41 (by decide) ?_
    refine aw_istore X dX1_inner_42 (by decide) [(6, .inl (0 : Int32)), (4, .inr (.inl (0 : Int64))), (3, .inl y2.1), (0, .inr (.inr (some this))), (1, .inl v1), (2, .inl v2)] rfl ?_
    obtain ⟨e10, h11, h⟩ := bind_some h
    refine aw_sub [(0, .inr (.inr (some this))), (2, .inl v2), (4, .inr (.inl (0 : Int64))), (6, .inl (0 : Int32))] [3, 5, 1, 0] rfl ?_
    refine aw_it (fun s => AW C 44 [(0, .inr (.inr (some this))), (2, .inl v2), (4, .inr (.inl s.1)), (6, .inl s.2)] [] y4 (AQ C (some (.inl y.1)) y.2)) (fun e => AW C 85 [(0, .inr (.inr (some this))), (4, .inr (.inl e))] [] y4 (AQ C (some (.inl y.1)) y.2)) (fun s r hr kH kE => wX1_inner_l44 X φ this v2 y4 s.1 s.2 r hr kH kE) φ _ e10 h11 ?_
    refine aw_aload_n X dX1_inner_85 0 0 rfl rfl ?_
    refine aw_lload X dX1_inner_86 1 rfl ?_
    refine aw_iconst X (1 : Int32) dX1_inner_88 (by decide) ?_
    obtain ⟨y12, hy12, h⟩ := bind_some h
    refine aw_cV X (st := []) hy12 [.inr (.inl e10), .inl (1 : Int32)] rfl rfl ml_X1_202 (fun o h => AX1_tellsMany (Cx.ok X) φ (d + 2) _ _ _ _ _ h) dX1_inner_89 (Nat.le_of_ble_eq_true rfl) ?_
    cases h
    exact aw_iret X dX1_inner_92
  · rw [if_neg c3] at h
    refine aw_iload_n X dX1_inner_31 0 3 rfl rfl ?_
    cases h
    exact aw_iret X dX1_inner_32
theorem wX1_inner_b17 {C : CT} {d : Nat} (X : Cx C cX1_inner RX1 (some .int) 7 (d + 3)) (φ : Nat) (this : Nat) (v1 : Int32) (v2 : Int32) (k0 : Option Nat) (σ : St) (y : Int32 × St) (h : fX1_inner_b17 φ this v1 v2 k0 σ = some y)  : AW C 17 [(0, .inr (.inr (some this))), (1, .inl v1), (2, .inl v2)] [.inr (.inr k0)] σ (AQ C (some (.inl y.1)) y.2) := by
  unfold fX1_inner_b17 at h
  refine aw_iconst X (1 : Int32) dX1_inner_17 (by decide) ?_
  refine aw_goto X 22 dX1_inner_18 rfl ?_
  exact wX1_inner_b22 X φ this v1 v2 k0 (1 : Int32) σ y h
theorem wX1_inner {C : CT} {d : Nat} (X : Cx C cX1_inner RX1 (some .int) 7 (d + 3)) (φ : Nat) (this : Nat) (v1 : Int32) (v2 : Int32) (σ : St) (y : Int32 × St) (h : fX1_inner φ this v1 v2 σ = some y) : AW C 0 [(0, .inr (.inr (some this))), (1, .inl v1), (2, .inl v2)] [] σ (AQ C (some (.inl y.1)) y.2) := by
  unfold fX1_inner at h
  refine aw_aload_n X dX1_inner_0 0 0 rfl rfl ?_
  refine aw_iload_n X dX1_inner_1 2 2 rfl rfl ?_
  refine aw_bipush X (-9 : Int32) dX1_inner_2 (by decide) ?_
  refine aw_icmp_eq X 17 dX1_inner_4 rfl (fun c1 => ?_) (fun c1 => ?_)
  · rw [if_pos c1] at h
    exact wX1_inner_b17 X φ this v1 v2 (some this) σ y h
  · rw [if_neg c1] at h
    refine aw_iload_n X dX1_inner_7 2 2 rfl rfl ?_
    refine aw_iconst X (0 : Int32) dX1_inner_8 (by decide) ?_
    refine aw_bipush X (40 : Int32) dX1_inner_9 (by decide) ?_
    obtain ⟨y13, hy13, h⟩ := bind_some h
    refine aw_callS X (st := [.inr (.inr (some this))]) [.inl v2, .inl (0 : Int32), .inl (40 : Int32)] rfl ml_X1_117 (AX1_in (Cx.ok X) φ (d + 2) _ _ _ _ _  hy13) dX1_inner_11 (Nat.le_of_ble_eq_true rfl) ?_
    refine aw_if_eq X 21 dX1_inner_14 rfl (fun c14 => ?_) (fun c14 => ?_)
    · rw [if_pos c14] at h
      refine aw_iconst X (0 : Int32) dX1_inner_21 (by decide) ?_
      exact wX1_inner_b22 X φ this v1 v2 (some this) (0 : Int32) σ y h
    · rw [if_neg c14] at h
      exact wX1_inner_b17 X φ this v1 v2 (some this) σ y h
theorem AX1_inner {E : AE} {l : Launch} (hE : EOK E l) (φ d : Nat) (this : Nat) (v1 : Int32) (v2 : Int32) (σ : St) (y : Int32 × St) (h : fX1_inner φ this v1 v2 σ = some y) : AMet E l yX1_inner (ws_ yX1_inner cX1_inner 7 (some .int)) (d + 3) [.inr (.inr (some this)), .inl v1, .inl v2] σ (some (.inl y.1)) y.2 := by
  refine amet_of hE (by decide +kernel) (Nat.le_of_ble_eq_true rfl) fun C e1 e2 X XI => ?_
  subst e1
  exact wX1_inner X φ this v1 v2 σ y h
theorem wX1_rank_l55 {C : CT} {d : Nat} {Z : State → Prop} (X : Cx C cX1_rank RX1 (some .int) 11 (d + 3)) (φ : Nat) (this : Nat) (v1 : Int32) (v2 : Int32) (v6 : Int32) (v7 : Int32) (v8 : Int32) (σ : St) (v4 : Int64) (v9 : Int32) (y : (Int64 × Int32) ⊕ (Int64)) (h : fX1_rank_l55 φ this v1 v2 v6 v7 v8 σ v4 v9 = some y) (kH : ∀ s : Int64 × Int32, y = .inl s → AW C 55 [(0, .inr (.inr (some this))), (1, .inl v1), (2, .inl v2), (4, .inr (.inl s.1)), (6, .inl v6), (7, .inl v7), (8, .inl v8), (9, .inl s.2)] [] σ Z) (kE0 : ∀ e : Int64, y = .inr e → AW C 115 [(0, .inr (.inr (some this))), (1, .inl v1), (2, .inl v2), (4, .inr (.inl e)), (6, .inl v6), (7, .inl v7)] [] σ Z) : AW C 55 [(0, .inr (.inr (some this))), (1, .inl v1), (2, .inl v2), (4, .inr (.inl v4)), (6, .inl v6), (7, .inl v7), (8, .inl v8), (9, .inl v9)] [] σ Z := by
  unfold fX1_rank_l55 at h
  refine aw_iload X dX1_rank_55 7 rfl ?_
  refine aw_aload_n X dX1_rank_57 0 0 rfl rfl ?_
  refine aw_iload_n X dX1_rank_58 2 2 rfl rfl ?_
  refine aw_iload X dX1_rank_59 5 rfl ?_
  obtain ⟨y9, hy9, h⟩ := bind_some h
  refine aw_cV X (st := [.inl v9]) hy9 [.inl v2, .inl v7] rfl rfl ml_X1_148 (fun o h => AX1_at0 (Cx.ok X) φ (d + 2) _ _ _ _ _ h) dX1_rank_61 (Nat.le_of_ble_eq_true rfl) ?_
  refine aw_icmp_ge X 115 dX1_rank_64 rfl (fun c10 => ?_) (fun c10 => ?_)
  · rw [if_pos c10] at h
    cases h
    refine aw_sub [(0, .inr (.inr (some this))), (1, .inl v1), (2, .inl v2), (4, .inr (.inl v4)), (6, .inl v6), (7, .inl v7)] [0, 1, 2, 3, 4, 5] rfl ?_
    exact kE0 v4 rfl
  · rw [if_neg c10] at h
    refine aw_aload_n X dX1_rank_67 0 0 rfl rfl ?_
    refine aw_iload_n X dX1_rank_68 1 1 rfl rfl ?_
    refine aw_iload X dX1_rank_69 4 rfl ?_
    refine aw_iload X dX1_rank_71 7 rfl ?_
    obtain ⟨y11, hy11, h⟩ := bind_some h
    refine aw_cV X (st := []) hy11 [.inl v1, .inl v6, .inl v9] rfl rfl ml_X1_206 (fun o h => AX1_next (Cx.ok X) φ (d + 1) _ _ _ _ _ _ h) dX1_rank_73 (Nat.le_of_ble_eq_true rfl) ?_
    refine aw_istore X dX1_rank_76 (by decide) [(10, .inl y11), (0, .inr (.inr (some this))), (1, .inl v1), (2, .inl v2), (4, .inr (.inl v4)), (6, .inl v6), (7, .inl v7), (8, .inl v8), (9, .inl v9)] rfl ?_
    refine aw_lload X dX1_rank_78 4 rfl ?_
    refine aw_iload X dX1_rank_80 0 rfl ?_
    refine aw_bipush X (-9 : Int32) dX1_rank_82 (by decide) ?_
    refine aw_icmp_ne X 91 dX1_rank_84 rfl (fun c12 => ?_) (fun c12 => ?_)
    · rw [if_neg c12] at h
      refine aw_aload_n X dX1_rank_91 1 0 rfl rfl ?_
      obtain ⟨x13, hx13, h⟩ := bind_some h
      refine aw_gfR X fl_X1_66 dX1_rank_92 hx13 ?_
      refine aw_bipush X (41 : Int32) dX1_rank_95 (by decide) ?_
      refine aw_iload X dX1_rank_97 0 rfl ?_
      refine aw_iconst X (1 : Int32) dX1_rank_99 (by decide) ?_
      refine aw_iadd X dX1_rank_100 ?_
      refine aw_imul X dX1_rank_101 ?_
      refine aw_iload X dX1_rank_102 7 rfl ?_
      refine aw_iadd X dX1_rank_104 ?_
      obtain ⟨x14, hx14, h⟩ := bind_some h
      refine aw_lald X dX1_rank_105 hx14 ?_
      refine aw_ladd X dX1_rank_106 ?_
      refine aw_lstore X dX1_rank_107 (by decide) [(4, .inr (.inl (v4 + x14))), (10, .inl y11), (0, .inr (.inr (some this))), (1, .inl v1), (2, .inl v2), (6, .inl v6), (7, .inl v7), (8, .inl v8), (9, .inl v9)] rfl ?_
      refine aw_iinc X dX1_rank_109 8 rfl (1 : Int32) rfl (by decide) [(9, .inl (v9 + (1 : Int32))), (4, .inr (.inl (v4 + x14))), (10, .inl y11), (0, .inr (.inr (some this))), (1, .inl v1), (2, .inl v2), (6, .inl v6), (7, .inl v7), (8, .inl v8)] rfl ?_
      refine aw_goto X 55 dX1_rank_112 rfl ?_
      cases h
      refine aw_sub [(0, .inr (.inr (some this))), (1, .inl v1), (2, .inl v2), (4, .inr (.inl (v4 + x14))), (6, .inl v6), (7, .inl v7), (8, .inl v8), (9, .inl (v9 + (1 : Int32)))] [3, 4, 5, 1, 6, 7, 8, 0] rfl ?_
      exact kH ((v4 + x14), (v9 + (1 : Int32))) rfl
    · rw [if_pos c12] at h
      refine aw_lconst X (0 : Int64) dX1_rank_87 rfl ?_
      refine aw_goto X 106 dX1_rank_88 rfl ?_
      refine aw_ladd X dX1_rank_106 ?_
      refine aw_lstore X dX1_rank_107 (by decide) [(4, .inr (.inl (v4 + (0 : Int64)))), (10, .inl y11), (0, .inr (.inr (some this))), (1, .inl v1), (2, .inl v2), (6, .inl v6), (7, .inl v7), (8, .inl v8), (9, .inl v9)] rfl ?_
      refine aw_iinc X dX1_rank_109 8 rfl (1 : Int32) rfl (by decide) [(9, .inl (v9 + (1 : Int32))), (4, .inr (.inl (v4 + (0 : Int64)))), (10, .inl y11), (0, .inr (.inr (some this))), (1, .inl v1), (2, .inl v2), (6, .inl v6), (7, .inl v7), (8, .inl v8)] rfl ?_
      refine aw_goto X 55 dX1_rank_112 rfl ?_
      cases h
      refine aw_sub [(0, .inr (.inr (some this))), (1, .inl v1), (2, .inl v2), (4, .inr (.inl (v4 + (0 : Int64)))), (6, .inl v6), (7, .inl v7), (8, .inl v8), (9, .inl (v9 + (1 : Int32)))] [3, 4, 5, 1, 6, 7, 8, 0] rfl ?_
      exact kH ((v4 + (0 : Int64)), (v9 + (1 : Int32))) rfl
theorem wX1_rank_l28 {C : CT} {d : Nat} {Z : State → Prop} (X : Cx C cX1_rank RX1 (some .int) 11 (d + 3)) (φ : Nat) (this : Nat) (v1 : Int32) (v2 : Int32) (σ : St) (v4 : Int64) (v6 : Int32) (v7 : Int32) (y : (Int64 × Int32 × Int32) ⊕ ((Int64) ⊕ (Unit))) (h : fX1_rank_l28 φ this v1 v2 σ v4 v6 v7 = some y) (kH : ∀ s : Int64 × Int32 × Int32, y = .inl s → AW C 28 [(0, .inr (.inr (some this))), (1, .inl v1), (2, .inl v2), (4, .inr (.inl s.1)), (6, .inl s.2.1), (7, .inl s.2.2)] [] σ Z) (kE0 : ∀ e : Int64, y = .inr (.inl e) → AW C 153 [(0, .inr (.inr (some this))), (4, .inr (.inl e))] [] σ Z) (kE1 : ∀ e : Unit, y = .inr (.inr e) → AW C 138 [] [] σ Z) : AW C 28 [(0, .inr (.inr (some this))), (1, .inl v1), (2, .inl v2), (4, .inr (.inl v4)), (6, .inl v6), (7, .inl v7)] [] σ Z := by
  unfold fX1_rank_l28 at h
  refine aw_iload X dX1_rank_28 5 rfl ?_
  refine aw_aload_n X dX1_rank_30 0 0 rfl rfl ?_
  obtain ⟨x4, hx4, h⟩ := bind_some h
  refine aw_gfR X fl_X1_29 dX1_rank_31 hx4 ?_
  refine aw_iload_n X dX1_rank_34 2 2 rfl rfl ?_
  obtain ⟨x5, hx5, h⟩ := bind_some h
  refine aw_iald X dX1_rank_35 hx5 ?_
  refine aw_icmp_ge X 153 dX1_rank_36 rfl (fun c6 => ?_) (fun c6 => ?_)
  · rw [if_pos c6] at h
    cases h
    refine aw_sub [(0, .inr (.inr (some this))), (4, .inr (.inl v4))] [0, 3] rfl ?_
    exact kE0 v4 rfl
  · rw [if_neg c6] at h
    refine aw_aload_n X dX1_rank_39 0 0 rfl rfl ?_
    obtain ⟨x7, hx7, h⟩ := bind_some h
    refine aw_gfR X fl_X1_29 dX1_rank_40 hx7 ?_
    refine aw_iload_n X dX1_rank_43 2 2 rfl rfl ?_
    obtain ⟨x8, hx8, h⟩ := bind_some h
    refine aw_iald X dX1_rank_44 hx8 ?_
    refine aw_iconst X (1 : Int32) dX1_rank_45 (by decide) ?_
    refine aw_isub X dX1_rank_46 ?_
    refine aw_iload X dX1_rank_47 5 rfl ?_
    refine aw_isub X dX1_rank_49 ?_
    refine aw_istore X dX1_rank_50 (by decide) [(8, .inl ((x8 - (1 : Int32)) - v7)), (0, .inr (.inr (some this))), (1, .inl v1), (2, .inl v2), (4, .inr (.inl v4)), (6, .inl v6), (7, .inl v7)] rfl ?_
    refine aw_iconst X (0 : Int32) dX1_rank_52 (by decide) ?_
    refine aw_istore X dX1_rank_53 (by decide) [(9, .inl (0 : Int32)), (8, .inl ((x8 - (1 : Int32)) - v7)), (0, .inr (.inr (some this))), (1, .inl v1), (2, .inl v2), (4, .inr (.inl v4)), (6, .inl v6), (7, .inl v7)] rfl ?_
    obtain ⟨e15, h16, h⟩ := bind_some h
    refine aw_sub [(0, .inr (.inr (some this))), (1, .inl v1), (2, .inl v2), (4, .inr (.inl v4)), (6, .inl v6), (7, .inl v7), (8, .inl ((x8 - (1 : Int32)) - v7)), (9, .inl (0 : Int32))] [2, 3, 4, 5, 6, 7, 1, 0] rfl ?_
    refine aw_it (fun s => AW C 55 [(0, .inr (.inr (some this))), (1, .inl v1), (2, .inl v2), (4, .inr (.inl s.1)), (6, .inl v6), (7, .inl v7), (8, .inl ((x8 - (1 : Int32)) - v7)), (9, .inl s.2)] [] σ Z) (fun e => AW C 115 [(0, .inr (.inr (some this))), (1, .inl v1), (2, .inl v2), (4, .inr (.inl e)), (6, .inl v6), (7, .inl v7)] [] σ Z) (fun s r hr kH kE => wX1_rank_l55 X φ this v1 v2 v6 v7 ((x8 - (1 : Int32)) - v7) σ s.1 s.2 r hr kH kE) φ _ e15 h16 ?_
    refine aw_aload_n X dX1_rank_115 0 0 rfl rfl ?_
    refine aw_iload_n X dX1_rank_116 1 1 rfl rfl ?_
    refine aw_iload X dX1_rank_117 4 rfl ?_
    refine aw_aload_n X dX1_rank_119 0 0 rfl rfl ?_
    refine aw_iload_n X dX1_rank_120 2 2 rfl rfl ?_
    refine aw_iload X dX1_rank_121 5 rfl ?_
    obtain ⟨y17, hy17, h⟩ := bind_some h
    refine aw_cV X (st := [.inl v6, .inl v1, .inr (.inr (some this))]) hy17 [.inl v2, .inl v7] rfl rfl ml_X1_148 (fun o h => AX1_at0 (Cx.ok X) φ (d + 2) _ _ _ _ _ h) dX1_rank_123 (Nat.le_of_ble_eq_true rfl) ?_
    obtain ⟨y18, hy18, h⟩ := bind_some h
    refine aw_cV X (st := []) hy18 [.inl v1, .inl v6, .inl y17] rfl rfl ml_X1_206 (fun o h => AX1_next (Cx.ok X) φ (d + 1) _ _ _ _ _ _ h) dX1_rank_126 (Nat.le_of_ble_eq_true rfl) ?_
    refine aw_istore X dX1_rank_129 (by decide) [(9, .inl y18), (0, .inr (.inr (some this))), (1, .inl v1), (2, .inl v2), (4, .inr (.inl e15)), (6, .inl v6), (7, .inl v7)] rfl ?_
    refine aw_iload X dX1_rank_131 0 rfl ?_
    refine aw_bipush X (-9 : Int32) dX1_rank_133 (by decide) ?_
    refine aw_icmp_ne X 141 dX1_rank_135 rfl (fun c19 => ?_) (fun c19 => ?_)
    · rw [if_neg c19] at h
      refine aw_iload X dX1_rank_141 0 rfl ?_
      refine aw_iconst X (1 : Int32) dX1_rank_143 (by decide) ?_
      refine aw_iadd X dX1_rank_144 ?_
      refine aw_istore X dX1_rank_145 (by decide) [(6, .inl (y18 + (1 : Int32))), (9, .inl y18), (0, .inr (.inr (some this))), (1, .inl v1), (2, .inl v2), (4, .inr (.inl e15)), (7, .inl v7)] rfl ?_
      refine aw_iinc X dX1_rank_147 6 rfl (1 : Int32) rfl (by decide) [(7, .inl (v7 + (1 : Int32))), (6, .inl (y18 + (1 : Int32))), (9, .inl y18), (0, .inr (.inr (some this))), (1, .inl v1), (2, .inl v2), (4, .inr (.inl e15))] rfl ?_
      refine aw_goto X 28 dX1_rank_150 rfl ?_
      cases h
      refine aw_sub [(0, .inr (.inr (some this))), (1, .inl v1), (2, .inl v2), (4, .inr (.inl e15)), (6, .inl (y18 + (1 : Int32))), (7, .inl (v7 + (1 : Int32)))] [3, 4, 5, 6, 1, 0] rfl ?_
      exact kH (e15, (y18 + (1 : Int32)), (v7 + (1 : Int32))) rfl
    · rw [if_pos c19] at h
      cases h
      refine aw_sub [] [] rfl ?_
      exact kE1 () rfl
theorem wX1_rank {C : CT} {d : Nat} (X : Cx C cX1_rank RX1 (some .int) 11 (d + 3)) (φ : Nat) (this : Nat) (v1 : Int32) (v2 : Int32) (σ : St) (y : Int32 × St) (h : fX1_rank φ this v1 v2 σ = some y) : AW C 0 [(0, .inr (.inr (some this))), (1, .inl v1), (2, .inl v2)] [] σ (AQ C (some (.inl y.1)) y.2) := by
  unfold fX1_rank at h
  refine aw_aload_n X dX1_rank_0 0 0 rfl rfl ?_
  refine aw_iconst X (1 : Int32) dX1_rank_1 (by decide) ?_
  refine aw_iload_n X dX1_rank_2 1 1 rfl rfl ?_
  refine aw_iload_n X dX1_rank_3 2 2 rfl rfl ?_
  obtain ⟨y1, hy1, h⟩ := bind_some h
  refine aw_cV X (st := []) hy1 [.inl (1 : Int32), .inl v1, .inl v2] rfl rfl ml_X1_188 (fun o h => AX1_needTwo (Cx.ok X) φ d _ _ _ _ _ _ h) dX1_rank_4 (Nat.le_of_ble_eq_true rfl) ?_
  refine aw_istore_n X dX1_rank_7 3 rfl (by decide) [(3, .inl y1.1), (0, .inr (.inr (some this))), (1, .inl v1), (2, .inl v2)] rfl ?_
  refine aw_iload_n X dX1_rank_8 0 3 rfl rfl ?_
  refine aw_if_ge X 14 dX1_rank_9 rfl (fun c2 => ?_) (fun c2 => ?_)
  · rw [if_pos c2] at h
    refine aw_aload_n X dX1_rank_14 1 0 rfl rfl ?_
    refine aw_iload_n X dX1_rank_15 2 1 rfl rfl ?_
    obtain ⟨y3, hy3, h⟩ := bind_some h
    refine aw_cV X (st := []) hy3 [.inl v1] rfl rfl ml_X1_217 (fun o h => AX1_layInner (Cx.ok X) φ d _ _ _ _ h) dX1_rank_16 (Nat.le_of_ble_eq_true rfl) ?_
    refine aw_lconst X (0 : Int64) dX1_rank_19 rfl ?_
    refine aw_lstore X dX1_rank_20 (by decide) [(4, .inr (.inl (0 : Int64))), (3, .inl y1.1), (0, .inr (.inr (some this))), (1, .inl v1), (2, .inl v2)] rfl ?_
    refine aw_iconst X (0 : Int32) dX1_rank_22 (by decide) ?_
    refine aw_istore X dX1_rank_23 (by decide) [(6, .inl (0 : Int32)), (4, .inr (.inl (0 : Int64))), (3, .inl y1.1), (0, .inr (.inr (some this))), (1, .inl v1), (2, .inl v2)] rfl ?_
    refine aw_iconst X (0 : Int32) dX1_rank_25 (by decide) ?_
    refine aw_istore X dX1_rank_26 (by decide) [(7, .inl (0 : Int32)), (6, .inl (0 : Int32)), (4, .inr (.inl (0 : Int64))), (3, .inl y1.1), (0, .inr (.inr (some this))), (1, .inl v1), (2, .inl v2)] rfl ?_
    obtain ⟨e20, h21, h⟩ := bind_some h
    refine aw_sub [(0, .inr (.inr (some this))), (1, .inl v1), (2, .inl v2), (4, .inr (.inl (0 : Int64))), (6, .inl (0 : Int32)), (7, .inl (0 : Int32))] [4, 5, 6, 2, 1, 0] rfl ?_
    refine aw_it (fun s => AW C 28 [(0, .inr (.inr (some this))), (1, .inl v1), (2, .inl v2), (4, .inr (.inl s.1)), (6, .inl s.2.1), (7, .inl s.2.2)] [] y3 (AQ C (some (.inl y.1)) y.2)) (fun e => match e with | (.inl e) => AW C 153 [(0, .inr (.inr (some this))), (4, .inr (.inl e))] [] y3 (AQ C (some (.inl y.1)) y.2) | (.inr e) => AW C 138 [] [] y3 (AQ C (some (.inl y.1)) y.2)) (fun s r hr kH kE => wX1_rank_l28 X φ this v1 v2 y3 s.1 s.2.1 s.2.2 r hr kH (fun e he => kE (.inl e) he) (fun e he => kE (.inr e) he)) φ _ e20 h21 ?_
    rcases e20 with e22 | e23
    · refine aw_aload_n X dX1_rank_153 0 0 rfl rfl ?_
      refine aw_lload X dX1_rank_154 1 rfl ?_
      refine aw_iconst X (1 : Int32) dX1_rank_156 (by decide) ?_
      obtain ⟨y24, hy24, h⟩ := bind_some h
      refine aw_cV X (st := []) hy24 [.inr (.inl e22), .inl (1 : Int32)] rfl rfl ml_X1_202 (fun o h => AX1_tellsMany (Cx.ok X) φ (d + 2) _ _ _ _ _ h) dX1_rank_157 (Nat.le_of_ble_eq_true rfl) ?_
      cases h
      exact aw_iret X dX1_rank_160
    · refine aw_bipush X (-9 : Int32) dX1_rank_138 (by decide) ?_
      cases h
      exact aw_iret X dX1_rank_140
  · rw [if_neg c2] at h
    refine aw_iload_n X dX1_rank_12 0 3 rfl rfl ?_
    cases h
    exact aw_iret X dX1_rank_13
theorem AX1_rank {E : AE} {l : Launch} (hE : EOK E l) (φ d : Nat) (this : Nat) (v1 : Int32) (v2 : Int32) (σ : St) (y : Int32 × St) (h : fX1_rank φ this v1 v2 σ = some y) : AMet E l yX1_rank (ws_ yX1_rank cX1_rank 11 (some .int)) (d + 3) [.inr (.inr (some this)), .inl v1, .inl v2] σ (some (.inl y.1)) y.2 := by
  refine amet_of hE (by decide +kernel) (Nat.le_of_ble_eq_true rfl) fun C e1 e2 X XI => ?_
  subst e1
  exact wX1_rank X φ this v1 v2 σ y h
theorem wX1_innersBy {C : CT} {d : Nat} (X : Cx C cX1_innersBy RX1 (some .long) 6 (d + 2)) (φ : Nat) (this : Nat) (v1 : Int32) (v2 : Int32) (v3 : Int32) (v4 : Int32) (σ : St) (y : Int64) (h : fX1_innersBy φ this v1 v2 v3 v4 σ = some y) : AW C 0 [(0, .inr (.inr (some this))), (1, .inl v1), (2, .inl v2), (3, .inl v3), (4, .inl v4)] [] σ (AQ C (some (.inr (.inl y))) σ) := by
  unfold fX1_innersBy at h
  refine aw_aload_n X dX1_innersBy_0 0 0 rfl rfl ?_
  refine aw_iload_n X dX1_innersBy_1 1 1 rfl rfl ?_
  refine aw_iload_n X dX1_innersBy_2 2 2 rfl rfl ?_
  refine aw_iload_n X dX1_innersBy_3 3 3 rfl rfl ?_
  obtain ⟨y1, hy1, h⟩ := bind_some h
  refine aw_cV X (st := []) hy1 [.inl v1, .inl v2, .inl v3] rfl rfl ml_X1_206 (fun o h => AX1_next (Cx.ok X) φ d _ _ _ _ _ _ h) dX1_innersBy_4 (Nat.le_of_ble_eq_true rfl) ?_
  refine aw_istore X dX1_innersBy_7 (by decide) [(5, .inl y1), (0, .inr (.inr (some this))), (1, .inl v1), (2, .inl v2), (3, .inl v3), (4, .inl v4)] rfl ?_
  refine aw_iload X dX1_innersBy_9 0 rfl ?_
  refine aw_bipush X (-9 : Int32) dX1_innersBy_11 (by decide) ?_
  refine aw_icmp_ne X 20 dX1_innersBy_13 rfl (fun c2 => ?_) (fun c2 => ?_)
  · rw [if_neg c2] at h
    refine aw_aload_n X dX1_innersBy_20 1 0 rfl rfl ?_
    obtain ⟨x3, hx3, h⟩ := bind_some h
    refine aw_gfR X fl_X1_66 dX1_innersBy_21 hx3 ?_
    refine aw_bipush X (41 : Int32) dX1_innersBy_24 (by decide) ?_
    refine aw_iload X dX1_innersBy_26 0 rfl ?_
    refine aw_iconst X (1 : Int32) dX1_innersBy_28 (by decide) ?_
    refine aw_iadd X dX1_innersBy_29 ?_
    refine aw_imul X dX1_innersBy_30 ?_
    refine aw_iload X dX1_innersBy_31 5 rfl ?_
    refine aw_iadd X dX1_innersBy_33 ?_
    refine aw_iconst X (1 : Int32) dX1_innersBy_34 (by decide) ?_
    refine aw_isub X dX1_innersBy_35 ?_
    obtain ⟨x4, hx4, h⟩ := bind_some h
    refine aw_lald X dX1_innersBy_36 hx4 ?_
    cases h
    exact aw_lret X dX1_innersBy_37
  · rw [if_pos c2] at h
    refine aw_lconst X (0 : Int64) dX1_innersBy_16 rfl ?_
    refine aw_goto X 37 dX1_innersBy_17 rfl ?_
    cases h
    exact aw_lret X dX1_innersBy_37
theorem AX1_innersBy {E : AE} {l : Launch} (hE : EOK E l) (φ d : Nat) (this : Nat) (v1 : Int32) (v2 : Int32) (v3 : Int32) (v4 : Int32) (σ : St) (y : Int64) (h : fX1_innersBy φ this v1 v2 v3 v4 σ = some y) : AMet E l yX1_innersBy (ws_ yX1_innersBy cX1_innersBy 6 (some .long)) (d + 2) [.inr (.inr (some this)), .inl v1, .inl v2, .inl v3, .inl v4] σ (some (.inr (.inl y))) σ := by
  refine amet_of hE (by decide +kernel) (Nat.le_of_ble_eq_true rfl) fun C e1 e2 X XI => ?_
  subst e1
  exact wX1_innersBy X φ this v1 v2 v3 v4 σ y h
theorem wX1_byRank_l102 {C : CT} {d : Nat} {Z : State → Prop} (X : Cx C cX1_byRank RX1 (some .int) 12 (d + 3)) (φ : Nat) (this : Nat) (v1 : Int32) (v2 : Int32) (v4 : Int32) (v8 : Int32) (σ : St) (v6 : Int64) (v9 : Int32) (v10 : Int64) (y : (Int64 × Int32 × Int64) ⊕ (Int64 × Int32)) (h : fX1_byRank_l102 φ this v1 v2 v4 v8 σ v6 v9 v10 = some y) (kH : ∀ s : Int64 × Int32 × Int64, y = .inl s → AW C 102 [(0, .inr (.inr (some this))), (1, .inl v1), (2, .inl v2), (4, .inl v4), (6, .inr (.inl s.1)), (8, .inl v8), (9, .inl s.2.1), (10, .inr (.inl s.2.2))] [] σ Z) (kE0 : ∀ e : Int64 × Int32, y = .inr e → AW C 140 [(0, .inr (.inr (some this))), (1, .inl v1), (2, .inl v2), (4, .inl v4), (6, .inr (.inl e.1)), (8, .inl v8), (9, .inl e.2)] [] σ Z) : AW C 102 [(0, .inr (.inr (some this))), (1, .inl v1), (2, .inl v2), (4, .inl v4), (6, .inr (.inl v6)), (8, .inl v8), (9, .inl v9), (10, .inr (.inl v10))] [] σ Z := by
  unfold fX1_byRank_l102 at h
  refine aw_lload X dX1_byRank_102 4 rfl ?_
  refine aw_lload X dX1_byRank_104 7 rfl ?_
  refine aw_lcmp_lt X 140 dX1_byRank_106 dX1_byRank_107 rfl (fun c14 => ?_) (fun c14 => ?_)
  · rw [if_pos c14] at h
    cases h
    refine aw_sub [(0, .inr (.inr (some this))), (1, .inl v1), (2, .inl v2), (4, .inl v4), (6, .inr (.inl v6)), (8, .inl v8), (9, .inl v9)] [0, 1, 2, 3, 4, 5, 6] rfl ?_
    exact kE0 (v6, v9) rfl
  · rw [if_neg c14] at h
    refine aw_lload X dX1_byRank_110 4 rfl ?_
    refine aw_lload X dX1_byRank_112 7 rfl ?_
    refine aw_lsub X dX1_byRank_114 ?_
    refine aw_lstore X dX1_byRank_115 (by decide) [(6, .inr (.inl (v6 - v10))), (0, .inr (.inr (some this))), (1, .inl v1), (2, .inl v2), (4, .inl v4), (8, .inl v8), (9, .inl v9), (10, .inr (.inl v10))] rfl ?_
    refine aw_iinc X dX1_byRank_117 6 rfl (1 : Int32) rfl (by decide) [(9, .inl (v9 + (1 : Int32))), (6, .inr (.inl (v6 - v10))), (0, .inr (.inr (some this))), (1, .inl v1), (2, .inl v2), (4, .inl v4), (8, .inl v8), (10, .inr (.inl v10))] rfl ?_
    refine aw_aload_n X dX1_byRank_120 2 0 rfl rfl ?_
    refine aw_iload_n X dX1_byRank_121 3 1 rfl rfl ?_
    refine aw_iload X dX1_byRank_122 6 rfl ?_
    refine aw_iload X dX1_byRank_124 0 rfl ?_
    refine aw_iload_n X dX1_byRank_126 4 2 rfl rfl ?_
    refine aw_aload_n X dX1_byRank_127 2 0 rfl rfl ?_
    obtain ⟨x15, hx15, h⟩ := bind_some h
    refine aw_gfI X fl_X1_151 dX1_byRank_128 hx15 ?_
    refine aw_isub X dX1_byRank_131 ?_
    obtain ⟨y16, hy16, h⟩ := bind_some h
    refine aw_cV X (st := []) hy16 [.inl v1, .inl v8, .inl (v9 + (1 : Int32)), .inl (v2 - x15)] rfl rfl ml_X1_220 (fun o h => AX1_innersBy (Cx.ok X) φ d _ _ _ _ _ _ _ h) dX1_byRank_132 (Nat.le_of_ble_eq_true rfl) ?_
    refine aw_lstore X dX1_byRank_135 (by decide) [(10, .inr (.inl y16)), (9, .inl (v9 + (1 : Int32))), (6, .inr (.inl (v6 - v10))), (0, .inr (.inr (some this))), (1, .inl v1), (2, .inl v2), (4, .inl v4), (8, .inl v8)] rfl ?_
    refine aw_goto X 102 dX1_byRank_137 rfl ?_
    cases h
    refine aw_sub [(0, .inr (.inr (some this))), (1, .inl v1), (2, .inl v2), (4, .inl v4), (6, .inr (.inl (v6 - v10))), (8, .inl v8), (9, .inl (v9 + (1 : Int32))), (10, .inr (.inl y16))] [3, 4, 5, 6, 2, 7, 1, 0] rfl ?_
    exact kH ((v6 - v10), (v9 + (1 : Int32)), y16) rfl
theorem wX1_byRank_l74 {C : CT} {d : Nat} {Z : State → Prop} (X : Cx C cX1_byRank RX1 (some .int) 12 (d + 3)) (φ : Nat) (this : Nat) (v1 : Int32) (v2 : Int32) (v4 : Int32) (v6 : Int64) (v8 : Int32) (σ : St) (y : (Int64 × Int32 × St) ⊕ (St)) (h : fX1_byRank_l74 φ this v1 v2 v4 v6 v8 σ = some y) (kH : ∀ s : Int64 × Int32 × St, y = .inl s → AW C 74 [(0, .inr (.inr (some this))), (1, .inl v1), (2, .inl v2), (4, .inl v4), (6, .inr (.inl s.1)), (8, .inl s.2.1)] [] s.2.2 Z) (kE0 : ∀ e : St, y = .inr e → AW C 177 [(0, .inr (.inr (some this))), (2, .inl v2), (4, .inl v4)] [] e Z) : AW C 74 [(0, .inr (.inr (some this))), (1, .inl v1), (2, .inl v2), (4, .inl v4), (6, .inr (.inl v6)), (8, .inl v8)] [] σ Z := by
  unfold fX1_byRank_l74 at h
  refine aw_aload_n X dX1_byRank_74 0 0 rfl rfl ?_
  obtain ⟨x10, hx10, h⟩ := bind_some h
  refine aw_gfI X fl_X1_151 dX1_byRank_75 hx10 ?_
  refine aw_iload_n X dX1_byRank_78 2 2 rfl rfl ?_
  refine aw_icmp_ge X 177 dX1_byRank_79 rfl (fun c11 => ?_) (fun c11 => ?_)
  · rw [if_pos c11] at h
    cases h
    refine aw_sub [(0, .inr (.inr (some this))), (2, .inl v2), (4, .inl v4)] [0, 2, 3] rfl ?_
    exact kE0 σ rfl
  · rw [if_neg c11] at h
    refine aw_iconst X (0 : Int32) dX1_byRank_82 (by decide) ?_
    refine aw_istore X dX1_byRank_83 (by decide) [(9, .inl (0 : Int32)), (0, .inr (.inr (some this))), (1, .inl v1), (2, .inl v2), (4, .inl v4), (6, .inr (.inl v6)), (8, .inl v8)] rfl ?_
    refine aw_aload_n X dX1_byRank_85 1 0 rfl rfl ?_
    refine aw_iload_n X dX1_byRank_86 2 1 rfl rfl ?_
    refine aw_iload X dX1_byRank_87 6 rfl ?_
    refine aw_iload X dX1_byRank_89 0 rfl ?_
    refine aw_iload_n X dX1_byRank_91 3 2 rfl rfl ?_
    refine aw_aload_n X dX1_byRank_92 1 0 rfl rfl ?_
    obtain ⟨x12, hx12, h⟩ := bind_some h
    refine aw_gfI X fl_X1_151 dX1_byRank_93 hx12 ?_
    refine aw_isub X dX1_byRank_96 ?_
    obtain ⟨y13, hy13, h⟩ := bind_some h
    refine aw_cV X (st := []) hy13 [.inl v1, .inl v8, .inl (0 : Int32), .inl (v2 - x12)] rfl rfl ml_X1_220 (fun o h => AX1_innersBy (Cx.ok X) φ d _ _ _ _ _ _ _ h) dX1_byRank_97 (Nat.le_of_ble_eq_true rfl) ?_
    refine aw_lstore X dX1_byRank_100 (by decide) [(10, .inr (.inl y13)), (9, .inl (0 : Int32)), (0, .inr (.inr (some this))), (1, .inl v1), (2, .inl v2), (4, .inl v4), (6, .inr (.inl v6)), (8, .inl v8)] rfl ?_
    obtain ⟨e17, h18, h⟩ := bind_some h
    refine aw_sub [(0, .inr (.inr (some this))), (1, .inl v1), (2, .inl v2), (4, .inl v4), (6, .inr (.inl v6)), (8, .inl v8), (9, .inl (0 : Int32)), (10, .inr (.inl y13))] [2, 3, 4, 5, 6, 7, 1, 0] rfl ?_
    refine aw_it (fun s => AW C 102 [(0, .inr (.inr (some this))), (1, .inl v1), (2, .inl v2), (4, .inl v4), (6, .inr (.inl s.1)), (8, .inl v8), (9, .inl s.2.1), (10, .inr (.inl s.2.2))] [] σ Z) (fun e => AW C 140 [(0, .inr (.inr (some this))), (1, .inl v1), (2, .inl v2), (4, .inl v4), (6, .inr (.inl e.1)), (8, .inl v8), (9, .inl e.2)] [] σ Z) (fun s r hr kH kE => wX1_byRank_l102 X φ this v1 v2 v4 v8 σ s.1 s.2.1 s.2.2 r hr kH kE) φ _ e17 h18 ?_
    refine aw_aload_n X dX1_byRank_140 0 0 rfl rfl ?_
    refine aw_iload_n X dX1_byRank_141 1 1 rfl rfl ?_
    refine aw_iload X dX1_byRank_142 5 rfl ?_
    refine aw_iload X dX1_byRank_144 6 rfl ?_
    obtain ⟨y19, hy19, h⟩ := bind_some h
    refine aw_cV X (st := []) hy19 [.inl v1, .inl v8, .inl e17.2] rfl rfl ml_X1_206 (fun o h => AX1_next (Cx.ok X) φ (d + 1) _ _ _ _ _ _ h) dX1_byRank_146 (Nat.le_of_ble_eq_true rfl) ?_
    refine aw_iconst X (1 : Int32) dX1_byRank_149 (by decide) ?_
    refine aw_iadd X dX1_byRank_150 ?_
    refine aw_istore X dX1_byRank_151 (by decide) [(8, .inl (y19 + (1 : Int32))), (0, .inr (.inr (some this))), (1, .inl v1), (2, .inl v2), (4, .inl v4), (6, .inr (.inl e17.1)), (9, .inl e17.2)] rfl ?_
    refine aw_aload_n X dX1_byRank_153 1 0 rfl rfl ?_
    obtain ⟨x20, hx20, h⟩ := bind_some h
    refine aw_gfR X fl_X1_44 dX1_byRank_154 hx20 ?_
    refine aw_aload_n X dX1_byRank_157 1 0 rfl rfl ?_
    obtain ⟨x21, hx21, h⟩ := bind_some h
    refine aw_gfI X fl_X1_151 dX1_byRank_158 hx21 ?_
    refine aw_iload X dX1_byRank_161 6 rfl ?_
    obtain ⟨s22, hs22, h⟩ := bind_some h
    refine aw_iast X dX1_byRank_163 hs22 ?_
    refine aw_aload_n X dX1_byRank_164 1 0 rfl rfl ?_
    refine aw_dup X dX1_byRank_165 rfl ?_
    obtain ⟨x23, hx23, h⟩ := bind_some h
    refine aw_gfI X fl_X1_151 dX1_byRank_166 hx23 ?_
    refine aw_iconst X (1 : Int32) dX1_byRank_169 (by decide) ?_
    refine aw_iadd X dX1_byRank_170 ?_
    obtain ⟨s24, hs24, h⟩ := bind_some h
    refine aw_pfI X fl_X1_151 dX1_byRank_171 hs24 ?_
    refine aw_goto X 74 dX1_byRank_174 rfl ?_
    cases h
    refine aw_sub [(0, .inr (.inr (some this))), (1, .inl v1), (2, .inl v2), (4, .inl v4), (6, .inr (.inl e17.1)), (8, .inl (y19 + (1 : Int32)))] [1, 2, 3, 4, 5, 0] rfl ?_
    exact kH (e17.1, (y19 + (1 : Int32)), s24) rfl
theorem wX1_byRank_b28 {C : CT} {d : Nat} (X : Cx C cX1_byRank RX1 (some .int) 12 (d + 3)) (φ : Nat) (this : Nat) (v1 : Int32) (v2 : Int32) (v3 : Int32) (v4 : Int32) (k0 : Option Nat) (k1 : Int32) (σ : St) (y : Int32 × St) (h : fX1_byRank_b28 φ this v1 v2 v3 v4 k0 k1 σ = some y)  : AW C 28 [(0, .inr (.inr (some this))), (1, .inl v1), (2, .inl v2), (3, .inl v3), (4, .inl v4)] [.inl k1, .inr (.inr k0)] σ (AQ C (some (.inl y.1)) y.2) := by
  unfold fX1_byRank_b28 at h
  refine aw_iload_n X dX1_byRank_28 1 1 rfl rfl ?_
  obtain ⟨y3, hy3, h⟩ := bind_some h
  refine aw_cV X (st := []) hy3 [.inl k1, .inl v1] rfl rfl ml_X1_192 (fun o h => AX1_needWord (Cx.ok X) φ d _ _ _ _ _ h) dX1_byRank_29 (Nat.le_of_ble_eq_true rfl) ?_
  refine aw_istore X dX1_byRank_32 (by decide) [(5, .inl y3.1), (0, .inr (.inr (some this))), (1, .inl v1), (2, .inl v2), (3, .inl v3), (4, .inl v4)] rfl ?_
  refine aw_iload X dX1_byRank_34 0 rfl ?_
  refine aw_if_ge X 42 dX1_byRank_36 rfl (fun c4 => ?_) (fun c4 => ?_)
  · rw [if_pos c4] at h
    refine aw_aload_n X dX1_byRank_42 1 0 rfl rfl ?_
    refine aw_iload_n X dX1_byRank_43 2 1 rfl rfl ?_
    obtain ⟨y5, hy5, h⟩ := bind_some h
    refine aw_cV X (st := []) hy5 [.inl v1] rfl rfl ml_X1_217 (fun o h => AX1_layInner (Cx.ok X) φ d _ _ _ _ h) dX1_byRank_44 (Nat.le_of_ble_eq_true rfl) ?_
    refine aw_iload_n X dX1_byRank_47 4 3 rfl rfl ?_
    refine aw_i2l X dX1_byRank_48 ?_
    refine aw_aload_n X dX1_byRank_49 1 0 rfl rfl ?_
    obtain ⟨x6, hx6, h⟩ := bind_some h
    refine aw_gfR X fl_X1_66 dX1_byRank_50 hx6 ?_
    refine aw_iload_n X dX1_byRank_53 3 2 rfl rfl ?_
    obtain ⟨x7, hx7, h⟩ := bind_some h
    refine aw_lald X dX1_byRank_54 hx7 ?_
    refine aw_lcmp_lt X 62 dX1_byRank_55 dX1_byRank_56 rfl (fun c8 => ?_) (fun c8 => ?_)
    · rw [if_pos c8] at h
      refine aw_iload_n X dX1_byRank_62 4 3 rfl rfl ?_
      refine aw_i2l X dX1_byRank_63 ?_
      refine aw_lstore X dX1_byRank_64 (by decide) [(6, .inr (.inl (v3.toInt64))), (5, .inl y3.1), (0, .inr (.inr (some this))), (1, .inl v1), (2, .inl v2), (3, .inl v3), (4, .inl v4)] rfl ?_
      refine aw_iconst X (0 : Int32) dX1_byRank_66 (by decide) ?_
      refine aw_istore X dX1_byRank_67 (by decide) [(8, .inl (0 : Int32)), (6, .inr (.inl (v3.toInt64))), (5, .inl y3.1), (0, .inr (.inr (some this))), (1, .inl v1), (2, .inl v2), (3, .inl v3), (4, .inl v4)] rfl ?_
      refine aw_aload_n X dX1_byRank_69 3 0 rfl rfl ?_
      refine aw_iconst X (0 : Int32) dX1_byRank_70 (by decide) ?_
      obtain ⟨s9, hs9, h⟩ := bind_some h
      refine aw_pfI X fl_X1_151 dX1_byRank_71 hs9 ?_
      obtain ⟨e25, h26, h⟩ := bind_some h
      refine aw_sub [(0, .inr (.inr (some this))), (1, .inl v1), (2, .inl v2), (4, .inl v4), (6, .inr (.inl (v3.toInt64))), (8, .inl (0 : Int32))] [3, 4, 5, 7, 1, 0] rfl ?_
      refine aw_it (fun s => AW C 74 [(0, .inr (.inr (some this))), (1, .inl v1), (2, .inl v2), (4, .inl v4), (6, .inr (.inl s.1)), (8, .inl s.2.1)] [] s.2.2 (AQ C (some (.inl y.1)) y.2)) (fun e => AW C 177 [(0, .inr (.inr (some this))), (2, .inl v2), (4, .inl v4)] [] e (AQ C (some (.inl y.1)) y.2)) (fun s r hr kH kE => wX1_byRank_l74 X φ this v1 v2 v4 s.1 s.2.1 s.2.2 r hr kH kE) φ _ e25 h26 ?_
      refine aw_aload_n X dX1_byRank_177 0 0 rfl rfl ?_
      refine aw_iload X dX1_byRank_178 2 rfl ?_
      obtain ⟨y27, hy27, h⟩ := bind_some h
      refine aw_cV X (st := []) hy27 [.inl v4] rfl rfl ml_X1_214 (fun o h => AX1_comesToRow (Cx.ok X) φ (d + 2) _ _ _ _ h) dX1_byRank_180 (Nat.le_of_ble_eq_true rfl) ?_
      refine aw_iload_n X dX1_byRank_183 1 2 rfl rfl ?_
      cases h
      exact aw_iret X dX1_byRank_184
    · rw [if_neg c8] at h
      refine aw_bipush X (-9 : Int32) dX1_byRank_59 (by decide) ?_
      cases h
      exact aw_iret X dX1_byRank_61
  · rw [if_neg c4] at h
    refine aw_iload X dX1_byRank_39 0 rfl ?_
    cases h
    exact aw_iret X dX1_byRank_41
theorem wX1_byRank_b27 {C : CT} {d : Nat} (X : Cx C cX1_byRank RX1 (some .int) 12 (d + 3)) (φ : Nat) (this : Nat) (v1 : Int32) (v2 : Int32) (v3 : Int32) (v4 : Int32) (k0 : Option Nat) (σ : St) (y : Int32 × St) (h : fX1_byRank_b27 φ this v1 v2 v3 v4 k0 σ = some y)  : AW C 27 [(0, .inr (.inr (some this))), (1, .inl v1), (2, .inl v2), (3, .inl v3), (4, .inl v4)] [.inr (.inr k0)] σ (AQ C (some (.inl y.1)) y.2) := by
  unfold fX1_byRank_b27 at h
  refine aw_iconst X (0 : Int32) dX1_byRank_27 (by decide) ?_
  exact wX1_byRank_b28 X φ this v1 v2 v3 v4 k0 (0 : Int32) σ y h
theorem wX1_byRank {C : CT} {d : Nat} (X : Cx C cX1_byRank RX1 (some .int) 12 (d + 3)) (φ : Nat) (this : Nat) (v1 : Int32) (v2 : Int32) (v3 : Int32) (v4 : Int32) (σ : St) (y : Int32 × St) (h : fX1_byRank φ this v1 v2 v3 v4 σ = some y) : AW C 0 [(0, .inr (.inr (some this))), (1, .inl v1), (2, .inl v2), (3, .inl v3), (4, .inl v4)] [] σ (AQ C (some (.inl y.1)) y.2) := by
  unfold fX1_byRank at h
  refine aw_aload_n X dX1_byRank_0 0 0 rfl rfl ?_
  refine aw_iload_n X dX1_byRank_1 2 2 rfl rfl ?_
  refine aw_iconst X (0 : Int32) dX1_byRank_2 (by decide) ?_
  refine aw_bipush X (40 : Int32) dX1_byRank_3 (by decide) ?_
  obtain ⟨y1, hy1, h⟩ := bind_some h
  refine aw_callS X (st := [.inr (.inr (some this))]) [.inl v2, .inl (0 : Int32), .inl (40 : Int32)] rfl ml_X1_117 (AX1_in (Cx.ok X) φ (d + 2) _ _ _ _ _  hy1) dX1_byRank_5 (Nat.le_of_ble_eq_true rfl) ?_
  refine aw_if_eq X 27 dX1_byRank_8 rfl (fun c2 => ?_) (fun c2 => ?_)
  · rw [if_pos c2] at h
    exact wX1_byRank_b27 X φ this v1 v2 v3 v4 (some this) σ y h
  · rw [if_neg c2] at h
    refine aw_iload_n X dX1_byRank_11 3 3 rfl rfl ?_
    refine aw_if_lt X 27 dX1_byRank_12 rfl (fun c28 => ?_) (fun c28 => ?_)
    · rw [if_pos c28] at h
      exact wX1_byRank_b27 X φ this v1 v2 v3 v4 (some this) σ y h
    · rw [if_neg c28] at h
      refine aw_iload X dX1_byRank_15 4 rfl ?_
      obtain ⟨y29, hy29, h⟩ := bind_some h
      refine aw_callS X (st := [.inr (.inr (some this))]) [.inl v4] rfl ml_X1_130 (AX1_isRow (Cx.ok X) φ (d + 1) _ _ _  hy29) dX1_byRank_17 (Nat.le_of_ble_eq_true rfl) ?_
      refine aw_if_eq X 27 dX1_byRank_20 rfl (fun c30 => ?_) (fun c30 => ?_)
      · rw [if_pos c30] at h
        exact wX1_byRank_b27 X φ this v1 v2 v3 v4 (some this) σ y h
      · rw [if_neg c30] at h
        refine aw_iconst X (1 : Int32) dX1_byRank_23 (by decide) ?_
        refine aw_goto X 28 dX1_byRank_24 rfl ?_
        exact wX1_byRank_b28 X φ this v1 v2 v3 v4 (some this) (1 : Int32) σ y h
theorem AX1_byRank {E : AE} {l : Launch} (hE : EOK E l) (φ d : Nat) (this : Nat) (v1 : Int32) (v2 : Int32) (v3 : Int32) (v4 : Int32) (σ : St) (y : Int32 × St) (h : fX1_byRank φ this v1 v2 v3 v4 σ = some y) : AMet E l yX1_byRank (ws_ yX1_byRank cX1_byRank 12 (some .int)) (d + 3) [.inr (.inr (some this)), .inl v1, .inl v2, .inl v3, .inl v4] σ (some (.inl y.1)) y.2 := by
  refine amet_of hE (by decide +kernel) (Nat.le_of_ble_eq_true rfl) fun C e1 e2 X XI => ?_
  subst e1
  exact wX1_byRank X φ this v1 v2 v3 v4 σ y h
theorem wX1_archesFrom_l15 {C : CT} {d : Nat} {Z : State → Prop} (X : Cx C cX1_archesFrom RX1 (some .int) 5 (d + 1)) (φ : Nat) (this : Nat) (v1 : Int32) (v3 : Int32) (v4 : Int32) (σ : St) (y : (Int32 × Int32 × St) ⊕ (Int32 × St)) (h : fX1_archesFrom_l15 φ this v1 v3 v4 σ = some y) (kH : ∀ s : Int32 × Int32 × St, y = .inl s → AW C 15 [(0, .inr (.inr (some this))), (1, .inl v1), (3, .inl s.1), (4, .inl s.2.1)] [] s.2.2 Z) (kE0 : ∀ e : Int32 × St, y = .inr e → AW C 81 [(3, .inl e.1)] [] e.2 Z) : AW C 15 [(0, .inr (.inr (some this))), (1, .inl v1), (3, .inl v3), (4, .inl v4)] [] σ Z := by
  unfold fX1_archesFrom_l15 at h
  refine aw_iload X dX1_archesFrom_15 3 rfl ?_
  refine aw_aload_n X dX1_archesFrom_17 0 0 rfl rfl ?_
  obtain ⟨x3, hx3, h⟩ := bind_some h
  refine aw_gfR X fl_X1_29 dX1_archesFrom_18 hx3 ?_
  refine aw_iload_n X dX1_archesFrom_21 1 1 rfl rfl ?_
  obtain ⟨x4, hx4, h⟩ := bind_some h
  refine aw_iald X dX1_archesFrom_22 hx4 ?_
  refine aw_icmp_ge X 81 dX1_archesFrom_23 rfl (fun c5 => ?_) (fun c5 => ?_)
  · rw [if_pos c5] at h
    cases h
    refine aw_sub [(3, .inl v3)] [2] rfl ?_
    exact kE0 (v3, σ) rfl
  · rw [if_neg c5] at h
    refine aw_aload_n X dX1_archesFrom_26 0 0 rfl rfl ?_
    refine aw_dup X dX1_archesFrom_27 rfl ?_
    obtain ⟨x6, hx6, h⟩ := bind_some h
    refine aw_gfI X fl_X1_227 dX1_archesFrom_28 hx6 ?_
    refine aw_iconst X (1 : Int32) dX1_archesFrom_31 (by decide) ?_
    refine aw_aload_n X dX1_archesFrom_32 0 0 rfl rfl ?_
    refine aw_iload_n X dX1_archesFrom_33 1 1 rfl rfl ?_
    refine aw_iload X dX1_archesFrom_34 3 rfl ?_
    obtain ⟨y7, hy7, h⟩ := bind_some h
    refine aw_cV X (st := [.inl (1 : Int32), .inl x6, .inr (.inr (some this))]) hy7 [.inl v1, .inl v4] rfl rfl ml_X1_148 (fun o h => AX1_at0 (Cx.ok X) φ d _ _ _ _ _ h) dX1_archesFrom_36 (Nat.le_of_ble_eq_true rfl) ?_
    refine aw_ishl X dX1_archesFrom_39 ?_
    refine aw_ior X dX1_archesFrom_40 ?_
    obtain ⟨s8, hs8, h⟩ := bind_some h
    refine aw_pfI X fl_X1_227 dX1_archesFrom_41 hs8 ?_
    refine aw_aload_n X dX1_archesFrom_44 0 0 rfl rfl ?_
    obtain ⟨x9, hx9, h⟩ := bind_some h
    refine aw_gfI X fl_X1_227 dX1_archesFrom_45 hx9 ?_
    refine aw_iconst X (1 : Int32) dX1_archesFrom_48 (by decide) ?_
    refine aw_aload_n X dX1_archesFrom_49 0 0 rfl rfl ?_
    obtain ⟨x10, hx10, h⟩ := bind_some h
    refine aw_gfI X fl_X1_110 dX1_archesFrom_50 hx10 ?_
    refine aw_ishl X dX1_archesFrom_53 ?_
    refine aw_iconst X (1 : Int32) dX1_archesFrom_54 (by decide) ?_
    refine aw_isub X dX1_archesFrom_55 ?_
    refine aw_icmp_ne X 75 dX1_archesFrom_56 rfl (fun c11 => ?_) (fun c11 => ?_)
    · rw [if_neg c11] at h
      refine aw_iinc X dX1_archesFrom_75 3 rfl (1 : Int32) rfl (by decide) [(4, .inl (v4 + (1 : Int32))), (0, .inr (.inr (some this))), (1, .inl v1), (3, .inl v3)] rfl ?_
      refine aw_goto X 15 dX1_archesFrom_78 rfl ?_
      cases h
      refine aw_sub [(0, .inr (.inr (some this))), (1, .inl v1), (3, .inl v3), (4, .inl (v4 + (1 : Int32)))] [1, 2, 3, 0] rfl ?_
      exact kH (v3, (v4 + (1 : Int32)), s8) rfl
    · rw [if_pos c11] at h
      refine aw_iinc X dX1_archesFrom_59 2 rfl (1 : Int32) rfl (by decide) [(3, .inl (v3 + (1 : Int32))), (0, .inr (.inr (some this))), (1, .inl v1), (4, .inl v4)] rfl ?_
      refine aw_aload_n X dX1_archesFrom_62 1 0 rfl rfl ?_
      refine aw_iload X dX1_archesFrom_63 3 rfl ?_
      refine aw_iconst X (1 : Int32) dX1_archesFrom_65 (by decide) ?_
      refine aw_iadd X dX1_archesFrom_66 ?_
      obtain ⟨s12, hs12, h⟩ := bind_some h
      refine aw_pfI X fl_X1_224 dX1_archesFrom_67 hs12 ?_
      refine aw_aload_n X dX1_archesFrom_70 1 0 rfl rfl ?_
      refine aw_iconst X (0 : Int32) dX1_archesFrom_71 (by decide) ?_
      obtain ⟨s13, hs13, h⟩ := bind_some h
      refine aw_pfI X fl_X1_227 dX1_archesFrom_72 hs13 ?_
      refine aw_iinc X dX1_archesFrom_75 3 rfl (1 : Int32) rfl (by decide) [(4, .inl (v4 + (1 : Int32))), (3, .inl (v3 + (1 : Int32))), (0, .inr (.inr (some this))), (1, .inl v1)] rfl ?_
      refine aw_goto X 15 dX1_archesFrom_78 rfl ?_
      cases h
      refine aw_sub [(0, .inr (.inr (some this))), (1, .inl v1), (3, .inl (v3 + (1 : Int32))), (4, .inl (v4 + (1 : Int32)))] [2, 3, 1, 0] rfl ?_
      exact kH ((v3 + (1 : Int32)), (v4 + (1 : Int32)), s13) rfl
theorem wX1_archesFrom {C : CT} {d : Nat} (X : Cx C cX1_archesFrom RX1 (some .int) 5 (d + 1)) (φ : Nat) (this : Nat) (v1 : Int32) (v2 : Int32) (σ : St) (y : Int32 × St) (h : fX1_archesFrom φ this v1 v2 σ = some y) : AW C 0 [(0, .inr (.inr (some this))), (1, .inl v1), (2, .inl v2)] [] σ (AQ C (some (.inl y.1)) y.2) := by
  unfold fX1_archesFrom at h
  refine aw_iconst X (0 : Int32) dX1_archesFrom_0 (by decide) ?_
  refine aw_istore_n X dX1_archesFrom_1 3 rfl (by decide) [(3, .inl (0 : Int32)), (0, .inr (.inr (some this))), (1, .inl v1), (2, .inl v2)] rfl ?_
  refine aw_aload_n X dX1_archesFrom_2 1 0 rfl rfl ?_
  refine aw_iload_n X dX1_archesFrom_3 3 2 rfl rfl ?_
  obtain ⟨s1, hs1, h⟩ := bind_some h
  refine aw_pfI X fl_X1_224 dX1_archesFrom_4 hs1 ?_
  refine aw_aload_n X dX1_archesFrom_7 1 0 rfl rfl ?_
  refine aw_iconst X (0 : Int32) dX1_archesFrom_8 (by decide) ?_
  obtain ⟨s2, hs2, h⟩ := bind_some h
  refine aw_pfI X fl_X1_227 dX1_archesFrom_9 hs2 ?_
  refine aw_iload_n X dX1_archesFrom_12 3 2 rfl rfl ?_
  refine aw_istore X dX1_archesFrom_13 (by decide) [(4, .inl v2), (3, .inl (0 : Int32)), (0, .inr (.inr (some this))), (1, .inl v1), (2, .inl v2)] rfl ?_
  obtain ⟨e14, h15, h⟩ := bind_some h
  refine aw_sub [(0, .inr (.inr (some this))), (1, .inl v1), (3, .inl (0 : Int32)), (4, .inl v2)] [2, 3, 1, 0] rfl ?_
  refine aw_it (fun s => AW C 15 [(0, .inr (.inr (some this))), (1, .inl v1), (3, .inl s.1), (4, .inl s.2.1)] [] s.2.2 (AQ C (some (.inl y.1)) y.2)) (fun e => AW C 81 [(3, .inl e.1)] [] e.2 (AQ C (some (.inl y.1)) y.2)) (fun s r hr kH kE => wX1_archesFrom_l15 X φ this v1 s.1 s.2.1 s.2.2 r hr kH kE) φ _ e14 h15 ?_
  refine aw_iload_n X dX1_archesFrom_81 0 3 rfl rfl ?_
  cases h
  exact aw_iret X dX1_archesFrom_82
theorem AX1_archesFrom {E : AE} {l : Launch} (hE : EOK E l) (φ d : Nat) (this : Nat) (v1 : Int32) (v2 : Int32) (σ : St) (y : Int32 × St) (h : fX1_archesFrom φ this v1 v2 σ = some y) : AMet E l yX1_archesFrom (ws_ yX1_archesFrom cX1_archesFrom 5 (some .int)) (d + 1) [.inr (.inr (some this)), .inl v1, .inl v2] σ (some (.inl y.1)) y.2 := by
  refine amet_of hE (by decide +kernel) (Nat.le_of_ble_eq_true rfl) fun C e1 e2 X XI => ?_
  subst e1
  exact wX1_archesFrom X φ this v1 v2 σ y h
theorem wX1_arches {C : CT} {d : Nat} (X : Cx C cX1_arches RX1 (some .int) 4 (d + 3)) (φ : Nat) (this : Nat) (v1 : Int32) (σ : St) (y : Int32 × St) (h : fX1_arches φ this v1 σ = some y) : AW C 0 [(0, .inr (.inr (some this))), (1, .inl v1)] [] σ (AQ C (some (.inl y.1)) y.2) := by
  unfold fX1_arches at h
  refine aw_aload_n X dX1_arches_0 0 0 rfl rfl ?_
  refine aw_iconst X (1 : Int32) dX1_arches_1 (by decide) ?_
  refine aw_iload_n X dX1_arches_2 1 1 rfl rfl ?_
  obtain ⟨y1, hy1, h⟩ := bind_some h
  refine aw_cV X (st := []) hy1 [.inl (1 : Int32), .inl v1] rfl rfl ml_X1_192 (fun o h => AX1_needWord (Cx.ok X) φ d _ _ _ _ _ h) dX1_arches_3 (Nat.le_of_ble_eq_true rfl) ?_
  refine aw_istore_n X dX1_arches_6 2 rfl (by decide) [(2, .inl y1.1), (0, .inr (.inr (some this))), (1, .inl v1)] rfl ?_
  refine aw_iload_n X dX1_arches_7 0 2 rfl rfl ?_
  refine aw_if_ge X 13 dX1_arches_8 rfl (fun c2 => ?_) (fun c2 => ?_)
  · rw [if_pos c2] at h
    refine aw_aload_n X dX1_arches_13 1 0 rfl rfl ?_
    refine aw_iload_n X dX1_arches_14 2 1 rfl rfl ?_
    refine aw_iconst X (0 : Int32) dX1_arches_15 (by decide) ?_
    obtain ⟨y3, hy3, h⟩ := bind_some h
    refine aw_cV X (st := []) hy3 [.inl v1, .inl (0 : Int32)] rfl rfl ml_X1_230 (fun o h => AX1_archesFrom (Cx.ok X) φ (d + 1) _ _ _ _ _ h) dX1_arches_16 (Nat.le_of_ble_eq_true rfl) ?_
    refine aw_istore_n X dX1_arches_19 3 rfl (by decide) [(3, .inl y3.1), (2, .inl y1.1), (0, .inr (.inr (some this))), (1, .inl v1)] rfl ?_
    refine aw_aload_n X dX1_arches_20 2 0 rfl rfl ?_
    refine aw_aload_n X dX1_arches_21 2 0 rfl rfl ?_
    obtain ⟨x4, hx4, h⟩ := bind_some h
    refine aw_gfR X fl_X1_29 dX1_arches_22 hx4 ?_
    refine aw_iload_n X dX1_arches_25 3 1 rfl rfl ?_
    obtain ⟨x5, hx5, h⟩ := bind_some h
    refine aw_iald X dX1_arches_26 hx5 ?_
    refine aw_aload_n X dX1_arches_27 2 0 rfl rfl ?_
    obtain ⟨x6, hx6, h⟩ := bind_some h
    refine aw_gfI X fl_X1_224 dX1_arches_28 hx6 ?_
    refine aw_isub X dX1_arches_31 ?_
    refine aw_iload_n X dX1_arches_32 0 3 rfl rfl ?_
    obtain ⟨y7, hy7, h⟩ := bind_some h
    refine aw_cV X (st := []) hy7 [.inl (x5 - x6), .inl y3.1] rfl rfl ml_X1_142 (fun o h => AX1_tells (Cx.ok X) φ (d + 2) _ _ _ _ _ h) dX1_arches_33 (Nat.le_of_ble_eq_true rfl) ?_
    cases h
    exact aw_iret X dX1_arches_36
  · rw [if_neg c2] at h
    refine aw_iload_n X dX1_arches_11 0 2 rfl rfl ?_
    cases h
    exact aw_iret X dX1_arches_12
theorem AX1_arches {E : AE} {l : Launch} (hE : EOK E l) (φ d : Nat) (this : Nat) (v1 : Int32) (σ : St) (y : Int32 × St) (h : fX1_arches φ this v1 σ = some y) : AMet E l yX1_arches (ws_ yX1_arches cX1_arches 4 (some .int)) (d + 3) [.inr (.inr (some this)), .inl v1] σ (some (.inl y.1)) y.2 := by
  refine amet_of hE (by decide +kernel) (Nat.le_of_ble_eq_true rfl) fun C e1 e2 X XI => ?_
  subst e1
  exact wX1_arches X φ this v1 σ y h
theorem wX1_hasAll {C : CT} {d : Nat} (X : Cx C cX1_hasAll RX1 (some .boolean) 4 (d + 2)) (φ : Nat) (this : Nat) (v1 : Int32) (v2 : Int32) (v3 : Int32) (σ : St) (y : Int32 × St) (h : fX1_hasAll φ this v1 v2 v3 σ = some y) : AW C 0 [(0, .inr (.inr (some this))), (1, .inl v1), (2, .inl v2), (3, .inl v3)] [] σ (AQ C (some (.inl y.1)) y.2) := by
  unfold fX1_hasAll at h
  refine aw_iload_n X dX1_hasAll_0 2 2 rfl rfl ?_
  refine aw_bipush X (-9 : Int32) dX1_hasAll_1 (by decide) ?_
  refine aw_icmp_eq X 22 dX1_hasAll_3 rfl (fun c1 => ?_) (fun c1 => ?_)
  · rw [if_pos c1] at h
    refine aw_iconst X (0 : Int32) dX1_hasAll_22 (by decide) ?_
    cases h
    exact aw_zret X (Or.inl rfl) dX1_hasAll_23
  · rw [if_neg c1] at h
    refine aw_aload_n X dX1_hasAll_6 0 0 rfl rfl ?_
    refine aw_iload_n X dX1_hasAll_7 1 1 rfl rfl ?_
    refine aw_iload_n X dX1_hasAll_8 2 2 rfl rfl ?_
    refine aw_iconst X (1 : Int32) dX1_hasAll_9 (by decide) ?_
    refine aw_iadd X dX1_hasAll_10 ?_
    obtain ⟨y2, hy2, h⟩ := bind_some h
    refine aw_cV X (st := []) hy2 [.inl v1, .inl (v2 + (1 : Int32))] rfl rfl ml_X1_230 (fun o h => AX1_archesFrom (Cx.ok X) φ d _ _ _ _ _ h) dX1_hasAll_11 (Nat.le_of_ble_eq_true rfl) ?_
    refine aw_iload_n X dX1_hasAll_14 3 3 rfl rfl ?_
    refine aw_icmp_lt X 22 dX1_hasAll_15 rfl (fun c3 => ?_) (fun c3 => ?_)
    · rw [if_pos c3] at h
      refine aw_iconst X (0 : Int32) dX1_hasAll_22 (by decide) ?_
      cases h
      exact aw_zret X (Or.inl rfl) dX1_hasAll_23
    · rw [if_neg c3] at h
      refine aw_iconst X (1 : Int32) dX1_hasAll_18 (by decide) ?_
      refine aw_goto X 23 dX1_hasAll_19 rfl ?_
      cases h
      exact aw_zret X (Or.inr rfl) dX1_hasAll_23
theorem AX1_hasAll {E : AE} {l : Launch} (hE : EOK E l) (φ d : Nat) (this : Nat) (v1 : Int32) (v2 : Int32) (v3 : Int32) (σ : St) (y : Int32 × St) (h : fX1_hasAll φ this v1 v2 v3 σ = some y) : AMet E l yX1_hasAll (ws_ yX1_hasAll cX1_hasAll 4 (some .boolean)) (d + 2) [.inr (.inr (some this)), .inl v1, .inl v2, .inl v3] σ (some (.inl y.1)) y.2 := by
  refine amet_of hE (by decide +kernel) (Nat.le_of_ble_eq_true rfl) fun C e1 e2 X XI => ?_
  subst e1
  exact wX1_hasAll X φ this v1 v2 v3 σ y h
theorem wX1_layAbsent_l21 {C : CT} {d : Nat} {Z : State → Prop} (X : Cx C cX1_layAbsent RX1 none 7 (d + 3)) (φ : Nat) (this : Nat) (v1 : Int32) (v2 : Int32) (v3 : Int32) (v4 : Int32) (v5 : Int32) (σ : St) (y : (Int32 × St) ⊕ (Int32 × St)) (h : fX1_layAbsent_l21 φ this v1 v2 v3 v4 v5 σ = some y) (kH : ∀ s : Int32 × St, y = .inl s → AW C 21 [(0, .inr (.inr (some this))), (1, .inl v1), (2, .inl v2), (3, .inl v3), (4, .inl v4), (5, .inl s.1)] [] s.2 Z) (kE0 : ∀ e : Int32 × St, y = .inr e → AW C 56 [(0, .inr (.inr (some this))), (1, .inl v1), (2, .inl v2), (3, .inl v3), (4, .inl v4), (5, .inl e.1)] [] e.2 Z) : AW C 21 [(0, .inr (.inr (some this))), (1, .inl v1), (2, .inl v2), (3, .inl v3), (4, .inl v4), (5, .inl v5)] [] σ Z := by
  unfold fX1_layAbsent_l21 at h
  refine aw_iload X dX1_layAbsent_21 4 rfl ?_
  refine aw_if_ne X 56 dX1_layAbsent_23 rfl (fun c4 => ?_) (fun c4 => ?_)
  · rw [if_neg c4] at h
    cases h
    exact kE0 (v5, σ) rfl
  · rw [if_pos c4] at h
    refine aw_aload_n X dX1_layAbsent_26 0 0 rfl rfl ?_
    refine aw_iload_n X dX1_layAbsent_27 1 1 rfl rfl ?_
    refine aw_aload_n X dX1_layAbsent_28 0 0 rfl rfl ?_
    refine aw_iload_n X dX1_layAbsent_29 1 1 rfl rfl ?_
    refine aw_iload_n X dX1_layAbsent_30 3 3 rfl rfl ?_
    refine aw_iload X dX1_layAbsent_31 5 rfl ?_
    obtain ⟨y5, hy5, h⟩ := bind_some h
    refine aw_cV X (st := [.inl v1, .inr (.inr (some this))]) hy5 [.inl v1, .inl v3, .inl v5] rfl rfl ml_X1_206 (fun o h => AX1_next (Cx.ok X) φ (d + 1) _ _ _ _ _ _ h) dX1_layAbsent_33 (Nat.le_of_ble_eq_true rfl) ?_
    refine aw_iload_n X dX1_layAbsent_36 2 2 rfl rfl ?_
    refine aw_iconst X (1 : Int32) dX1_layAbsent_37 (by decide) ?_
    refine aw_isub X dX1_layAbsent_38 ?_
    refine aw_aload_n X dX1_layAbsent_39 0 0 rfl rfl ?_
    obtain ⟨x6, hx6, h⟩ := bind_some h
    refine aw_gfI X fl_X1_151 dX1_layAbsent_40 hx6 ?_
    refine aw_isub X dX1_layAbsent_43 ?_
    obtain ⟨y7, hy7, h⟩ := bind_some h
    refine aw_cV X (st := []) hy7 [.inl v1, .inl y5, .inl ((v2 - (1 : Int32)) - x6)] rfl rfl ml_X1_233 (fun o h => AX1_hasAll (Cx.ok X) φ d _ _ _ _ _ _ h) dX1_layAbsent_44 (Nat.le_of_ble_eq_true rfl) ?_
    refine aw_if_eq X 56 dX1_layAbsent_47 rfl (fun c8 => ?_) (fun c8 => ?_)
    · rw [if_pos c8] at h
      cases h
      exact kE0 (v5, y7.2) rfl
    · rw [if_neg c8] at h
      refine aw_iinc X dX1_layAbsent_50 5 rfl (1 : Int32) rfl (by decide) [(5, .inl (v5 + (1 : Int32))), (0, .inr (.inr (some this))), (1, .inl v1), (2, .inl v2), (3, .inl v3), (4, .inl v4)] rfl ?_
      refine aw_goto X 21 dX1_layAbsent_53 rfl ?_
      cases h
      refine aw_sub [(0, .inr (.inr (some this))), (1, .inl v1), (2, .inl v2), (3, .inl v3), (4, .inl v4), (5, .inl (v5 + (1 : Int32)))] [1, 2, 3, 4, 5, 0] rfl ?_
      exact kH ((v5 + (1 : Int32)), y7.2) rfl
theorem wX1_layAbsent_b124 {C : CT} {d : Nat} {Z : State → Prop} (X : Cx C cX1_layAbsent RX1 none 7 (d + 3)) (φ : Nat) (this : Nat) (v1 : Int32) (v2 : Int32) (v3 : Int32) (v4 : Int32) (σ : St) (y : (Int32 × Int32 × St) ⊕ (St)) (h : fX1_layAbsent_b124 φ this v1 v2 v3 v4 σ = some y) (kH : ∀ s : Int32 × Int32 × St, y = .inl s → AW C 10 [(0, .inr (.inr (some this))), (1, .inl v1), (2, .inl v2), (3, .inl s.1), (4, .inl s.2.1)] [] s.2.2 Z) (kE0 : ∀ e : St, y = .inr e → AW C 137 [] [] e Z) : AW C 124 [(0, .inr (.inr (some this))), (1, .inl v1), (2, .inl v2), (3, .inl v3), (4, .inl v4)] [] σ Z := by
  unfold fX1_layAbsent_b124 at h
  refine aw_aload_n X dX1_layAbsent_124 0 0 rfl rfl ?_
  refine aw_dup X dX1_layAbsent_125 rfl ?_
  obtain ⟨x17, hx17, h⟩ := bind_some h
  refine aw_gfI X fl_X1_151 dX1_layAbsent_126 hx17 ?_
  refine aw_iconst X (1 : Int32) dX1_layAbsent_129 (by decide) ?_
  refine aw_iadd X dX1_layAbsent_130 ?_
  obtain ⟨s18, hs18, h⟩ := bind_some h
  refine aw_pfI X fl_X1_151 dX1_layAbsent_131 hs18 ?_
  refine aw_goto X 10 dX1_layAbsent_134 rfl ?_
  cases h
  exact kH (v3, v4, s18) rfl
theorem wX1_layAbsent_b103 {C : CT} {d : Nat} {Z : State → Prop} (X : Cx C cX1_layAbsent RX1 none 7 (d + 3)) (φ : Nat) (this : Nat) (v1 : Int32) (v2 : Int32) (v4 : Int32) (v5 : Int32) (k0 : Int32) (σ : St) (y : (Int32 × Int32 × St) ⊕ (St)) (h : fX1_layAbsent_b103 φ this v1 v2 v4 v5 k0 σ = some y) (kH : ∀ s : Int32 × Int32 × St, y = .inl s → AW C 10 [(0, .inr (.inr (some this))), (1, .inl v1), (2, .inl v2), (3, .inl s.1), (4, .inl s.2.1)] [] s.2.2 Z) (kE0 : ∀ e : St, y = .inr e → AW C 137 [] [] e Z) : AW C 103 [(0, .inr (.inr (some this))), (1, .inl v1), (2, .inl v2), (4, .inl v4), (5, .inl v5)] [.inl k0] σ Z := by
  unfold fX1_layAbsent_b103 at h
  refine aw_istore_n X dX1_layAbsent_103 3 rfl (by decide) [(3, .inl k0), (0, .inr (.inr (some this))), (1, .inl v1), (2, .inl v2), (4, .inl v4), (5, .inl v5)] rfl ?_
  refine aw_aload_n X dX1_layAbsent_104 1 0 rfl rfl ?_
  obtain ⟨x15, hx15, h⟩ := bind_some h
  refine aw_gfI X fl_X1_151 dX1_layAbsent_105 hx15 ?_
  refine aw_bipush X (40 : Int32) dX1_layAbsent_108 (by decide) ?_
  refine aw_icmp_ge X 124 dX1_layAbsent_110 rfl (fun c16 => ?_) (fun c16 => ?_)
  · rw [if_pos c16] at h
    refine aw_sub [(0, .inr (.inr (some this))), (1, .inl v1), (2, .inl v2), (3, .inl k0), (4, .inl v4)] [1, 2, 3, 0, 4] rfl ?_
    exact wX1_layAbsent_b124 X φ this v1 v2 k0 v4 σ y h kH kE0
  · rw [if_neg c16] at h
    refine aw_aload_n X dX1_layAbsent_113 1 0 rfl rfl ?_
    obtain ⟨x19, hx19, h⟩ := bind_some h
    refine aw_gfR X fl_X1_44 dX1_layAbsent_114 hx19 ?_
    refine aw_aload_n X dX1_layAbsent_117 1 0 rfl rfl ?_
    obtain ⟨x20, hx20, h⟩ := bind_some h
    refine aw_gfI X fl_X1_151 dX1_layAbsent_118 hx20 ?_
    refine aw_iload X dX1_layAbsent_121 5 rfl ?_
    obtain ⟨s21, hs21, h⟩ := bind_some h
    refine aw_iast X dX1_layAbsent_123 hs21 ?_
    refine aw_sub [(0, .inr (.inr (some this))), (1, .inl v1), (2, .inl v2), (3, .inl k0), (4, .inl v4)] [1, 2, 3, 0, 4] rfl ?_
    exact wX1_layAbsent_b124 X φ this v1 v2 k0 v4 s21 y h kH kE0
theorem wX1_layAbsent_b88 {C : CT} {d : Nat} {Z : State → Prop} (X : Cx C cX1_layAbsent RX1 none 7 (d + 3)) (φ : Nat) (this : Nat) (v1 : Int32) (v2 : Int32) (v3 : Int32) (v5 : Int32) (v6 : Int32) (k0 : Int32) (σ : St) (y : (Int32 × Int32 × St) ⊕ (St)) (h : fX1_layAbsent_b88 φ this v1 v2 v3 v5 v6 k0 σ = some y) (kH : ∀ s : Int32 × Int32 × St, y = .inl s → AW C 10 [(0, .inr (.inr (some this))), (1, .inl v1), (2, .inl v2), (3, .inl s.1), (4, .inl s.2.1)] [] s.2.2 Z) (kE0 : ∀ e : St, y = .inr e → AW C 137 [] [] e Z) : AW C 88 [(0, .inr (.inr (some this))), (1, .inl v1), (2, .inl v2), (3, .inl v3), (5, .inl v5), (6, .inl v6)] [.inl k0] σ Z := by
  unfold fX1_layAbsent_b88 at h
  refine aw_istore X dX1_layAbsent_88 (by decide) [(4, .inl k0), (0, .inr (.inr (some this))), (1, .inl v1), (2, .inl v2), (3, .inl v3), (5, .inl v5), (6, .inl v6)] rfl ?_
  refine aw_iload X dX1_layAbsent_90 0 rfl ?_
  refine aw_if_eq X 99 dX1_layAbsent_92 rfl (fun c14 => ?_) (fun c14 => ?_)
  · rw [if_pos c14] at h
    refine aw_iload X dX1_layAbsent_99 6 rfl ?_
    refine aw_iconst X (1 : Int32) dX1_layAbsent_101 (by decide) ?_
    refine aw_iadd X dX1_layAbsent_102 ?_
    refine aw_sub [(0, .inr (.inr (some this))), (1, .inl v1), (2, .inl v2), (4, .inl k0), (5, .inl v5)] [1, 2, 3, 0, 5] rfl ?_
    exact wX1_layAbsent_b103 X φ this v1 v2 k0 v5 (v6 + (1 : Int32)) σ y h kH kE0
  · rw [if_neg c14] at h
    refine aw_iload_n X dX1_layAbsent_95 4 3 rfl rfl ?_
    refine aw_goto X 103 dX1_layAbsent_96 rfl ?_
    refine aw_sub [(0, .inr (.inr (some this))), (1, .inl v1), (2, .inl v2), (4, .inl k0), (5, .inl v5)] [1, 2, 3, 0, 5] rfl ?_
    exact wX1_layAbsent_b103 X φ this v1 v2 k0 v5 v3 σ y h kH kE0
theorem wX1_layAbsent_b74 {C : CT} {d : Nat} {Z : State → Prop} (X : Cx C cX1_layAbsent RX1 none 7 (d + 3)) (φ : Nat) (this : Nat) (v1 : Int32) (v2 : Int32) (v3 : Int32) (v5 : Int32) (k0 : Int32) (σ : St) (y : (Int32 × Int32 × St) ⊕ (St)) (h : fX1_layAbsent_b74 φ this v1 v2 v3 v5 k0 σ = some y) (kH : ∀ s : Int32 × Int32 × St, y = .inl s → AW C 10 [(0, .inr (.inr (some this))), (1, .inl v1), (2, .inl v2), (3, .inl s.1), (4, .inl s.2.1)] [] s.2.2 Z) (kE0 : ∀ e : St, y = .inr e → AW C 137 [] [] e Z) : AW C 74 [(0, .inr (.inr (some this))), (1, .inl v1), (2, .inl v2), (3, .inl v3), (5, .inl v5)] [.inl k0] σ Z := by
  unfold fX1_layAbsent_b74 at h
  refine aw_istore X dX1_layAbsent_74 (by decide) [(6, .inl k0), (0, .inr (.inr (some this))), (1, .inl v1), (2, .inl v2), (3, .inl v3), (5, .inl v5)] rfl ?_
  refine aw_iload X dX1_layAbsent_76 0 rfl ?_
  refine aw_bipush X (-9 : Int32) dX1_layAbsent_78 (by decide) ?_
  refine aw_icmp_ne X 87 dX1_layAbsent_80 rfl (fun c13 => ?_) (fun c13 => ?_)
  · rw [if_neg c13] at h
    refine aw_iconst X (0 : Int32) dX1_layAbsent_87 (by decide) ?_
    refine aw_sub [(0, .inr (.inr (some this))), (1, .inl v1), (2, .inl v2), (3, .inl v3), (5, .inl v5), (6, .inl k0)] [1, 2, 3, 4, 5, 0] rfl ?_
    exact wX1_layAbsent_b88 X φ this v1 v2 v3 v5 k0 (0 : Int32) σ y h kH kE0
  · rw [if_pos c13] at h
    refine aw_iconst X (1 : Int32) dX1_layAbsent_83 (by decide) ?_
    refine aw_goto X 88 dX1_layAbsent_84 rfl ?_
    refine aw_sub [(0, .inr (.inr (some this))), (1, .inl v1), (2, .inl v2), (3, .inl v3), (5, .inl v5), (6, .inl k0)] [1, 2, 3, 4, 5, 0] rfl ?_
    exact wX1_layAbsent_b88 X φ this v1 v2 v3 v5 k0 (1 : Int32) σ y h kH kE0
theorem wX1_layAbsent_l10 {C : CT} {d : Nat} {Z : State → Prop} (X : Cx C cX1_layAbsent RX1 none 7 (d + 3)) (φ : Nat) (this : Nat) (v1 : Int32) (v2 : Int32) (v3 : Int32) (v4 : Int32) (σ : St) (y : (Int32 × Int32 × St) ⊕ (St)) (h : fX1_layAbsent_l10 φ this v1 v2 v3 v4 σ = some y) (kH : ∀ s : Int32 × Int32 × St, y = .inl s → AW C 10 [(0, .inr (.inr (some this))), (1, .inl v1), (2, .inl v2), (3, .inl s.1), (4, .inl s.2.1)] [] s.2.2 Z) (kE0 : ∀ e : St, y = .inr e → AW C 137 [] [] e Z) : AW C 10 [(0, .inr (.inr (some this))), (1, .inl v1), (2, .inl v2), (3, .inl v3), (4, .inl v4)] [] σ Z := by
  unfold fX1_layAbsent_l10 at h
  refine aw_aload_n X dX1_layAbsent_10 0 0 rfl rfl ?_
  obtain ⟨x2, hx2, h⟩ := bind_some h
  refine aw_gfI X fl_X1_151 dX1_layAbsent_11 hx2 ?_
  refine aw_iload_n X dX1_layAbsent_14 2 2 rfl rfl ?_
  refine aw_icmp_ge X 137 dX1_layAbsent_15 rfl (fun c3 => ?_) (fun c3 => ?_)
  · rw [if_pos c3] at h
    cases h
    refine aw_sub [] [] rfl ?_
    exact kE0 σ rfl
  · rw [if_neg c3] at h
    refine aw_iconst X (0 : Int32) dX1_layAbsent_18 (by decide) ?_
    refine aw_istore X dX1_layAbsent_19 (by decide) [(5, .inl (0 : Int32)), (0, .inr (.inr (some this))), (1, .inl v1), (2, .inl v2), (3, .inl v3), (4, .inl v4)] rfl ?_
    obtain ⟨e9, h10, h⟩ := bind_some h
    refine aw_sub [(0, .inr (.inr (some this))), (1, .inl v1), (2, .inl v2), (3, .inl v3), (4, .inl v4), (5, .inl (0 : Int32))] [1, 2, 3, 4, 5, 0] rfl ?_
    refine aw_it (fun s => AW C 21 [(0, .inr (.inr (some this))), (1, .inl v1), (2, .inl v2), (3, .inl v3), (4, .inl v4), (5, .inl s.1)] [] s.2 Z) (fun e => AW C 56 [(0, .inr (.inr (some this))), (1, .inl v1), (2, .inl v2), (3, .inl v3), (4, .inl v4), (5, .inl e.1)] [] e.2 Z) (fun s r hr kH kE => wX1_layAbsent_l21 X φ this v1 v2 v3 v4 s.1 s.2 r hr kH kE) φ _ e9 h10 ?_
    refine aw_iload X dX1_layAbsent_56 4 rfl ?_
    refine aw_if_eq X 66 dX1_layAbsent_58 rfl (fun c11 => ?_) (fun c11 => ?_)
    · rw [if_pos c11] at h
      refine aw_aload_n X dX1_layAbsent_66 0 0 rfl rfl ?_
      refine aw_iload_n X dX1_layAbsent_67 1 1 rfl rfl ?_
      refine aw_iload_n X dX1_layAbsent_68 3 3 rfl rfl ?_
      refine aw_iload X dX1_layAbsent_69 5 rfl ?_
      obtain ⟨y12, hy12, h⟩ := bind_some h
      refine aw_cV X (st := []) hy12 [.inl v1, .inl v3, .inl e9.1] rfl rfl ml_X1_206 (fun o h => AX1_next (Cx.ok X) φ (d + 1) _ _ _ _ _ _ h) dX1_layAbsent_71 (Nat.le_of_ble_eq_true rfl) ?_
      refine aw_sub [(0, .inr (.inr (some this))), (1, .inl v1), (2, .inl v2), (3, .inl v3), (5, .inl e9.1)] [0, 1, 2, 3, 5] rfl ?_
      exact wX1_layAbsent_b74 X φ this v1 v2 v3 e9.1 y12 e9.2 y h kH kE0
    · rw [if_neg c11] at h
      refine aw_bipush X (-9 : Int32) dX1_layAbsent_61 (by decide) ?_
      refine aw_goto X 74 dX1_layAbsent_63 rfl ?_
      refine aw_sub [(0, .inr (.inr (some this))), (1, .inl v1), (2, .inl v2), (3, .inl v3), (5, .inl e9.1)] [0, 1, 2, 3, 5] rfl ?_
      exact wX1_layAbsent_b74 X φ this v1 v2 v3 e9.1 (-9 : Int32) e9.2 y h kH kE0
theorem wX1_layAbsent {C : CT} {d : Nat} (X : Cx C cX1_layAbsent RX1 none 7 (d + 3)) (φ : Nat) (this : Nat) (v1 : Int32) (v2 : Int32) (σ : St) (y : St) (h : fX1_layAbsent φ this v1 v2 σ = some y) : AW C 0 [(0, .inr (.inr (some this))), (1, .inl v1), (2, .inl v2)] [] σ (AQ C none y) := by
  unfold fX1_layAbsent at h
  refine aw_iconst X (0 : Int32) dX1_layAbsent_0 (by decide) ?_
  refine aw_istore_n X dX1_layAbsent_1 3 rfl (by decide) [(3, .inl (0 : Int32)), (0, .inr (.inr (some this))), (1, .inl v1), (2, .inl v2)] rfl ?_
  refine aw_iconst X (0 : Int32) dX1_layAbsent_2 (by decide) ?_
  refine aw_istore X dX1_layAbsent_3 (by decide) [(4, .inl (0 : Int32)), (3, .inl (0 : Int32)), (0, .inr (.inr (some this))), (1, .inl v1), (2, .inl v2)] rfl ?_
  refine aw_aload_n X dX1_layAbsent_5 2 0 rfl rfl ?_
  refine aw_iconst X (0 : Int32) dX1_layAbsent_6 (by decide) ?_
  obtain ⟨s1, hs1, h⟩ := bind_some h
  refine aw_pfI X fl_X1_151 dX1_layAbsent_7 hs1 ?_
  obtain ⟨e22, h23, h⟩ := bind_some h
  refine aw_sub [(0, .inr (.inr (some this))), (1, .inl v1), (2, .inl v2), (3, .inl (0 : Int32)), (4, .inl (0 : Int32))] [2, 3, 4, 1, 0] rfl ?_
  refine aw_it (fun s => AW C 10 [(0, .inr (.inr (some this))), (1, .inl v1), (2, .inl v2), (3, .inl s.1), (4, .inl s.2.1)] [] s.2.2 (AQ C none y)) (fun e => AW C 137 [] [] e (AQ C none y)) (fun s r hr kH kE => wX1_layAbsent_l10 X φ this v1 v2 s.1 s.2.1 s.2.2 r hr kH kE) φ _ e22 h23 ?_
  cases h
  exact aw_vret X dX1_layAbsent_137
theorem AX1_layAbsent {E : AE} {l : Launch} (hE : EOK E l) (φ d : Nat) (this : Nat) (v1 : Int32) (v2 : Int32) (σ : St) (y : St) (h : fX1_layAbsent φ this v1 v2 σ = some y) : AMet E l yX1_layAbsent (ws_ yX1_layAbsent cX1_layAbsent 7 none) (d + 3) [.inr (.inr (some this)), .inl v1, .inl v2] σ none y := by
  refine amet_of hE (by decide +kernel) (Nat.le_of_ble_eq_true rfl) fun C e1 e2 X XI => ?_
  subst e1
  exact wX1_layAbsent X φ this v1 v2 σ y h
theorem wX1_powerOf_l5 {C : CT} {d : Nat} {Z : State → Prop} (X : Cx C cX1_powerOf RX1 (some .long) 6 d) (φ : Nat) (v0 : Int64) (v2 : Int32) (σ : St) (v3 : Int64) (v5 : Int32) (y : (Int64 × Int32) ⊕ (Int64)) (h : fX1_powerOf_l5 φ v0 v2 σ v3 v5 = some y) (kH : ∀ s : Int64 × Int32, y = .inl s → AW C 5 [(0, .inr (.inl v0)), (2, .inl v2), (3, .inr (.inl s.1)), (5, .inl s.2)] [] σ Z) (kE0 : ∀ e : Int64, y = .inr e → AW C 21 [(3, .inr (.inl e))] [] σ Z) : AW C 5 [(0, .inr (.inl v0)), (2, .inl v2), (3, .inr (.inl v3)), (5, .inl v5)] [] σ Z := by
  unfold fX1_powerOf_l5 at h
  refine aw_iload X dX1_powerOf_5 3 rfl ?_
  refine aw_iload_n X dX1_powerOf_7 1 2 rfl rfl ?_
  refine aw_icmp_ge X 21 dX1_powerOf_8 rfl (fun c1 => ?_) (fun c1 => ?_)
  · rw [if_pos c1] at h
    cases h
    refine aw_sub [(3, .inr (.inl v3))] [2] rfl ?_
    exact kE0 v3 rfl
  · rw [if_neg c1] at h
    refine aw_lload_n X dX1_powerOf_11 2 3 rfl rfl ?_
    refine aw_lload_n X dX1_powerOf_12 0 0 rfl rfl ?_
    refine aw_lmul X dX1_powerOf_13 ?_
    refine aw_lstore_n X dX1_powerOf_14 3 rfl (by decide) [(3, .inr (.inl (v3 * v0))), (0, .inr (.inl v0)), (2, .inl v2), (5, .inl v5)] rfl ?_
    refine aw_iinc X dX1_powerOf_15 3 rfl (1 : Int32) rfl (by decide) [(5, .inl (v5 + (1 : Int32))), (3, .inr (.inl (v3 * v0))), (0, .inr (.inl v0)), (2, .inl v2)] rfl ?_
    refine aw_goto X 5 dX1_powerOf_18 rfl ?_
    cases h
    refine aw_sub [(0, .inr (.inl v0)), (2, .inl v2), (3, .inr (.inl (v3 * v0))), (5, .inl (v5 + (1 : Int32)))] [2, 3, 1, 0] rfl ?_
    exact kH ((v3 * v0), (v5 + (1 : Int32))) rfl
theorem wX1_powerOf {C : CT} {d : Nat} (X : Cx C cX1_powerOf RX1 (some .long) 6 d) (φ : Nat) (v0 : Int64) (v2 : Int32) (σ : St) (y : Int64) (h : fX1_powerOf φ v0 v2 σ = some y) : AW C 0 [(0, .inr (.inl v0)), (2, .inl v2)] [] σ (AQ C (some (.inr (.inl y))) σ) := by
  unfold fX1_powerOf at h
  refine aw_lconst X (1 : Int64) dX1_powerOf_0 rfl ?_
  refine aw_lstore_n X dX1_powerOf_1 3 rfl (by decide) [(3, .inr (.inl (1 : Int64))), (0, .inr (.inl v0)), (2, .inl v2)] rfl ?_
  refine aw_iconst X (0 : Int32) dX1_powerOf_2 (by decide) ?_
  refine aw_istore X dX1_powerOf_3 (by decide) [(5, .inl (0 : Int32)), (3, .inr (.inl (1 : Int64))), (0, .inr (.inl v0)), (2, .inl v2)] rfl ?_
  obtain ⟨e2, h3, h⟩ := bind_some h
  refine aw_sub [(0, .inr (.inl v0)), (2, .inl v2), (3, .inr (.inl (1 : Int64))), (5, .inl (0 : Int32))] [2, 3, 1, 0] rfl ?_
  refine aw_it (fun s => AW C 5 [(0, .inr (.inl v0)), (2, .inl v2), (3, .inr (.inl s.1)), (5, .inl s.2)] [] σ (AQ C (some (.inr (.inl y))) σ)) (fun e => AW C 21 [(3, .inr (.inl e))] [] σ (AQ C (some (.inr (.inl y))) σ)) (fun s r hr kH kE => wX1_powerOf_l5 X φ v0 v2 σ s.1 s.2 r hr kH kE) φ _ e2 h3 ?_
  refine aw_lload_n X dX1_powerOf_21 0 3 rfl rfl ?_
  cases h
  exact aw_lret X dX1_powerOf_22
theorem AX1_powerOf {E : AE} {l : Launch} (hE : EOK E l) (φ d : Nat) (v0 : Int64) (v2 : Int32) (σ : St) (y : Int64) (h : fX1_powerOf φ v0 v2 σ = some y) : AMet E l yX1_powerOf (ws_ yX1_powerOf cX1_powerOf 6 (some .long)) d [.inr (.inl v0), .inl v2] σ (some (.inr (.inl y))) σ := by
  refine amet_of hE (by decide +kernel) (Nat.le_of_ble_eq_true rfl) fun C e1 e2 X XI => ?_
  subst e1
  exact wX1_powerOf X φ v0 v2 σ y h
theorem wX1_absent_b73 {C : CT} {d : Nat} (X : Cx C cX1_absent RX1 (some .int) 7 (d + 4)) (φ : Nat) (this : Nat) (v2 : Int32) (v4 : Int32) (v5 : Int64) (k0 : Option Nat) (k1 : Int32) (σ : St) (y : Int32 × St) (h : fX1_absent_b73 φ this v2 v4 v5 k0 k1 σ = some y)  : AW C 73 [(0, .inr (.inr (some this))), (2, .inl v2), (4, .inl v4), (5, .inr (.inl v5))] [.inl k1, .inr (.inr k0)] σ (AQ C (some (.inl y.1)) y.2) := by
  unfold fX1_absent_b73 at h
  obtain ⟨s11, hs11, h⟩ := bind_some h
  refine aw_pfI X fl_X1_151 dX1_absent_73 hs11 ?_
  refine aw_aload_n X dX1_absent_76 0 0 rfl rfl ?_
  refine aw_iload_n X dX1_absent_77 1 2 rfl rfl ?_
  obtain ⟨y12, hy12, h⟩ := bind_some h
  refine aw_cV X (st := []) hy12 [.inl v2] rfl rfl ml_X1_214 (fun o h => AX1_comesToRow (Cx.ok X) φ (d + 3) _ _ _ _ h) dX1_absent_78 (Nat.le_of_ble_eq_true rfl) ?_
  refine aw_aload_n X dX1_absent_81 0 0 rfl rfl ?_
  refine aw_aload_n X dX1_absent_82 0 0 rfl rfl ?_
  obtain ⟨x13, hx13, h⟩ := bind_some h
  refine aw_gfI X fl_X1_110 dX1_absent_83 hx13 ?_
  refine aw_i2l X dX1_absent_86 ?_
  refine aw_iload X dX1_absent_87 2 rfl ?_
  obtain ⟨y14, hy14, h⟩ := bind_some h
  refine aw_callS X (st := [.inr (.inr (some this))]) [.inr (.inl (x13.toInt64)), .inl v4] rfl ml_X1_239 (AX1_powerOf (Cx.ok X) φ (d + 3) _ _ _ _  hy14) dX1_absent_89 (Nat.le_of_ble_eq_true rfl) ?_
  refine aw_lload X dX1_absent_92 3 rfl ?_
  refine aw_lsub X dX1_absent_94 ?_
  refine aw_iload X dX1_absent_95 2 rfl ?_
  obtain ⟨y15, hy15, h⟩ := bind_some h
  refine aw_cV X (st := []) hy15 [.inr (.inl (y14 - v5)), .inl v4] rfl rfl ml_X1_202 (fun o h => AX1_tellsMany (Cx.ok X) φ (d + 3) _ _ _ _ _ h) dX1_absent_97 (Nat.le_of_ble_eq_true rfl) ?_
  cases h
  exact aw_iret X dX1_absent_100
theorem wX1_absent_b49 {C : CT} {d : Nat} (X : Cx C cX1_absent RX1 (some .int) 7 (d + 4)) (φ : Nat) (this : Nat) (v1 : Int32) (v2 : Int32) (v4 : Int32) (k0 : Int64) (σ : St) (y : Int32 × St) (h : fX1_absent_b49 φ this v1 v2 v4 k0 σ = some y)  : AW C 49 [(0, .inr (.inr (some this))), (1, .inl v1), (2, .inl v2), (4, .inl v4)] [.inr (.inl k0)] σ (AQ C (some (.inl y.1)) y.2) := by
  unfold fX1_absent_b49 at h
  refine aw_lstore X dX1_absent_49 (by decide) [(5, .inr (.inl k0)), (0, .inr (.inr (some this))), (1, .inl v1), (2, .inl v2), (4, .inl v4)] rfl ?_
  refine aw_aload_n X dX1_absent_51 1 0 rfl rfl ?_
  refine aw_iload_n X dX1_absent_52 2 1 rfl rfl ?_
  refine aw_iload X dX1_absent_53 4 rfl ?_
  obtain ⟨y9, hy9, h⟩ := bind_some h
  refine aw_cV X (st := []) hy9 [.inl v1, .inl v4] rfl rfl ml_X1_236 (fun o h => AX1_layAbsent (Cx.ok X) φ d _ _ _ _ _ h) dX1_absent_55 (Nat.le_of_ble_eq_true rfl) ?_
  refine aw_aload_n X dX1_absent_58 1 0 rfl rfl ?_
  refine aw_iload X dX1_absent_59 4 rfl ?_
  refine aw_bipush X (40 : Int32) dX1_absent_61 (by decide) ?_
  refine aw_icmp_le X 71 dX1_absent_63 rfl (fun c10 => ?_) (fun c10 => ?_)
  · rw [if_pos c10] at h
    refine aw_iload X dX1_absent_71 4 rfl ?_
    refine aw_sub [(0, .inr (.inr (some this))), (2, .inl v2), (4, .inl v4), (5, .inr (.inl k0))] [1, 3, 4, 0] rfl ?_
    exact wX1_absent_b73 X φ this v2 v4 k0 (some this) v4 y9 y h
  · rw [if_neg c10] at h
    refine aw_bipush X (40 : Int32) dX1_absent_66 (by decide) ?_
    refine aw_goto X 73 dX1_absent_68 rfl ?_
    refine aw_sub [(0, .inr (.inr (some this))), (2, .inl v2), (4, .inl v4), (5, .inr (.inl k0))] [1, 3, 4, 0] rfl ?_
    exact wX1_absent_b73 X φ this v2 v4 k0 (some this) (40 : Int32) y9 y h
theorem wX1_absent {C : CT} {d : Nat} (X : Cx C cX1_absent RX1 (some .int) 7 (d + 4)) (φ : Nat) (this : Nat) (v1 : Int32) (v2 : Int32) (σ : St) (y : Int32 × St) (h : fX1_absent φ this v1 v2 σ = some y) : AW C 0 [(0, .inr (.inr (some this))), (1, .inl v1), (2, .inl v2)] [] σ (AQ C (some (.inl y.1)) y.2) := by
  unfold fX1_absent at h
  refine aw_aload_n X dX1_absent_0 0 0 rfl rfl ?_
  refine aw_iload_n X dX1_absent_1 2 2 rfl rfl ?_
  obtain ⟨y1, hy1, h⟩ := bind_some h
  refine aw_callS X (st := [.inr (.inr (some this))]) [.inl v2] rfl ml_X1_130 (AX1_isRow (Cx.ok X) φ (d + 2) _ _ _  hy1) dX1_absent_2 (Nat.le_of_ble_eq_true rfl) ?_
  refine aw_iload_n X dX1_absent_5 1 1 rfl rfl ?_
  obtain ⟨y2, hy2, h⟩ := bind_some h
  refine aw_cV X (st := []) hy2 [.inl y1, .inl v1] rfl rfl ml_X1_192 (fun o h => AX1_needWord (Cx.ok X) φ (d + 1) _ _ _ _ _ h) dX1_absent_6 (Nat.le_of_ble_eq_true rfl) ?_
  refine aw_istore_n X dX1_absent_9 3 rfl (by decide) [(3, .inl y2.1), (0, .inr (.inr (some this))), (1, .inl v1), (2, .inl v2)] rfl ?_
  refine aw_iload_n X dX1_absent_10 0 3 rfl rfl ?_
  refine aw_if_ge X 16 dX1_absent_11 rfl (fun c3 => ?_) (fun c3 => ?_)
  · rw [if_pos c3] at h
    refine aw_aload_n X dX1_absent_16 1 0 rfl rfl ?_
    refine aw_iload_n X dX1_absent_17 2 1 rfl rfl ?_
    refine aw_iconst X (0 : Int32) dX1_absent_18 (by decide) ?_
    obtain ⟨y4, hy4, h⟩ := bind_some h
    refine aw_cV X (st := []) hy4 [.inl v1, .inl (0 : Int32)] rfl rfl ml_X1_230 (fun o h => AX1_archesFrom (Cx.ok X) φ (d + 2) _ _ _ _ _ h) dX1_absent_19 (Nat.le_of_ble_eq_true rfl) ?_
    refine aw_iconst X (1 : Int32) dX1_absent_22 (by decide) ?_
    refine aw_iadd X dX1_absent_23 ?_
    refine aw_istore X dX1_absent_24 (by decide) [(4, .inl (y4.1 + (1 : Int32))), (3, .inl y2.1), (0, .inr (.inr (some this))), (1, .inl v1), (2, .inl v2)] rfl ?_
    refine aw_aload_n X dX1_absent_26 2 0 rfl rfl ?_
    refine aw_iload_n X dX1_absent_27 3 1 rfl rfl ?_
    obtain ⟨y5, hy5, h⟩ := bind_some h
    refine aw_cV X (st := []) hy5 [.inl v1] rfl rfl ml_X1_217 (fun o h => AX1_layInner (Cx.ok X) φ (d + 1) _ _ _ _ h) dX1_absent_28 (Nat.le_of_ble_eq_true rfl) ?_
    refine aw_iload X dX1_absent_31 0 rfl ?_
    refine aw_bipush X (40 : Int32) dX1_absent_33 (by decide) ?_
    refine aw_icmp_le X 42 dX1_absent_35 rfl (fun c6 => ?_) (fun c6 => ?_)
    · rw [if_pos c6] at h
      refine aw_aload_n X dX1_absent_42 2 0 rfl rfl ?_
      obtain ⟨x7, hx7, h⟩ := bind_some h
      refine aw_gfR X fl_X1_66 dX1_absent_43 hx7 ?_
      refine aw_iload X dX1_absent_46 0 rfl ?_
      obtain ⟨x8, hx8, h⟩ := bind_some h
      refine aw_lald X dX1_absent_48 hx8 ?_
      refine aw_sub [(0, .inr (.inr (some this))), (1, .inl v1), (2, .inl v2), (4, .inl (y4.1 + (1 : Int32)))] [2, 3, 4, 0] rfl ?_
      exact wX1_absent_b49 X φ this v1 v2 (y4.1 + (1 : Int32)) x8 y5 y h
    · rw [if_neg c6] at h
      refine aw_lconst X (0 : Int64) dX1_absent_38 rfl ?_
      refine aw_goto X 49 dX1_absent_39 rfl ?_
      refine aw_sub [(0, .inr (.inr (some this))), (1, .inl v1), (2, .inl v2), (4, .inl (y4.1 + (1 : Int32)))] [2, 3, 4, 0] rfl ?_
      exact wX1_absent_b49 X φ this v1 v2 (y4.1 + (1 : Int32)) (0 : Int64) y5 y h
  · rw [if_neg c3] at h
    refine aw_iload_n X dX1_absent_14 0 3 rfl rfl ?_
    cases h
    exact aw_iret X dX1_absent_15
theorem AX1_absent {E : AE} {l : Launch} (hE : EOK E l) (φ d : Nat) (this : Nat) (v1 : Int32) (v2 : Int32) (σ : St) (y : Int32 × St) (h : fX1_absent φ this v1 v2 σ = some y) : AMet E l yX1_absent (ws_ yX1_absent cX1_absent 7 (some .int)) (d + 4) [.inr (.inr (some this)), .inl v1, .inl v2] σ (some (.inl y.1)) y.2 := by
  refine amet_of hE (by decide +kernel) (Nat.le_of_ble_eq_true rfl) fun C e1 e2 X XI => ?_
  subst e1
  exact wX1_absent X φ this v1 v2 σ y h
theorem wX1_has {C : CT} {d : Nat} (X : Cx C cX1_has RX1 (some .boolean) 2 d) (φ : Nat) (v0 : Int32) (v1 : Int32) (σ : St) (y : Int32) (h : fX1_has φ v0 v1 σ = some y) : AW C 0 [(0, .inl v0), (1, .inl v1)] [] σ (AQ C (some (.inl y)) σ) := by
  unfold fX1_has at h
  refine aw_iload_n X dX1_has_0 0 0 rfl rfl ?_
  refine aw_iload_n X dX1_has_1 1 1 rfl rfl ?_
  refine aw_ishr X dX1_has_2 ?_
  refine aw_iconst X (1 : Int32) dX1_has_3 (by decide) ?_
  refine aw_iand X dX1_has_4 ?_
  refine aw_iconst X (1 : Int32) dX1_has_5 (by decide) ?_
  refine aw_icmp_ne X 13 dX1_has_6 rfl (fun c1 => ?_) (fun c1 => ?_)
  · rw [if_neg c1] at h
    refine aw_iconst X (0 : Int32) dX1_has_13 (by decide) ?_
    cases h
    exact aw_zret X (Or.inl rfl) dX1_has_14
  · rw [if_pos c1] at h
    refine aw_iconst X (1 : Int32) dX1_has_9 (by decide) ?_
    refine aw_goto X 14 dX1_has_10 rfl ?_
    cases h
    exact aw_zret X (Or.inr rfl) dX1_has_14
theorem AX1_has {E : AE} {l : Launch} (hE : EOK E l) (φ d : Nat) (v0 : Int32) (v1 : Int32) (σ : St) (y : Int32) (h : fX1_has φ v0 v1 σ = some y) : AMet E l yX1_has (ws_ yX1_has cX1_has 2 (some .boolean)) d [.inl v0, .inl v1] σ (some (.inl y)) σ := by
  refine amet_of hE (by decide +kernel) (Nat.le_of_ble_eq_true rfl) fun C e1 e2 X XI => ?_
  subst e1
  exact wX1_has X φ v0 v1 σ y h
theorem wX1_added_l36 {C : CT} {d : Nat} {Z : State → Prop} (X : Cx C cX1_added RX1 (some .int) 7 (d + 3)) (φ : Nat) (this : Nat) (v2 : Int32) (v4 : Int32) (σ : St) (v5 : Int32) (v6 : Int32) (y : (Int32 × Int32) ⊕ (Int32)) (h : fX1_added_l36 φ this v2 v4 σ v5 v6 = some y) (kH : ∀ s : Int32 × Int32, y = .inl s → AW C 36 [(0, .inr (.inr (some this))), (2, .inl v2), (4, .inl v4), (5, .inl s.1), (6, .inl s.2)] [] σ Z) (kE0 : ∀ e : Int32, y = .inr e → AW C 73 [(0, .inr (.inr (some this))), (2, .inl v2), (4, .inl v4), (5, .inl e)] [] σ Z) : AW C 36 [(0, .inr (.inr (some this))), (2, .inl v2), (4, .inl v4), (5, .inl v5), (6, .inl v6)] [] σ Z := by
  unfold fX1_added_l36 at h
  refine aw_iload X dX1_added_36 4 rfl ?_
  refine aw_aload_n X dX1_added_38 0 0 rfl rfl ?_
  obtain ⟨x6, hx6, h⟩ := bind_some h
  refine aw_gfI X fl_X1_110 dX1_added_39 hx6 ?_
  refine aw_icmp_ge X 73 dX1_added_42 rfl (fun c7 => ?_) (fun c7 => ?_)
  · rw [if_pos c7] at h
    cases h
    refine aw_sub [(0, .inr (.inr (some this))), (2, .inl v2), (4, .inl v4), (5, .inl v5)] [0, 1, 2, 3] rfl ?_
    exact kE0 v5 rfl
  · rw [if_neg c7] at h
    refine aw_iload X dX1_added_45 3 rfl ?_
    refine aw_aload_n X dX1_added_47 0 0 rfl rfl ?_
    obtain ⟨x8, hx8, h⟩ := bind_some h
    refine aw_gfI X fl_X1_227 dX1_added_48 hx8 ?_
    refine aw_iload X dX1_added_51 4 rfl ?_
    obtain ⟨y9, hy9, h⟩ := bind_some h
    refine aw_callS X (st := [.inl v5]) [.inl x8, .inl v6] rfl ml_X1_243 (AX1_has (Cx.ok X) φ (d + 2) _ _ _ _  hy9) dX1_added_53 (Nat.le_of_ble_eq_true rfl) ?_
    refine aw_if_eq X 63 dX1_added_56 rfl (fun c10 => ?_) (fun c10 => ?_)
    · rw [if_pos c10] at h
      refine aw_iconst X (0 : Int32) dX1_added_63 (by decide) ?_
      refine aw_isub X dX1_added_64 ?_
      refine aw_istore X dX1_added_65 (by decide) [(5, .inl (v5 - (0 : Int32))), (0, .inr (.inr (some this))), (2, .inl v2), (4, .inl v4), (6, .inl v6)] rfl ?_
      refine aw_iinc X dX1_added_67 4 rfl (1 : Int32) rfl (by decide) [(6, .inl (v6 + (1 : Int32))), (5, .inl (v5 - (0 : Int32))), (0, .inr (.inr (some this))), (2, .inl v2), (4, .inl v4)] rfl ?_
      refine aw_goto X 36 dX1_added_70 rfl ?_
      cases h
      refine aw_sub [(0, .inr (.inr (some this))), (2, .inl v2), (4, .inl v4), (5, .inl (v5 - (0 : Int32))), (6, .inl (v6 + (1 : Int32)))] [2, 3, 4, 1, 0] rfl ?_
      exact kH ((v5 - (0 : Int32)), (v6 + (1 : Int32))) rfl
    · rw [if_neg c10] at h
      refine aw_iconst X (1 : Int32) dX1_added_59 (by decide) ?_
      refine aw_goto X 64 dX1_added_60 rfl ?_
      refine aw_isub X dX1_added_64 ?_
      refine aw_istore X dX1_added_65 (by decide) [(5, .inl (v5 - (1 : Int32))), (0, .inr (.inr (some this))), (2, .inl v2), (4, .inl v4), (6, .inl v6)] rfl ?_
      refine aw_iinc X dX1_added_67 4 rfl (1 : Int32) rfl (by decide) [(6, .inl (v6 + (1 : Int32))), (5, .inl (v5 - (1 : Int32))), (0, .inr (.inr (some this))), (2, .inl v2), (4, .inl v4)] rfl ?_
      refine aw_goto X 36 dX1_added_70 rfl ?_
      cases h
      refine aw_sub [(0, .inr (.inr (some this))), (2, .inl v2), (4, .inl v4), (5, .inl (v5 - (1 : Int32))), (6, .inl (v6 + (1 : Int32)))] [2, 3, 4, 1, 0] rfl ?_
      exact kH ((v5 - (1 : Int32)), (v6 + (1 : Int32))) rfl
theorem wX1_added {C : CT} {d : Nat} (X : Cx C cX1_added RX1 (some .int) 7 (d + 3)) (φ : Nat) (this : Nat) (v1 : Int32) (v2 : Int32) (σ : St) (y : Int32 × St) (h : fX1_added φ this v1 v2 σ = some y) : AW C 0 [(0, .inr (.inr (some this))), (1, .inl v1), (2, .inl v2)] [] σ (AQ C (some (.inl y.1)) y.2) := by
  unfold fX1_added at h
  refine aw_aload_n X dX1_added_0 0 0 rfl rfl ?_
  refine aw_iload_n X dX1_added_1 2 2 rfl rfl ?_
  refine aw_iconst X (0 : Int32) dX1_added_2 (by decide) ?_
  refine aw_bipush X (40 : Int32) dX1_added_3 (by decide) ?_
  obtain ⟨y1, hy1, h⟩ := bind_some h
  refine aw_callS X (st := [.inr (.inr (some this))]) [.inl v2, .inl (0 : Int32), .inl (40 : Int32)] rfl ml_X1_117 (AX1_in (Cx.ok X) φ (d + 2) _ _ _ _ _  hy1) dX1_added_5 (Nat.le_of_ble_eq_true rfl) ?_
  refine aw_iload_n X dX1_added_8 1 1 rfl rfl ?_
  obtain ⟨y2, hy2, h⟩ := bind_some h
  refine aw_cV X (st := []) hy2 [.inl y1, .inl v1] rfl rfl ml_X1_192 (fun o h => AX1_needWord (Cx.ok X) φ d _ _ _ _ _ h) dX1_added_9 (Nat.le_of_ble_eq_true rfl) ?_
  refine aw_istore_n X dX1_added_12 3 rfl (by decide) [(3, .inl y2.1), (0, .inr (.inr (some this))), (1, .inl v1), (2, .inl v2)] rfl ?_
  refine aw_iload_n X dX1_added_13 0 3 rfl rfl ?_
  refine aw_if_ge X 19 dX1_added_14 rfl (fun c3 => ?_) (fun c3 => ?_)
  · rw [if_pos c3] at h
    refine aw_aload_n X dX1_added_19 1 0 rfl rfl ?_
    refine aw_iload_n X dX1_added_20 2 1 rfl rfl ?_
    refine aw_iconst X (0 : Int32) dX1_added_21 (by decide) ?_
    obtain ⟨y4, hy4, h⟩ := bind_some h
    refine aw_cV X (st := []) hy4 [.inl v1, .inl (0 : Int32)] rfl rfl ml_X1_230 (fun o h => AX1_archesFrom (Cx.ok X) φ (d + 1) _ _ _ _ _ h) dX1_added_22 (Nat.le_of_ble_eq_true rfl) ?_
    refine aw_istore X dX1_added_25 (by decide) [(4, .inl y4.1), (3, .inl y2.1), (0, .inr (.inr (some this))), (1, .inl v1), (2, .inl v2)] rfl ?_
    refine aw_aload_n X dX1_added_27 2 0 rfl rfl ?_
    obtain ⟨x5, hx5, h⟩ := bind_some h
    refine aw_gfI X fl_X1_110 dX1_added_28 hx5 ?_
    refine aw_istore X dX1_added_31 (by decide) [(5, .inl x5), (4, .inl y4.1), (3, .inl y2.1), (0, .inr (.inr (some this))), (1, .inl v1), (2, .inl v2)] rfl ?_
    refine aw_iconst X (0 : Int32) dX1_added_33 (by decide) ?_
    refine aw_istore X dX1_added_34 (by decide) [(6, .inl (0 : Int32)), (5, .inl x5), (4, .inl y4.1), (3, .inl y2.1), (0, .inr (.inr (some this))), (1, .inl v1), (2, .inl v2)] rfl ?_
    obtain ⟨e11, h12, h⟩ := bind_some h
    refine aw_sub [(0, .inr (.inr (some this))), (2, .inl v2), (4, .inl y4.1), (5, .inl x5), (6, .inl (0 : Int32))] [4, 6, 2, 1, 0] rfl ?_
    refine aw_it (fun s => AW C 36 [(0, .inr (.inr (some this))), (2, .inl v2), (4, .inl y4.1), (5, .inl s.1), (6, .inl s.2)] [] y4.2 (AQ C (some (.inl y.1)) y.2)) (fun e => AW C 73 [(0, .inr (.inr (some this))), (2, .inl v2), (4, .inl y4.1), (5, .inl e)] [] y4.2 (AQ C (some (.inl y.1)) y.2)) (fun s r hr kH kE => wX1_added_l36 X φ this v2 y4.1 y4.2 s.1 s.2 r hr kH kE) φ _ e11 h12 ?_
    refine aw_iload X dX1_added_73 2 rfl ?_
    refine aw_iload_n X dX1_added_75 1 2 rfl rfl ?_
    refine aw_icmp_lt X 83 dX1_added_76 rfl (fun c13 => ?_) (fun c13 => ?_)
    · rw [if_pos c13] at h
      refine aw_iload X dX1_added_83 3 rfl ?_
      refine aw_iload_n X dX1_added_85 1 2 rfl rfl ?_
      refine aw_iload X dX1_added_86 2 rfl ?_
      refine aw_isub X dX1_added_88 ?_
      refine aw_iconst X (1 : Int32) dX1_added_89 (by decide) ?_
      refine aw_isub X dX1_added_90 ?_
      refine aw_aload_n X dX1_added_91 0 0 rfl rfl ?_
      obtain ⟨x14, hx14, h⟩ := bind_some h
      refine aw_gfI X fl_X1_110 dX1_added_92 hx14 ?_
      refine aw_imul X dX1_added_95 ?_
      refine aw_iadd X dX1_added_96 ?_
      cases h
      exact aw_iret X dX1_added_97
    · rw [if_neg c13] at h
      refine aw_iconst X (0 : Int32) dX1_added_79 (by decide) ?_
      refine aw_goto X 97 dX1_added_80 rfl ?_
      cases h
      exact aw_iret X dX1_added_97
  · rw [if_neg c3] at h
    refine aw_iload_n X dX1_added_17 0 3 rfl rfl ?_
    cases h
    exact aw_iret X dX1_added_18
theorem AX1_added {E : AE} {l : Launch} (hE : EOK E l) (φ d : Nat) (this : Nat) (v1 : Int32) (v2 : Int32) (σ : St) (y : Int32 × St) (h : fX1_added φ this v1 v2 σ = some y) : AMet E l yX1_added (ws_ yX1_added cX1_added 7 (some .int)) (d + 3) [.inr (.inr (some this)), .inl v1, .inl v2] σ (some (.inl y.1)) y.2 := by
  refine amet_of hE (by decide +kernel) (Nat.le_of_ble_eq_true rfl) fun C e1 e2 X XI => ?_
  subst e1
  exact wX1_added X φ this v1 v2 σ y h
