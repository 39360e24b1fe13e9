/-! walks (written by gen2.py): X2_init X2_kind X2_is X2_tells X3_init X3_kind X3_is X3_tells X4_init X4_kind X4_is X4_tells X5_init X5_kind X5_is X5_tells X6_init X6_kind X6_is X6_tells X0_init X0_isIn X0_isRow X0_met X0_row X0_ask X0_at X0_lay X0_tear X0_mean X0_isText X0_text X0_put X0_letters X0_isWord X0_word X0_here X0_skips X0_add X0_repeats X0_readsItems X0_reads X0_fault X0_cut X0_tell X0_askedTwo X0_of X0_join X0_part X0_askedWord X0_turn X0_setNext X0_lengthTo X0_parted X0_drop X0_erase X0_size X0_letter X0_kind X0_mark X0_waysOf X0_tellMany X0_ways X0_setWays X0_come X0_way J11_bitCount -/
set_option maxRecDepth 100000
theorem wX2_init {C : CT} {d : Nat} (X : Cx C cX2_init RX2 none 2 d) (XI : CxI C) (φ : Nat) (this : Nat) (v1 : Option Nat) (σ : St) (y : St) (h : fX2_init φ this v1 σ = some y) : AW C 0 [(0, .inr (.inr (some this))), (1, .inr (.inr v1))] [] σ (AQ C none y) := by
  unfold fX2_init at h
  refine aw_aload_n X dX2_init_0 0 0 rfl rfl ?_
  refine aw_objI X q430 q107 q108 dX2_init_1 (Nat.le_of_ble_eq_true rfl) ?_
  refine aw_aload_n X dX2_init_4 0 0 rfl rfl ?_
  refine aw_aload_n X dX2_init_5 1 1 rfl rfl ?_
  obtain ⟨s1, hs1, h⟩ := bind_some h
  refine aw_pfFR X XI fl_X2_9 dX2_init_6 hs1 ?_
  cases h
  exact aw_vret X dX2_init_9
theorem AX2_init {E : AE} {l : Launch} (hE : EOK E l) (φ d : Nat) (this : Nat) (v1 : Option Nat) (σ : St) (y : St) (h : fX2_init φ this v1 σ = some y) : AMet E l yX2_init (ws_ yX2_init cX2_init 2 none) d [.inr (.inr (some this)), .inr (.inr v1)] σ none y := by
  refine amet_of hE (by decide +kernel) (Nat.le_of_ble_eq_true rfl) fun C e1 e2 X XI => ?_
  subst e1
  exact wX2_init X (XI rfl) φ this v1 σ y h
theorem wX2_kind {C : CT} {d : Nat} (X : Cx C cX2_kind RX2 (some .int) 1 d) (φ : Nat) (this : Nat) (σ : St) (y : Int32) (h : fX2_kind φ this σ = some y) : AW C 0 [(0, .inr (.inr (some this)))] [] σ (AQ C (some (.inl y)) σ) := by
  unfold fX2_kind at h
  refine aw_iconst X (0 : Int32) dX2_kind_0 (by decide) ?_
  cases h
  exact aw_iret X dX2_kind_1
theorem AX2_kind {E : AE} {l : Launch} (hE : EOK E l) (φ d : Nat) (this : Nat) (σ : St) (y : Int32) (h : fX2_kind φ this σ = some y) : AMet E l yX2_kind (ws_ yX2_kind cX2_kind 1 (some .int)) d [.inr (.inr (some this))] σ (some (.inl y)) σ := by
  refine amet_of hE (by decide +kernel) (Nat.le_of_ble_eq_true rfl) fun C e1 e2 X XI => ?_
  subst e1
  exact wX2_kind X φ this σ y h
theorem wX2_is {C : CT} {d : Nat} (X : Cx C cX2_is RX2 (some .boolean) 2 d) (φ : Nat) (this : Nat) (v1 : Int32) (σ : St) (y : Int32) (h : fX2_is φ this v1 σ = some y) : AW C 0 [(0, .inr (.inr (some this))), (1, .inl v1)] [] σ (AQ C (some (.inl y)) σ) := by
  unfold fX2_is at h
  refine aw_iload_n X dX2_is_0 1 1 rfl rfl ?_
  refine aw_if_ne X 8 dX2_is_1 rfl (fun c1 => ?_) (fun c1 => ?_)
  · rw [if_neg c1] at h
    refine aw_iconst X (0 : Int32) dX2_is_8 (by decide) ?_
    cases h
    exact aw_zret X (Or.inl rfl) dX2_is_9
  · rw [if_pos c1] at h
    refine aw_iconst X (1 : Int32) dX2_is_4 (by decide) ?_
    refine aw_goto X 9 dX2_is_5 rfl ?_
    cases h
    exact aw_zret X (Or.inr rfl) dX2_is_9
theorem AX2_is {E : AE} {l : Launch} (hE : EOK E l) (φ d : Nat) (this : Nat) (v1 : Int32) (σ : St) (y : Int32) (h : fX2_is φ this v1 σ = some y) : AMet E l yX2_is (ws_ yX2_is cX2_is 2 (some .boolean)) d [.inr (.inr (some this)), .inl v1] σ (some (.inl y)) σ := by
  refine amet_of hE (by decide +kernel) (Nat.le_of_ble_eq_true rfl) fun C e1 e2 X XI => ?_
  subst e1
  exact wX2_is X φ this v1 σ y h
theorem wX2_tells {C : CT} {d : Nat} (X : Cx C cX2_tells RX2 (some .int) 1 d) (φ : Nat) (this : Nat) (σ : St) (y : Int32) (h : fX2_tells φ this σ = some y) : AW C 0 [(0, .inr (.inr (some this)))] [] σ (AQ C (some (.inl y)) σ) := by
  unfold fX2_tells at h
  refine aw_iconst X (0 : Int32) dX2_tells_0 (by decide) ?_
  cases h
  exact aw_iret X dX2_tells_1
theorem AX2_tells {E : AE} {l : Launch} (hE : EOK E l) (φ d : Nat) (this : Nat) (σ : St) (y : Int32) (h : fX2_tells φ this σ = some y) : AMet E l yX2_tells (ws_ yX2_tells cX2_tells 1 (some .int)) d [.inr (.inr (some this))] σ (some (.inl y)) σ := by
  refine amet_of hE (by decide +kernel) (Nat.le_of_ble_eq_true rfl) fun C e1 e2 X XI => ?_
  subst e1
  exact wX2_tells X φ this σ y h
theorem wX3_init {C : CT} {d : Nat} (X : Cx C cX3_init RX3 none 3 (d + 1)) (XI : CxI C) (φ : Nat) (this : Nat) (v1 : Option Nat) (v2 : Int32) (σ : St) (y : St) (h : fX3_init φ this v1 v2 σ = some y) : AW C 0 [(0, .inr (.inr (some this))), (1, .inr (.inr v1)), (2, .inl v2)] [] σ (AQ C none y) := by
  unfold fX3_init at h
  refine aw_aload_n X dX3_init_0 0 0 rfl rfl ?_
  refine aw_aload_n X dX3_init_1 1 1 rfl rfl ?_
  obtain ⟨y1, hy1, h⟩ := bind_some h
  refine aw_cI X (st := []) hy1 [.inr (.inr v1)] rfl ml_X3_3 (fun o h => AX2_init (Cx.ok X) φ d _ _ _ _ h) dX3_init_2 (Nat.le_of_ble_eq_true rfl) ?_
  refine aw_aload_n X dX3_init_5 0 0 rfl rfl ?_
  refine aw_iload_n X dX3_init_6 2 2 rfl rfl ?_
  obtain ⟨s2, hs2, h⟩ := bind_some h
  refine aw_pfFI X XI fl_X3_9 dX3_init_7 hs2 ?_
  cases h
  exact aw_vret X dX3_init_10
theorem AX3_init {E : AE} {l : Launch} (hE : EOK E l) (φ d : Nat) (this : Nat) (v1 : Option Nat) (v2 : Int32) (σ : St) (y : St) (h : fX3_init φ this v1 v2 σ = some y) : AMet E l yX3_init (ws_ yX3_init cX3_init 3 none) (d + 1) [.inr (.inr (some this)), .inr (.inr v1), .inl v2] σ none y := by
  refine amet_of hE (by decide +kernel) (Nat.le_of_ble_eq_true rfl) fun C e1 e2 X XI => ?_
  subst e1
  exact wX3_init X (XI rfl) φ this v1 v2 σ y h
theorem wX3_kind {C : CT} {d : Nat} (X : Cx C cX3_kind RX3 (some .int) 1 d) (φ : Nat) (this : Nat) (σ : St) (y : Int32) (h : fX3_kind φ this σ = some y) : AW C 0 [(0, .inr (.inr (some this)))] [] σ (AQ C (some (.inl y)) σ) := by
  unfold fX3_kind at h
  refine aw_iconst X (1 : Int32) dX3_kind_0 (by decide) ?_
  cases h
  exact aw_iret X dX3_kind_1
theorem AX3_kind {E : AE} {l : Launch} (hE : EOK E l) (φ d : Nat) (this : Nat) (σ : St) (y : Int32) (h : fX3_kind φ this σ = some y) : AMet E l yX3_kind (ws_ yX3_kind cX3_kind 1 (some .int)) d [.inr (.inr (some this))] σ (some (.inl y)) σ := by
  refine amet_of hE (by decide +kernel) (Nat.le_of_ble_eq_true rfl) fun C e1 e2 X XI => ?_
  subst e1
  exact wX3_kind X φ this σ y h
theorem wX3_is {C : CT} {d : Nat} (X : Cx C cX3_is RX3 (some .boolean) 2 (d + 1)) (φ : Nat) (this : Nat) (v1 : Int32) (σ : St) (y : Int32) (h : fX3_is φ this v1 σ = some y) : AW C 0 [(0, .inr (.inr (some this))), (1, .inl v1)] [] σ (AQ C (some (.inl y)) σ) := by
  unfold fX3_is at h
  refine aw_iload_n X dX3_is_0 1 1 rfl rfl ?_
  refine aw_iconst X (1 : Int32) dX3_is_1 (by decide) ?_
  refine aw_icmp_eq X 13 dX3_is_2 rfl (fun c1 => ?_) (fun c1 => ?_)
  · rw [if_pos c1] at h
    refine aw_iconst X (1 : Int32) dX3_is_13 (by decide) ?_
    refine aw_goto X 18 dX3_is_14 rfl ?_
    cases h
    exact aw_zret X (Or.inr rfl) dX3_is_18
  · rw [if_neg c1] at h
    refine aw_aload_n X dX3_is_5 0 0 rfl rfl ?_
    refine aw_iload_n X dX3_is_6 1 1 rfl rfl ?_
    obtain ⟨y2, hy2, h⟩ := bind_some h
    refine aw_cSU X (st := []) hy2 [.inl v1] rfl ml_X3_15 (fun o h => AX2_is (Cx.ok X) φ d _ _ _ _ h) dX3_is_7 (Nat.le_of_ble_eq_true rfl) ?_
    refine aw_if_eq X 17 dX3_is_10 rfl (fun c3 => ?_) (fun c3 => ?_)
    · rw [if_pos c3] at h
      refine aw_iconst X (0 : Int32) dX3_is_17 (by decide) ?_
      cases h
      exact aw_zret X (Or.inl rfl) dX3_is_18
    · rw [if_neg c3] at h
      refine aw_iconst X (1 : Int32) dX3_is_13 (by decide) ?_
      refine aw_goto X 18 dX3_is_14 rfl ?_
      cases h
      exact aw_zret X (Or.inr rfl) dX3_is_18
theorem AX3_is {E : AE} {l : Launch} (hE : EOK E l) (φ d : Nat) (this : Nat) (v1 : Int32) (σ : St) (y : Int32) (h : fX3_is φ this v1 σ = some y) : AMet E l yX3_is (ws_ yX3_is cX3_is 2 (some .boolean)) (d + 1) [.inr (.inr (some this)), .inl v1] σ (some (.inl y)) σ := by
  refine amet_of hE (by decide +kernel) (Nat.le_of_ble_eq_true rfl) fun C e1 e2 X XI => ?_
  subst e1
  exact wX3_is X φ this v1 σ y h
theorem wX3_tells {C : CT} {d : Nat} (X : Cx C cX3_tells RX3 (some .int) 1 d) (φ : Nat) (this : Nat) (σ : St) (y : Int32) (h : fX3_tells φ this σ = some y) : AW C 0 [(0, .inr (.inr (some this)))] [] σ (AQ C (some (.inl y)) σ) := by
  unfold fX3_tells at h
  refine aw_aload_n X dX3_tells_0 0 0 rfl rfl ?_
  obtain ⟨x1, hx1, h⟩ := bind_some h
  refine aw_gfI X fl_X3_9 dX3_tells_1 hx1 ?_
  cases h
  exact aw_iret X dX3_tells_4
theorem AX3_tells {E : AE} {l : Launch} (hE : EOK E l) (φ d : Nat) (this : Nat) (σ : St) (y : Int32) (h : fX3_tells φ this σ = some y) : AMet E l yX3_tells (ws_ yX3_tells cX3_tells 1 (some .int)) d [.inr (.inr (some this))] σ (some (.inl y)) σ := by
  refine amet_of hE (by decide +kernel) (Nat.le_of_ble_eq_true rfl) fun C e1 e2 X XI => ?_
  subst e1
  exact wX3_tells X φ this σ y h
theorem wX4_init {C : CT} {d : Nat} (X : Cx C cX4_init RX4 none 3 (d + 1)) (XI : CxI C) (φ : Nat) (this : Nat) (v1 : Option Nat) (v2 : Int32) (σ : St) (y : St) (h : fX4_init φ this v1 v2 σ = some y) : AW C 0 [(0, .inr (.inr (some this))), (1, .inr (.inr v1)), (2, .inl v2)] [] σ (AQ C none y) := by
  unfold fX4_init at h
  refine aw_aload_n X dX4_init_0 0 0 rfl rfl ?_
  refine aw_aload_n X dX4_init_1 1 1 rfl rfl ?_
  obtain ⟨y1, hy1, h⟩ := bind_some h
  refine aw_cI X (st := []) hy1 [.inr (.inr v1)] rfl ml_X4_3 (fun o h => AX2_init (Cx.ok X) φ d _ _ _ _ h) dX4_init_2 (Nat.le_of_ble_eq_true rfl) ?_
  refine aw_aload_n X dX4_init_5 0 0 rfl rfl ?_
  refine aw_iload_n X dX4_init_6 2 2 rfl rfl ?_
  obtain ⟨s2, hs2, h⟩ := bind_some h
  refine aw_pfFI X XI fl_X4_9 dX4_init_7 hs2 ?_
  cases h
  exact aw_vret X dX4_init_10
theorem AX4_init {E : AE} {l : Launch} (hE : EOK E l) (φ d : Nat) (this : Nat) (v1 : Option Nat) (v2 : Int32) (σ : St) (y : St) (h : fX4_init φ this v1 v2 σ = some y) : AMet E l yX4_init (ws_ yX4_init cX4_init 3 none) (d + 1) [.inr (.inr (some this)), .inr (.inr v1), .inl v2] σ none y := by
  refine amet_of hE (by decide +kernel) (Nat.le_of_ble_eq_true rfl) fun C e1 e2 X XI => ?_
  subst e1
  exact wX4_init X (XI rfl) φ this v1 v2 σ y h
theorem wX4_kind {C : CT} {d : Nat} (X : Cx C cX4_kind RX4 (some .int) 1 d) (φ : Nat) (this : Nat) (σ : St) (y : Int32) (h : fX4_kind φ this σ = some y) : AW C 0 [(0, .inr (.inr (some this)))] [] σ (AQ C (some (.inl y)) σ) := by
  unfold fX4_kind at h
  refine aw_iconst X (2 : Int32) dX4_kind_0 (by decide) ?_
  cases h
  exact aw_iret X dX4_kind_1
theorem AX4_kind {E : AE} {l : Launch} (hE : EOK E l) (φ d : Nat) (this : Nat) (σ : St) (y : Int32) (h : fX4_kind φ this σ = some y) : AMet E l yX4_kind (ws_ yX4_kind cX4_kind 1 (some .int)) d [.inr (.inr (some this))] σ (some (.inl y)) σ := by
  refine amet_of hE (by decide +kernel) (Nat.le_of_ble_eq_true rfl) fun C e1 e2 X XI => ?_
  subst e1
  exact wX4_kind X φ this σ y h
theorem wX4_is {C : CT} {d : Nat} (X : Cx C cX4_is RX4 (some .boolean) 2 (d + 1)) (φ : Nat) (this : Nat) (v1 : Int32) (σ : St) (y : Int32) (h : fX4_is φ this v1 σ = some y) : AW C 0 [(0, .inr (.inr (some this))), (1, .inl v1)] [] σ (AQ C (some (.inl y)) σ) := by
  unfold fX4_is at h
  refine aw_iload_n X dX4_is_0 1 1 rfl rfl ?_
  refine aw_iconst X (2 : Int32) dX4_is_1 (by decide) ?_
  refine aw_icmp_eq X 13 dX4_is_2 rfl (fun c1 => ?_) (fun c1 => ?_)
  · rw [if_pos c1] at h
    refine aw_iconst X (1 : Int32) dX4_is_13 (by decide) ?_
    refine aw_goto X 18 dX4_is_14 rfl ?_
    cases h
    exact aw_zret X (Or.inr rfl) dX4_is_18
  · rw [if_neg c1] at h
    refine aw_aload_n X dX4_is_5 0 0 rfl rfl ?_
    refine aw_iload_n X dX4_is_6 1 1 rfl rfl ?_
    obtain ⟨y2, hy2, h⟩ := bind_some h
    refine aw_cSU X (st := []) hy2 [.inl v1] rfl ml_X4_15 (fun o h => AX2_is (Cx.ok X) φ d _ _ _ _ h) dX4_is_7 (Nat.le_of_ble_eq_true rfl) ?_
    refine aw_if_eq X 17 dX4_is_10 rfl (fun c3 => ?_) (fun c3 => ?_)
    · rw [if_pos c3] at h
      refine aw_iconst X (0 : Int32) dX4_is_17 (by decide) ?_
      cases h
      exact aw_zret X (Or.inl rfl) dX4_is_18
    · rw [if_neg c3] at h
      refine aw_iconst X (1 : Int32) dX4_is_13 (by decide) ?_
      refine aw_goto X 18 dX4_is_14 rfl ?_
      cases h
      exact aw_zret X (Or.inr rfl) dX4_is_18
theorem AX4_is {E : AE} {l : Launch} (hE : EOK E l) (φ d : Nat) (this : Nat) (v1 : Int32) (σ : St) (y : Int32) (h : fX4_is φ this v1 σ = some y) : AMet E l yX4_is (ws_ yX4_is cX4_is 2 (some .boolean)) (d + 1) [.inr (.inr (some this)), .inl v1] σ (some (.inl y)) σ := by
  refine amet_of hE (by decide +kernel) (Nat.le_of_ble_eq_true rfl) fun C e1 e2 X XI => ?_
  subst e1
  exact wX4_is X φ this v1 σ y h
theorem wX4_tells {C : CT} {d : Nat} (X : Cx C cX4_tells RX4 (some .int) 1 d) (φ : Nat) (this : Nat) (σ : St) (y : Int32) (h : fX4_tells φ this σ = some y) : AW C 0 [(0, .inr (.inr (some this)))] [] σ (AQ C (some (.inl y)) σ) := by
  unfold fX4_tells at h
  refine aw_aload_n X dX4_tells_0 0 0 rfl rfl ?_
  obtain ⟨x1, hx1, h⟩ := bind_some h
  refine aw_gfI X fl_X4_9 dX4_tells_1 hx1 ?_
  cases h
  exact aw_iret X dX4_tells_4
theorem AX4_tells {E : AE} {l : Launch} (hE : EOK E l) (φ d : Nat) (this : Nat) (σ : St) (y : Int32) (h : fX4_tells φ this σ = some y) : AMet E l yX4_tells (ws_ yX4_tells cX4_tells 1 (some .int)) d [.inr (.inr (some this))] σ (some (.inl y)) σ := by
  refine amet_of hE (by decide +kernel) (Nat.le_of_ble_eq_true rfl) fun C e1 e2 X XI => ?_
  subst e1
  exact wX4_tells X φ this σ y h
theorem wX5_init {C : CT} {d : Nat} (X : Cx C cX5_init RX5 none 4 (d + 2)) (XI : CxI C) (φ : Nat) (this : Nat) (v1 : Option Nat) (v2 : Int32) (v3 : Int32) (σ : St) (y : St) (h : fX5_init φ this v1 v2 v3 σ = some y) : AW C 0 [(0, .inr (.inr (some this))), (1, .inr (.inr v1)), (2, .inl v2), (3, .inl v3)] [] σ (AQ C none y) := by
  unfold fX5_init at h
  refine aw_aload_n X dX5_init_0 0 0 rfl rfl ?_
  refine aw_aload_n X dX5_init_1 1 1 rfl rfl ?_
  refine aw_iload_n X dX5_init_2 2 2 rfl rfl ?_
  obtain ⟨y1, hy1, h⟩ := bind_some h
  refine aw_cI X (st := []) hy1 [.inr (.inr v1), .inl v2] rfl ml_X5_3 (fun o h => AX4_init (Cx.ok X) φ d _ _ _ _ _ h) dX5_init_3 (Nat.le_of_ble_eq_true rfl) ?_
  refine aw_aload_n X dX5_init_6 0 0 rfl rfl ?_
  refine aw_iload_n X dX5_init_7 3 3 rfl rfl ?_
  obtain ⟨s2, hs2, h⟩ := bind_some h
  refine aw_pfFI X XI fl_X5_9 dX5_init_8 hs2 ?_
  cases h
  exact aw_vret X dX5_init_11
theorem AX5_init {E : AE} {l : Launch} (hE : EOK E l) (φ d : Nat) (this : Nat) (v1 : Option Nat) (v2 : Int32) (v3 : Int32) (σ : St) (y : St) (h : fX5_init φ this v1 v2 v3 σ = some y) : AMet E l yX5_init (ws_ yX5_init cX5_init 4 none) (d + 2) [.inr (.inr (some this)), .inr (.inr v1), .inl v2, .inl v3] σ none y := by
  refine amet_of hE (by decide +kernel) (Nat.le_of_ble_eq_true rfl) fun C e1 e2 X XI => ?_
  subst e1
  exact wX5_init X (XI rfl) φ this v1 v2 v3 σ y h
theorem wX5_kind {C : CT} {d : Nat} (X : Cx C cX5_kind RX5 (some .int) 1 d) (φ : Nat) (this : Nat) (σ : St) (y : Int32) (h : fX5_kind φ this σ = some y) : AW C 0 [(0, .inr (.inr (some this)))] [] σ (AQ C (some (.inl y)) σ) := by
  unfold fX5_kind at h
  refine aw_iconst X (3 : Int32) dX5_kind_0 (by decide) ?_
  cases h
  exact aw_iret X dX5_kind_1
theorem AX5_kind {E : AE} {l : Launch} (hE : EOK E l) (φ d : Nat) (this : Nat) (σ : St) (y : Int32) (h : fX5_kind φ this σ = some y) : AMet E l yX5_kind (ws_ yX5_kind cX5_kind 1 (some .int)) d [.inr (.inr (some this))] σ (some (.inl y)) σ := by
  refine amet_of hE (by decide +kernel) (Nat.le_of_ble_eq_true rfl) fun C e1 e2 X XI => ?_
  subst e1
  exact wX5_kind X φ this σ y h
theorem wX5_is {C : CT} {d : Nat} (X : Cx C cX5_is RX5 (some .boolean) 2 (d + 2)) (φ : Nat) (this : Nat) (v1 : Int32) (σ : St) (y : Int32) (h : fX5_is φ this v1 σ = some y) : AW C 0 [(0, .inr (.inr (some this))), (1, .inl v1)] [] σ (AQ C (some (.inl y)) σ) := by
  unfold fX5_is at h
  refine aw_iload_n X dX5_is_0 1 1 rfl rfl ?_
  refine aw_iconst X (3 : Int32) dX5_is_1 (by decide) ?_
  refine aw_icmp_eq X 13 dX5_is_2 rfl (fun c1 => ?_) (fun c1 => ?_)
  · rw [if_pos c1] at h
    refine aw_iconst X (1 : Int32) dX5_is_13 (by decide) ?_
    refine aw_goto X 18 dX5_is_14 rfl ?_
    cases h
    exact aw_zret X (Or.inr rfl) dX5_is_18
  · rw [if_neg c1] at h
    refine aw_aload_n X dX5_is_5 0 0 rfl rfl ?_
    refine aw_iload_n X dX5_is_6 1 1 rfl rfl ?_
    obtain ⟨y2, hy2, h⟩ := bind_some h
    refine aw_cSU X (st := []) hy2 [.inl v1] rfl ml_X5_15 (fun o h => AX4_is (Cx.ok X) φ d _ _ _ _ h) dX5_is_7 (Nat.le_of_ble_eq_true rfl) ?_
    refine aw_if_eq X 17 dX5_is_10 rfl (fun c3 => ?_) (fun c3 => ?_)
    · rw [if_pos c3] at h
      refine aw_iconst X (0 : Int32) dX5_is_17 (by decide) ?_
      cases h
      exact aw_zret X (Or.inl rfl) dX5_is_18
    · rw [if_neg c3] at h
      refine aw_iconst X (1 : Int32) dX5_is_13 (by decide) ?_
      refine aw_goto X 18 dX5_is_14 rfl ?_
      cases h
      exact aw_zret X (Or.inr rfl) dX5_is_18
theorem AX5_is {E : AE} {l : Launch} (hE : EOK E l) (φ d : Nat) (this : Nat) (v1 : Int32) (σ : St) (y : Int32) (h : fX5_is φ this v1 σ = some y) : AMet E l yX5_is (ws_ yX5_is cX5_is 2 (some .boolean)) (d + 2) [.inr (.inr (some this)), .inl v1] σ (some (.inl y)) σ := by
  refine amet_of hE (by decide +kernel) (Nat.le_of_ble_eq_true rfl) fun C e1 e2 X XI => ?_
  subst e1
  exact wX5_is X φ this v1 σ y h
theorem wX5_tells {C : CT} {d : Nat} (X : Cx C cX5_tells RX5 (some .int) 1 d) (φ : Nat) (this : Nat) (σ : St) (y : Int32) (h : fX5_tells φ this σ = some y) : AW C 0 [(0, .inr (.inr (some this)))] [] σ (AQ C (some (.inl y)) σ) := by
  unfold fX5_tells at h
  refine aw_aload_n X dX5_tells_0 0 0 rfl rfl ?_
  obtain ⟨x1, hx1, h⟩ := bind_some h
  refine aw_gfI X fl_X5_9 dX5_tells_1 hx1 ?_
  cases h
  exact aw_iret X dX5_tells_4
theorem AX5_tells {E : AE} {l : Launch} (hE : EOK E l) (φ d : Nat) (this : Nat) (σ : St) (y : Int32) (h : fX5_tells φ this σ = some y) : AMet E l yX5_tells (ws_ yX5_tells cX5_tells 1 (some .int)) d [.inr (.inr (some this))] σ (some (.inl y)) σ := by
  refine amet_of hE (by decide +kernel) (Nat.le_of_ble_eq_true rfl) fun C e1 e2 X XI => ?_
  subst e1
  exact wX5_tells X φ this σ y h
theorem wX6_init {C : CT} {d : Nat} (X : Cx C cX6_init RX6 none 4 (d + 2)) (XI : CxI C) (φ : Nat) (this : Nat) (v1 : Option Nat) (v2 : Int32) (v3 : Int32) (σ : St) (y : St) (h : fX6_init φ this v1 v2 v3 σ = some y) : AW C 0 [(0, .inr (.inr (some this))), (1, .inr (.inr v1)), (2, .inl v2), (3, .inl v3)] [] σ (AQ C none y) := by
  unfold fX6_init at h
  refine aw_aload_n X dX6_init_0 0 0 rfl rfl ?_
  refine aw_aload_n X dX6_init_1 1 1 rfl rfl ?_
  refine aw_iload_n X dX6_init_2 2 2 rfl rfl ?_
  obtain ⟨y1, hy1, h⟩ := bind_some h
  refine aw_cI X (st := []) hy1 [.inr (.inr v1), .inl v2] rfl ml_X6_3 (fun o h => AX4_init (Cx.ok X) φ d _ _ _ _ _ h) dX6_init_3 (Nat.le_of_ble_eq_true rfl) ?_
  refine aw_aload_n X dX6_init_6 0 0 rfl rfl ?_
  refine aw_iload_n X dX6_init_7 3 3 rfl rfl ?_
  obtain ⟨s2, hs2, h⟩ := bind_some h
  refine aw_pfFI X XI fl_X6_9 dX6_init_8 hs2 ?_
  cases h
  exact aw_vret X dX6_init_11
theorem AX6_init {E : AE} {l : Launch} (hE : EOK E l) (φ d : Nat) (this : Nat) (v1 : Option Nat) (v2 : Int32) (v3 : Int32) (σ : St) (y : St) (h : fX6_init φ this v1 v2 v3 σ = some y) : AMet E l yX6_init (ws_ yX6_init cX6_init 4 none) (d + 2) [.inr (.inr (some this)), .inr (.inr v1), .inl v2, .inl v3] σ none y := by
  refine amet_of hE (by decide +kernel) (Nat.le_of_ble_eq_true rfl) fun C e1 e2 X XI => ?_
  subst e1
  exact wX6_init X (XI rfl) φ this v1 v2 v3 σ y h
theorem wX6_kind {C : CT} {d : Nat} (X : Cx C cX6_kind RX6 (some .int) 1 d) (φ : Nat) (this : Nat) (σ : St) (y : Int32) (h : fX6_kind φ this σ = some y) : AW C 0 [(0, .inr (.inr (some this)))] [] σ (AQ C (some (.inl y)) σ) := by
  unfold fX6_kind at h
  refine aw_iconst X (4 : Int32) dX6_kind_0 (by decide) ?_
  cases h
  exact aw_iret X dX6_kind_1
theorem AX6_kind {E : AE} {l : Launch} (hE : EOK E l) (φ d : Nat) (this : Nat) (σ : St) (y : Int32) (h : fX6_kind φ this σ = some y) : AMet E l yX6_kind (ws_ yX6_kind cX6_kind 1 (some .int)) d [.inr (.inr (some this))] σ (some (.inl y)) σ := by
  refine amet_of hE (by decide +kernel) (Nat.le_of_ble_eq_true rfl) fun C e1 e2 X XI => ?_
  subst e1
  exact wX6_kind X φ this σ y h
theorem wX6_is {C : CT} {d : Nat} (X : Cx C cX6_is RX6 (some .boolean) 2 (d + 2)) (φ : Nat) (this : Nat) (v1 : Int32) (σ : St) (y : Int32) (h : fX6_is φ this v1 σ = some y) : AW C 0 [(0, .inr (.inr (some this))), (1, .inl v1)] [] σ (AQ C (some (.inl y)) σ) := by
  unfold fX6_is at h
  refine aw_iload_n X dX6_is_0 1 1 rfl rfl ?_
  refine aw_iconst X (4 : Int32) dX6_is_1 (by decide) ?_
  refine aw_icmp_eq X 13 dX6_is_2 rfl (fun c1 => ?_) (fun c1 => ?_)
  · rw [if_pos c1] at h
    refine aw_iconst X (1 : Int32) dX6_is_13 (by decide) ?_
    refine aw_goto X 18 dX6_is_14 rfl ?_
    cases h
    exact aw_zret X (Or.inr rfl) dX6_is_18
  · rw [if_neg c1] at h
    refine aw_aload_n X dX6_is_5 0 0 rfl rfl ?_
    refine aw_iload_n X dX6_is_6 1 1 rfl rfl ?_
    obtain ⟨y2, hy2, h⟩ := bind_some h
    refine aw_cSU X (st := []) hy2 [.inl v1] rfl ml_X6_15 (fun o h => AX4_is (Cx.ok X) φ d _ _ _ _ h) dX6_is_7 (Nat.le_of_ble_eq_true rfl) ?_
    refine aw_if_eq X 17 dX6_is_10 rfl (fun c3 => ?_) (fun c3 => ?_)
    · rw [if_pos c3] at h
      refine aw_iconst X (0 : Int32) dX6_is_17 (by decide) ?_
      cases h
      exact aw_zret X (Or.inl rfl) dX6_is_18
    · rw [if_neg c3] at h
      refine aw_iconst X (1 : Int32) dX6_is_13 (by decide) ?_
      refine aw_goto X 18 dX6_is_14 rfl ?_
      cases h
      exact aw_zret X (Or.inr rfl) dX6_is_18
theorem AX6_is {E : AE} {l : Launch} (hE : EOK E l) (φ d : Nat) (this : Nat) (v1 : Int32) (σ : St) (y : Int32) (h : fX6_is φ this v1 σ = some y) : AMet E l yX6_is (ws_ yX6_is cX6_is 2 (some .boolean)) (d + 2) [.inr (.inr (some this)), .inl v1] σ (some (.inl y)) σ := by
  refine amet_of hE (by decide +kernel) (Nat.le_of_ble_eq_true rfl) fun C e1 e2 X XI => ?_
  subst e1
  exact wX6_is X φ this v1 σ y h
theorem wX6_tells {C : CT} {d : Nat} (X : Cx C cX6_tells RX6 (some .int) 1 d) (φ : Nat) (this : Nat) (σ : St) (y : Int32) (h : fX6_tells φ this σ = some y) : AW C 0 [(0, .inr (.inr (some this)))] [] σ (AQ C (some (.inl y)) σ) := by
  unfold fX6_tells at h
  refine aw_aload_n X dX6_tells_0 0 0 rfl rfl ?_
  obtain ⟨x1, hx1, h⟩ := bind_some h
  refine aw_gfI X fl_X6_9 dX6_tells_1 hx1 ?_
  cases h
  exact aw_iret X dX6_tells_4
theorem AX6_tells {E : AE} {l : Launch} (hE : EOK E l) (φ d : Nat) (this : Nat) (σ : St) (y : Int32) (h : fX6_tells φ this σ = some y) : AMet E l yX6_tells (ws_ yX6_tells cX6_tells 1 (some .int)) d [.inr (.inr (some this))] σ (some (.inl y)) σ := by
  refine amet_of hE (by decide +kernel) (Nat.le_of_ble_eq_true rfl) fun C e1 e2 X XI => ?_
  subst e1
  exact wX6_tells X φ this σ y h
theorem vl_kind_2 : VLk RX0 210 RX2 yX2_kind yX2_kind cX2_kind 1 (some .int) 0 := ⟨q579, q582, q580, ⟨_, _, _, q595⟩, q581, q580, q92, q595, ⟨by decide, by decide⟩, (by unfold nPar; decide +kernel), by decide⟩
theorem vl_kind_3 : VLk RX0 210 RX3 yX2_kind yX3_kind cX3_kind 1 (some .int) 0 := ⟨q579, q582, q580, ⟨_, _, _, q595⟩, q589, q590, q94, q591, ⟨by decide, by decide⟩, (by unfold nPar; decide +kernel), by decide⟩
theorem vl_kind_4 : VLk RX0 210 RX4 yX2_kind yX4_kind cX4_kind 1 (some .int) 0 := ⟨q579, q582, q580, ⟨_, _, _, q595⟩, q586, q587, q95, q588, ⟨by decide, by decide⟩, (by unfold nPar; decide +kernel), by decide⟩
theorem vl_kind_5 : VLk RX0 210 RX5 yX2_kind yX5_kind cX5_kind 1 (some .int) 0 := ⟨q579, q582, q580, ⟨_, _, _, q595⟩, q592, q593, q96, q594, ⟨by decide, by decide⟩, (by unfold nPar; decide +kernel), by decide⟩
theorem vl_kind_6 : VLk RX0 210 RX6 yX2_kind yX6_kind cX6_kind 1 (some .int) 0 := ⟨q579, q582, q580, ⟨_, _, _, q595⟩, q583, q584, q97, q585, ⟨by decide, by decide⟩, (by unfold nPar; decide +kernel), by decide⟩
theorem aw_v_kind {C : CT} {cc : ByteArray} {ret : Option FieldType} {nL d pc : Nat} {lv : List (Nat × AV)} {st stk : List AV} {σ : St} {Z : State → Prop} {φ : Nat} {ro : Option Nat} {y : Int32} (X : Cx C cc RX0 ret nL (d + 1)) (hv : (ro.bind fun o => fV_kind φ o σ) = some y) (hs : .inr (.inr ro) :: st = stk) (hd : decode cc pc = .ok (.invokevirtual 210, 3)) (hw : wts st ≤ 8) (kk : AW C (pc + 3) lv (.inl y :: st) σ Z) : AW C pc lv stk σ Z := by
  obtain ⟨o, rfl, h⟩ := bind_some hv
  unfold fV_kind at h
  by_cases c2 : sK σ o = 10
  · rw [if_pos c2] at h
    exact aw_callVU X (ci := 2) (st := st) [] hs c2 rfl vl_kind_2 (AX2_kind (Cx.ok X) φ d o σ y h) hd hw kk
  rw [if_neg c2] at h
  by_cases c3 : sK σ o = 11
  · rw [if_pos c3] at h
    exact aw_callVU X (ci := 3) (st := st) [] hs c3 rfl vl_kind_3 (AX3_kind (Cx.ok X) φ d o σ y h) hd hw kk
  rw [if_neg c3] at h
  by_cases c4 : sK σ o = 12
  · rw [if_pos c4] at h
    exact aw_callVU X (ci := 4) (st := st) [] hs c4 rfl vl_kind_4 (AX4_kind (Cx.ok X) φ d o σ y h) hd hw kk
  rw [if_neg c4] at h
  by_cases c5 : sK σ o = 13
  · rw [if_pos c5] at h
    exact aw_callVU X (ci := 5) (st := st) [] hs c5 rfl vl_kind_5 (AX5_kind (Cx.ok X) φ d o σ y h) hd hw kk
  rw [if_neg c5] at h
  by_cases c6 : sK σ o = 14
  · rw [if_pos c6] at h
    exact aw_callVU X (ci := 6) (st := st) [] hs c6 rfl vl_kind_6 (AX6_kind (Cx.ok X) φ d o σ y h) hd hw kk
  rw [if_neg c6] at h
  cases h
theorem vl_is_2 : VLk RX0 314 RX2 yX2_is yX2_is cX2_is 2 (some .boolean) 1 := ⟨q799, q802, q800, ⟨_, _, _, q819⟩, q801, q800, q92, q819, ⟨by decide, by decide⟩, (by unfold nPar; decide +kernel), by decide⟩
theorem vl_is_3 : VLk RX0 314 RX3 yX2_is yX3_is cX3_is 2 (some .boolean) 1 := ⟨q799, q802, q800, ⟨_, _, _, q819⟩, q811, q812, q94, q813, ⟨by decide, by decide⟩, (by unfold nPar; decide +kernel), by decide⟩
theorem vl_is_4 : VLk RX0 314 RX4 yX2_is yX4_is cX4_is 2 (some .boolean) 1 := ⟨q799, q802, q800, ⟨_, _, _, q819⟩, q810, q807, q95, q808, ⟨by decide, by decide⟩, (by unfold nPar; decide +kernel), by decide⟩
theorem vl_is_5 : VLk RX0 314 RX5 yX2_is yX5_is cX5_is 2 (some .boolean) 1 := ⟨q799, q802, q800, ⟨_, _, _, q819⟩, q815, q816, q96, q817, ⟨by decide, by decide⟩, (by unfold nPar; decide +kernel), by decide⟩
theorem vl_is_6 : VLk RX0 314 RX6 yX2_is yX6_is cX6_is 2 (some .boolean) 1 := ⟨q799, q802, q800, ⟨_, _, _, q819⟩, q803, q804, q97, q805, ⟨by decide, by decide⟩, (by unfold nPar; decide +kernel), by decide⟩
theorem aw_v_is {C : CT} {cc : ByteArray} {ret : Option FieldType} {nL d pc : Nat} {lv : List (Nat × AV)} {st stk : List AV} {σ : St} {Z : State → Prop} {φ : Nat} {v1 : Int32} {ro : Option Nat} {y : Int32} (X : Cx C cc RX0 ret nL (d + 3)) (hv : (ro.bind fun o => fV_is φ o v1 σ) = some y) (hs : .inl v1 :: .inr (.inr ro) :: st = stk) (hd : decode cc pc = .ok (.invokevirtual 314, 3)) (hw : wts st ≤ 8) (kk : AW C (pc + 3) lv (.inl y :: st) σ Z) : AW C pc lv stk σ Z := by
  obtain ⟨o, rfl, h⟩ := bind_some hv
  unfold fV_is at h
  by_cases c2 : sK σ o = 10
  · rw [if_pos c2] at h
    exact aw_callVU X (ci := 2) (st := st) [.inl v1] hs c2 rfl vl_is_2 (AX2_is (Cx.ok X) φ (d + 2) o v1 σ y h) hd hw kk
  rw [if_neg c2] at h
  by_cases c3 : sK σ o = 11
  · rw [if_pos c3] at h
    exact aw_callVU X (ci := 3) (st := st) [.inl v1] hs c3 rfl vl_is_3 (AX3_is (Cx.ok X) φ (d + 1) o v1 σ y h) hd hw kk
  rw [if_neg c3] at h
  by_cases c4 : sK σ o = 12
  · rw [if_pos c4] at h
    exact aw_callVU X (ci := 4) (st := st) [.inl v1] hs c4 rfl vl_is_4 (AX4_is (Cx.ok X) φ (d + 1) o v1 σ y h) hd hw kk
  rw [if_neg c4] at h
  by_cases c5 : sK σ o = 13
  · rw [if_pos c5] at h
    exact aw_callVU X (ci := 5) (st := st) [.inl v1] hs c5 rfl vl_is_5 (AX5_is (Cx.ok X) φ d o v1 σ y h) hd hw kk
  rw [if_neg c5] at h
  by_cases c6 : sK σ o = 14
  · rw [if_pos c6] at h
    exact aw_callVU X (ci := 6) (st := st) [.inl v1] hs c6 rfl vl_is_6 (AX6_is (Cx.ok X) φ d o v1 σ y h) hd hw kk
  rw [if_neg c6] at h
  cases h
theorem vl_tells_2 : VLk RX0 340 RX2 yX2_tells yX2_tells cX2_tells 1 (some .int) 0 := ⟨q846, q849, q847, ⟨_, _, _, q862⟩, q848, q847, q92, q862, ⟨by decide, by decide⟩, (by unfold nPar; decide +kernel), by decide⟩
theorem vl_tells_3 : VLk RX0 340 RX3 yX2_tells yX3_tells cX3_tells 1 (some .int) 0 := ⟨q846, q849, q847, ⟨_, _, _, q862⟩, q856, q857, q94, q858, ⟨by decide, by decide⟩, (by unfold nPar; decide +kernel), by decide⟩
theorem vl_tells_4 : VLk RX0 340 RX4 yX2_tells yX4_tells cX4_tells 1 (some .int) 0 := ⟨q846, q849, q847, ⟨_, _, _, q862⟩, q853, q854, q95, q855, ⟨by decide, by decide⟩, (by unfold nPar; decide +kernel), by decide⟩
theorem vl_tells_5 : VLk RX0 340 RX5 yX2_tells yX5_tells cX5_tells 1 (some .int) 0 := ⟨q846, q849, q847, ⟨_, _, _, q862⟩, q859, q860, q96, q861, ⟨by decide, by decide⟩, (by unfold nPar; decide +kernel), by decide⟩
theorem vl_tells_6 : VLk RX0 340 RX6 yX2_tells yX6_tells cX6_tells 1 (some .int) 0 := ⟨q846, q849, q847, ⟨_, _, _, q862⟩, q850, q851, q97, q852, ⟨by decide, by decide⟩, (by unfold nPar; decide +kernel), by decide⟩
theorem aw_v_tells {C : CT} {cc : ByteArray} {ret : Option FieldType} {nL d pc : Nat} {lv : List (Nat × AV)} {st stk : List AV} {σ : St} {Z : State → Prop} {φ : Nat} {ro : Option Nat} {y : Int32} (X : Cx C cc RX0 ret nL (d + 1)) (hv : (ro.bind fun o => fV_tells φ o σ) = some y) (hs : .inr (.inr ro) :: st = stk) (hd : decode cc pc = .ok (.invokevirtual 340, 3)) (hw : wts st ≤ 8) (kk : AW C (pc + 3) lv (.inl y :: st) σ Z) : AW C pc lv stk σ Z := by
  obtain ⟨o, rfl, h⟩ := bind_some hv
  unfold fV_tells at h
  by_cases c2 : sK σ o = 10
  · rw [if_pos c2] at h
    exact aw_callVU X (ci := 2) (st := st) [] hs c2 rfl vl_tells_2 (AX2_tells (Cx.ok X) φ d o σ y h) hd hw kk
  rw [if_neg c2] at h
  by_cases c3 : sK σ o = 11
  · rw [if_pos c3] at h
    exact aw_callVU X (ci := 3) (st := st) [] hs c3 rfl vl_tells_3 (AX3_tells (Cx.ok X) φ d o σ y h) hd hw kk
  rw [if_neg c3] at h
  by_cases c4 : sK σ o = 12
  · rw [if_pos c4] at h
    exact aw_callVU X (ci := 4) (st := st) [] hs c4 rfl vl_tells_4 (AX4_tells (Cx.ok X) φ d o σ y h) hd hw kk
  rw [if_neg c4] at h
  by_cases c5 : sK σ o = 13
  · rw [if_pos c5] at h
    exact aw_callVU X (ci := 5) (st := st) [] hs c5 rfl vl_tells_5 (AX5_tells (Cx.ok X) φ d o σ y h) hd hw kk
  rw [if_neg c5] at h
  by_cases c6 : sK σ o = 14
  · rw [if_pos c6] at h
    exact aw_callVU X (ci := 6) (st := st) [] hs c6 rfl vl_tells_6 (AX6_tells (Cx.ok X) φ d o σ y h) hd hw kk
  rw [if_neg c6] at h
  cases h
theorem wX0_init {C : CT} {d : Nat} (X : Cx C cX0_init RX0 none 1 d) (XI : CxI C) (φ : Nat) (this : Nat) (σ : St) (y : St) (h : fX0_init φ this σ = some y) : AW C 0 [(0, .inr (.inr (some this)))] [] σ (AQ C none y) := by
  unfold fX0_init at h
  refine aw_aload_n X dX0_init_0 0 0 rfl rfl ?_
  refine aw_objI X q106 q107 q108 dX0_init_1 (Nat.le_of_ble_eq_true rfl) ?_
  refine aw_aload_n X dX0_init_4 0 0 rfl rfl ?_
  refine aw_bipush X (6 : Int32) dX0_init_5 (by decide) ?_
  obtain ⟨n1, hn1, h⟩ := bind_some h
  refine aw_newa X (kd := 1) dX0_init_7 rfl (by decide) (by decide) q215 (r := n1.1) (σ' := n1.2) hn1 ?_
  obtain ⟨s2, hs2, h⟩ := bind_some h
  refine aw_pfFR X XI fl_X0_7 dX0_init_9 hs2 ?_
  refine aw_aload_n X dX0_init_12 0 0 rfl rfl ?_
  refine aw_lconst X (1 : Int64) dX0_init_13 rfl ?_
  obtain ⟨s3, hs3, h⟩ := bind_some h
  refine aw_pfL X fl_X0_21 dX0_init_14 hs3 ?_
  refine aw_aload_n X dX0_init_17 0 0 rfl rfl ?_
  refine aw_iconst X (3 : Int32) dX0_init_18 (by decide) ?_
  obtain ⟨s4, hs4, h⟩ := bind_some h
  refine aw_pfI X fl_X0_30 dX0_init_19 hs4 ?_
  refine aw_aload_n X dX0_init_22 0 0 rfl rfl ?_
  refine aw_bipush X (6 : Int32) dX0_init_23 (by decide) ?_
  obtain ⟨n5, hn5, h⟩ := bind_some h
  refine aw_anew X (kd := 5) dX0_init_25 (by decide) (by decide) ⟨fun _ => q109, fun h => absurd h (by decide), fun h => absurd h (by decide)⟩ (r := n5.1) (σ' := n5.2) hn5 ?_
  obtain ⟨s6, hs6, h⟩ := bind_some h
  refine aw_pfFR X XI fl_X0_34 dX0_init_28 hs6 ?_
  refine aw_aload_n X dX0_init_31 0 0 rfl rfl ?_
  refine aw_iconst X (4 : Int32) dX0_init_32 (by decide) ?_
  obtain ⟨n7, hn7, h⟩ := bind_some h
  refine aw_anew X (kd := 6) dX0_init_33 (by decide) (by decide) ⟨fun h => absurd h (by decide), fun _ => q111, fun h => absurd h (by decide)⟩ (r := n7.1) (σ' := n7.2) hn7 ?_
  obtain ⟨s8, hs8, h⟩ := bind_some h
  refine aw_pfFR X XI fl_X0_40 dX0_init_36 hs8 ?_
  refine aw_aload_n X dX0_init_39 0 0 rfl rfl ?_
  refine aw_bipush X (8 : Int32) dX0_init_40 (by decide) ?_
  obtain ⟨n9, hn9, h⟩ := bind_some h
  refine aw_anew X (kd := 7) dX0_init_42 (by decide) (by decide) ⟨fun h => absurd h (by decide), fun h => absurd h (by decide), fun _ => q113⟩ (r := n9.1) (σ' := n9.2) hn9 ?_
  obtain ⟨s10, hs10, h⟩ := bind_some h
  refine aw_pfFR X XI fl_X0_46 dX0_init_45 hs10 ?_
  refine aw_aload_n X dX0_init_48 0 0 rfl rfl ?_
  refine aw_bipush X (40 : Int32) dX0_init_49 (by decide) ?_
  obtain ⟨n11, hn11, h⟩ := bind_some h
  refine aw_newa X (kd := 2) dX0_init_51 rfl (by decide) (by decide) q216 (r := n11.1) (σ' := n11.2) hn11 ?_
  obtain ⟨s12, hs12, h⟩ := bind_some h
  refine aw_pfFR X XI fl_X0_50 dX0_init_53 hs12 ?_
  refine aw_aload_n X dX0_init_56 0 0 rfl rfl ?_
  refine aw_sipush X (246 : Int32) dX0_init_57 (by decide) ?_
  obtain ⟨n13, hn13, h⟩ := bind_some h
  refine aw_newa X (kd := 1) dX0_init_60 rfl (by decide) (by decide) q215 (r := n13.1) (σ' := n13.2) hn13 ?_
  obtain ⟨s14, hs14, h⟩ := bind_some h
  refine aw_pfFR X XI fl_X0_53 dX0_init_62 hs14 ?_
  refine aw_aload_n X dX0_init_65 0 0 rfl rfl ?_
  refine aw_sipush X (246 : Int32) dX0_init_66 (by decide) ?_
  obtain ⟨n15, hn15, h⟩ := bind_some h
  refine aw_newa X (kd := 1) dX0_init_69 rfl (by decide) (by decide) q215 (r := n15.1) (σ' := n15.2) hn15 ?_
  obtain ⟨s16, hs16, h⟩ := bind_some h
  refine aw_pfFR X XI fl_X0_56 dX0_init_71 hs16 ?_
  refine aw_aload_n X dX0_init_74 0 0 rfl rfl ?_
  refine aw_bipush X (40 : Int32) dX0_init_75 (by decide) ?_
  obtain ⟨n17, hn17, h⟩ := bind_some h
  refine aw_newa X (kd := 1) dX0_init_77 rfl (by decide) (by decide) q215 (r := n17.1) (σ' := n17.2) hn17 ?_
  obtain ⟨s18, hs18, h⟩ := bind_some h
  refine aw_pfFR X XI fl_X0_59 dX0_init_79 hs18 ?_
  refine aw_aload_n X dX0_init_82 0 0 rfl rfl ?_
  refine aw_bipush X (40 : Int32) dX0_init_83 (by decide) ?_
  obtain ⟨n19, hn19, h⟩ := bind_some h
  refine aw_newa X (kd := 1) dX0_init_85 rfl (by decide) (by decide) q215 (r := n19.1) (σ' := n19.2) hn19 ?_
  obtain ⟨s20, hs20, h⟩ := bind_some h
  refine aw_pfFR X XI fl_X0_62 dX0_init_87 hs20 ?_
  refine aw_aload_n X dX0_init_90 0 0 rfl rfl ?_
  refine aw_sipush X (1681 : Int32) dX0_init_91 (by decide) ?_
  obtain ⟨n21, hn21, h⟩ := bind_some h
  refine aw_newa X (kd := 3) dX0_init_94 rfl (by decide) (by decide) q217 (r := n21.1) (σ' := n21.2) hn21 ?_
  obtain ⟨s22, hs22, h⟩ := bind_some h
  refine aw_pfFR X XI fl_X0_65 dX0_init_96 hs22 ?_
  refine aw_aload_n X dX0_init_99 0 0 rfl rfl ?_
  refine aw_sipush X (1681 : Int32) dX0_init_100 (by decide) ?_
  obtain ⟨n23, hn23, h⟩ := bind_some h
  refine aw_newa X (kd := 1) dX0_init_103 rfl (by decide) (by decide) q215 (r := n23.1) (σ' := n23.2) hn23 ?_
  obtain ⟨s24, hs24, h⟩ := bind_some h
  refine aw_pfFR X XI fl_X0_69 dX0_init_105 hs24 ?_
  refine aw_aload_n X dX0_init_108 0 0 rfl rfl ?_
  refine aw_sipush X (1681 : Int32) dX0_init_109 (by decide) ?_
  obtain ⟨n25, hn25, h⟩ := bind_some h
  refine aw_newa X (kd := 1) dX0_init_112 rfl (by decide) (by decide) q215 (r := n25.1) (σ' := n25.2) hn25 ?_
  obtain ⟨s26, hs26, h⟩ := bind_some h
  refine aw_pfFR X XI fl_X0_72 dX0_init_114 hs26 ?_
  refine aw_aload_n X dX0_init_117 0 0 rfl rfl ?_
  refine aw_sipush X (1681 : Int32) dX0_init_118 (by decide) ?_
  obtain ⟨n27, hn27, h⟩ := bind_some h
  refine aw_newa X (kd := 1) dX0_init_121 rfl (by decide) (by decide) q215 (r := n27.1) (σ' := n27.2) hn27 ?_
  obtain ⟨s28, hs28, h⟩ := bind_some h
  refine aw_pfFR X XI fl_X0_75 dX0_init_123 hs28 ?_
  refine aw_aload_n X dX0_init_126 0 0 rfl rfl ?_
  refine aw_iconst X (4 : Int32) dX0_init_127 (by decide) ?_
  obtain ⟨n29, hn29, h⟩ := bind_some h
  refine aw_newa X (kd := 1) dX0_init_128 rfl (by decide) (by decide) q215 (r := n29.1) (σ' := n29.2) hn29 ?_
  obtain ⟨s30, hs30, h⟩ := bind_some h
  refine aw_pfFR X XI fl_X0_78 dX0_init_130 hs30 ?_
  refine aw_aload_n X dX0_init_133 0 0 rfl rfl ?_
  refine aw_iconst X (4 : Int32) dX0_init_134 (by decide) ?_
  obtain ⟨n31, hn31, h⟩ := bind_some h
  refine aw_newa X (kd := 1) dX0_init_135 rfl (by decide) (by decide) q215 (r := n31.1) (σ' := n31.2) hn31 ?_
  obtain ⟨s32, hs32, h⟩ := bind_some h
  refine aw_pfFR X XI fl_X0_81 dX0_init_137 hs32 ?_
  refine aw_aload_n X dX0_init_140 0 0 rfl rfl ?_
  refine aw_sipush X (984 : Int32) dX0_init_141 (by decide) ?_
  obtain ⟨n33, hn33, h⟩ := bind_some h
  refine aw_newa X (kd := 1) dX0_init_144 rfl (by decide) (by decide) q215 (r := n33.1) (σ' := n33.2) hn33 ?_
  obtain ⟨s34, hs34, h⟩ := bind_some h
  refine aw_pfFR X XI fl_X0_84 dX0_init_146 hs34 ?_
  refine aw_aload_n X dX0_init_149 0 0 rfl rfl ?_
  refine aw_sipush X (20000 : Int32) dX0_init_150 (by decide) ?_
  obtain ⟨n35, hn35, h⟩ := bind_some h
  refine aw_newa X (kd := 1) dX0_init_153 rfl (by decide) (by decide) q215 (r := n35.1) (σ' := n35.2) hn35 ?_
  obtain ⟨s36, hs36, h⟩ := bind_some h
  refine aw_pfFR X XI fl_X0_87 dX0_init_155 hs36 ?_
  refine aw_aload_n X dX0_init_158 0 0 rfl rfl ?_
  refine aw_sipush X (20000 : Int32) dX0_init_159 (by decide) ?_
  obtain ⟨n37, hn37, h⟩ := bind_some h
  refine aw_newa X (kd := 1) dX0_init_162 rfl (by decide) (by decide) q215 (r := n37.1) (σ' := n37.2) hn37 ?_
  obtain ⟨s38, hs38, h⟩ := bind_some h
  refine aw_pfFR X XI fl_X0_90 dX0_init_164 hs38 ?_
  refine aw_aload_n X dX0_init_167 0 0 rfl rfl ?_
  refine aw_lconst X (0 : Int64) dX0_init_168 rfl ?_
  obtain ⟨s39, hs39, h⟩ := bind_some h
  refine aw_pfL X fl_X0_14 dX0_init_169 hs39 ?_
  cases h
  exact aw_vret X dX0_init_172
theorem AX0_init {E : AE} {l : Launch} (hE : EOK E l) (φ d : Nat) (this : Nat) (σ : St) (y : St) (h : fX0_init φ this σ = some y) : AMet E l yX0_init (ws_ yX0_init cX0_init 1 none) d [.inr (.inr (some this))] σ none y := by
  refine amet_of hE (by decide +kernel) (Nat.le_of_ble_eq_true rfl) fun C e1 e2 X XI => ?_
  subst e1
  exact wX0_init X (XI rfl) φ this σ y h
theorem wX0_isIn {C : CT} {d : Nat} (X : Cx C cX0_isIn RX0 (some .boolean) 3 d) (φ : Nat) (v0 : Int32) (v1 : Int32) (v2 : Int32) (σ : St) (y : Int32) (h : fX0_isIn φ v0 v1 v2 σ = some y) : AW C 0 [(0, .inl v0), (1, .inl v1), (2, .inl v2)] [] σ (AQ C (some (.inl y)) σ) := by
  unfold fX0_isIn at h
  refine aw_iload_n X dX0_isIn_0 0 0 rfl rfl ?_
  refine aw_iload_n X dX0_isIn_1 1 1 rfl rfl ?_
  refine aw_icmp_lt X 14 dX0_isIn_2 rfl (fun c1 => ?_) (fun c1 => ?_)
  · rw [if_pos c1] at h
    refine aw_iconst X (0 : Int32) dX0_isIn_14 (by decide) ?_
    cases h
    exact aw_zret X (Or.inl rfl) dX0_isIn_15
  · rw [if_neg c1] at h
    refine aw_iload_n X dX0_isIn_5 0 0 rfl rfl ?_
    refine aw_iload_n X dX0_isIn_6 2 2 rfl rfl ?_
    refine aw_icmp_gt X 14 dX0_isIn_7 rfl (fun c2 => ?_) (fun c2 => ?_)
    · rw [if_pos c2] at h
      refine aw_iconst X (0 : Int32) dX0_isIn_14 (by decide) ?_
      cases h
      exact aw_zret X (Or.inl rfl) dX0_isIn_15
    · rw [if_neg c2] at h
      refine aw_iconst X (1 : Int32) dX0_isIn_10 (by decide) ?_
      refine aw_goto X 15 dX0_isIn_11 rfl ?_
      cases h
      exact aw_zret X (Or.inr rfl) dX0_isIn_15
theorem AX0_isIn {E : AE} {l : Launch} (hE : EOK E l) (φ d : Nat) (v0 : Int32) (v1 : Int32) (v2 : Int32) (σ : St) (y : Int32) (h : fX0_isIn φ v0 v1 v2 σ = some y) : AMet E l yX0_isIn (ws_ yX0_isIn cX0_isIn 3 (some .boolean)) d [.inl v0, .inl v1, .inl v2] σ (some (.inl y)) σ := by
  refine amet_of hE (by decide +kernel) (Nat.le_of_ble_eq_true rfl) fun C e1 e2 X XI => ?_
  subst e1
  exact wX0_isIn X φ v0 v1 v2 σ y h
theorem wX0_isRow {C : CT} {d : Nat} (X : Cx C cX0_isRow RX0 (some .boolean) 1 (d + 1)) (φ : Nat) (v0 : Int32) (σ : St) (y : Int32) (h : fX0_isRow φ v0 σ = some y) : AW C 0 [(0, .inl v0)] [] σ (AQ C (some (.inl y)) σ) := by
  unfold fX0_isRow at h
  refine aw_iload_n X dX0_isRow_0 0 0 rfl rfl ?_
  refine aw_iconst X (0 : Int32) dX0_isRow_1 (by decide) ?_
  refine aw_iconst X (5 : Int32) dX0_isRow_2 (by decide) ?_
  obtain ⟨y1, hy1, h⟩ := bind_some h
  refine aw_callS X (st := []) [.inl v0, .inl (0 : Int32), .inl (5 : Int32)] rfl ml_X0_93 (AX0_isIn (Cx.ok X) φ d _ _ _ _ _  hy1) dX0_isRow_3 (Nat.le_of_ble_eq_true rfl) ?_
  obtain ⟨hz2, h⟩ := chk_some h
  cases h
  exact aw_zret X hz2 dX0_isRow_6
theorem AX0_isRow {E : AE} {l : Launch} (hE : EOK E l) (φ d : Nat) (v0 : Int32) (σ : St) (y : Int32) (h : fX0_isRow φ v0 σ = some y) : AMet E l yX0_isRow (ws_ yX0_isRow cX0_isRow 1 (some .boolean)) (d + 1) [.inl v0] σ (some (.inl y)) σ := by
  refine amet_of hE (by decide +kernel) (Nat.le_of_ble_eq_true rfl) fun C e1 e2 X XI => ?_
  subst e1
  exact wX0_isRow X φ v0 σ y h
theorem wX0_met {C : CT} {d : Nat} (X : Cx C cX0_met RX0 (some .int) 2 d) (φ : Nat) (this : Nat) (v1 : Int32) (σ : St) (y : Int32 × St) (h : fX0_met φ this v1 σ = some y) : AW C 0 [(0, .inr (.inr (some this))), (1, .inl v1)] [] σ (AQ C (some (.inl y.1)) y.2) := by
  unfold fX0_met at h
  refine aw_aload_n X dX0_met_0 0 0 rfl rfl ?_
  refine aw_iload_n X dX0_met_1 1 1 rfl rfl ?_
  obtain ⟨s1, hs1, h⟩ := bind_some h
  refine aw_pfI X fl_X0_1 dX0_met_2 hs1 ?_
  refine aw_aload_n X dX0_met_5 0 0 rfl rfl ?_
  obtain ⟨x2, hx2, h⟩ := bind_some h
  refine aw_gfR X fl_X0_7 dX0_met_6 hx2 ?_
  refine aw_iload_n X dX0_met_9 1 1 rfl rfl ?_
  refine aw_dup2 X dX0_met_10 rfl rfl ?_
  obtain ⟨x3, hx3, h⟩ := bind_some h
  refine aw_iald X dX0_met_11 hx3 ?_
  refine aw_iconst X (1 : Int32) dX0_met_12 (by decide) ?_
  refine aw_iadd X dX0_met_13 ?_
  obtain ⟨s4, hs4, h⟩ := bind_some h
  refine aw_iast X dX0_met_14 hs4 ?_
  refine aw_bipush X (-3 : Int32) dX0_met_15 (by decide) ?_
  cases h
  exact aw_iret X dX0_met_17
theorem AX0_met {E : AE} {l : Launch} (hE : EOK E l) (φ d : Nat) (this : Nat) (v1 : Int32) (σ : St) (y : Int32 × St) (h : fX0_met φ this v1 σ = some y) : AMet E l yX0_met (ws_ yX0_met cX0_met 2 (some .int)) d [.inr (.inr (some this)), .inl v1] σ (some (.inl y.1)) y.2 := by
  refine amet_of hE (by decide +kernel) (Nat.le_of_ble_eq_true rfl) fun C e1 e2 X XI => ?_
  subst e1
  exact wX0_met X φ this v1 σ y h
theorem wX0_row {C : CT} {d : Nat} (X : Cx C cX0_row RX0 (some .int) 4 (d + 2)) (XH : CxH C [(15, 25, 26, 101)]) (φ : Nat) (this : Nat) (v1 : Int32) (v2 : Int32) (σ : St) (y : Int32 × St) (h : fX0_row φ this v1 v2 σ = some y) : AW C 0 [(0, .inr (.inr (some this))), (1, .inl v1), (2, .inl v2)] [] σ (AQ C (some (.inl y.1)) y.2) := by
  unfold fX0_row at h
  refine aw_iload_n X dX0_row_0 1 1 rfl rfl ?_
  obtain ⟨y1, hy1, h⟩ := bind_some h
  refine aw_callS X (st := []) [.inl v1] rfl ml_X0_97 (AX0_isRow (Cx.ok X) φ d _ _ _  hy1) dX0_row_1 (Nat.le_of_ble_eq_true rfl) ?_
  refine aw_if_eq X 13 dX0_row_4 rfl (fun c2 => ?_) (fun c2 => ?_)
  · rw [if_pos c2] at h
    refine aw_iconst X (-1 : Int32) dX0_row_13 (by decide) ?_
    cases h
    exact aw_iret X dX0_row_14
  · rw [if_neg c2] at h
    refine aw_iload_n X dX0_row_7 2 2 rfl rfl ?_
    refine aw_bipush X (40 : Int32) dX0_row_8 (by decide) ?_
    refine aw_icmp_le X 15 dX0_row_10 rfl (fun c3 => ?_) (fun c3 => ?_)
    · rw [if_pos c3] at h
      refine aw_aload_n X dX0_row_15 0 0 rfl rfl ?_
      obtain ⟨x4, hx4, h⟩ := bind_some h
      refine aw_gfR X fl_X0_34 dX0_row_16 hx4 ?_
      refine aw_iload_n X dX0_row_19 1 1 rfl rfl ?_
      refine aw_iload_n X dX0_row_20 2 2 rfl rfl ?_
      by_cases c7 : v2 < 0
      · rw [if_pos c7] at h
        obtain ⟨s8, hs8, h⟩ := bind_some h
        refine aw_newaX X XH dX0_row_21 c7 (Nat.le_of_ble_eq_true rfl) (Or.inr ⟨rfl, by decide, "java/lang/NegativeArraySizeException", q222, Or.inl ⟨q285, rfl⟩⟩) hs8 ?_
        refine aw_astore_n X dX0_row_26 3 rfl (by decide) [(3, .inr (.inr (some (sn σ + 2)))), (0, .inr (.inr (some this))), (1, .inl v1), (2, .inl v2)] rfl ?_
        refine aw_aload_n X dX0_row_27 1 0 rfl rfl ?_
        refine aw_iconst X (5 : Int32) dX0_row_28 (by decide) ?_
        obtain ⟨y9, hy9, h⟩ := bind_some h
        refine aw_cV X (st := []) hy9 [.inl (5 : Int32)] rfl rfl ml_X0_103 (fun o h => AX0_met (Cx.ok X) φ (d + 1) _ _ _ _ h) dX0_row_29 (Nat.le_of_ble_eq_true rfl) ?_
        cases h
        exact aw_iret X dX0_row_32
      rw [if_neg c7] at h
      obtain ⟨n5, hn5, h⟩ := bind_some h
      refine aw_newa X (kd := 1) dX0_row_21 rfl (by decide) (by decide) q215 (r := n5.1) (σ' := n5.2) hn5 ?_
      obtain ⟨s6, hs6, h⟩ := bind_some h
      refine aw_aast X (kd := 5) (lo := 1) (hi := 1) dX0_row_23 (by decide) hs6 ?_
      refine aw_iload_n X dX0_row_24 2 2 rfl rfl ?_
      cases h
      exact aw_iret X dX0_row_25
    · rw [if_neg c3] at h
      refine aw_iconst X (-1 : Int32) dX0_row_13 (by decide) ?_
      cases h
      exact aw_iret X dX0_row_14
theorem AX0_row {E : AE} {l : Launch} (hE : EOK E l) (φ d : Nat) (this : Nat) (v1 : Int32) (v2 : Int32) (σ : St) (y : Int32 × St) (h : fX0_row φ this v1 v2 σ = some y) : AMet E l yX0_row (wsW_ yX0_row cX0_row 4 (some .int) [(15, 25, 26, 101)]) (d + 2) [.inr (.inr (some this)), .inl v1, .inl v2] σ (some (.inl y.1)) y.2 := by
  refine amet_ofW hE (by decide +kernel) (Nat.le_of_ble_eq_true rfl) fun C e1 e2 X XI XH => ?_
  subst e1
  exact wX0_row X XH φ this v1 v2 σ y h
theorem wX0_ask {C : CT} {d : Nat} (X : Cx C cX0_ask RX0 (some .int) 3 d) (φ : Nat) (this : Nat) (v1 : Int32) (v2 : Int32) (σ : St) (y : Int32 × St) (h : fX0_ask φ this v1 v2 σ = some y) : AW C 0 [(0, .inr (.inr (some this))), (1, .inl v1), (2, .inl v2)] [] σ (AQ C (some (.inl y.1)) y.2) := by
  unfold fX0_ask at h
  refine aw_aload_n X dX0_ask_0 0 0 rfl rfl ?_
  refine aw_iload_n X dX0_ask_1 1 1 rfl rfl ?_
  obtain ⟨s1, hs1, h⟩ := bind_some h
  refine aw_pfI X fl_X0_11 dX0_ask_2 hs1 ?_
  refine aw_iload_n X dX0_ask_5 2 2 rfl rfl ?_
  cases h
  exact aw_iret X dX0_ask_6
theorem AX0_ask {E : AE} {l : Launch} (hE : EOK E l) (φ d : Nat) (this : Nat) (v1 : Int32) (v2 : Int32) (σ : St) (y : Int32 × St) (h : fX0_ask φ this v1 v2 σ = some y) : AMet E l yX0_ask (ws_ yX0_ask cX0_ask 3 (some .int)) d [.inr (.inr (some this)), .inl v1, .inl v2] σ (some (.inl y.1)) y.2 := by
  refine amet_of hE (by decide +kernel) (Nat.le_of_ble_eq_true rfl) fun C e1 e2 X XI => ?_
  subst e1
  exact wX0_ask X φ this v1 v2 σ y h
theorem wX0_at {C : CT} {d : Nat} (X : Cx C cX0_at RX0 (some .int) 4 (d + 2)) (XH : CxH C [(9, 22, 23, 114), (9, 22, 30, 116)]) (φ : Nat) (this : Nat) (v1 : Int32) (v2 : Int32) (σ : St) (y : Int32 × St) (h : fX0_at φ this v1 v2 σ = some y) : AW C 0 [(0, .inr (.inr (some this))), (1, .inl v1), (2, .inl v2)] [] σ (AQ C (some (.inl y.1)) y.2) := by
  unfold fX0_at at h
  refine aw_iload_n X dX0_at_0 1 1 rfl rfl ?_
  obtain ⟨y1, hy1, h⟩ := bind_some h
  refine aw_callS X (st := []) [.inl v1] rfl ml_X0_97 (AX0_isRow (Cx.ok X) φ d _ _ _  hy1) dX0_at_1 (Nat.le_of_ble_eq_true rfl) ?_
  refine aw_if_ne X 9 dX0_at_4 rfl (fun c2 => ?_) (fun c2 => ?_)
  · rw [if_neg c2] at h
    refine aw_aload_n X dX0_at_9 0 0 rfl rfl ?_
    refine aw_aload_n X dX0_at_10 0 0 rfl rfl ?_
    obtain ⟨x3, hx3, h⟩ := bind_some h
    refine aw_gfR X fl_X0_34 dX0_at_11 hx3 ?_
    refine aw_iload_n X dX0_at_14 1 1 rfl rfl ?_
    obtain ⟨x4, hx4, h⟩ := bind_some h
    refine aw_aald X (kd := 5) dX0_at_15 (by decide) (by decide) hx4 ?_
    refine aw_iload_n X dX0_at_16 2 2 rfl rfl ?_
    by_cases c7 : x4 = none
    · rw [if_pos c7] at h
      obtain ⟨s10, hs10, h⟩ := bind_some h
      refine aw_ialdX X XH dX0_at_17 c7 (Nat.le_of_ble_eq_true rfl) (Or.inr ⟨rfl, by decide, "java/lang/NullPointerException", q325, Or.inl ⟨q347, rfl⟩⟩) hs10 ?_
      refine aw_astore_n X dX0_at_23 3 rfl (by decide) [(3, .inr (.inr (some (sn σ)))), (0, .inr (.inr (some this))), (1, .inl v1), (2, .inl v2)] rfl ?_
      refine aw_aload_n X dX0_at_24 1 0 rfl rfl ?_
      refine aw_iconst X (1 : Int32) dX0_at_25 (by decide) ?_
      obtain ⟨y11, hy11, h⟩ := bind_some h
      refine aw_cV X (st := []) hy11 [.inl (1 : Int32)] rfl rfl ml_X0_103 (fun o h => AX0_met (Cx.ok X) φ (d + 1) _ _ _ _ h) dX0_at_26 (Nat.le_of_ble_eq_true rfl) ?_
      cases h
      exact aw_iret X dX0_at_29
    rw [if_neg c7] at h
    by_cases c8 : outA σ x4 v2 = true
    · rw [if_pos c8] at h
      obtain ⟨hk9, h⟩ := chk_some h
      obtain ⟨s12, hs12, h⟩ := bind_some h
      refine aw_ialdO X XH dX0_at_17 c8 hk9 (Nat.le_of_ble_eq_true rfl) (Or.inr ⟨rfl, by decide, "java/lang/NullPointerException", q325, Or.inr ⟨by decide +kernel, (Or.inr ⟨rfl, by decide, "java/lang/ArrayIndexOutOfBoundsException", q350, Or.inl ⟨q365, rfl⟩⟩)⟩⟩) hs12 ?_
      refine aw_astore_n X dX0_at_30 3 rfl (by decide) [(3, .inr (.inr (some (sn σ + 2)))), (0, .inr (.inr (some this))), (1, .inl v1), (2, .inl v2)] rfl ?_
      refine aw_aload_n X dX0_at_31 1 0 rfl rfl ?_
      refine aw_iconst X (2 : Int32) dX0_at_32 (by decide) ?_
      obtain ⟨y13, hy13, h⟩ := bind_some h
      refine aw_cV X (st := []) hy13 [.inl (2 : Int32)] rfl rfl ml_X0_103 (fun o h => AX0_met (Cx.ok X) φ (d + 1) _ _ _ _ h) dX0_at_33 (Nat.le_of_ble_eq_true rfl) ?_
      cases h
      exact aw_iret X dX0_at_36
    rw [if_neg c8] at h
    obtain ⟨x5, hx5, h⟩ := bind_some h
    refine aw_iald X dX0_at_17 hx5 ?_
    refine aw_iconst X (1 : Int32) dX0_at_18 (by decide) ?_
    obtain ⟨y6, hy6, h⟩ := bind_some h
    refine aw_cV X (st := []) hy6 [.inl x5, .inl (1 : Int32)] rfl rfl ml_X0_111 (fun o h => AX0_ask (Cx.ok X) φ (d + 1) _ _ _ _ _ h) dX0_at_19 (Nat.le_of_ble_eq_true rfl) ?_
    cases h
    exact aw_iret X dX0_at_22
  · rw [if_pos c2] at h
    refine aw_iconst X (-1 : Int32) dX0_at_7 (by decide) ?_
    cases h
    exact aw_iret X dX0_at_8
theorem AX0_at {E : AE} {l : Launch} (hE : EOK E l) (φ d : Nat) (this : Nat) (v1 : Int32) (v2 : Int32) (σ : St) (y : Int32 × St) (h : fX0_at φ this v1 v2 σ = some y) : AMet E l yX0_at (wsW_ yX0_at cX0_at 4 (some .int) [(9, 22, 23, 114), (9, 22, 30, 116)]) (d + 2) [.inr (.inr (some this)), .inl v1, .inl v2] σ (some (.inl y.1)) y.2 := by
  refine amet_ofW hE (by decide +kernel) (Nat.le_of_ble_eq_true rfl) fun C e1 e2 X XI XH => ?_
  subst e1
  exact wX0_at X XH φ this v1 v2 σ y h
theorem wX0_lay {C : CT} {d : Nat} (X : Cx C cX0_lay RX0 (some .int) 5 (d + 3)) (φ : Nat) (this : Nat) (v1 : Int32) (v2 : Int32) (v3 : Int32) (σ : St) (y : Int32 × St) (h : fX0_lay φ this v1 v2 v3 σ = some y) : AW C 0 [(0, .inr (.inr (some this))), (1, .inl v1), (2, .inl v2), (3, .inl v3)] [] σ (AQ C (some (.inl y.1)) y.2) := by
  unfold fX0_lay at h
  refine aw_aload_n X dX0_lay_0 0 0 rfl rfl ?_
  refine aw_iload_n X dX0_lay_1 1 1 rfl rfl ?_
  refine aw_iload_n X dX0_lay_2 2 2 rfl rfl ?_
  obtain ⟨y1, hy1, h⟩ := bind_some h
  refine aw_cVW X (st := []) hy1 [.inl v1, .inl v2] rfl rfl ml_X0_107 (fun o h => AX0_at (Cx.ok X) φ d _ _ _ _ _ h) dX0_lay_3 (Nat.le_of_ble_eq_true rfl) ?_
  refine aw_istore X dX0_lay_6 (by decide) [(4, .inl y1.1), (0, .inr (.inr (some this))), (1, .inl v1), (2, .inl v2), (3, .inl v3)] rfl ?_
  refine aw_iload X dX0_lay_8 0 rfl ?_
  refine aw_iconst X (1 : Int32) dX0_lay_10 (by decide) ?_
  refine aw_icmp_ne X 23 dX0_lay_11 rfl (fun c2 => ?_) (fun c2 => ?_)
  · rw [if_neg c2] at h
    refine aw_iload X dX0_lay_23 0 rfl ?_
    cases h
    exact aw_iret X dX0_lay_25
  · rw [if_pos c2] at h
    refine aw_aload_n X dX0_lay_14 1 0 rfl rfl ?_
    obtain ⟨x3, hx3, h⟩ := bind_some h
    refine aw_gfR X fl_X0_34 dX0_lay_15 hx3 ?_
    refine aw_iload_n X dX0_lay_18 2 1 rfl rfl ?_
    obtain ⟨x4, hx4, h⟩ := bind_some h
    refine aw_aald X (kd := 5) dX0_lay_19 (by decide) (by decide) hx4 ?_
    refine aw_iload_n X dX0_lay_20 3 2 rfl rfl ?_
    refine aw_iload_n X dX0_lay_21 4 3 rfl rfl ?_
    obtain ⟨s5, hs5, h⟩ := bind_some h
    refine aw_iast X dX0_lay_22 hs5 ?_
    refine aw_iload X dX0_lay_23 0 rfl ?_
    cases h
    exact aw_iret X dX0_lay_25
theorem AX0_lay {E : AE} {l : Launch} (hE : EOK E l) (φ d : Nat) (this : Nat) (v1 : Int32) (v2 : Int32) (v3 : Int32) (σ : St) (y : Int32 × St) (h : fX0_lay φ this v1 v2 v3 σ = some y) : AMet E l yX0_lay (ws_ yX0_lay cX0_lay 5 (some .int)) (d + 3) [.inr (.inr (some this)), .inl v1, .inl v2, .inl v3] σ (some (.inl y.1)) y.2 := by
  refine amet_of hE (by decide +kernel) (Nat.le_of_ble_eq_true rfl) fun C e1 e2 X XI => ?_
  subst e1
  exact wX0_lay X φ this v1 v2 v3 σ y h
theorem wX0_tear {C : CT} {d : Nat} (X : Cx C cX0_tear RX0 (some .int) 3 (d + 2)) (XH : CxH C [(9, 25, 26, 114)]) (φ : Nat) (this : Nat) (v1 : Int32) (σ : St) (y : Int32 × St) (h : fX0_tear φ this v1 σ = some y) : AW C 0 [(0, .inr (.inr (some this))), (1, .inl v1)] [] σ (AQ C (some (.inl y.1)) y.2) := by
  unfold fX0_tear at h
  refine aw_iload_n X dX0_tear_0 1 1 rfl rfl ?_
  obtain ⟨y1, hy1, h⟩ := bind_some h
  refine aw_callS X (st := []) [.inl v1] rfl ml_X0_97 (AX0_isRow (Cx.ok X) φ d _ _ _  hy1) dX0_tear_1 (Nat.le_of_ble_eq_true rfl) ?_
  refine aw_if_ne X 9 dX0_tear_4 rfl (fun c2 => ?_) (fun c2 => ?_)
  · rw [if_neg c2] at h
    refine aw_aload_n X dX0_tear_9 0 0 rfl rfl ?_
    obtain ⟨x3, hx3, h⟩ := bind_some h
    refine aw_gfR X fl_X0_34 dX0_tear_10 hx3 ?_
    refine aw_iload_n X dX0_tear_13 1 1 rfl rfl ?_
    obtain ⟨x4, hx4, h⟩ := bind_some h
    refine aw_aald X (kd := 5) dX0_tear_14 (by decide) (by decide) hx4 ?_
    by_cases c8 : x4 = none
    · rw [if_pos c8] at h
      obtain ⟨s9, hs9, h⟩ := bind_some h
      refine aw_alenX X XH dX0_tear_15 c8 (Nat.le_of_ble_eq_true rfl) (Or.inr ⟨rfl, by decide, "java/lang/NullPointerException", q325, Or.inl ⟨q347, rfl⟩⟩) hs9 ?_
      refine aw_astore_n X dX0_tear_26 2 rfl (by decide) [(2, .inr (.inr (some (sn σ)))), (0, .inr (.inr (some this))), (1, .inl v1)] rfl ?_
      refine aw_aload_n X dX0_tear_27 1 0 rfl rfl ?_
      refine aw_iconst X (1 : Int32) dX0_tear_28 (by decide) ?_
      obtain ⟨y10, hy10, h⟩ := bind_some h
      refine aw_cV X (st := []) hy10 [.inl (1 : Int32)] rfl rfl ml_X0_103 (fun o h => AX0_met (Cx.ok X) φ (d + 1) _ _ _ _ h) dX0_tear_29 (Nat.le_of_ble_eq_true rfl) ?_
      cases h
      exact aw_iret X dX0_tear_32
    rw [if_neg c8] at h
    obtain ⟨x5, hx5, h⟩ := bind_some h
    refine aw_alen X dX0_tear_15 hx5 ?_
    refine aw_istore_n X dX0_tear_16 2 rfl (by decide) [(2, .inl x5), (0, .inr (.inr (some this))), (1, .inl v1)] rfl ?_
    refine aw_aload_n X dX0_tear_17 1 0 rfl rfl ?_
    obtain ⟨x6, hx6, h⟩ := bind_some h
    refine aw_gfR X fl_X0_34 dX0_tear_18 hx6 ?_
    refine aw_iload_n X dX0_tear_21 2 1 rfl rfl ?_
    refine aw_null X dX0_tear_22 ?_
    obtain ⟨s7, hs7, h⟩ := bind_some h
    refine aw_aast X (kd := 5) (lo := 1) (hi := 1) dX0_tear_23 (by decide) hs7 ?_
    refine aw_iconst X (1 : Int32) dX0_tear_24 (by decide) ?_
    cases h
    exact aw_iret X dX0_tear_25
  · rw [if_pos c2] at h
    refine aw_iconst X (-1 : Int32) dX0_tear_7 (by decide) ?_
    cases h
    exact aw_iret X dX0_tear_8
theorem AX0_tear {E : AE} {l : Launch} (hE : EOK E l) (φ d : Nat) (this : Nat) (v1 : Int32) (σ : St) (y : Int32 × St) (h : fX0_tear φ this v1 σ = some y) : AMet E l yX0_tear (wsW_ yX0_tear cX0_tear 3 (some .int) [(9, 25, 26, 114)]) (d + 2) [.inr (.inr (some this)), .inl v1] σ (some (.inl y.1)) y.2 := by
  refine amet_ofW hE (by decide +kernel) (Nat.le_of_ble_eq_true rfl) fun C e1 e2 X XI XH => ?_
  subst e1
  exact wX0_tear X XH φ this v1 σ y h
theorem wX0_mean_l27 {C : CT} {d : Nat} {Z : State → Prop} (X : Cx C cX0_mean RX0 (some .int) 8 (d + 2)) (XH : CxH C [(9, 69, 70, 114), (9, 69, 77, 126)]) (φ : Nat) (this : Nat) (v1 : Int32) (v4 : Option Nat) (v5 : Int32) (σ : St) (v2 : Int64) (v6 : Int32) (y : (Int64 × Int32) ⊕ (Int64)) (h : fX0_mean_l27 φ this v1 v4 v5 σ v2 v6 = some y) (kH : ∀ s : Int64 × Int32, y = .inl s → AW C 27 [(0, .inr (.inr (some this))), (1, .inl v1), (2, .inr (.inl s.1)), (4, .inr (.inr v4)), (5, .inl v5), (6, .inl s.2)] [] σ Z) (kE0 : ∀ e : Int64, y = .inr e → AW C 53 [(0, .inr (.inr (some this))), (1, .inl v1), (2, .inr (.inl e))] [] σ Z) : AW C 27 [(0, .inr (.inr (some this))), (1, .inl v1), (2, .inr (.inl v2)), (4, .inr (.inr v4)), (5, .inl v5), (6, .inl v6)] [] σ Z := by
  unfold fX0_mean_l27 at h
  refine aw_iload X dX0_mean_27 5 rfl ?_
  refine aw_iload X dX0_mean_29 4 rfl ?_
  refine aw_icmp_ge X 53 dX0_mean_31 rfl (fun c6 => ?_) (fun c6 => ?_)
  · rw [if_pos c6] at h
    cases h
    refine aw_sub [(0, .inr (.inr (some this))), (1, .inl v1), (2, .inr (.inl v2))] [0, 1, 2] rfl ?_
    exact kE0 v2 rfl
  · rw [if_neg c6] at h
    refine aw_aload X dX0_mean_34 3 rfl ?_
    refine aw_iload X dX0_mean_36 5 rfl ?_
    obtain ⟨x7, hx7, h⟩ := bind_some h
    refine aw_iald X dX0_mean_38 hx7 ?_
    refine aw_istore X dX0_mean_39 (by decide) [(7, .inl x7), (0, .inr (.inr (some this))), (1, .inl v1), (2, .inr (.inl v2)), (4, .inr (.inr v4)), (5, .inl v5), (6, .inl v6)] rfl ?_
    refine aw_lload_n X dX0_mean_41 3 2 rfl rfl ?_
    refine aw_iload X dX0_mean_42 0 rfl ?_
    refine aw_i2l X dX0_mean_44 ?_
    refine aw_ladd X dX0_mean_45 ?_
    refine aw_lstore_n X dX0_mean_46 2 rfl (by decide) [(2, .inr (.inl (v2 + (x7.toInt64)))), (7, .inl x7), (0, .inr (.inr (some this))), (1, .inl v1), (4, .inr (.inr v4)), (5, .inl v5), (6, .inl v6)] rfl ?_
    refine aw_iinc X dX0_mean_47 6 rfl (1 : Int32) rfl (by decide) [(6, .inl (v6 + (1 : Int32))), (2, .inr (.inl (v2 + (x7.toInt64)))), (7, .inl x7), (0, .inr (.inr (some this))), (1, .inl v1), (4, .inr (.inr v4)), (5, .inl v5)] rfl ?_
    refine aw_goto X 27 dX0_mean_50 rfl ?_
    cases h
    refine aw_sub [(0, .inr (.inr (some this))), (1, .inl v1), (2, .inr (.inl (v2 + (x7.toInt64)))), (4, .inr (.inr v4)), (5, .inl v5), (6, .inl (v6 + (1 : Int32)))] [3, 4, 1, 5, 6, 0] rfl ?_
    exact kH ((v2 + (x7.toInt64)), (v6 + (1 : Int32))) rfl
theorem wX0_mean {C : CT} {d : Nat} (X : Cx C cX0_mean RX0 (some .int) 8 (d + 2)) (XH : CxH C [(9, 69, 70, 114), (9, 69, 77, 126)]) (φ : Nat) (this : Nat) (v1 : Int32) (σ : St) (y : Int32 × St) (h : fX0_mean φ this v1 σ = some y) : AW C 0 [(0, .inr (.inr (some this))), (1, .inl v1)] [] σ (AQ C (some (.inl y.1)) y.2) := by
  unfold fX0_mean at h
  refine aw_iload_n X dX0_mean_0 1 1 rfl rfl ?_
  obtain ⟨y1, hy1, h⟩ := bind_some h
  refine aw_callS X (st := []) [.inl v1] rfl ml_X0_97 (AX0_isRow (Cx.ok X) φ d _ _ _  hy1) dX0_mean_1 (Nat.le_of_ble_eq_true rfl) ?_
  refine aw_if_ne X 9 dX0_mean_4 rfl (fun c2 => ?_) (fun c2 => ?_)
  · rw [if_neg c2] at h
    refine aw_lconst X (0 : Int64) dX0_mean_9 rfl ?_
    refine aw_lstore_n X dX0_mean_10 2 rfl (by decide) [(2, .inr (.inl (0 : Int64))), (0, .inr (.inr (some this))), (1, .inl v1)] rfl ?_
    refine aw_aload_n X dX0_mean_11 1 0 rfl rfl ?_
    obtain ⟨x3, hx3, h⟩ := bind_some h
    refine aw_gfR X fl_X0_34 dX0_mean_12 hx3 ?_
    refine aw_iload_n X dX0_mean_15 2 1 rfl rfl ?_
    obtain ⟨x4, hx4, h⟩ := bind_some h
    refine aw_aald X (kd := 5) dX0_mean_16 (by decide) (by decide) hx4 ?_
    refine aw_astore X dX0_mean_17 (by decide) [(4, .inr (.inr x4)), (2, .inr (.inl (0 : Int64))), (0, .inr (.inr (some this))), (1, .inl v1)] rfl ?_
    refine aw_aload X dX0_mean_19 0 rfl ?_
    by_cases c18 : x4 = none
    · rw [if_pos c18] at h
      obtain ⟨s19, hs19, h⟩ := bind_some h
      refine aw_alenX X XH dX0_mean_21 c18 (Nat.le_of_ble_eq_true rfl) (Or.inr ⟨rfl, by decide, "java/lang/NullPointerException", q325, Or.inl ⟨q347, rfl⟩⟩) hs19 ?_
      refine aw_astore_n X dX0_mean_70 2 rfl (by decide) [(2, .inr (.inr (some (sn σ)))), (4, .inr (.inr x4)), (0, .inr (.inr (some this))), (1, .inl v1)] rfl ?_
      refine aw_aload_n X dX0_mean_71 2 0 rfl rfl ?_
      refine aw_iconst X (1 : Int32) dX0_mean_72 (by decide) ?_
      obtain ⟨y20, hy20, h⟩ := bind_some h
      refine aw_cV X (st := []) hy20 [.inl (1 : Int32)] rfl rfl ml_X0_103 (fun o h => AX0_met (Cx.ok X) φ (d + 1) _ _ _ _ h) dX0_mean_73 (Nat.le_of_ble_eq_true rfl) ?_
      cases h
      exact aw_iret X dX0_mean_76
    rw [if_neg c18] at h
    obtain ⟨x5, hx5, h⟩ := bind_some h
    refine aw_alen X dX0_mean_21 hx5 ?_
    refine aw_istore X dX0_mean_22 (by decide) [(5, .inl x5), (4, .inr (.inr x4)), (2, .inr (.inl (0 : Int64))), (0, .inr (.inr (some this))), (1, .inl v1)] rfl ?_
    refine aw_iconst X (0 : Int32) dX0_mean_24 (by decide) ?_
    refine aw_istore X dX0_mean_25 (by decide) [(6, .inl (0 : Int32)), (5, .inl x5), (4, .inr (.inr x4)), (2, .inr (.inl (0 : Int64))), (0, .inr (.inr (some this))), (1, .inl v1)] rfl ?_
    obtain ⟨e8, h9, h⟩ := bind_some h
    refine aw_sub [(0, .inr (.inr (some this))), (1, .inl v1), (2, .inr (.inl (0 : Int64))), (4, .inr (.inr x4)), (5, .inl x5), (6, .inl (0 : Int32))] [4, 5, 3, 2, 1, 0] rfl ?_
    refine aw_it (fun s => AW C 27 [(0, .inr (.inr (some this))), (1, .inl v1), (2, .inr (.inl s.1)), (4, .inr (.inr x4)), (5, .inl x5), (6, .inl s.2)] [] σ (AQ C (some (.inl y.1)) y.2)) (fun e => AW C 53 [(0, .inr (.inr (some this))), (1, .inl v1), (2, .inr (.inl e))] [] σ (AQ C (some (.inl y.1)) y.2)) (fun s r hr kH kE => wX0_mean_l27 X XH φ this v1 x4 x5 σ s.1 s.2 r hr kH kE) φ _ e8 h9 ?_
    refine aw_aload_n X dX0_mean_53 0 0 rfl rfl ?_
    refine aw_lload_n X dX0_mean_54 2 2 rfl rfl ?_
    refine aw_aload_n X dX0_mean_55 0 0 rfl rfl ?_
    obtain ⟨x10, hx10, h⟩ := bind_some h
    refine aw_gfR X fl_X0_34 dX0_mean_56 hx10 ?_
    refine aw_iload_n X dX0_mean_59 1 1 rfl rfl ?_
    obtain ⟨x11, hx11, h⟩ := bind_some h
    refine aw_aald X (kd := 5) dX0_mean_60 (by decide) (by decide) hx11 ?_
    obtain ⟨x12, hx12, h⟩ := bind_some h
    refine aw_alen X dX0_mean_61 hx12 ?_
    refine aw_i2l X dX0_mean_62 ?_
    by_cases c15 : (x12.toInt64) = 0
    · rw [if_pos c15] at h
      obtain ⟨s16, hs16, h⟩ := bind_some h
      refine aw_ldivX X XH dX0_mean_63 c15 (Nat.le_of_ble_eq_true rfl) (Or.inr ⟨rfl, by decide, "java/lang/NullPointerException", q325, Or.inr ⟨by decide +kernel, (Or.inr ⟨rfl, by decide, "java/lang/ArithmeticException", q390, Or.inl ⟨q402, rfl⟩⟩)⟩⟩) hs16 ?_
      refine aw_astore_n X dX0_mean_77 2 rfl (by decide) [(2, .inr (.inr (some (sn σ + 2)))), (0, .inr (.inr (some this))), (1, .inl v1)] rfl ?_
      refine aw_aload_n X dX0_mean_78 1 0 rfl rfl ?_
      refine aw_iconst X (4 : Int32) dX0_mean_79 (by decide) ?_
      obtain ⟨y17, hy17, h⟩ := bind_some h
      refine aw_cV X (st := []) hy17 [.inl (4 : Int32)] rfl rfl ml_X0_103 (fun o h => AX0_met (Cx.ok X) φ (d + 1) _ _ _ _ h) dX0_mean_80 (Nat.le_of_ble_eq_true rfl) ?_
      cases h
      exact aw_iret X dX0_mean_83
    rw [if_neg c15] at h
    obtain ⟨hn13, h⟩ := chk_some h
    refine aw_ldiv X dX0_mean_63 hn13 ?_
    refine aw_l2i X dX0_mean_64 ?_
    refine aw_iconst X (1 : Int32) dX0_mean_65 (by decide) ?_
    obtain ⟨y14, hy14, h⟩ := bind_some h
    refine aw_cV X (st := []) hy14 [.inl ((e8 / (x12.toInt64)).toInt32), .inl (1 : Int32)] rfl rfl ml_X0_111 (fun o h => AX0_ask (Cx.ok X) φ (d + 1) _ _ _ _ _ h) dX0_mean_66 (Nat.le_of_ble_eq_true rfl) ?_
    cases h
    exact aw_iret X dX0_mean_69
  · rw [if_pos c2] at h
    refine aw_iconst X (-1 : Int32) dX0_mean_7 (by decide) ?_
    cases h
    exact aw_iret X dX0_mean_8
theorem AX0_mean {E : AE} {l : Launch} (hE : EOK E l) (φ d : Nat) (this : Nat) (v1 : Int32) (σ : St) (y : Int32 × St) (h : fX0_mean φ this v1 σ = some y) : AMet E l yX0_mean (wsW_ yX0_mean cX0_mean 8 (some .int) [(9, 69, 70, 114), (9, 69, 77, 126)]) (d + 2) [.inr (.inr (some this)), .inl v1] σ (some (.inl y.1)) y.2 := by
  refine amet_ofW hE (by decide +kernel) (Nat.le_of_ble_eq_true rfl) fun C e1 e2 X XI XH => ?_
  subst e1
  exact wX0_mean X XH φ this v1 σ y h
theorem wX0_isText {C : CT} {d : Nat} (X : Cx C cX0_isText RX0 (some .boolean) 1 (d + 1)) (φ : Nat) (v0 : Int32) (σ : St) (y : Int32) (h : fX0_isText φ v0 σ = some y) : AW C 0 [(0, .inl v0)] [] σ (AQ C (some (.inl y)) σ) := by
  unfold fX0_isText at h
  refine aw_iload_n X dX0_isText_0 0 0 rfl rfl ?_
  refine aw_iconst X (0 : Int32) dX0_isText_1 (by decide) ?_
  refine aw_iconst X (3 : Int32) dX0_isText_2 (by decide) ?_
  obtain ⟨y1, hy1, h⟩ := bind_some h
  refine aw_callS X (st := []) [.inl v0, .inl (0 : Int32), .inl (3 : Int32)] rfl ml_X0_93 (AX0_isIn (Cx.ok X) φ d _ _ _ _ _  hy1) dX0_isText_3 (Nat.le_of_ble_eq_true rfl) ?_
  obtain ⟨hz2, h⟩ := chk_some h
  cases h
  exact aw_zret X hz2 dX0_isText_6
theorem AX0_isText {E : AE} {l : Launch} (hE : EOK E l) (φ d : Nat) (v0 : Int32) (σ : St) (y : Int32) (h : fX0_isText φ v0 σ = some y) : AMet E l yX0_isText (ws_ yX0_isText cX0_isText 1 (some .boolean)) (d + 1) [.inl v0] σ (some (.inl y)) σ := by
  refine amet_of hE (by decide +kernel) (Nat.le_of_ble_eq_true rfl) fun C e1 e2 X XI => ?_
  subst e1
  exact wX0_isText X φ v0 σ y h
theorem wX0_text_l22 {C : CT} {d : Nat} {Z : State → Prop} (X : Cx C cX0_text RX0 (some .int) 5 (d + 2)) (XH : CxH C [(15, 48, 49, 101)]) (φ : Nat) (this : Nat) (v1 : Int32) (v2 : Int32) (v3 : Option Nat) (v4 : Int32) (σ : St) (y : (Int32 × St) ⊕ (St)) (h : fX0_text_l22 φ this v1 v2 v3 v4 σ = some y) (kH : ∀ s : Int32 × St, y = .inl s → AW C 22 [(0, .inr (.inr (some this))), (1, .inl v1), (2, .inl v2), (3, .inr (.inr v3)), (4, .inl s.1)] [] s.2 Z) (kE0 : ∀ e : St, y = .inr e → AW C 40 [(0, .inr (.inr (some this))), (1, .inl v1), (2, .inl v2), (3, .inr (.inr v3))] [] e Z) : AW C 22 [(0, .inr (.inr (some this))), (1, .inl v1), (2, .inl v2), (3, .inr (.inr v3)), (4, .inl v4)] [] σ Z := by
  unfold fX0_text_l22 at h
  refine aw_iload X dX0_text_22 4 rfl ?_
  refine aw_iload_n X dX0_text_24 2 2 rfl rfl ?_
  refine aw_icmp_ge X 40 dX0_text_25 rfl (fun c5 => ?_) (fun c5 => ?_)
  · rw [if_pos c5] at h
    cases h
    refine aw_sub [(0, .inr (.inr (some this))), (1, .inl v1), (2, .inl v2), (3, .inr (.inr v3))] [0, 1, 2, 3] rfl ?_
    exact kE0 σ rfl
  · rw [if_neg c5] at h
    refine aw_aload_n X dX0_text_28 3 3 rfl rfl ?_
    refine aw_iload X dX0_text_29 4 rfl ?_
    refine aw_bipush X (32 : Int32) dX0_text_31 (by decide) ?_
    obtain ⟨s6, hs6, h⟩ := bind_some h
    refine aw_bast X dX0_text_33 hs6 ?_
    refine aw_iinc X dX0_text_34 4 rfl (1 : Int32) rfl (by decide) [(4, .inl (v4 + (1 : Int32))), (0, .inr (.inr (some this))), (1, .inl v1), (2, .inl v2), (3, .inr (.inr v3))] rfl ?_
    refine aw_goto X 22 dX0_text_37 rfl ?_
    cases h
    refine aw_sub [(0, .inr (.inr (some this))), (1, .inl v1), (2, .inl v2), (3, .inr (.inr v3)), (4, .inl (v4 + (1 : Int32)))] [1, 2, 3, 4, 0] rfl ?_
    exact kH ((v4 + (1 : Int32)), s6) rfl
theorem wX0_text {C : CT} {d : Nat} (X : Cx C cX0_text RX0 (some .int) 5 (d + 2)) (XH : CxH C [(15, 48, 49, 101)]) (φ : Nat) (this : Nat) (v1 : Int32) (v2 : Int32) (σ : St) (y : Int32 × St) (h : fX0_text φ this v1 v2 σ = some y) : AW C 0 [(0, .inr (.inr (some this))), (1, .inl v1), (2, .inl v2)] [] σ (AQ C (some (.inl y.1)) y.2) := by
  unfold fX0_text at h
  refine aw_iload_n X dX0_text_0 1 1 rfl rfl ?_
  obtain ⟨y1, hy1, h⟩ := bind_some h
  refine aw_callS X (st := []) [.inl v1] rfl ml_X0_128 (AX0_isText (Cx.ok X) φ d _ _ _  hy1) dX0_text_1 (Nat.le_of_ble_eq_true rfl) ?_
  refine aw_if_eq X 13 dX0_text_4 rfl (fun c2 => ?_) (fun c2 => ?_)
  · rw [if_pos c2] at h
    refine aw_iconst X (-1 : Int32) dX0_text_13 (by decide) ?_
    cases h
    exact aw_iret X dX0_text_14
  · rw [if_neg c2] at h
    refine aw_iload_n X dX0_text_7 2 2 rfl rfl ?_
    refine aw_bipush X (60 : Int32) dX0_text_8 (by decide) ?_
    refine aw_icmp_le X 15 dX0_text_10 rfl (fun c3 => ?_) (fun c3 => ?_)
    · rw [if_pos c3] at h
      refine aw_iload_n X dX0_text_15 2 2 rfl rfl ?_
      by_cases c11 : v2 < 0
      · rw [if_pos c11] at h
        obtain ⟨s12, hs12, h⟩ := bind_some h
        refine aw_newaX X XH dX0_text_16 c11 (Nat.le_of_ble_eq_true rfl) (Or.inr ⟨rfl, by decide, "java/lang/NegativeArraySizeException", q222, Or.inl ⟨q285, rfl⟩⟩) hs12 ?_
        refine aw_astore_n X dX0_text_49 3 rfl (by decide) [(3, .inr (.inr (some (sn σ + 2)))), (0, .inr (.inr (some this))), (1, .inl v1), (2, .inl v2)] rfl ?_
        refine aw_aload_n X dX0_text_50 1 0 rfl rfl ?_
        refine aw_iconst X (5 : Int32) dX0_text_51 (by decide) ?_
        obtain ⟨y13, hy13, h⟩ := bind_some h
        refine aw_cV X (st := []) hy13 [.inl (5 : Int32)] rfl rfl ml_X0_103 (fun o h => AX0_met (Cx.ok X) φ (d + 1) _ _ _ _ h) dX0_text_52 (Nat.le_of_ble_eq_true rfl) ?_
        cases h
        exact aw_iret X dX0_text_55
      rw [if_neg c11] at h
      obtain ⟨n4, hn4, h⟩ := bind_some h
      refine aw_newa X (kd := 2) dX0_text_16 rfl (by decide) (by decide) q216 (r := n4.1) (σ' := n4.2) hn4 ?_
      refine aw_astore_n X dX0_text_18 3 rfl (by decide) [(3, .inr (.inr n4.1)), (0, .inr (.inr (some this))), (1, .inl v1), (2, .inl v2)] rfl ?_
      refine aw_iconst X (0 : Int32) dX0_text_19 (by decide) ?_
      refine aw_istore X dX0_text_20 (by decide) [(4, .inl (0 : Int32)), (3, .inr (.inr n4.1)), (0, .inr (.inr (some this))), (1, .inl v1), (2, .inl v2)] rfl ?_
      obtain ⟨e7, h8, h⟩ := bind_some h
      refine aw_sub [(0, .inr (.inr (some this))), (1, .inl v1), (2, .inl v2), (3, .inr (.inr n4.1)), (4, .inl (0 : Int32))] [2, 3, 4, 1, 0] rfl ?_
      refine aw_it (fun s => AW C 22 [(0, .inr (.inr (some this))), (1, .inl v1), (2, .inl v2), (3, .inr (.inr n4.1)), (4, .inl s.1)] [] s.2 (AQ C (some (.inl y.1)) y.2)) (fun e => AW C 40 [(0, .inr (.inr (some this))), (1, .inl v1), (2, .inl v2), (3, .inr (.inr n4.1))] [] e (AQ C (some (.inl y.1)) y.2)) (fun s r hr kH kE => wX0_text_l22 X XH φ this v1 v2 n4.1 s.1 s.2 r hr kH kE) φ _ e7 h8 ?_
      refine aw_aload_n X dX0_text_40 0 0 rfl rfl ?_
      obtain ⟨x9, hx9, h⟩ := bind_some h
      refine aw_gfR X fl_X0_40 dX0_text_41 hx9 ?_
      refine aw_iload_n X dX0_text_44 1 1 rfl rfl ?_
      refine aw_aload_n X dX0_text_45 3 3 rfl rfl ?_
      obtain ⟨s10, hs10, h⟩ := bind_some h
      refine aw_aast X (kd := 6) (lo := 2) (hi := 2) dX0_text_46 (by decide) hs10 ?_
      refine aw_iload_n X dX0_text_47 2 2 rfl rfl ?_
      cases h
      exact aw_iret X dX0_text_48
    · rw [if_neg c3] at h
      refine aw_iconst X (-1 : Int32) dX0_text_13 (by decide) ?_
      cases h
      exact aw_iret X dX0_text_14
theorem AX0_text {E : AE} {l : Launch} (hE : EOK E l) (φ d : Nat) (this : Nat) (v1 : Int32) (v2 : Int32) (σ : St) (y : Int32 × St) (h : fX0_text φ this v1 v2 σ = some y) : AMet E l yX0_text (wsW_ yX0_text cX0_text 5 (some .int) [(15, 48, 49, 101)]) (d + 2) [.inr (.inr (some this)), .inl v1, .inl v2] σ (some (.inl y.1)) y.2 := by
  refine amet_ofW hE (by decide +kernel) (Nat.le_of_ble_eq_true rfl) fun C e1 e2 X XI XH => ?_
  subst e1
  exact wX0_text X XH φ this v1 v2 σ y h
theorem wX0_put {C : CT} {d : Nat} (X : Cx C cX0_put RX0 (some .int) 5 (d + 2)) (XH : CxH C [(9, 35, 36, 114), (9, 35, 44, 116)]) (φ : Nat) (this : Nat) (v1 : Int32) (v2 : Int32) (v3 : Int32) (σ : St) (y : Int32 × St) (h : fX0_put φ this v1 v2 v3 σ = some y) : AW C 0 [(0, .inr (.inr (some this))), (1, .inl v1), (2, .inl v2), (3, .inl v3)] [] σ (AQ C (some (.inl y.1)) y.2) := by
  unfold fX0_put at h
  refine aw_iload_n X dX0_put_0 1 1 rfl rfl ?_
  obtain ⟨y1, hy1, h⟩ := bind_some h
  refine aw_callS X (st := []) [.inl v1] rfl ml_X0_128 (AX0_isText (Cx.ok X) φ d _ _ _  hy1) dX0_put_1 (Nat.le_of_ble_eq_true rfl) ?_
  refine aw_if_ne X 9 dX0_put_4 rfl (fun c2 => ?_) (fun c2 => ?_)
  · rw [if_neg c2] at h
    refine aw_aload_n X dX0_put_9 0 0 rfl rfl ?_
    obtain ⟨x3, hx3, h⟩ := bind_some h
    refine aw_gfR X fl_X0_40 dX0_put_10 hx3 ?_
    refine aw_iload_n X dX0_put_13 1 1 rfl rfl ?_
    obtain ⟨x4, hx4, h⟩ := bind_some h
    refine aw_aald X (kd := 6) dX0_put_14 (by decide) (by decide) hx4 ?_
    refine aw_iload_n X dX0_put_15 2 2 rfl rfl ?_
    by_cases c9 : x4 = none
    · rw [if_pos c9] at h
      obtain ⟨s12, hs12, h⟩ := bind_some h
      refine aw_baldX X XH dX0_put_16 c9 (Nat.le_of_ble_eq_true rfl) (Or.inr ⟨rfl, by decide, "java/lang/NullPointerException", q325, Or.inl ⟨q347, rfl⟩⟩) hs12 ?_
      refine aw_astore X dX0_put_36 (by decide) [(4, .inr (.inr (some (sn σ)))), (0, .inr (.inr (some this))), (1, .inl v1), (2, .inl v2), (3, .inl v3)] rfl ?_
      refine aw_aload_n X dX0_put_38 1 0 rfl rfl ?_
      refine aw_iconst X (1 : Int32) dX0_put_39 (by decide) ?_
      obtain ⟨y13, hy13, h⟩ := bind_some h
      refine aw_cV X (st := []) hy13 [.inl (1 : Int32)] rfl rfl ml_X0_103 (fun o h => AX0_met (Cx.ok X) φ (d + 1) _ _ _ _ h) dX0_put_40 (Nat.le_of_ble_eq_true rfl) ?_
      cases h
      exact aw_iret X dX0_put_43
    rw [if_neg c9] at h
    by_cases c10 : outA σ x4 v2 = true
    · rw [if_pos c10] at h
      obtain ⟨hk11, h⟩ := chk_some h
      obtain ⟨s14, hs14, h⟩ := bind_some h
      refine aw_baldO X XH dX0_put_16 c10 hk11 (Nat.le_of_ble_eq_true rfl) (Or.inr ⟨rfl, by decide, "java/lang/NullPointerException", q325, Or.inr ⟨by decide +kernel, (Or.inr ⟨rfl, by decide, "java/lang/ArrayIndexOutOfBoundsException", q350, Or.inl ⟨q365, rfl⟩⟩)⟩⟩) hs14 ?_
      refine aw_astore X dX0_put_44 (by decide) [(4, .inr (.inr (some (sn σ + 2)))), (0, .inr (.inr (some this))), (1, .inl v1), (2, .inl v2), (3, .inl v3)] rfl ?_
      refine aw_aload_n X dX0_put_46 1 0 rfl rfl ?_
      refine aw_iconst X (2 : Int32) dX0_put_47 (by decide) ?_
      obtain ⟨y15, hy15, h⟩ := bind_some h
      refine aw_cV X (st := []) hy15 [.inl (2 : Int32)] rfl rfl ml_X0_103 (fun o h => AX0_met (Cx.ok X) φ (d + 1) _ _ _ _ h) dX0_put_48 (Nat.le_of_ble_eq_true rfl) ?_
      cases h
      exact aw_iret X dX0_put_51
    rw [if_neg c10] at h
    obtain ⟨x5, hx5, h⟩ := bind_some h
    refine aw_bald X dX0_put_16 hx5 ?_
    refine aw_istore X dX0_put_17 (by decide) [(4, .inl x5), (0, .inr (.inr (some this))), (1, .inl v1), (2, .inl v2), (3, .inl v3)] rfl ?_
    refine aw_aload_n X dX0_put_19 1 0 rfl rfl ?_
    obtain ⟨x6, hx6, h⟩ := bind_some h
    refine aw_gfR X fl_X0_40 dX0_put_20 hx6 ?_
    refine aw_iload_n X dX0_put_23 2 1 rfl rfl ?_
    obtain ⟨x7, hx7, h⟩ := bind_some h
    refine aw_aald X (kd := 6) dX0_put_24 (by decide) (by decide) hx7 ?_
    refine aw_iload_n X dX0_put_25 3 2 rfl rfl ?_
    refine aw_iload_n X dX0_put_26 4 3 rfl rfl ?_
    refine aw_i2b X dX0_put_27 ?_
    obtain ⟨s8, hs8, h⟩ := bind_some h
    refine aw_bast X dX0_put_28 hs8 ?_
    refine aw_iload X dX0_put_29 0 rfl ?_
    refine aw_sipush X (1000 : Int32) dX0_put_31 (by decide) ?_
    refine aw_iadd X dX0_put_34 ?_
    cases h
    exact aw_iret X dX0_put_35
  · rw [if_pos c2] at h
    refine aw_iconst X (-1 : Int32) dX0_put_7 (by decide) ?_
    cases h
    exact aw_iret X dX0_put_8
theorem AX0_put {E : AE} {l : Launch} (hE : EOK E l) (φ d : Nat) (this : Nat) (v1 : Int32) (v2 : Int32) (v3 : Int32) (σ : St) (y : Int32 × St) (h : fX0_put φ this v1 v2 v3 σ = some y) : AMet E l yX0_put (wsW_ yX0_put cX0_put 5 (some .int) [(9, 35, 36, 114), (9, 35, 44, 116)]) (d + 2) [.inr (.inr (some this)), .inl v1, .inl v2, .inl v3] σ (some (.inl y.1)) y.2 := by
  refine amet_ofW hE (by decide +kernel) (Nat.le_of_ble_eq_true rfl) fun C e1 e2 X XI XH => ?_
  subst e1
  exact wX0_put X XH φ this v1 v2 v3 σ y h
theorem wX0_letters_l38 {C : CT} {d : Nat} {Z : State → Prop} (X : Cx C cX0_letters RX0 (some .int) 7 (d + 1)) (φ : Nat) (this : Nat) (v1 : Int32) (v2 : Option Nat) (v3 : Int32) (v4 : Int32) (v5 : Option Nat) (σ : St) (v6 : Int32) (y : (Int32) ⊕ ((Unit) ⊕ (Unit))) (h : fX0_letters_l38 φ this v1 v2 v3 v4 v5 σ v6 = some y) (kH : ∀ s : Int32, y = .inl s → AW C 38 [(0, .inr (.inr (some this))), (1, .inl v1), (2, .inr (.inr v2)), (3, .inl v3), (4, .inl v4), (5, .inr (.inr v5)), (6, .inl s)] [] σ Z) (kE0 : ∀ e : Unit, y = .inr (.inl e) → AW C 75 [(0, .inr (.inr (some this))), (1, .inl v1), (2, .inr (.inr v2)), (3, .inl v3), (4, .inl v4)] [] σ Z) (kE1 : ∀ e : Unit, y = .inr (.inr e) → AW C 66 [] [] σ Z) : AW C 38 [(0, .inr (.inr (some this))), (1, .inl v1), (2, .inr (.inr v2)), (3, .inl v3), (4, .inl v4), (5, .inr (.inr v5)), (6, .inl v6)] [] σ Z := by
  unfold fX0_letters_l38 at h
  refine aw_aload X dX0_letters_38 5 rfl ?_
  refine aw_ifnull X 75 dX0_letters_40 rfl (fun c7 => ?_) (fun c7 => ?_)
  · rw [if_pos c7] at h
    cases h
    refine aw_sub [(0, .inr (.inr (some this))), (1, .inl v1), (2, .inr (.inr v2)), (3, .inl v3), (4, .inl v4)] [0, 1, 2, 3, 4] rfl ?_
    exact kE0 () rfl
  · rw [if_neg c7] at h
    refine aw_iload X dX0_letters_43 6 rfl ?_
    refine aw_aload X dX0_letters_45 5 rfl ?_
    obtain ⟨x8, hx8, h⟩ := bind_some h
    refine aw_gfRN X fl_X0_134 dX0_letters_47 hx8 ?_
    obtain ⟨x9, hx9, h⟩ := bind_some h
    refine aw_alen X dX0_letters_50 hx9 ?_
    refine aw_icmp_ge X 75 dX0_letters_51 rfl (fun c10 => ?_) (fun c10 => ?_)
    · rw [if_pos c10] at h
      cases h
      refine aw_sub [(0, .inr (.inr (some this))), (1, .inl v1), (2, .inr (.inr v2)), (3, .inl v3), (4, .inl v4)] [0, 1, 2, 3, 4] rfl ?_
      exact kE0 () rfl
    · rw [if_neg c10] at h
      refine aw_aload X dX0_letters_54 5 rfl ?_
      obtain ⟨x11, hx11, h⟩ := bind_some h
      refine aw_gfRN X fl_X0_134 dX0_letters_56 hx11 ?_
      refine aw_iload X dX0_letters_59 6 rfl ?_
      obtain ⟨x12, hx12, h⟩ := bind_some h
      refine aw_bald X dX0_letters_61 hx12 ?_
      refine aw_iload_n X dX0_letters_62 1 1 rfl rfl ?_
      refine aw_icmp_lt X 69 dX0_letters_63 rfl (fun c13 => ?_) (fun c13 => ?_)
      · rw [if_pos c13] at h
        refine aw_iinc X dX0_letters_69 6 rfl (1 : Int32) rfl (by decide) [(6, .inl (v6 + (1 : Int32))), (0, .inr (.inr (some this))), (1, .inl v1), (2, .inr (.inr v2)), (3, .inl v3), (4, .inl v4), (5, .inr (.inr v5))] rfl ?_
        refine aw_goto X 38 dX0_letters_72 rfl ?_
        cases h
        refine aw_sub [(0, .inr (.inr (some this))), (1, .inl v1), (2, .inr (.inr v2)), (3, .inl v3), (4, .inl v4), (5, .inr (.inr v5)), (6, .inl (v6 + (1 : Int32)))] [1, 2, 3, 4, 5, 6, 0] rfl ?_
        exact kH (v6 + (1 : Int32)) rfl
      · rw [if_neg c13] at h
        cases h
        refine aw_sub [] [] rfl ?_
        exact kE1 () rfl
theorem wX0_letters_l23 {C : CT} {d : Nat} {Z : State → Prop} (X : Cx C cX0_letters RX0 (some .int) 7 (d + 1)) (φ : Nat) (this : Nat) (v1 : Int32) (v2 : Option Nat) (v3 : Int32) (σ : St) (v4 : Int32) (y : (Int32) ⊕ ((Unit) ⊕ (Unit))) (h : fX0_letters_l23 φ this v1 v2 v3 σ v4 = some y) (kH : ∀ s : Int32, y = .inl s → AW C 23 [(0, .inr (.inr (some this))), (1, .inl v1), (2, .inr (.inr v2)), (3, .inl v3), (4, .inl s)] [] σ Z) (kE0 : ∀ e : Unit, y = .inr (.inl e) → AW C 81 [(0, .inr (.inr (some this))), (1, .inl v1)] [] σ Z) (kE1 : ∀ e : Unit, y = .inr (.inr e) → AW C 66 [] [] σ Z) : AW C 23 [(0, .inr (.inr (some this))), (1, .inl v1), (2, .inr (.inr v2)), (3, .inl v3), (4, .inl v4)] [] σ Z := by
  unfold fX0_letters_l23 at h
  refine aw_iload X dX0_letters_23 4 rfl ?_
  refine aw_iload_n X dX0_letters_25 3 3 rfl rfl ?_
  refine aw_icmp_ge X 81 dX0_letters_26 rfl (fun c5 => ?_) (fun c5 => ?_)
  · rw [if_pos c5] at h
    cases h
    refine aw_sub [(0, .inr (.inr (some this))), (1, .inl v1)] [0, 1] rfl ?_
    exact kE0 () rfl
  · rw [if_neg c5] at h
    refine aw_aload_n X dX0_letters_29 2 2 rfl rfl ?_
    refine aw_iload X dX0_letters_30 4 rfl ?_
    obtain ⟨x6, hx6, h⟩ := bind_some h
    refine aw_aald X (kd := 7) dX0_letters_32 (by decide) (by decide) hx6 ?_
    refine aw_astore X dX0_letters_33 (by decide) [(5, .inr (.inr x6)), (0, .inr (.inr (some this))), (1, .inl v1), (2, .inr (.inr v2)), (3, .inl v3), (4, .inl v4)] rfl ?_
    refine aw_iconst X (0 : Int32) dX0_letters_35 (by decide) ?_
    refine aw_istore X dX0_letters_36 (by decide) [(6, .inl (0 : Int32)), (5, .inr (.inr x6)), (0, .inr (.inr (some this))), (1, .inl v1), (2, .inr (.inr v2)), (3, .inl v3), (4, .inl v4)] rfl ?_
    obtain ⟨e14, h15, h⟩ := bind_some h
    refine aw_sub [(0, .inr (.inr (some this))), (1, .inl v1), (2, .inr (.inr v2)), (3, .inl v3), (4, .inl v4), (5, .inr (.inr x6)), (6, .inl (0 : Int32))] [2, 3, 4, 5, 6, 1, 0] rfl ?_
    refine aw_it (fun s => AW C 38 [(0, .inr (.inr (some this))), (1, .inl v1), (2, .inr (.inr v2)), (3, .inl v3), (4, .inl v4), (5, .inr (.inr x6)), (6, .inl s)] [] σ Z) (fun e => match e with | (.inl e) => AW C 75 [(0, .inr (.inr (some this))), (1, .inl v1), (2, .inr (.inr v2)), (3, .inl v3), (4, .inl v4)] [] σ Z | (.inr e) => AW C 66 [] [] σ Z) (fun s r hr kH kE => wX0_letters_l38 X φ this v1 v2 v3 v4 x6 σ s r hr kH (fun e he => kE (.inl e) he) (fun e he => kE (.inr e) he)) φ _ e14 h15 ?_
    rcases e14 with e16 | e17
    · refine aw_iinc X dX0_letters_75 4 rfl (1 : Int32) rfl (by decide) [(4, .inl (v4 + (1 : Int32))), (0, .inr (.inr (some this))), (1, .inl v1), (2, .inr (.inr v2)), (3, .inl v3)] rfl ?_
      refine aw_goto X 23 dX0_letters_78 rfl ?_
      cases h
      refine aw_sub [(0, .inr (.inr (some this))), (1, .inl v1), (2, .inr (.inr v2)), (3, .inl v3), (4, .inl (v4 + (1 : Int32)))] [1, 2, 3, 4, 0] rfl ?_
      exact kH (v4 + (1 : Int32)) rfl
    · cases h
      exact kE1 () rfl
theorem wX0_letters {C : CT} {d : Nat} (X : Cx C cX0_letters RX0 (some .int) 7 (d + 1)) (φ : Nat) (this : Nat) (v1 : Int32) (σ : St) (y : Int32 × St) (h : fX0_letters φ this v1 σ = some y) : AW C 0 [(0, .inr (.inr (some this))), (1, .inl v1)] [] σ (AQ C (some (.inl y.1)) y.2) := by
  unfold fX0_letters at h
  refine aw_iload_n X dX0_letters_0 1 1 rfl rfl ?_
  refine aw_iconst X (1 : Int32) dX0_letters_1 (by decide) ?_
  refine aw_bipush X (6 : Int32) dX0_letters_2 (by decide) ?_
  obtain ⟨y1, hy1, h⟩ := bind_some h
  refine aw_callS X (st := []) [.inl v1, .inl (1 : Int32), .inl (6 : Int32)] rfl ml_X0_93 (AX0_isIn (Cx.ok X) φ d _ _ _ _ _  hy1) dX0_letters_4 (Nat.le_of_ble_eq_true rfl) ?_
  refine aw_if_ne X 12 dX0_letters_7 rfl (fun c2 => ?_) (fun c2 => ?_)
  · rw [if_neg c2] at h
    refine aw_aload_n X dX0_letters_12 0 0 rfl rfl ?_
    obtain ⟨x3, hx3, h⟩ := bind_some h
    refine aw_gfR X fl_X0_46 dX0_letters_13 hx3 ?_
    refine aw_astore_n X dX0_letters_16 2 rfl (by decide) [(2, .inr (.inr x3)), (0, .inr (.inr (some this))), (1, .inl v1)] rfl ?_
    refine aw_aload_n X dX0_letters_17 0 2 rfl rfl ?_
    obtain ⟨x4, hx4, h⟩ := bind_some h
    refine aw_alen X dX0_letters_18 hx4 ?_
    refine aw_istore_n X dX0_letters_19 3 rfl (by decide) [(3, .inl x4), (2, .inr (.inr x3)), (0, .inr (.inr (some this))), (1, .inl v1)] rfl ?_
    refine aw_iconst X (0 : Int32) dX0_letters_20 (by decide) ?_
    refine aw_istore X dX0_letters_21 (by decide) [(4, .inl (0 : Int32)), (3, .inl x4), (2, .inr (.inr x3)), (0, .inr (.inr (some this))), (1, .inl v1)] rfl ?_
    obtain ⟨e18, h19, h⟩ := bind_some h
    refine aw_sub [(0, .inr (.inr (some this))), (1, .inl v1), (2, .inr (.inr x3)), (3, .inl x4), (4, .inl (0 : Int32))] [3, 4, 2, 1, 0] rfl ?_
    refine aw_it (fun s => AW C 23 [(0, .inr (.inr (some this))), (1, .inl v1), (2, .inr (.inr x3)), (3, .inl x4), (4, .inl s)] [] σ (AQ C (some (.inl y.1)) y.2)) (fun e => match e with | (.inl e) => AW C 81 [(0, .inr (.inr (some this))), (1, .inl v1)] [] σ (AQ C (some (.inl y.1)) y.2) | (.inr e) => AW C 66 [] [] σ (AQ C (some (.inl y.1)) y.2)) (fun s r hr kH kE => wX0_letters_l23 X φ this v1 x3 x4 σ s r hr kH (fun e he => kE (.inl e) he) (fun e he => kE (.inr e) he)) φ _ e18 h19 ?_
    rcases e18 with e20 | e21
    · refine aw_aload_n X dX0_letters_81 0 0 rfl rfl ?_
      obtain ⟨x22, hx22, h⟩ := bind_some h
      refine aw_gfI X fl_X0_30 dX0_letters_82 hx22 ?_
      refine aw_istore_n X dX0_letters_85 2 rfl (by decide) [(2, .inl x22), (0, .inr (.inr (some this))), (1, .inl v1)] rfl ?_
      refine aw_aload_n X dX0_letters_86 1 0 rfl rfl ?_
      refine aw_iload_n X dX0_letters_87 2 1 rfl rfl ?_
      obtain ⟨s23, hs23, h⟩ := bind_some h
      refine aw_pfI X fl_X0_30 dX0_letters_88 hs23 ?_
      refine aw_iload_n X dX0_letters_91 0 2 rfl rfl ?_
      cases h
      exact aw_iret X dX0_letters_92
    · refine aw_bipush X (-4 : Int32) dX0_letters_66 (by decide) ?_
      cases h
      exact aw_iret X dX0_letters_68
  · rw [if_pos c2] at h
    refine aw_iconst X (-1 : Int32) dX0_letters_10 (by decide) ?_
    cases h
    exact aw_iret X dX0_letters_11
theorem AX0_letters {E : AE} {l : Launch} (hE : EOK E l) (φ d : Nat) (this : Nat) (v1 : Int32) (σ : St) (y : Int32 × St) (h : fX0_letters φ this v1 σ = some y) : AMet E l yX0_letters (ws_ yX0_letters cX0_letters 7 (some .int)) (d + 1) [.inr (.inr (some this)), .inl v1] σ (some (.inl y.1)) y.2 := by
  refine amet_of hE (by decide +kernel) (Nat.le_of_ble_eq_true rfl) fun C e1 e2 X XI => ?_
  subst e1
  exact wX0_letters X φ this v1 σ y h
theorem wX0_isWord {C : CT} {d : Nat} (X : Cx C cX0_isWord RX0 (some .boolean) 1 (d + 1)) (φ : Nat) (v0 : Int32) (σ : St) (y : Int32) (h : fX0_isWord φ v0 σ = some y) : AW C 0 [(0, .inl v0)] [] σ (AQ C (some (.inl y)) σ) := by
  unfold fX0_isWord at h
  refine aw_iload_n X dX0_isWord_0 0 0 rfl rfl ?_
  refine aw_iconst X (0 : Int32) dX0_isWord_1 (by decide) ?_
  refine aw_bipush X (7 : Int32) dX0_isWord_2 (by decide) ?_
  obtain ⟨y1, hy1, h⟩ := bind_some h
  refine aw_callS X (st := []) [.inl v0, .inl (0 : Int32), .inl (7 : Int32)] rfl ml_X0_93 (AX0_isIn (Cx.ok X) φ d _ _ _ _ _  hy1) dX0_isWord_4 (Nat.le_of_ble_eq_true rfl) ?_
  obtain ⟨hz2, h⟩ := chk_some h
  cases h
  exact aw_zret X hz2 dX0_isWord_7
theorem AX0_isWord {E : AE} {l : Launch} (hE : EOK E l) (φ d : Nat) (v0 : Int32) (σ : St) (y : Int32) (h : fX0_isWord φ v0 σ = some y) : AMet E l yX0_isWord (ws_ yX0_isWord cX0_isWord 1 (some .boolean)) (d + 1) [.inl v0] σ (some (.inl y)) σ := by
  refine amet_of hE (by decide +kernel) (Nat.le_of_ble_eq_true rfl) fun C e1 e2 X XI => ?_
  subst e1
  exact wX0_isWord X φ v0 σ y h
theorem wX0_word_l29 {C : CT} {d : Nat} {Z : State → Prop} (X : Cx C cX0_word RX0 (some .int) 5 (d + 2)) (XH : CxH C [(16, 63, 101, 114), (64, 100, 101, 114)]) (φ : Nat) (this : Nat) (v1 : Int32) (v2 : Int32) (v3 : Option Nat) (v4 : Int32) (σ : St) (y : (Int32 × St) ⊕ ((St) ⊕ (St))) (h : fX0_word_l29 φ this v1 v2 v3 v4 σ = some y) (kH : ∀ s : Int32 × St, y = .inl s → AW C 29 [(0, .inr (.inr (some this))), (1, .inl v1), (2, .inl v2), (3, .inr (.inr v3)), (4, .inl s.1)] [] s.2 Z) (kE0 : ∀ e : St, y = .inr (.inl e) → AW C 84 [(0, .inr (.inr (some this))), (1, .inl v1), (3, .inr (.inr v3))] [] e Z) (kE1 : ∀ e : St, y = .inr (.inr e) → AW C 58 [(0, .inr (.inr (some this)))] [] e Z) : AW C 29 [(0, .inr (.inr (some this))), (1, .inl v1), (2, .inl v2), (3, .inr (.inr v3)), (4, .inl v4)] [] σ Z := by
  unfold fX0_word_l29 at h
  refine aw_iload X dX0_word_29 4 rfl ?_
  refine aw_aload_n X dX0_word_31 3 3 rfl rfl ?_
  obtain ⟨x9, hx9, h⟩ := bind_some h
  refine aw_alen X dX0_word_32 hx9 ?_
  refine aw_icmp_ge X 84 dX0_word_33 rfl (fun c10 => ?_) (fun c10 => ?_)
  · rw [if_pos c10] at h
    cases h
    refine aw_sub [(0, .inr (.inr (some this))), (1, .inl v1), (3, .inr (.inr v3))] [0, 1, 3] rfl ?_
    exact kE0 σ rfl
  · rw [if_neg c10] at h
    refine aw_aload_n X dX0_word_36 0 0 rfl rfl ?_
    obtain ⟨x11, hx11, h⟩ := bind_some h
    refine aw_gfR X fl_X0_34 dX0_word_37 hx11 ?_
    refine aw_iload_n X dX0_word_40 2 2 rfl rfl ?_
    obtain ⟨x12, hx12, h⟩ := bind_some h
    refine aw_aald X (kd := 5) dX0_word_41 (by decide) (by decide) hx12 ?_
    refine aw_iload X dX0_word_42 4 rfl ?_
    obtain ⟨x13, hx13, h⟩ := bind_some h
    refine aw_iald X dX0_word_44 hx13 ?_
    refine aw_iconst X (0 : Int32) dX0_word_45 (by decide) ?_
    refine aw_aload_n X dX0_word_46 0 0 rfl rfl ?_
    obtain ⟨x14, hx14, h⟩ := bind_some h
    refine aw_gfI X fl_X0_30 dX0_word_47 hx14 ?_
    refine aw_iconst X (1 : Int32) dX0_word_50 (by decide) ?_
    refine aw_isub X dX0_word_51 ?_
    obtain ⟨y15, hy15, h⟩ := bind_some h
    refine aw_callS X (st := []) [.inl x13, .inl (0 : Int32), .inl (x14 - (1 : Int32))] rfl ml_X0_93 (AX0_isIn (Cx.ok X) φ (d + 1) _ _ _ _ _  hy15) dX0_word_52 (Nat.le_of_ble_eq_true rfl) ?_
    refine aw_if_ne X 64 dX0_word_55 rfl (fun c16 => ?_) (fun c16 => ?_)
    · rw [if_neg c16] at h
      refine aw_aload_n X dX0_word_64 3 3 rfl rfl ?_
      refine aw_iload X dX0_word_65 4 rfl ?_
      refine aw_aload_n X dX0_word_67 0 0 rfl rfl ?_
      obtain ⟨x17, hx17, h⟩ := bind_some h
      refine aw_gfR X fl_X0_34 dX0_word_68 hx17 ?_
      refine aw_iload_n X dX0_word_71 2 2 rfl rfl ?_
      obtain ⟨x18, hx18, h⟩ := bind_some h
      refine aw_aald X (kd := 5) dX0_word_72 (by decide) (by decide) hx18 ?_
      refine aw_iload X dX0_word_73 4 rfl ?_
      obtain ⟨x19, hx19, h⟩ := bind_some h
      refine aw_iald X dX0_word_75 hx19 ?_
      refine aw_i2b X dX0_word_76 ?_
      obtain ⟨s20, hs20, h⟩ := bind_some h
      refine aw_bast X dX0_word_77 hs20 ?_
      refine aw_iinc X dX0_word_78 4 rfl (1 : Int32) rfl (by decide) [(4, .inl (v4 + (1 : Int32))), (0, .inr (.inr (some this))), (1, .inl v1), (2, .inl v2), (3, .inr (.inr v3))] rfl ?_
      refine aw_goto X 29 dX0_word_81 rfl ?_
      cases h
      refine aw_sub [(0, .inr (.inr (some this))), (1, .inl v1), (2, .inl v2), (3, .inr (.inr v3)), (4, .inl (v4 + (1 : Int32)))] [1, 2, 3, 4, 0] rfl ?_
      exact kH ((v4 + (1 : Int32)), s20) rfl
    · rw [if_pos c16] at h
      cases h
      refine aw_sub [(0, .inr (.inr (some this)))] [0] rfl ?_
      exact kE1 σ rfl
theorem wX0_word {C : CT} {d : Nat} (X : Cx C cX0_word RX0 (some .int) 5 (d + 2)) (XH : CxH C [(16, 63, 101, 114), (64, 100, 101, 114)]) (φ : Nat) (this : Nat) (v1 : Int32) (v2 : Int32) (σ : St) (y : Int32 × St) (h : fX0_word φ this v1 v2 σ = some y) : AW C 0 [(0, .inr (.inr (some this))), (1, .inl v1), (2, .inl v2)] [] σ (AQ C (some (.inl y.1)) y.2) := by
  unfold fX0_word at h
  refine aw_iload_n X dX0_word_0 1 1 rfl rfl ?_
  obtain ⟨y1, hy1, h⟩ := bind_some h
  refine aw_callS X (st := []) [.inl v1] rfl ml_X0_131 (AX0_isWord (Cx.ok X) φ d _ _ _  hy1) dX0_word_1 (Nat.le_of_ble_eq_true rfl) ?_
  refine aw_if_eq X 14 dX0_word_4 rfl (fun c2 => ?_) (fun c2 => ?_)
  · rw [if_pos c2] at h
    refine aw_iconst X (-1 : Int32) dX0_word_14 (by decide) ?_
    cases h
    exact aw_iret X dX0_word_15
  · rw [if_neg c2] at h
    refine aw_iload_n X dX0_word_7 2 2 rfl rfl ?_
    obtain ⟨y3, hy3, h⟩ := bind_some h
    refine aw_callS X (st := []) [.inl v2] rfl ml_X0_97 (AX0_isRow (Cx.ok X) φ d _ _ _  hy3) dX0_word_8 (Nat.le_of_ble_eq_true rfl) ?_
    refine aw_if_ne X 16 dX0_word_11 rfl (fun c4 => ?_) (fun c4 => ?_)
    · rw [if_neg c4] at h
      refine aw_aload_n X dX0_word_16 0 0 rfl rfl ?_
      obtain ⟨x5, hx5, h⟩ := bind_some h
      refine aw_gfR X fl_X0_34 dX0_word_17 hx5 ?_
      refine aw_iload_n X dX0_word_20 2 2 rfl rfl ?_
      obtain ⟨x6, hx6, h⟩ := bind_some h
      refine aw_aald X (kd := 5) dX0_word_21 (by decide) (by decide) hx6 ?_
      by_cases c31 : x6 = none
      · rw [if_pos c31] at h
        obtain ⟨s32, hs32, h⟩ := bind_some h
        refine aw_alenX X XH dX0_word_22 c31 (Nat.le_of_ble_eq_true rfl) (Or.inr ⟨rfl, by decide, "java/lang/NullPointerException", q325, Or.inl ⟨q347, rfl⟩⟩) hs32 ?_
        refine aw_astore_n X dX0_word_101 3 rfl (by decide) [(3, .inr (.inr (some (sn σ)))), (0, .inr (.inr (some this))), (1, .inl v1), (2, .inl v2)] rfl ?_
        refine aw_aload_n X dX0_word_102 1 0 rfl rfl ?_
        refine aw_iconst X (1 : Int32) dX0_word_103 (by decide) ?_
        obtain ⟨y33, hy33, h⟩ := bind_some h
        refine aw_cV X (st := []) hy33 [.inl (1 : Int32)] rfl rfl ml_X0_103 (fun o h => AX0_met (Cx.ok X) φ (d + 1) _ _ _ _ h) dX0_word_104 (Nat.le_of_ble_eq_true rfl) ?_
        cases h
        exact aw_iret X dX0_word_107
      rw [if_neg c31] at h
      obtain ⟨x7, hx7, h⟩ := bind_some h
      refine aw_alen X dX0_word_22 hx7 ?_
      obtain ⟨n8, hn8, h⟩ := bind_some h
      refine aw_newa X (kd := 2) dX0_word_23 rfl (by decide) (by decide) q216 (r := n8.1) (σ' := n8.2) hn8 ?_
      refine aw_astore_n X dX0_word_25 3 rfl (by decide) [(3, .inr (.inr n8.1)), (0, .inr (.inr (some this))), (1, .inl v1), (2, .inl v2)] rfl ?_
      refine aw_iconst X (0 : Int32) dX0_word_26 (by decide) ?_
      refine aw_istore X dX0_word_27 (by decide) [(4, .inl (0 : Int32)), (3, .inr (.inr n8.1)), (0, .inr (.inr (some this))), (1, .inl v1), (2, .inl v2)] rfl ?_
      obtain ⟨e21, h22, h⟩ := bind_some h
      refine aw_sub [(0, .inr (.inr (some this))), (1, .inl v1), (2, .inl v2), (3, .inr (.inr n8.1)), (4, .inl (0 : Int32))] [2, 3, 4, 1, 0] rfl ?_
      refine aw_it (fun s => AW C 29 [(0, .inr (.inr (some this))), (1, .inl v1), (2, .inl v2), (3, .inr (.inr n8.1)), (4, .inl s.1)] [] s.2 (AQ C (some (.inl y.1)) y.2)) (fun e => match e with | (.inl e) => AW C 84 [(0, .inr (.inr (some this))), (1, .inl v1), (3, .inr (.inr n8.1))] [] e (AQ C (some (.inl y.1)) y.2) | (.inr e) => AW C 58 [(0, .inr (.inr (some this)))] [] e (AQ C (some (.inl y.1)) y.2)) (fun s r hr kH kE => wX0_word_l29 X XH φ this v1 v2 n8.1 s.1 s.2 r hr kH (fun e he => kE (.inl e) he) (fun e he => kE (.inr e) he)) φ _ e21 h22 ?_
      rcases e21 with e23 | e24
      · refine aw_aload_n X dX0_word_84 0 0 rfl rfl ?_
        obtain ⟨x25, hx25, h⟩ := bind_some h
        refine aw_gfR X fl_X0_46 dX0_word_85 hx25 ?_
        refine aw_iload_n X dX0_word_88 1 1 rfl rfl ?_
        obtain ⟨n26, hn26, h⟩ := bind_some h
        refine aw_new X (ci := 2) dX0_word_89 rfl q113 q426 q92 (r := n26.1) (σ' := n26.2) hn26 ?_
        refine aw_dup X dX0_word_92 rfl ?_
        refine aw_aload_n X dX0_word_93 2 3 rfl rfl ?_
        obtain ⟨y27, hy27, h⟩ := bind_some h
        refine aw_cI X (st := [.inr (.inr n26.1), .inl v1, .inr (.inr x25)]) hy27 [.inr (.inr n8.1)] rfl ml_X0_137 (fun o h => AX2_init (Cx.ok X) φ (d + 1) _ _ _ _ h) dX0_word_94 (Nat.le_of_ble_eq_true rfl) ?_
        obtain ⟨s28, hs28, h⟩ := bind_some h
        refine aw_aast X (kd := 7) (lo := 10) (hi := 14) dX0_word_97 (by decide) hs28 ?_
        refine aw_aload_n X dX0_word_98 2 3 rfl rfl ?_
        obtain ⟨x29, hx29, h⟩ := bind_some h
        refine aw_alen X dX0_word_99 hx29 ?_
        cases h
        exact aw_iret X dX0_word_100
      · refine aw_aload_n X dX0_word_58 0 0 rfl rfl ?_
        refine aw_iconst X (3 : Int32) dX0_word_59 (by decide) ?_
        obtain ⟨y30, hy30, h⟩ := bind_some h
        refine aw_cV X (st := []) hy30 [.inl (3 : Int32)] rfl rfl ml_X0_103 (fun o h => AX0_met (Cx.ok X) φ (d + 1) _ _ _ _ h) dX0_word_60 (Nat.le_of_ble_eq_true rfl) ?_
        cases h
        exact aw_iret X dX0_word_63
    · rw [if_pos c4] at h
      refine aw_iconst X (-1 : Int32) dX0_word_14 (by decide) ?_
      cases h
      exact aw_iret X dX0_word_15
theorem AX0_word {E : AE} {l : Launch} (hE : EOK E l) (φ d : Nat) (this : Nat) (v1 : Int32) (v2 : Int32) (σ : St) (y : Int32 × St) (h : fX0_word φ this v1 v2 σ = some y) : AMet E l yX0_word (wsW_ yX0_word cX0_word 5 (some .int) [(16, 63, 101, 114), (64, 100, 101, 114)]) (d + 2) [.inr (.inr (some this)), .inl v1, .inl v2] σ (some (.inl y.1)) y.2 := by
  refine amet_ofW hE (by decide +kernel) (Nat.le_of_ble_eq_true rfl) fun C e1 e2 X XI XH => ?_
  subst e1
  exact wX0_word X XH φ this v1 v2 σ y h
theorem wX0_here {C : CT} {d : Nat} (X : Cx C cX0_here RX0 (some .int) 1 d) (φ : Nat) (this : Nat) (σ : St) (y : Int32) (h : fX0_here φ this σ = some y) : AW C 0 [(0, .inr (.inr (some this)))] [] σ (AQ C (some (.inl y)) σ) := by
  unfold fX0_here at h
  refine aw_aload_n X dX0_here_0 0 0 rfl rfl ?_
  obtain ⟨x1, hx1, h⟩ := bind_some h
  refine aw_gfI X fl_X0_140 dX0_here_1 hx1 ?_
  refine aw_aload_n X dX0_here_4 0 0 rfl rfl ?_
  obtain ⟨x2, hx2, h⟩ := bind_some h
  refine aw_gfR X fl_X0_143 dX0_here_5 hx2 ?_
  obtain ⟨x3, hx3, h⟩ := bind_some h
  refine aw_alen X dX0_here_8 hx3 ?_
  refine aw_icmp_ge X 24 dX0_here_9 rfl (fun c4 => ?_) (fun c4 => ?_)
  · rw [if_pos c4] at h
    refine aw_bipush X (-9 : Int32) dX0_here_24 (by decide) ?_
    cases h
    exact aw_iret X dX0_here_26
  · rw [if_neg c4] at h
    refine aw_aload_n X dX0_here_12 0 0 rfl rfl ?_
    obtain ⟨x5, hx5, h⟩ := bind_some h
    refine aw_gfR X fl_X0_143 dX0_here_13 hx5 ?_
    refine aw_aload_n X dX0_here_16 0 0 rfl rfl ?_
    obtain ⟨x6, hx6, h⟩ := bind_some h
    refine aw_gfI X fl_X0_140 dX0_here_17 hx6 ?_
    obtain ⟨x7, hx7, h⟩ := bind_some h
    refine aw_bald X dX0_here_20 hx7 ?_
    refine aw_goto X 26 dX0_here_21 rfl ?_
    cases h
    exact aw_iret X dX0_here_26
theorem AX0_here {E : AE} {l : Launch} (hE : EOK E l) (φ d : Nat) (this : Nat) (σ : St) (y : Int32) (h : fX0_here φ this σ = some y) : AMet E l yX0_here (ws_ yX0_here cX0_here 1 (some .int)) d [.inr (.inr (some this))] σ (some (.inl y)) σ := by
  refine amet_of hE (by decide +kernel) (Nat.le_of_ble_eq_true rfl) fun C e1 e2 X XI => ?_
  subst e1
  exact wX0_here X φ this σ y h
theorem wX0_skips_l0 {C : CT} {d : Nat} {Z : State → Prop} (X : Cx C cX0_skips RX0 none 1 (d + 1)) (φ : Nat) (this : Nat) (σ : St) (y : (St) ⊕ (St)) (h : fX0_skips_l0 φ this σ = some y) (kH : ∀ s : St, y = .inl s → AW C 0 [(0, .inr (.inr (some this)))] [] s Z) (kE0 : ∀ e : St, y = .inr e → AW C 22 [] [] e Z) : AW C 0 [(0, .inr (.inr (some this)))] [] σ Z := by
  unfold fX0_skips_l0 at h
  refine aw_aload_n X dX0_skips_0 0 0 rfl rfl ?_
  obtain ⟨y1, hy1, h⟩ := bind_some h
  refine aw_cV X (st := []) hy1 [] rfl rfl ml_X0_146 (fun o h => AX0_here (Cx.ok X) φ d _ _ _ h) dX0_skips_1 (Nat.le_of_ble_eq_true rfl) ?_
  refine aw_bipush X (32 : Int32) dX0_skips_4 (by decide) ?_
  refine aw_icmp_ne X 22 dX0_skips_6 rfl (fun c2 => ?_) (fun c2 => ?_)
  · rw [if_neg c2] at h
    cases h
    refine aw_sub [] [] rfl ?_
    exact kE0 σ rfl
  · rw [if_pos c2] at h
    refine aw_aload_n X dX0_skips_9 0 0 rfl rfl ?_
    refine aw_dup X dX0_skips_10 rfl ?_
    obtain ⟨x3, hx3, h⟩ := bind_some h
    refine aw_gfI X fl_X0_140 dX0_skips_11 hx3 ?_
    refine aw_iconst X (1 : Int32) dX0_skips_14 (by decide) ?_
    refine aw_iadd X dX0_skips_15 ?_
    obtain ⟨s4, hs4, h⟩ := bind_some h
    refine aw_pfI X fl_X0_140 dX0_skips_16 hs4 ?_
    refine aw_goto X 0 dX0_skips_19 rfl ?_
    cases h
    exact kH s4 rfl
theorem wX0_skips {C : CT} {d : Nat} (X : Cx C cX0_skips RX0 none 1 (d + 1)) (φ : Nat) (this : Nat) (σ : St) (y : St) (h : fX0_skips φ this σ = some y) : AW C 0 [(0, .inr (.inr (some this)))] [] σ (AQ C none y) := by
  unfold fX0_skips at h
  obtain ⟨e5, h6, h⟩ := bind_some h
  refine aw_it (fun s => AW C 0 [(0, .inr (.inr (some this)))] [] s (AQ C none y)) (fun e => AW C 22 [] [] e (AQ C none y)) (fun s r hr kH kE => wX0_skips_l0 X φ this s r hr kH kE) φ _ e5 h6 ?_
  cases h
  exact aw_vret X dX0_skips_22
theorem AX0_skips {E : AE} {l : Launch} (hE : EOK E l) (φ d : Nat) (this : Nat) (σ : St) (y : St) (h : fX0_skips φ this σ = some y) : AMet E l yX0_skips (ws_ yX0_skips cX0_skips 1 none) (d + 1) [.inr (.inr (some this))] σ none y := by
  refine amet_of hE (by decide +kernel) (Nat.le_of_ble_eq_true rfl) fun C e1 e2 X XI => ?_
  subst e1
  exact wX0_skips X φ this σ y h
theorem wX0_add_b19 {C : CT} {d : Nat} (X : Cx C cX0_add RX0 none 2 (d + 1)) (φ : Nat) (this : Nat) (σ : St) (y : St) (h : fX0_add_b19 φ this σ = some y)  : AW C 19 [(0, .inr (.inr (some this)))] [] σ (AQ C none y) := by
  unfold fX0_add_b19 at h
  refine aw_aload_n X dX0_add_19 0 0 rfl rfl ?_
  refine aw_sipush X (1000 : Int32) dX0_add_20 (by decide) ?_
  refine aw_aload_n X dX0_add_23 0 0 rfl rfl ?_
  obtain ⟨x3, hx3, h⟩ := bind_some h
  refine aw_gfI X fl_X0_150 dX0_add_24 hx3 ?_
  refine aw_iconst X (1 : Int32) dX0_add_27 (by decide) ?_
  refine aw_iadd X dX0_add_28 ?_
  refine aw_mmin X q460 dX0_add_29 (Nat.le_of_ble_eq_true rfl) ?_
  obtain ⟨s4, hs4, h⟩ := bind_some h
  refine aw_pfI X fl_X0_150 dX0_add_32 hs4 ?_
  cases h
  exact aw_vret X dX0_add_35
theorem wX0_add {C : CT} {d : Nat} (X : Cx C cX0_add RX0 none 2 (d + 1)) (φ : Nat) (this : Nat) (v1 : Int32) (σ : St) (y : St) (h : fX0_add φ this v1 σ = some y) : AW C 0 [(0, .inr (.inr (some this))), (1, .inl v1)] [] σ (AQ C none y) := by
  unfold fX0_add at h
  refine aw_aload_n X dX0_add_0 0 0 rfl rfl ?_
  obtain ⟨x1, hx1, h⟩ := bind_some h
  refine aw_gfI X fl_X0_150 dX0_add_1 hx1 ?_
  refine aw_bipush X (40 : Int32) dX0_add_4 (by decide) ?_
  refine aw_icmp_ge X 19 dX0_add_6 rfl (fun c2 => ?_) (fun c2 => ?_)
  · rw [if_pos c2] at h
    refine aw_sub [(0, .inr (.inr (some this)))] [0] rfl ?_
    exact wX0_add_b19 X φ this σ y h
  · rw [if_neg c2] at h
    refine aw_aload_n X dX0_add_9 0 0 rfl rfl ?_
    obtain ⟨x5, hx5, h⟩ := bind_some h
    refine aw_gfR X fl_X0_50 dX0_add_10 hx5 ?_
    refine aw_aload_n X dX0_add_13 0 0 rfl rfl ?_
    obtain ⟨x6, hx6, h⟩ := bind_some h
    refine aw_gfI X fl_X0_150 dX0_add_14 hx6 ?_
    refine aw_iload_n X dX0_add_17 1 1 rfl rfl ?_
    obtain ⟨s7, hs7, h⟩ := bind_some h
    refine aw_bast X dX0_add_18 hs7 ?_
    refine aw_sub [(0, .inr (.inr (some this)))] [0] rfl ?_
    exact wX0_add_b19 X φ this s7 y h
theorem AX0_add {E : AE} {l : Launch} (hE : EOK E l) (φ d : Nat) (this : Nat) (v1 : Int32) (σ : St) (y : St) (h : fX0_add φ this v1 σ = some y) : AMet E l yX0_add (ws_ yX0_add cX0_add 2 none) (d + 1) [.inr (.inr (some this)), .inl v1] σ none y := by
  refine amet_of hE (by decide +kernel) (Nat.le_of_ble_eq_true rfl) fun C e1 e2 X XI => ?_
  subst e1
  exact wX0_add X φ this v1 σ y h
theorem wX0_repeats_b81 {C : CT} {d : Nat} {Z : State → Prop} (X : Cx C cX0_repeats RX0 none 6 (d + 2)) (φ : Nat) (this : Nat) (v1 : Int32) (v2 : Int32) (v3 : Int32) (v4 : Int32) (v5 : Int32) (k0 : Option Nat) (k1 : Int32) (σ : St) (y : (Int32 × St) ⊕ (St)) (h : fX0_repeats_b81 φ this v1 v2 v3 v4 v5 k0 k1 σ = some y) (kH : ∀ s : Int32 × St, y = .inl s → AW C 52 [(0, .inr (.inr (some this))), (1, .inl v1), (2, .inl v2), (3, .inl v3), (4, .inl v4), (5, .inl s.1)] [] s.2 Z) (kE0 : ∀ e : St, y = .inr e → AW C 90 [(0, .inr (.inr (some this))), (1, .inl v1), (2, .inl v2), (3, .inl v3), (4, .inl v4)] [] e Z) : AW C 81 [(0, .inr (.inr (some this))), (1, .inl v1), (2, .inl v2), (3, .inl v3), (4, .inl v4), (5, .inl v5)] [.inl k1, .inr (.inr k0)] σ Z := by
  unfold fX0_repeats_b81 at h
  obtain ⟨y11, hy11, h⟩ := bind_some h
  refine aw_cV X (st := []) hy11 [.inl k1] rfl rfl ml_X0_158 (fun o h => AX0_add (Cx.ok X) φ d _ _ _ _ h) dX0_repeats_81 (Nat.le_of_ble_eq_true rfl) ?_
  refine aw_iinc X dX0_repeats_84 5 rfl (1 : Int32) rfl (by decide) [(5, .inl (v5 + (1 : Int32))), (0, .inr (.inr (some this))), (1, .inl v1), (2, .inl v2), (3, .inl v3), (4, .inl v4)] rfl ?_
  refine aw_goto X 52 dX0_repeats_87 rfl ?_
  cases h
  refine aw_sub [(0, .inr (.inr (some this))), (1, .inl v1), (2, .inl v2), (3, .inl v3), (4, .inl v4), (5, .inl (v5 + (1 : Int32)))] [1, 2, 3, 4, 5, 0] rfl ?_
  exact kH ((v5 + (1 : Int32)), y11) rfl
theorem wX0_repeats_l52 {C : CT} {d : Nat} {Z : State → Prop} (X : Cx C cX0_repeats RX0 none 6 (d + 2)) (φ : Nat) (this : Nat) (v1 : Int32) (v2 : Int32) (v3 : Int32) (v4 : Int32) (v5 : Int32) (σ : St) (y : (Int32 × St) ⊕ (St)) (h : fX0_repeats_l52 φ this v1 v2 v3 v4 v5 σ = some y) (kH : ∀ s : Int32 × St, y = .inl s → AW C 52 [(0, .inr (.inr (some this))), (1, .inl v1), (2, .inl v2), (3, .inl v3), (4, .inl v4), (5, .inl s.1)] [] s.2 Z) (kE0 : ∀ e : St, y = .inr e → AW C 90 [(0, .inr (.inr (some this))), (1, .inl v1), (2, .inl v2), (3, .inl v3), (4, .inl v4)] [] e Z) : AW C 52 [(0, .inr (.inr (some this))), (1, .inl v1), (2, .inl v2), (3, .inl v3), (4, .inl v4), (5, .inl v5)] [] σ Z := by
  unfold fX0_repeats_l52 at h
  refine aw_iload X dX0_repeats_52 5 rfl ?_
  refine aw_iload_n X dX0_repeats_54 3 3 rfl rfl ?_
  refine aw_icmp_ge X 90 dX0_repeats_55 rfl (fun c9 => ?_) (fun c9 => ?_)
  · rw [if_pos c9] at h
    cases h
    refine aw_sub [(0, .inr (.inr (some this))), (1, .inl v1), (2, .inl v2), (3, .inl v3), (4, .inl v4)] [0, 1, 2, 3, 4] rfl ?_
    exact kE0 σ rfl
  · rw [if_neg c9] at h
    refine aw_aload_n X dX0_repeats_58 0 0 rfl rfl ?_
    refine aw_iload_n X dX0_repeats_59 1 1 rfl rfl ?_
    refine aw_iload X dX0_repeats_60 5 rfl ?_
    refine aw_iadd X dX0_repeats_62 ?_
    refine aw_bipush X (40 : Int32) dX0_repeats_63 (by decide) ?_
    refine aw_icmp_ge X 80 dX0_repeats_65 rfl (fun c10 => ?_) (fun c10 => ?_)
    · rw [if_pos c10] at h
      refine aw_iconst X (0 : Int32) dX0_repeats_80 (by decide) ?_
      exact wX0_repeats_b81 X φ this v1 v2 v3 v4 v5 (some this) (0 : Int32) σ y h kH kE0
    · rw [if_neg c10] at h
      refine aw_aload_n X dX0_repeats_68 0 0 rfl rfl ?_
      obtain ⟨x12, hx12, h⟩ := bind_some h
      refine aw_gfR X fl_X0_50 dX0_repeats_69 hx12 ?_
      refine aw_iload_n X dX0_repeats_72 1 1 rfl rfl ?_
      refine aw_iload X dX0_repeats_73 5 rfl ?_
      refine aw_iadd X dX0_repeats_75 ?_
      obtain ⟨x13, hx13, h⟩ := bind_some h
      refine aw_bald X dX0_repeats_76 hx13 ?_
      refine aw_goto X 81 dX0_repeats_77 rfl ?_
      exact wX0_repeats_b81 X φ this v1 v2 v3 v4 v5 (some this) x13 σ y h kH kE0
theorem wX0_repeats_l43 {C : CT} {d : Nat} {Z : State → Prop} (X : Cx C cX0_repeats RX0 none 6 (d + 2)) (φ : Nat) (this : Nat) (v1 : Int32) (v2 : Int32) (v3 : Int32) (v4 : Int32) (σ : St) (y : (Int32 × St) ⊕ (St)) (h : fX0_repeats_l43 φ this v1 v2 v3 v4 σ = some y) (kH : ∀ s : Int32 × St, y = .inl s → AW C 43 [(0, .inr (.inr (some this))), (1, .inl v1), (2, .inl v2), (3, .inl v3), (4, .inl s.1)] [] s.2 Z) (kE0 : ∀ e : St, y = .inr e → AW C 96 [] [] e Z) : AW C 43 [(0, .inr (.inr (some this))), (1, .inl v1), (2, .inl v2), (3, .inl v3), (4, .inl v4)] [] σ Z := by
  unfold fX0_repeats_l43 at h
  refine aw_iload X dX0_repeats_43 4 rfl ?_
  refine aw_iload_n X dX0_repeats_45 2 2 rfl rfl ?_
  refine aw_icmp_ge X 96 dX0_repeats_46 rfl (fun c8 => ?_) (fun c8 => ?_)
  · rw [if_pos c8] at h
    cases h
    refine aw_sub [] [] rfl ?_
    exact kE0 σ rfl
  · rw [if_neg c8] at h
    refine aw_iconst X (0 : Int32) dX0_repeats_49 (by decide) ?_
    refine aw_istore X dX0_repeats_50 (by decide) [(5, .inl (0 : Int32)), (0, .inr (.inr (some this))), (1, .inl v1), (2, .inl v2), (3, .inl v3), (4, .inl v4)] rfl ?_
    obtain ⟨e14, h15, h⟩ := bind_some h
    refine aw_sub [(0, .inr (.inr (some this))), (1, .inl v1), (2, .inl v2), (3, .inl v3), (4, .inl v4), (5, .inl (0 : Int32))] [1, 2, 3, 4, 5, 0] rfl ?_
    refine aw_it (fun s => AW C 52 [(0, .inr (.inr (some this))), (1, .inl v1), (2, .inl v2), (3, .inl v3), (4, .inl v4), (5, .inl s.1)] [] s.2 Z) (fun e => AW C 90 [(0, .inr (.inr (some this))), (1, .inl v1), (2, .inl v2), (3, .inl v3), (4, .inl v4)] [] e Z) (fun s r hr kH kE => wX0_repeats_l52 X φ this v1 v2 v3 v4 s.1 s.2 r hr kH kE) φ _ e14 h15 ?_
    refine aw_iinc X dX0_repeats_90 4 rfl (1 : Int32) rfl (by decide) [(4, .inl (v4 + (1 : Int32))), (0, .inr (.inr (some this))), (1, .inl v1), (2, .inl v2), (3, .inl v3)] rfl ?_
    refine aw_goto X 43 dX0_repeats_93 rfl ?_
    cases h
    refine aw_sub [(0, .inr (.inr (some this))), (1, .inl v1), (2, .inl v2), (3, .inl v3), (4, .inl (v4 + (1 : Int32)))] [1, 2, 3, 4, 0] rfl ?_
    exact kH ((v4 + (1 : Int32)), e14) rfl
theorem wX0_repeats {C : CT} {d : Nat} (X : Cx C cX0_repeats RX0 none 6 (d + 2)) (φ : Nat) (this : Nat) (v1 : Int32) (σ : St) (y : St) (h : fX0_repeats φ this v1 σ = some y) : AW C 0 [(0, .inr (.inr (some this))), (1, .inl v1)] [] σ (AQ C none y) := by
  unfold fX0_repeats at h
  refine aw_aload_n X dX0_repeats_0 0 0 rfl rfl ?_
  obtain ⟨y1, hy1, h⟩ := bind_some h
  refine aw_cV X (st := []) hy1 [] rfl rfl ml_X0_146 (fun o h => AX0_here (Cx.ok X) φ (d + 1) _ _ _ h) dX0_repeats_1 (Nat.le_of_ble_eq_true rfl) ?_
  refine aw_bipush X (49 : Int32) dX0_repeats_4 (by decide) ?_
  refine aw_bipush X (57 : Int32) dX0_repeats_6 (by decide) ?_
  obtain ⟨y2, hy2, h⟩ := bind_some h
  refine aw_callS X (st := []) [.inl y1, .inl (49 : Int32), .inl (57 : Int32)] rfl ml_X0_93 (AX0_isIn (Cx.ok X) φ (d + 1) _ _ _ _ _  hy2) dX0_repeats_8 (Nat.le_of_ble_eq_true rfl) ?_
  refine aw_if_ne X 15 dX0_repeats_11 rfl (fun c3 => ?_) (fun c3 => ?_)
  · rw [if_neg c3] at h
    refine aw_aload_n X dX0_repeats_15 0 0 rfl rfl ?_
    obtain ⟨y4, hy4, h⟩ := bind_some h
    refine aw_cV X (st := []) hy4 [] rfl rfl ml_X0_146 (fun o h => AX0_here (Cx.ok X) φ (d + 1) _ _ _ h) dX0_repeats_16 (Nat.le_of_ble_eq_true rfl) ?_
    refine aw_bipush X (48 : Int32) dX0_repeats_19 (by decide) ?_
    refine aw_isub X dX0_repeats_21 ?_
    refine aw_istore_n X dX0_repeats_22 2 rfl (by decide) [(2, .inl (y4 - (48 : Int32))), (0, .inr (.inr (some this))), (1, .inl v1)] rfl ?_
    refine aw_aload_n X dX0_repeats_23 1 0 rfl rfl ?_
    refine aw_dup X dX0_repeats_24 rfl ?_
    obtain ⟨x5, hx5, h⟩ := bind_some h
    refine aw_gfI X fl_X0_140 dX0_repeats_25 hx5 ?_
    refine aw_iconst X (1 : Int32) dX0_repeats_28 (by decide) ?_
    refine aw_iadd X dX0_repeats_29 ?_
    obtain ⟨s6, hs6, h⟩ := bind_some h
    refine aw_pfI X fl_X0_140 dX0_repeats_30 hs6 ?_
    refine aw_aload_n X dX0_repeats_33 1 0 rfl rfl ?_
    obtain ⟨x7, hx7, h⟩ := bind_some h
    refine aw_gfI X fl_X0_150 dX0_repeats_34 hx7 ?_
    refine aw_iload_n X dX0_repeats_37 2 1 rfl rfl ?_
    refine aw_isub X dX0_repeats_38 ?_
    refine aw_istore_n X dX0_repeats_39 3 rfl (by decide) [(3, .inl (x7 - v1)), (2, .inl (y4 - (48 : Int32))), (0, .inr (.inr (some this))), (1, .inl v1)] rfl ?_
    refine aw_iconst X (1 : Int32) dX0_repeats_40 (by decide) ?_
    refine aw_istore X dX0_repeats_41 (by decide) [(4, .inl (1 : Int32)), (3, .inl (x7 - v1)), (2, .inl (y4 - (48 : Int32))), (0, .inr (.inr (some this))), (1, .inl v1)] rfl ?_
    obtain ⟨e16, h17, h⟩ := bind_some h
    refine aw_sub [(0, .inr (.inr (some this))), (1, .inl v1), (2, .inl (y4 - (48 : Int32))), (3, .inl (x7 - v1)), (4, .inl (1 : Int32))] [3, 4, 2, 1, 0] rfl ?_
    refine aw_it (fun s => AW C 43 [(0, .inr (.inr (some this))), (1, .inl v1), (2, .inl (y4 - (48 : Int32))), (3, .inl (x7 - v1)), (4, .inl s.1)] [] s.2 (AQ C none y)) (fun e => AW C 96 [] [] e (AQ C none y)) (fun s r hr kH kE => wX0_repeats_l43 X φ this v1 (y4 - (48 : Int32)) (x7 - v1) s.1 s.2 r hr kH kE) φ _ e16 h17 ?_
    cases h
    exact aw_vret X dX0_repeats_96
  · rw [if_pos c3] at h
    cases h
    exact aw_vret X dX0_repeats_14
theorem AX0_repeats {E : AE} {l : Launch} (hE : EOK E l) (φ d : Nat) (this : Nat) (v1 : Int32) (σ : St) (y : St) (h : fX0_repeats φ this v1 σ = some y) : AMet E l yX0_repeats (ws_ yX0_repeats cX0_repeats 6 none) (d + 2) [.inr (.inr (some this)), .inl v1] σ none y := by
  refine amet_of hE (by decide +kernel) (Nat.le_of_ble_eq_true rfl) fun C e1 e2 X XI => ?_
  subst e1
  exact wX0_repeats X φ this v1 σ y h
theorem wX0_readsItems_b108 {C : CT} {d : Nat} {Z : State → Prop} (X : Cx C cX0_readsItems RX0 (some .boolean) 5 (d + 4)) (φ : Nat) (rec : Nat → Int32 → St → Option (Int32 × St)) (hrec : ∀ (o : Nat) (v1 : Int32) (σ : St) (y : Int32 × St), rec o v1 σ = some y → AMet C.1 C.2.2.1 yX0_readsItems (ws_ yX0_readsItems cX0_readsItems 5 (some .boolean)) (d + 3) [.inr (.inr (some o)), .inl v1] σ (some (.inl y.1)) y.2) (this : Nat) (v1 : Int32) (v4 : Int32) (σ : St) (y : (Int32 × St) ⊕ ((Int32 × St) ⊕ (St))) (h : fX0_readsItems_b108 φ rec this v1 v4 σ = some y) (kH : ∀ s : Int32 × St, y = .inl s → AW C 2 [(0, .inr (.inr (some this))), (1, .inl v1), (2, .inl s.1)] [] s.2 Z) (kE0 : ∀ e : Int32 × St, y = .inr (.inl e) → AW C 106 [(2, .inl e.1)] [] e.2 Z) (kE1 : ∀ e : St, y = .inr (.inr e) → AW C 91 [] [] e Z) : AW C 108 [(0, .inr (.inr (some this))), (1, .inl v1), (4, .inl v4)] [] σ Z := by
  unfold fX0_readsItems_b108 at h
  refine aw_iconst X (1 : Int32) dX0_readsItems_108 (by decide) ?_
  refine aw_istore_n X dX0_readsItems_109 2 rfl (by decide) [(2, .inl (1 : Int32)), (0, .inr (.inr (some this))), (1, .inl v1), (4, .inl v4)] rfl ?_
  refine aw_aload_n X dX0_readsItems_110 1 0 rfl rfl ?_
  refine aw_iload X dX0_readsItems_111 3 rfl ?_
  obtain ⟨y16, hy16, h⟩ := bind_some h
  refine aw_cV X (st := []) hy16 [.inl v4] rfl rfl ml_X0_165 (fun o h => AX0_repeats (Cx.ok X) φ (d + 1) _ _ _ _ h) dX0_readsItems_113 (Nat.le_of_ble_eq_true rfl) ?_
  refine aw_goto X 2 dX0_readsItems_116 rfl ?_
  cases h
  refine aw_sub [(0, .inr (.inr (some this))), (1, .inl v1), (2, .inl (1 : Int32))] [1, 2, 0] rfl ?_
  exact kH ((1 : Int32), y16) rfl
theorem wX0_readsItems_l2 {C : CT} {d : Nat} {Z : State → Prop} (X : Cx C cX0_readsItems RX0 (some .boolean) 5 (d + 4)) (φ : Nat) (rec : Nat → Int32 → St → Option (Int32 × St)) (hrec : ∀ (o : Nat) (v1 : Int32) (σ : St) (y : Int32 × St), rec o v1 σ = some y → AMet C.1 C.2.2.1 yX0_readsItems (ws_ yX0_readsItems cX0_readsItems 5 (some .boolean)) (d + 3) [.inr (.inr (some o)), .inl v1] σ (some (.inl y.1)) y.2) (this : Nat) (v1 : Int32) (v2 : Int32) (σ : St) (y : (Int32 × St) ⊕ ((Int32 × St) ⊕ (St))) (h : fX0_readsItems_l2 φ rec this v1 v2 σ = some y) (kH : ∀ s : Int32 × St, y = .inl s → AW C 2 [(0, .inr (.inr (some this))), (1, .inl v1), (2, .inl s.1)] [] s.2 Z) (kE0 : ∀ e : Int32 × St, y = .inr (.inl e) → AW C 106 [(2, .inl e.1)] [] e.2 Z) (kE1 : ∀ e : St, y = .inr (.inr e) → AW C 91 [] [] e Z) : AW C 2 [(0, .inr (.inr (some this))), (1, .inl v1), (2, .inl v2)] [] σ Z := by
  unfold fX0_readsItems_l2 at h
  refine aw_aload_n X dX0_readsItems_2 0 0 rfl rfl ?_
  obtain ⟨y1, hy1, h⟩ := bind_some h
  refine aw_cV X (st := []) hy1 [] rfl rfl ml_X0_146 (fun o h => AX0_here (Cx.ok X) φ (d + 3) _ _ _ h) dX0_readsItems_3 (Nat.le_of_ble_eq_true rfl) ?_
  refine aw_istore_n X dX0_readsItems_6 3 rfl (by decide) [(3, .inl y1), (0, .inr (.inr (some this))), (1, .inl v1), (2, .inl v2)] rfl ?_
  refine aw_aload_n X dX0_readsItems_7 1 0 rfl rfl ?_
  obtain ⟨x2, hx2, h⟩ := bind_some h
  refine aw_gfI X fl_X0_150 dX0_readsItems_8 hx2 ?_
  refine aw_istore X dX0_readsItems_11 (by decide) [(4, .inl x2), (3, .inl y1), (0, .inr (.inr (some this))), (1, .inl v1), (2, .inl v2)] rfl ?_
  refine aw_iload_n X dX0_readsItems_13 1 3 rfl rfl ?_
  refine aw_bipush X (97 : Int32) dX0_readsItems_14 (by decide) ?_
  refine aw_bipush X (96 : Int32) dX0_readsItems_16 (by decide) ?_
  refine aw_aload_n X dX0_readsItems_18 2 0 rfl rfl ?_
  obtain ⟨x3, hx3, h⟩ := bind_some h
  refine aw_gfI X fl_X0_30 dX0_readsItems_19 hx3 ?_
  refine aw_iadd X dX0_readsItems_22 ?_
  obtain ⟨y4, hy4, h⟩ := bind_some h
  refine aw_callS X (st := []) [.inl y1, .inl (97 : Int32), .inl ((96 : Int32) + x3)] rfl ml_X0_93 (AX0_isIn (Cx.ok X) φ (d + 3) _ _ _ _ _  hy4) dX0_readsItems_23 (Nat.le_of_ble_eq_true rfl) ?_
  refine aw_if_eq X 51 dX0_readsItems_26 rfl (fun c5 => ?_) (fun c5 => ?_)
  · rw [if_pos c5] at h
    refine aw_iload_n X dX0_readsItems_51 1 3 rfl rfl ?_
    refine aw_bipush X (40 : Int32) dX0_readsItems_52 (by decide) ?_
    refine aw_icmp_ne X 106 dX0_readsItems_54 rfl (fun c6 => ?_) (fun c6 => ?_)
    · rw [if_neg c6] at h
      cases h
      refine aw_sub [(2, .inl v2)] [4] rfl ?_
      exact kE0 (v2, σ) rfl
    · rw [if_pos c6] at h
      refine aw_iload_n X dX0_readsItems_57 3 1 rfl rfl ?_
      refine aw_iconst X (4 : Int32) dX0_readsItems_58 (by decide) ?_
      refine aw_icmp_ge X 106 dX0_readsItems_59 rfl (fun c7 => ?_) (fun c7 => ?_)
      · rw [if_pos c7] at h
        cases h
        refine aw_sub [(2, .inl v2)] [4] rfl ?_
        exact kE0 (v2, σ) rfl
      · rw [if_neg c7] at h
        refine aw_aload_n X dX0_readsItems_62 2 0 rfl rfl ?_
        refine aw_dup X dX0_readsItems_63 rfl ?_
        obtain ⟨x8, hx8, h⟩ := bind_some h
        refine aw_gfI X fl_X0_140 dX0_readsItems_64 hx8 ?_
        refine aw_iconst X (1 : Int32) dX0_readsItems_67 (by decide) ?_
        refine aw_iadd X dX0_readsItems_68 ?_
        obtain ⟨s9, hs9, h⟩ := bind_some h
        refine aw_pfI X fl_X0_140 dX0_readsItems_69 hs9 ?_
        refine aw_aload_n X dX0_readsItems_72 2 0 rfl rfl ?_
        refine aw_iload_n X dX0_readsItems_73 3 1 rfl rfl ?_
        refine aw_iconst X (1 : Int32) dX0_readsItems_74 (by decide) ?_
        refine aw_iadd X dX0_readsItems_75 ?_
        obtain ⟨y10, hy10, h⟩ := bind_some h
        refine aw_cV X (st := []) hy10 [.inl (v1 + (1 : Int32))] rfl rfl ml_X0_162 (fun o h => hrec o _ _ _ h) dX0_readsItems_76 (Nat.le_of_ble_eq_true rfl) ?_
        refine aw_if_eq X 91 dX0_readsItems_79 rfl (fun c11 => ?_) (fun c11 => ?_)
        · rw [if_pos c11] at h
          cases h
          refine aw_sub [] [] rfl ?_
          exact kE1 y10.2 rfl
        · rw [if_neg c11] at h
          refine aw_aload_n X dX0_readsItems_82 2 0 rfl rfl ?_
          obtain ⟨y12, hy12, h⟩ := bind_some h
          refine aw_cV X (st := []) hy12 [] rfl rfl ml_X0_146 (fun o h => AX0_here (Cx.ok X) φ (d + 3) _ _ _ h) dX0_readsItems_83 (Nat.le_of_ble_eq_true rfl) ?_
          refine aw_bipush X (41 : Int32) dX0_readsItems_86 (by decide) ?_
          refine aw_icmp_eq X 93 dX0_readsItems_88 rfl (fun c13 => ?_) (fun c13 => ?_)
          · rw [if_pos c13] at h
            refine aw_aload_n X dX0_readsItems_93 2 0 rfl rfl ?_
            refine aw_dup X dX0_readsItems_94 rfl ?_
            obtain ⟨x14, hx14, h⟩ := bind_some h
            refine aw_gfI X fl_X0_140 dX0_readsItems_95 hx14 ?_
            refine aw_iconst X (1 : Int32) dX0_readsItems_98 (by decide) ?_
            refine aw_iadd X dX0_readsItems_99 ?_
            obtain ⟨s15, hs15, h⟩ := bind_some h
            refine aw_pfI X fl_X0_140 dX0_readsItems_100 hs15 ?_
            refine aw_goto X 108 dX0_readsItems_103 rfl ?_
            refine aw_sub [(0, .inr (.inr (some this))), (1, .inl v1), (4, .inl x2)] [2, 3, 0] rfl ?_
            exact wX0_readsItems_b108 X φ rec hrec this v1 x2 s15 y h kH kE0 kE1
          · rw [if_neg c13] at h
            cases h
            refine aw_sub [] [] rfl ?_
            exact kE1 y10.2 rfl
  · rw [if_neg c5] at h
    refine aw_aload_n X dX0_readsItems_29 2 0 rfl rfl ?_
    refine aw_dup X dX0_readsItems_30 rfl ?_
    obtain ⟨x17, hx17, h⟩ := bind_some h
    refine aw_gfI X fl_X0_140 dX0_readsItems_31 hx17 ?_
    refine aw_iconst X (1 : Int32) dX0_readsItems_34 (by decide) ?_
    refine aw_iadd X dX0_readsItems_35 ?_
    obtain ⟨s18, hs18, h⟩ := bind_some h
    refine aw_pfI X fl_X0_140 dX0_readsItems_36 hs18 ?_
    refine aw_aload_n X dX0_readsItems_39 2 0 rfl rfl ?_
    refine aw_iload_n X dX0_readsItems_40 1 3 rfl rfl ?_
    refine aw_bipush X (97 : Int32) dX0_readsItems_41 (by decide) ?_
    refine aw_isub X dX0_readsItems_43 ?_
    refine aw_i2b X dX0_readsItems_44 ?_
    obtain ⟨y19, hy19, h⟩ := bind_some h
    refine aw_cV X (st := []) hy19 [.inl ((y1 - (97 : Int32)).toInt8.toInt32)] rfl rfl ml_X0_158 (fun o h => AX0_add (Cx.ok X) φ (d + 2) _ _ _ _ h) dX0_readsItems_45 (Nat.le_of_ble_eq_true rfl) ?_
    refine aw_goto X 108 dX0_readsItems_48 rfl ?_
    refine aw_sub [(0, .inr (.inr (some this))), (1, .inl v1), (4, .inl x2)] [2, 3, 0] rfl ?_
    exact wX0_readsItems_b108 X φ rec hrec this v1 x2 y19 y h kH kE0 kE1
theorem wX0_readsItems {C : CT} {d : Nat} (X : Cx C cX0_readsItems RX0 (some .boolean) 5 (d + 4)) (φ : Nat) (rec : Nat → Int32 → St → Option (Int32 × St)) (hrec : ∀ (o : Nat) (v1 : Int32) (σ : St) (y : Int32 × St), rec o v1 σ = some y → AMet C.1 C.2.2.1 yX0_readsItems (ws_ yX0_readsItems cX0_readsItems 5 (some .boolean)) (d + 3) [.inr (.inr (some o)), .inl v1] σ (some (.inl y.1)) y.2) (this : Nat) (v1 : Int32) (σ : St) (y : Int32 × St) (h : fX0_readsItems_m φ rec this v1 σ = some y) : AW C 0 [(0, .inr (.inr (some this))), (1, .inl v1)] [] σ (AQ C (some (.inl y.1)) y.2) := by
  unfold fX0_readsItems_m at h
  refine aw_iconst X (0 : Int32) dX0_readsItems_0 (by decide) ?_
  refine aw_istore_n X dX0_readsItems_1 2 rfl (by decide) [(2, .inl (0 : Int32)), (0, .inr (.inr (some this))), (1, .inl v1)] rfl ?_
  obtain ⟨e20, h21, h⟩ := bind_some h
  refine aw_sub [(0, .inr (.inr (some this))), (1, .inl v1), (2, .inl (0 : Int32))] [1, 2, 0] rfl ?_
  refine aw_it (fun s => AW C 2 [(0, .inr (.inr (some this))), (1, .inl v1), (2, .inl s.1)] [] s.2 (AQ C (some (.inl y.1)) y.2)) (fun e => match e with | (.inl e) => AW C 106 [(2, .inl e.1)] [] e.2 (AQ C (some (.inl y.1)) y.2) | (.inr e) => AW C 91 [] [] e (AQ C (some (.inl y.1)) y.2)) (fun s r hr kH kE => wX0_readsItems_l2 X φ rec hrec this v1 s.1 s.2 r hr kH (fun e he => kE (.inl e) he) (fun e he => kE (.inr e) he)) φ _ e20 h21 ?_
  rcases e20 with e22 | e23
  · refine aw_iload_n X dX0_readsItems_106 0 2 rfl rfl ?_
    obtain ⟨hz24, h⟩ := chk_some h
    cases h
    exact aw_zret X hz24 dX0_readsItems_107
  · refine aw_iconst X (0 : Int32) dX0_readsItems_91 (by decide) ?_
    cases h
    exact aw_zret X (Or.inl rfl) dX0_readsItems_92
theorem AX0_readsItems_r {E : AE} {l : Launch} (hE : EOK E l) (φ : Nat) : ∀ (δ d : Nat) (this : Nat) (v1 : Int32) (σ : St) (y : Int32 × St), fX0_readsItems_r φ δ this v1 σ = some y → AMet E l yX0_readsItems (ws_ yX0_readsItems cX0_readsItems 5 (some .boolean)) (d + 3 + δ) [.inr (.inr (some this)), .inl v1] σ (some (.inl y.1)) y.2 := by
  intro δ
  induction δ with
  | zero => intro d this v1 σ y h; simp [fX0_readsItems_r] at h
  | succ δ ih =>
    intro d this v1 σ y h
    have h : fX0_readsItems_m φ (fX0_readsItems_r φ δ) this v1 σ = some y := h
    have e : d + 3 + (δ + 1) = (d + δ) + 4 := by omega
    rw [e]
    refine amet_of hE (by decide +kernel) (Nat.le_of_ble_eq_true rfl) fun C e1 e2 X XI => ?_
    subst e1
    subst e2
    refine wX0_readsItems X φ _ (fun o v1 σ y h => ?_) this v1 σ y h
    have := ih d o v1 σ y h
    rw [show d + 3 + δ = d + δ + 3 by omega] at this
    exact this
theorem AX0_readsItems {E : AE} {l : Launch} (hE : EOK E l) (φ d : Nat) (this : Nat) (v1 : Int32) (σ : St) (y : Int32 × St) (h : fX0_readsItems φ this v1 σ = some y) : AMet E l yX0_readsItems (ws_ yX0_readsItems cX0_readsItems 5 (some .boolean)) (d + 9) [.inr (.inr (some this)), .inl v1] σ (some (.inl y.1)) y.2 := AX0_readsItems_r hE φ 6 d this v1 σ y h
theorem wX0_reads {C : CT} {d : Nat} (X : Cx C cX0_reads RX0 (some .int) 2 (d + 10)) (φ : Nat) (this : Nat) (v1 : Option Nat) (σ : St) (y : Int32 × St) (h : fX0_reads φ this v1 σ = some y) : AW C 0 [(0, .inr (.inr (some this))), (1, .inr (.inr v1))] [] σ (AQ C (some (.inl y.1)) y.2) := by
  unfold fX0_reads at h
  refine aw_aload_n X dX0_reads_0 0 0 rfl rfl ?_
  refine aw_aload_n X dX0_reads_1 1 1 rfl rfl ?_
  obtain ⟨s1, hs1, h⟩ := bind_some h
  refine aw_pfR X fl_X0_143 dX0_reads_2 hs1 ?_
  refine aw_aload_n X dX0_reads_5 0 0 rfl rfl ?_
  refine aw_iconst X (0 : Int32) dX0_reads_6 (by decide) ?_
  obtain ⟨s2, hs2, h⟩ := bind_some h
  refine aw_pfI X fl_X0_140 dX0_reads_7 hs2 ?_
  refine aw_aload_n X dX0_reads_10 0 0 rfl rfl ?_
  refine aw_iconst X (0 : Int32) dX0_reads_11 (by decide) ?_
  obtain ⟨s3, hs3, h⟩ := bind_some h
  refine aw_pfI X fl_X0_150 dX0_reads_12 hs3 ?_
  refine aw_aload_n X dX0_reads_15 0 0 rfl rfl ?_
  obtain ⟨y4, hy4, h⟩ := bind_some h
  refine aw_cV X (st := []) hy4 [] rfl rfl ml_X0_169 (fun o h => AX0_skips (Cx.ok X) φ (d + 8) _ _ _ h) dX0_reads_16 (Nat.le_of_ble_eq_true rfl) ?_
  refine aw_aload_n X dX0_reads_19 0 0 rfl rfl ?_
  obtain ⟨x5, hx5, h⟩ := bind_some h
  refine aw_gfI X fl_X0_140 dX0_reads_20 hx5 ?_
  refine aw_aload_n X dX0_reads_23 1 1 rfl rfl ?_
  obtain ⟨x6, hx6, h⟩ := bind_some h
  refine aw_alen X dX0_reads_24 hx6 ?_
  refine aw_icmp_ne X 31 dX0_reads_25 rfl (fun c7 => ?_) (fun c7 => ?_)
  · rw [if_neg c7] at h
    refine aw_aload_n X dX0_reads_31 0 0 rfl rfl ?_
    refine aw_iconst X (0 : Int32) dX0_reads_32 (by decide) ?_
    obtain ⟨y8, hy8, h⟩ := bind_some h
    refine aw_cV X (st := []) hy8 [.inl (0 : Int32)] rfl rfl ml_X0_162 (fun o h => AX0_readsItems (Cx.ok X) φ d _ _ _ _ h) dX0_reads_33 (Nat.le_of_ble_eq_true rfl) ?_
    refine aw_if_ne X 44 dX0_reads_36 rfl (fun c9 => ?_) (fun c9 => ?_)
    · rw [if_neg c9] at h
      refine aw_aload_n X dX0_reads_44 0 0 rfl rfl ?_
      obtain ⟨y10, hy10, h⟩ := bind_some h
      refine aw_cV X (st := []) hy10 [] rfl rfl ml_X0_169 (fun o h => AX0_skips (Cx.ok X) φ (d + 8) _ _ _ h) dX0_reads_45 (Nat.le_of_ble_eq_true rfl) ?_
      refine aw_aload_n X dX0_reads_48 0 0 rfl rfl ?_
      obtain ⟨x11, hx11, h⟩ := bind_some h
      refine aw_gfI X fl_X0_140 dX0_reads_49 hx11 ?_
      refine aw_aload_n X dX0_reads_52 1 1 rfl rfl ?_
      obtain ⟨x12, hx12, h⟩ := bind_some h
      refine aw_alen X dX0_reads_53 hx12 ?_
      refine aw_icmp_ne X 62 dX0_reads_54 rfl (fun c13 => ?_) (fun c13 => ?_)
      · rw [if_neg c13] at h
        refine aw_aload_n X dX0_reads_62 0 0 rfl rfl ?_
        obtain ⟨x14, hx14, h⟩ := bind_some h
        refine aw_gfI X fl_X0_140 dX0_reads_63 hx14 ?_
        cases h
        exact aw_iret X dX0_reads_66
      · rw [if_pos c13] at h
        refine aw_bipush X (-9 : Int32) dX0_reads_57 (by decide) ?_
        refine aw_goto X 66 dX0_reads_59 rfl ?_
        cases h
        exact aw_iret X dX0_reads_66
    · rw [if_pos c9] at h
      refine aw_aload_n X dX0_reads_39 0 0 rfl rfl ?_
      obtain ⟨x15, hx15, h⟩ := bind_some h
      refine aw_gfI X fl_X0_140 dX0_reads_40 hx15 ?_
      cases h
      exact aw_iret X dX0_reads_43
  · rw [if_pos c7] at h
    refine aw_bipush X (-9 : Int32) dX0_reads_28 (by decide) ?_
    cases h
    exact aw_iret X dX0_reads_30
theorem AX0_reads {E : AE} {l : Launch} (hE : EOK E l) (φ d : Nat) (this : Nat) (v1 : Option Nat) (σ : St) (y : Int32 × St) (h : fX0_reads φ this v1 σ = some y) : AMet E l yX0_reads (ws_ yX0_reads cX0_reads 2 (some .int)) (d + 10) [.inr (.inr (some this)), .inr (.inr v1)] σ (some (.inl y.1)) y.2 := by
  refine amet_of hE (by decide +kernel) (Nat.le_of_ble_eq_true rfl) fun C e1 e2 X XI => ?_
  subst e1
  exact wX0_reads X φ this v1 σ y h
theorem wX0_fault {C : CT} {d : Nat} (X : Cx C cX0_fault RX0 (some .int) 2 (d + 11)) (φ : Nat) (this : Nat) (v1 : Int32) (σ : St) (y : Int32 × St) (h : fX0_fault φ this v1 σ = some y) : AW C 0 [(0, .inr (.inr (some this))), (1, .inl v1)] [] σ (AQ C (some (.inl y.1)) y.2) := by
  unfold fX0_fault at h
  refine aw_iload_n X dX0_fault_0 1 1 rfl rfl ?_
  obtain ⟨y1, hy1, h⟩ := bind_some h
  refine aw_callS X (st := []) [.inl v1] rfl ml_X0_128 (AX0_isText (Cx.ok X) φ (d + 9) _ _ _  hy1) dX0_fault_1 (Nat.le_of_ble_eq_true rfl) ?_
  refine aw_if_ne X 9 dX0_fault_4 rfl (fun c2 => ?_) (fun c2 => ?_)
  · rw [if_neg c2] at h
    refine aw_aload_n X dX0_fault_9 0 0 rfl rfl ?_
    obtain ⟨x3, hx3, h⟩ := bind_some h
    refine aw_gfR X fl_X0_40 dX0_fault_10 hx3 ?_
    refine aw_iload_n X dX0_fault_13 1 1 rfl rfl ?_
    obtain ⟨x4, hx4, h⟩ := bind_some h
    refine aw_aald X (kd := 6) dX0_fault_14 (by decide) (by decide) hx4 ?_
    refine aw_ifnonnull X 26 dX0_fault_15 rfl (fun c5 => ?_) (fun c5 => ?_)
    · rw [if_neg c5] at h
      refine aw_aload_n X dX0_fault_26 0 0 rfl rfl ?_
      refine aw_aload_n X dX0_fault_27 0 0 rfl rfl ?_
      obtain ⟨x6, hx6, h⟩ := bind_some h
      refine aw_gfR X fl_X0_40 dX0_fault_28 hx6 ?_
      refine aw_iload_n X dX0_fault_31 1 1 rfl rfl ?_
      obtain ⟨x7, hx7, h⟩ := bind_some h
      refine aw_aald X (kd := 6) dX0_fault_32 (by decide) (by decide) hx7 ?_
      obtain ⟨y8, hy8, h⟩ := bind_some h
      refine aw_cV X (st := []) hy8 [.inr (.inr x7)] rfl rfl ml_X0_172 (fun o h => AX0_reads (Cx.ok X) φ d _ _ _ _ h) dX0_fault_33 (Nat.le_of_ble_eq_true rfl) ?_
      cases h
      exact aw_iret X dX0_fault_36
    · rw [if_pos c5] at h
      refine aw_aload_n X dX0_fault_18 0 0 rfl rfl ?_
      refine aw_iconst X (1 : Int32) dX0_fault_19 (by decide) ?_
      obtain ⟨y9, hy9, h⟩ := bind_some h
      refine aw_cV X (st := []) hy9 [.inl (1 : Int32)] rfl rfl ml_X0_103 (fun o h => AX0_met (Cx.ok X) φ (d + 10) _ _ _ _ h) dX0_fault_20 (Nat.le_of_ble_eq_true rfl) ?_
      refine aw_goto X 36 dX0_fault_23 rfl ?_
      cases h
      exact aw_iret X dX0_fault_36
  · rw [if_pos c2] at h
    refine aw_iconst X (-1 : Int32) dX0_fault_7 (by decide) ?_
    cases h
    exact aw_iret X dX0_fault_8
theorem AX0_fault {E : AE} {l : Launch} (hE : EOK E l) (φ d : Nat) (this : Nat) (v1 : Int32) (σ : St) (y : Int32 × St) (h : fX0_fault φ this v1 σ = some y) : AMet E l yX0_fault (ws_ yX0_fault cX0_fault 2 (some .int)) (d + 11) [.inr (.inr (some this)), .inl v1] σ (some (.inl y.1)) y.2 := by
  refine amet_of hE (by decide +kernel) (Nat.le_of_ble_eq_true rfl) fun C e1 e2 X XI => ?_
  subst e1
  exact wX0_fault X φ this v1 σ y h
theorem wX0_cut {C : CT} {d : Nat} (X : Cx C cX0_cut RX0 (some (.array .byte)) 4 d) (φ : Nat) (v0 : Option Nat) (v1 : Int32) (v2 : Int32) (σ : St) (y : (Option Nat) × St) (h : fX0_cut φ v0 v1 v2 σ = some y) : AW C 0 [(0, .inr (.inr v0)), (1, .inl v1), (2, .inl v2)] [] σ (AQ C (some (.inr (.inr y.1))) y.2) := by
  unfold fX0_cut at h
  refine aw_iload_n X dX0_cut_0 2 2 rfl rfl ?_
  obtain ⟨n1, hn1, h⟩ := bind_some h
  refine aw_newa X (kd := 2) dX0_cut_1 rfl (by decide) (by decide) q216 (r := n1.1) (σ' := n1.2) hn1 ?_
  refine aw_astore_n X dX0_cut_3 3 rfl (by decide) [(3, .inr (.inr n1.1)), (0, .inr (.inr v0)), (1, .inl v1), (2, .inl v2)] rfl ?_
  refine aw_aload_n X dX0_cut_4 1 0 rfl rfl ?_
  refine aw_iload_n X dX0_cut_5 2 1 rfl rfl ?_
  refine aw_aload_n X dX0_cut_6 0 3 rfl rfl ?_
  refine aw_iconst X (0 : Int32) dX0_cut_7 (by decide) ?_
  refine aw_iload_n X dX0_cut_8 3 2 rfl rfl ?_
  obtain ⟨s2, hs2, h⟩ := bind_some h
  refine aw_acopy X q383 dX0_cut_9 (Nat.le_of_ble_eq_true rfl) hs2 ?_
  refine aw_aload_n X dX0_cut_12 0 3 rfl rfl ?_
  cases h
  exact aw_aret X dX0_cut_13
theorem AX0_cut {E : AE} {l : Launch} (hE : EOK E l) (φ d : Nat) (v0 : Option Nat) (v1 : Int32) (v2 : Int32) (σ : St) (y : (Option Nat) × St) (h : fX0_cut φ v0 v1 v2 σ = some y) : AMet E l yX0_cut (ws_ yX0_cut cX0_cut 4 (some (.array .byte))) d [.inr (.inr v0), .inl v1, .inl v2] σ (some (.inr (.inr y.1))) y.2 := by
  refine amet_of hE (by decide +kernel) (Nat.le_of_ble_eq_true rfl) fun C e1 e2 X XI => ?_
  subst e1
  exact wX0_cut X φ v0 v1 v2 σ y h
theorem wX0_tell {C : CT} {d : Nat} (X : Cx C cX0_tell RX0 (some .int) 3 (d + 11)) (φ : Nat) (this : Nat) (v1 : Int32) (v2 : Int32) (σ : St) (y : Int32 × St) (h : fX0_tell φ this v1 v2 σ = some y) : AW C 0 [(0, .inr (.inr (some this))), (1, .inl v1), (2, .inl v2)] [] σ (AQ C (some (.inl y.1)) y.2) := by
  unfold fX0_tell at h
  refine aw_iload_n X dX0_tell_0 1 1 rfl rfl ?_
  obtain ⟨y1, hy1, h⟩ := bind_some h
  refine aw_callS X (st := []) [.inl v1] rfl ml_X0_131 (AX0_isWord (Cx.ok X) φ (d + 9) _ _ _  hy1) dX0_tell_1 (Nat.le_of_ble_eq_true rfl) ?_
  refine aw_if_eq X 14 dX0_tell_4 rfl (fun c2 => ?_) (fun c2 => ?_)
  · rw [if_pos c2] at h
    refine aw_iconst X (-1 : Int32) dX0_tell_14 (by decide) ?_
    cases h
    exact aw_iret X dX0_tell_15
  · rw [if_neg c2] at h
    refine aw_iload_n X dX0_tell_7 2 2 rfl rfl ?_
    obtain ⟨y3, hy3, h⟩ := bind_some h
    refine aw_callS X (st := []) [.inl v2] rfl ml_X0_128 (AX0_isText (Cx.ok X) φ (d + 9) _ _ _  hy3) dX0_tell_8 (Nat.le_of_ble_eq_true rfl) ?_
    refine aw_if_ne X 16 dX0_tell_11 rfl (fun c4 => ?_) (fun c4 => ?_)
    · rw [if_neg c4] at h
      refine aw_aload_n X dX0_tell_16 0 0 rfl rfl ?_
      obtain ⟨x5, hx5, h⟩ := bind_some h
      refine aw_gfR X fl_X0_40 dX0_tell_17 hx5 ?_
      refine aw_iload_n X dX0_tell_20 2 2 rfl rfl ?_
      obtain ⟨x6, hx6, h⟩ := bind_some h
      refine aw_aald X (kd := 6) dX0_tell_21 (by decide) (by decide) hx6 ?_
      refine aw_ifnonnull X 31 dX0_tell_22 rfl (fun c7 => ?_) (fun c7 => ?_)
      · rw [if_neg c7] at h
        refine aw_aload_n X dX0_tell_31 0 0 rfl rfl ?_
        refine aw_aload_n X dX0_tell_32 0 0 rfl rfl ?_
        obtain ⟨x8, hx8, h⟩ := bind_some h
        refine aw_gfR X fl_X0_40 dX0_tell_33 hx8 ?_
        refine aw_iload_n X dX0_tell_36 2 2 rfl rfl ?_
        obtain ⟨x9, hx9, h⟩ := bind_some h
        refine aw_aald X (kd := 6) dX0_tell_37 (by decide) (by decide) hx9 ?_
        obtain ⟨y10, hy10, h⟩ := bind_some h
        refine aw_cV X (st := []) hy10 [.inr (.inr x9)] rfl rfl ml_X0_172 (fun o h => AX0_reads (Cx.ok X) φ d _ _ _ _ h) dX0_tell_38 (Nat.le_of_ble_eq_true rfl) ?_
        refine aw_bipush X (-9 : Int32) dX0_tell_41 (by decide) ?_
        refine aw_icmp_eq X 49 dX0_tell_43 rfl (fun c11 => ?_) (fun c11 => ?_)
        · rw [if_pos c11] at h
          refine aw_aload_n X dX0_tell_49 0 0 rfl rfl ?_
          obtain ⟨x12, hx12, h⟩ := bind_some h
          refine aw_gfI X fl_X0_150 dX0_tell_50 hx12 ?_
          refine aw_bipush X (40 : Int32) dX0_tell_53 (by decide) ?_
          refine aw_icmp_le X 61 dX0_tell_55 rfl (fun c13 => ?_) (fun c13 => ?_)
          · rw [if_pos c13] at h
            refine aw_aload_n X dX0_tell_61 0 0 rfl rfl ?_
            obtain ⟨x14, hx14, h⟩ := bind_some h
            refine aw_gfR X fl_X0_46 dX0_tell_62 hx14 ?_
            refine aw_iload_n X dX0_tell_65 1 1 rfl rfl ?_
            obtain ⟨n15, hn15, h⟩ := bind_some h
            refine aw_new X (ci := 3) dX0_tell_66 rfl q471 q472 q94 (r := n15.1) (σ' := n15.2) hn15 ?_
            refine aw_dup X dX0_tell_69 rfl ?_
            refine aw_aload_n X dX0_tell_70 0 0 rfl rfl ?_
            obtain ⟨x16, hx16, h⟩ := bind_some h
            refine aw_gfR X fl_X0_50 dX0_tell_71 hx16 ?_
            refine aw_iconst X (0 : Int32) dX0_tell_74 (by decide) ?_
            refine aw_aload_n X dX0_tell_75 0 0 rfl rfl ?_
            obtain ⟨x17, hx17, h⟩ := bind_some h
            refine aw_gfI X fl_X0_150 dX0_tell_76 hx17 ?_
            obtain ⟨y18, hy18, h⟩ := bind_some h
            refine aw_callS X (st := [.inr (.inr n15.1), .inr (.inr n15.1), .inl v1, .inr (.inr x14)]) [.inr (.inr x16), .inl (0 : Int32), .inl x17] rfl ml_X0_178 (AX0_cut (Cx.ok X) φ (d + 10) _ _ _ _ _  hy18) dX0_tell_79 (Nat.le_of_ble_eq_true rfl) ?_
            refine aw_aload_n X dX0_tell_82 0 0 rfl rfl ?_
            obtain ⟨x19, hx19, h⟩ := bind_some h
            refine aw_gfR X fl_X0_40 dX0_tell_83 hx19 ?_
            refine aw_iload_n X dX0_tell_86 2 2 rfl rfl ?_
            obtain ⟨x20, hx20, h⟩ := bind_some h
            refine aw_aald X (kd := 6) dX0_tell_87 (by decide) (by decide) hx20 ?_
            obtain ⟨x21, hx21, h⟩ := bind_some h
            refine aw_alen X dX0_tell_88 hx21 ?_
            obtain ⟨y22, hy22, h⟩ := bind_some h
            refine aw_cI X (st := [.inr (.inr n15.1), .inl v1, .inr (.inr x14)]) hy22 [.inr (.inr y18.1), .inl x21] rfl ml_X0_182 (fun o h => AX3_init (Cx.ok X) φ (d + 9) _ _ _ _ _ h) dX0_tell_89 (Nat.le_of_ble_eq_true rfl) ?_
            obtain ⟨s23, hs23, h⟩ := bind_some h
            refine aw_aast X (kd := 7) (lo := 10) (hi := 14) dX0_tell_92 (by decide) hs23 ?_
            refine aw_aload_n X dX0_tell_93 0 0 rfl rfl ?_
            obtain ⟨x24, hx24, h⟩ := bind_some h
            refine aw_gfI X fl_X0_150 dX0_tell_94 hx24 ?_
            cases h
            exact aw_iret X dX0_tell_97
          · rw [if_neg c13] at h
            refine aw_bipush X (-2 : Int32) dX0_tell_58 (by decide) ?_
            cases h
            exact aw_iret X dX0_tell_60
        · rw [if_neg c11] at h
          refine aw_bipush X (-4 : Int32) dX0_tell_46 (by decide) ?_
          cases h
          exact aw_iret X dX0_tell_48
      · rw [if_pos c7] at h
        refine aw_aload_n X dX0_tell_25 0 0 rfl rfl ?_
        refine aw_iconst X (1 : Int32) dX0_tell_26 (by decide) ?_
        obtain ⟨y25, hy25, h⟩ := bind_some h
        refine aw_cV X (st := []) hy25 [.inl (1 : Int32)] rfl rfl ml_X0_103 (fun o h => AX0_met (Cx.ok X) φ (d + 10) _ _ _ _ h) dX0_tell_27 (Nat.le_of_ble_eq_true rfl) ?_
        cases h
        exact aw_iret X dX0_tell_30
    · rw [if_pos c4] at h
      refine aw_iconst X (-1 : Int32) dX0_tell_14 (by decide) ?_
      cases h
      exact aw_iret X dX0_tell_15
theorem AX0_tell {E : AE} {l : Launch} (hE : EOK E l) (φ d : Nat) (this : Nat) (v1 : Int32) (v2 : Int32) (σ : St) (y : Int32 × St) (h : fX0_tell φ this v1 v2 σ = some y) : AMet E l yX0_tell (ws_ yX0_tell cX0_tell 3 (some .int)) (d + 11) [.inr (.inr (some this)), .inl v1, .inl v2] σ (some (.inl y.1)) y.2 := by
  refine amet_of hE (by decide +kernel) (Nat.le_of_ble_eq_true rfl) fun C e1 e2 X XI => ?_
  subst e1
  exact wX0_tell X φ this v1 v2 σ y h
theorem wX0_askedTwo_b34 {C : CT} {d : Nat} (X : Cx C cX0_askedTwo RX0 (some .int) 3 (d + 2)) (φ : Nat) (this : Nat) (σ : St) (y : Int32 × St) (h : fX0_askedTwo_b34 φ this σ = some y)  : AW C 34 [(0, .inr (.inr (some this)))] [] σ (AQ C (some (.inl y.1)) y.2) := by
  unfold fX0_askedTwo_b34 at h
  refine aw_aload_n X dX0_askedTwo_34 0 0 rfl rfl ?_
  refine aw_iconst X (1 : Int32) dX0_askedTwo_35 (by decide) ?_
  obtain ⟨y8, hy8, h⟩ := bind_some h
  refine aw_cV X (st := []) hy8 [.inl (1 : Int32)] rfl rfl ml_X0_103 (fun o h => AX0_met (Cx.ok X) φ (d + 1) _ _ _ _ h) dX0_askedTwo_36 (Nat.le_of_ble_eq_true rfl) ?_
  refine aw_goto X 43 dX0_askedTwo_39 rfl ?_
  cases h
  exact aw_iret X dX0_askedTwo_43
theorem wX0_askedTwo {C : CT} {d : Nat} (X : Cx C cX0_askedTwo RX0 (some .int) 3 (d + 2)) (φ : Nat) (this : Nat) (v1 : Int32) (v2 : Int32) (σ : St) (y : Int32 × St) (h : fX0_askedTwo φ this v1 v2 σ = some y) : AW C 0 [(0, .inr (.inr (some this))), (1, .inl v1), (2, .inl v2)] [] σ (AQ C (some (.inl y.1)) y.2) := by
  unfold fX0_askedTwo at h
  refine aw_iload_n X dX0_askedTwo_0 1 1 rfl rfl ?_
  obtain ⟨y1, hy1, h⟩ := bind_some h
  refine aw_callS X (st := []) [.inl v1] rfl ml_X0_131 (AX0_isWord (Cx.ok X) φ d _ _ _  hy1) dX0_askedTwo_1 (Nat.le_of_ble_eq_true rfl) ?_
  refine aw_if_eq X 14 dX0_askedTwo_4 rfl (fun c2 => ?_) (fun c2 => ?_)
  · rw [if_pos c2] at h
    refine aw_iconst X (-1 : Int32) dX0_askedTwo_14 (by decide) ?_
    cases h
    exact aw_iret X dX0_askedTwo_15
  · rw [if_neg c2] at h
    refine aw_iload_n X dX0_askedTwo_7 2 2 rfl rfl ?_
    obtain ⟨y3, hy3, h⟩ := bind_some h
    refine aw_callS X (st := []) [.inl v2] rfl ml_X0_131 (AX0_isWord (Cx.ok X) φ d _ _ _  hy3) dX0_askedTwo_8 (Nat.le_of_ble_eq_true rfl) ?_
    refine aw_if_ne X 16 dX0_askedTwo_11 rfl (fun c4 => ?_) (fun c4 => ?_)
    · rw [if_neg c4] at h
      refine aw_aload_n X dX0_askedTwo_16 0 0 rfl rfl ?_
      obtain ⟨x5, hx5, h⟩ := bind_some h
      refine aw_gfR X fl_X0_46 dX0_askedTwo_17 hx5 ?_
      refine aw_iload_n X dX0_askedTwo_20 1 1 rfl rfl ?_
      obtain ⟨x6, hx6, h⟩ := bind_some h
      refine aw_aald X (kd := 7) dX0_askedTwo_21 (by decide) (by decide) hx6 ?_
      refine aw_ifnull X 34 dX0_askedTwo_22 rfl (fun c7 => ?_) (fun c7 => ?_)
      · rw [if_pos c7] at h
        refine aw_sub [(0, .inr (.inr (some this)))] [0] rfl ?_
        exact wX0_askedTwo_b34 X φ this σ y h
      · rw [if_neg c7] at h
        refine aw_aload_n X dX0_askedTwo_25 0 0 rfl rfl ?_
        obtain ⟨x9, hx9, h⟩ := bind_some h
        refine aw_gfR X fl_X0_46 dX0_askedTwo_26 hx9 ?_
        refine aw_iload_n X dX0_askedTwo_29 2 2 rfl rfl ?_
        obtain ⟨x10, hx10, h⟩ := bind_some h
        refine aw_aald X (kd := 7) dX0_askedTwo_30 (by decide) (by decide) hx10 ?_
        refine aw_ifnonnull X 42 dX0_askedTwo_31 rfl (fun c11 => ?_) (fun c11 => ?_)
        · rw [if_neg c11] at h
          refine aw_iconst X (0 : Int32) dX0_askedTwo_42 (by decide) ?_
          cases h
          exact aw_iret X dX0_askedTwo_43
        · rw [if_pos c11] at h
          refine aw_sub [(0, .inr (.inr (some this)))] [0] rfl ?_
          exact wX0_askedTwo_b34 X φ this σ y h
    · rw [if_pos c4] at h
      refine aw_iconst X (-1 : Int32) dX0_askedTwo_14 (by decide) ?_
      cases h
      exact aw_iret X dX0_askedTwo_15
theorem AX0_askedTwo {E : AE} {l : Launch} (hE : EOK E l) (φ d : Nat) (this : Nat) (v1 : Int32) (v2 : Int32) (σ : St) (y : Int32 × St) (h : fX0_askedTwo φ this v1 v2 σ = some y) : AMet E l yX0_askedTwo (ws_ yX0_askedTwo cX0_askedTwo 3 (some .int)) (d + 2) [.inr (.inr (some this)), .inl v1, .inl v2] σ (some (.inl y.1)) y.2 := by
  refine amet_of hE (by decide +kernel) (Nat.le_of_ble_eq_true rfl) fun C e1 e2 X XI => ?_
  subst e1
  exact wX0_askedTwo X φ this v1 v2 σ y h
theorem wX0_of {C : CT} {d : Nat} (X : Cx C cX0_of RX0 (some (.array .byte)) 2 d) (φ : Nat) (this : Nat) (v1 : Int32) (σ : St) (y : Option Nat) (h : fX0_of φ this v1 σ = some y) : AW C 0 [(0, .inr (.inr (some this))), (1, .inl v1)] [] σ (AQ C (some (.inr (.inr y))) σ) := by
  unfold fX0_of at h
  refine aw_aload_n X dX0_of_0 0 0 rfl rfl ?_
  obtain ⟨x1, hx1, h⟩ := bind_some h
  refine aw_gfR X fl_X0_46 dX0_of_1 hx1 ?_
  refine aw_iload_n X dX0_of_4 1 1 rfl rfl ?_
  obtain ⟨x2, hx2, h⟩ := bind_some h
  refine aw_aald X (kd := 7) dX0_of_5 (by decide) (by decide) hx2 ?_
  obtain ⟨x3, hx3, h⟩ := bind_some h
  refine aw_gfRN X fl_X0_134 dX0_of_6 hx3 ?_
  cases h
  exact aw_aret X dX0_of_9
theorem AX0_of {E : AE} {l : Launch} (hE : EOK E l) (φ d : Nat) (this : Nat) (v1 : Int32) (σ : St) (y : Option Nat) (h : fX0_of φ this v1 σ = some y) : AMet E l yX0_of (ws_ yX0_of cX0_of 2 (some (.array .byte))) d [.inr (.inr (some this)), .inl v1] σ (some (.inr (.inr y))) σ := by
  refine amet_of hE (by decide +kernel) (Nat.le_of_ble_eq_true rfl) fun C e1 e2 X XI => ?_
  subst e1
  exact wX0_of X φ this v1 σ y h
theorem wX0_join {C : CT} {d : Nat} (X : Cx C cX0_join RX0 (some .int) 7 (d + 3)) (φ : Nat) (this : Nat) (v1 : Int32) (v2 : Int32) (v3 : Int32) (σ : St) (y : Int32 × St) (h : fX0_join φ this v1 v2 v3 σ = some y) : AW C 0 [(0, .inr (.inr (some this))), (1, .inl v1), (2, .inl v2), (3, .inl v3)] [] σ (AQ C (some (.inl y.1)) y.2) := by
  unfold fX0_join at h
  refine aw_iload_n X dX0_join_0 1 1 rfl rfl ?_
  obtain ⟨y1, hy1, h⟩ := bind_some h
  refine aw_callS X (st := []) [.inl v1] rfl ml_X0_131 (AX0_isWord (Cx.ok X) φ (d + 1) _ _ _  hy1) dX0_join_1 (Nat.le_of_ble_eq_true rfl) ?_
  refine aw_if_ne X 9 dX0_join_4 rfl (fun c2 => ?_) (fun c2 => ?_)
  · rw [if_neg c2] at h
    refine aw_aload_n X dX0_join_9 0 0 rfl rfl ?_
    refine aw_iload_n X dX0_join_10 2 2 rfl rfl ?_
    refine aw_iload_n X dX0_join_11 3 3 rfl rfl ?_
    obtain ⟨y3, hy3, h⟩ := bind_some h
    refine aw_cV X (st := []) hy3 [.inl v2, .inl v3] rfl rfl ml_X0_185 (fun o h => AX0_askedTwo (Cx.ok X) φ d _ _ _ _ _ h) dX0_join_12 (Nat.le_of_ble_eq_true rfl) ?_
    refine aw_istore X dX0_join_15 (by decide) [(4, .inl y3.1), (0, .inr (.inr (some this))), (1, .inl v1), (2, .inl v2), (3, .inl v3)] rfl ?_
    refine aw_iload X dX0_join_17 0 rfl ?_
    refine aw_if_ge X 25 dX0_join_19 rfl (fun c4 => ?_) (fun c4 => ?_)
    · rw [if_pos c4] at h
      refine aw_aload_n X dX0_join_25 1 0 rfl rfl ?_
      refine aw_iload_n X dX0_join_26 3 2 rfl rfl ?_
      obtain ⟨y5, hy5, h⟩ := bind_some h
      refine aw_cV X (st := []) hy5 [.inl v2] rfl rfl ml_X0_188 (fun o h => AX0_of (Cx.ok X) φ (d + 2) _ _ _ _ h) dX0_join_27 (Nat.le_of_ble_eq_true rfl) ?_
      obtain ⟨x6, hx6, h⟩ := bind_some h
      refine aw_alen X dX0_join_30 hx6 ?_
      refine aw_aload_n X dX0_join_31 1 0 rfl rfl ?_
      refine aw_iload_n X dX0_join_32 4 3 rfl rfl ?_
      obtain ⟨y7, hy7, h⟩ := bind_some h
      refine aw_cV X (st := [.inl x6]) hy7 [.inl v3] rfl rfl ml_X0_188 (fun o h => AX0_of (Cx.ok X) φ (d + 2) _ _ _ _ h) dX0_join_33 (Nat.le_of_ble_eq_true rfl) ?_
      obtain ⟨x8, hx8, h⟩ := bind_some h
      refine aw_alen X dX0_join_36 hx8 ?_
      refine aw_iadd X dX0_join_37 ?_
      refine aw_istore X dX0_join_38 (by decide) [(5, .inl (x6 + x8)), (4, .inl y3.1), (0, .inr (.inr (some this))), (1, .inl v1), (2, .inl v2), (3, .inl v3)] rfl ?_
      refine aw_iload X dX0_join_40 0 rfl ?_
      refine aw_bipush X (40 : Int32) dX0_join_42 (by decide) ?_
      refine aw_icmp_le X 50 dX0_join_44 rfl (fun c9 => ?_) (fun c9 => ?_)
      · rw [if_pos c9] at h
        refine aw_iload X dX0_join_50 0 rfl ?_
        obtain ⟨n10, hn10, h⟩ := bind_some h
        refine aw_newa X (kd := 2) dX0_join_52 rfl (by decide) (by decide) q216 (r := n10.1) (σ' := n10.2) hn10 ?_
        refine aw_astore X dX0_join_54 (by decide) [(6, .inr (.inr n10.1)), (5, .inl (x6 + x8)), (4, .inl y3.1), (0, .inr (.inr (some this))), (1, .inl v1), (2, .inl v2), (3, .inl v3)] rfl ?_
        refine aw_aload_n X dX0_join_56 3 0 rfl rfl ?_
        refine aw_iload_n X dX0_join_57 5 2 rfl rfl ?_
        obtain ⟨y11, hy11, h⟩ := bind_some h
        refine aw_cV X (st := []) hy11 [.inl v2] rfl rfl ml_X0_188 (fun o h => AX0_of (Cx.ok X) φ (d + 2) _ _ _ _ h) dX0_join_58 (Nat.le_of_ble_eq_true rfl) ?_
        refine aw_iconst X (0 : Int32) dX0_join_61 (by decide) ?_
        refine aw_aload X dX0_join_62 0 rfl ?_
        refine aw_iconst X (0 : Int32) dX0_join_64 (by decide) ?_
        refine aw_aload_n X dX0_join_65 3 0 rfl rfl ?_
        refine aw_iload_n X dX0_join_66 5 2 rfl rfl ?_
        obtain ⟨y12, hy12, h⟩ := bind_some h
        refine aw_cV X (st := [.inl (0 : Int32), .inr (.inr n10.1), .inl (0 : Int32), .inr (.inr y11)]) hy12 [.inl v2] rfl rfl ml_X0_188 (fun o h => AX0_of (Cx.ok X) φ (d + 2) _ _ _ _ h) dX0_join_67 (Nat.le_of_ble_eq_true rfl) ?_
        obtain ⟨x13, hx13, h⟩ := bind_some h
        refine aw_alen X dX0_join_70 hx13 ?_
        obtain ⟨s14, hs14, h⟩ := bind_some h
        refine aw_acopy X q383 dX0_join_71 (Nat.le_of_ble_eq_true rfl) hs14 ?_
        refine aw_aload_n X dX0_join_74 3 0 rfl rfl ?_
        refine aw_iload_n X dX0_join_75 6 3 rfl rfl ?_
        obtain ⟨y15, hy15, h⟩ := bind_some h
        refine aw_cV X (st := []) hy15 [.inl v3] rfl rfl ml_X0_188 (fun o h => AX0_of (Cx.ok X) φ (d + 2) _ _ _ _ h) dX0_join_76 (Nat.le_of_ble_eq_true rfl) ?_
        refine aw_iconst X (0 : Int32) dX0_join_79 (by decide) ?_
        refine aw_aload X dX0_join_80 0 rfl ?_
        refine aw_aload_n X dX0_join_82 3 0 rfl rfl ?_
        refine aw_iload_n X dX0_join_83 5 2 rfl rfl ?_
        obtain ⟨y16, hy16, h⟩ := bind_some h
        refine aw_cV X (st := [.inr (.inr n10.1), .inl (0 : Int32), .inr (.inr y15)]) hy16 [.inl v2] rfl rfl ml_X0_188 (fun o h => AX0_of (Cx.ok X) φ (d + 2) _ _ _ _ h) dX0_join_84 (Nat.le_of_ble_eq_true rfl) ?_
        obtain ⟨x17, hx17, h⟩ := bind_some h
        refine aw_alen X dX0_join_87 hx17 ?_
        refine aw_aload_n X dX0_join_88 3 0 rfl rfl ?_
        refine aw_iload_n X dX0_join_89 6 3 rfl rfl ?_
        obtain ⟨y18, hy18, h⟩ := bind_some h
        refine aw_cV X (st := [.inl x17, .inr (.inr n10.1), .inl (0 : Int32), .inr (.inr y15)]) hy18 [.inl v3] rfl rfl ml_X0_188 (fun o h => AX0_of (Cx.ok X) φ (d + 2) _ _ _ _ h) dX0_join_90 (Nat.le_of_ble_eq_true rfl) ?_
        obtain ⟨x19, hx19, h⟩ := bind_some h
        refine aw_alen X dX0_join_93 hx19 ?_
        obtain ⟨s20, hs20, h⟩ := bind_some h
        refine aw_acopy X q383 dX0_join_94 (Nat.le_of_ble_eq_true rfl) hs20 ?_
        refine aw_aload_n X dX0_join_97 3 0 rfl rfl ?_
        obtain ⟨x21, hx21, h⟩ := bind_some h
        refine aw_gfR X fl_X0_46 dX0_join_98 hx21 ?_
        refine aw_iload_n X dX0_join_101 4 1 rfl rfl ?_
        obtain ⟨n22, hn22, h⟩ := bind_some h
        refine aw_new X (ci := 4) dX0_join_102 rfl q498 q499 q95 (r := n22.1) (σ' := n22.2) hn22 ?_
        refine aw_dup X dX0_join_105 rfl ?_
        refine aw_aload X dX0_join_106 0 rfl ?_
        refine aw_iload_n X dX0_join_108 5 2 rfl rfl ?_
        obtain ⟨y23, hy23, h⟩ := bind_some h
        refine aw_cI X (st := [.inr (.inr n22.1), .inl v1, .inr (.inr x21)]) hy23 [.inr (.inr n10.1), .inl v2] rfl ml_X0_194 (fun o h => AX4_init (Cx.ok X) φ (d + 1) _ _ _ _ _ h) dX0_join_109 (Nat.le_of_ble_eq_true rfl) ?_
        obtain ⟨s24, hs24, h⟩ := bind_some h
        refine aw_aast X (kd := 7) (lo := 10) (hi := 14) dX0_join_112 (by decide) hs24 ?_
        refine aw_iload X dX0_join_113 1 rfl ?_
        cases h
        exact aw_iret X dX0_join_115
      · rw [if_neg c9] at h
        refine aw_bipush X (-2 : Int32) dX0_join_47 (by decide) ?_
        cases h
        exact aw_iret X dX0_join_49
    · rw [if_neg c4] at h
      refine aw_iload X dX0_join_22 0 rfl ?_
      cases h
      exact aw_iret X dX0_join_24
  · rw [if_pos c2] at h
    refine aw_iconst X (-1 : Int32) dX0_join_7 (by decide) ?_
    cases h
    exact aw_iret X dX0_join_8
theorem AX0_join {E : AE} {l : Launch} (hE : EOK E l) (φ d : Nat) (this : Nat) (v1 : Int32) (v2 : Int32) (v3 : Int32) (σ : St) (y : Int32 × St) (h : fX0_join φ this v1 v2 v3 σ = some y) : AMet E l yX0_join (ws_ yX0_join cX0_join 7 (some .int)) (d + 3) [.inr (.inr (some this)), .inl v1, .inl v2, .inl v3] σ (some (.inl y.1)) y.2 := by
  refine amet_of hE (by decide +kernel) (Nat.le_of_ble_eq_true rfl) fun C e1 e2 X XI => ?_
  subst e1
  exact wX0_join X φ this v1 v2 v3 σ y h
theorem wX0_part_b70 {C : CT} {d : Nat} (X : Cx C cX0_part RX0 (some .int) 5 (d + 2)) (φ : Nat) (this : Nat) (σ : St) (y : Int32 × St) (h : fX0_part_b70 φ this σ = some y)  : AW C 70 [(0, .inr (.inr (some this)))] [] σ (AQ C (some (.inl y.1)) y.2) := by
  unfold fX0_part_b70 at h
  refine aw_aload_n X dX0_part_70 0 0 rfl rfl ?_
  refine aw_iconst X (2 : Int32) dX0_part_71 (by decide) ?_
  obtain ⟨y10, hy10, h⟩ := bind_some h
  refine aw_cV X (st := []) hy10 [.inl (2 : Int32)] rfl rfl ml_X0_103 (fun o h => AX0_met (Cx.ok X) φ (d + 1) _ _ _ _ h) dX0_part_72 (Nat.le_of_ble_eq_true rfl) ?_
  cases h
  exact aw_iret X dX0_part_75
theorem wX0_part {C : CT} {d : Nat} (X : Cx C cX0_part RX0 (some .int) 5 (d + 2)) (φ : Nat) (this : Nat) (v1 : Int32) (v2 : Int32) (v3 : Int32) (v4 : Int32) (σ : St) (y : Int32 × St) (h : fX0_part φ this v1 v2 v3 v4 σ = some y) : AW C 0 [(0, .inr (.inr (some this))), (1, .inl v1), (2, .inl v2), (3, .inl v3), (4, .inl v4)] [] σ (AQ C (some (.inl y.1)) y.2) := by
  unfold fX0_part at h
  refine aw_iload_n X dX0_part_0 1 1 rfl rfl ?_
  obtain ⟨y1, hy1, h⟩ := bind_some h
  refine aw_callS X (st := []) [.inl v1] rfl ml_X0_131 (AX0_isWord (Cx.ok X) φ d _ _ _  hy1) dX0_part_1 (Nat.le_of_ble_eq_true rfl) ?_
  refine aw_if_eq X 14 dX0_part_4 rfl (fun c2 => ?_) (fun c2 => ?_)
  · rw [if_pos c2] at h
    refine aw_iconst X (-1 : Int32) dX0_part_14 (by decide) ?_
    cases h
    exact aw_iret X dX0_part_15
  · rw [if_neg c2] at h
    refine aw_iload_n X dX0_part_7 2 2 rfl rfl ?_
    obtain ⟨y3, hy3, h⟩ := bind_some h
    refine aw_callS X (st := []) [.inl v2] rfl ml_X0_131 (AX0_isWord (Cx.ok X) φ d _ _ _  hy3) dX0_part_8 (Nat.le_of_ble_eq_true rfl) ?_
    refine aw_if_ne X 16 dX0_part_11 rfl (fun c4 => ?_) (fun c4 => ?_)
    · rw [if_neg c4] at h
      refine aw_iload X dX0_part_16 4 rfl ?_
      refine aw_if_ge X 27 dX0_part_18 rfl (fun c5 => ?_) (fun c5 => ?_)
      · rw [if_pos c5] at h
        refine aw_aload_n X dX0_part_27 0 0 rfl rfl ?_
        obtain ⟨x6, hx6, h⟩ := bind_some h
        refine aw_gfR X fl_X0_46 dX0_part_28 hx6 ?_
        refine aw_iload_n X dX0_part_31 2 2 rfl rfl ?_
        obtain ⟨x7, hx7, h⟩ := bind_some h
        refine aw_aald X (kd := 7) dX0_part_32 (by decide) (by decide) hx7 ?_
        refine aw_ifnonnull X 42 dX0_part_33 rfl (fun c8 => ?_) (fun c8 => ?_)
        · rw [if_neg c8] at h
          refine aw_iload_n X dX0_part_42 3 3 rfl rfl ?_
          refine aw_if_lt X 70 dX0_part_43 rfl (fun c9 => ?_) (fun c9 => ?_)
          · rw [if_pos c9] at h
            refine aw_sub [(0, .inr (.inr (some this)))] [0] rfl ?_
            exact wX0_part_b70 X φ this σ y h
          · rw [if_neg c9] at h
            refine aw_iload X dX0_part_46 4 rfl ?_
            refine aw_aload_n X dX0_part_48 0 0 rfl rfl ?_
            refine aw_iload_n X dX0_part_49 2 2 rfl rfl ?_
            obtain ⟨y11, hy11, h⟩ := bind_some h
            refine aw_cV X (st := [.inl v4]) hy11 [.inl v2] rfl rfl ml_X0_188 (fun o h => AX0_of (Cx.ok X) φ (d + 1) _ _ _ _ h) dX0_part_50 (Nat.le_of_ble_eq_true rfl) ?_
            obtain ⟨x12, hx12, h⟩ := bind_some h
            refine aw_alen X dX0_part_53 hx12 ?_
            refine aw_icmp_gt X 70 dX0_part_54 rfl (fun c13 => ?_) (fun c13 => ?_)
            · rw [if_pos c13] at h
              refine aw_sub [(0, .inr (.inr (some this)))] [0] rfl ?_
              exact wX0_part_b70 X φ this σ y h
            · rw [if_neg c13] at h
              refine aw_iload_n X dX0_part_57 3 3 rfl rfl ?_
              refine aw_aload_n X dX0_part_58 0 0 rfl rfl ?_
              refine aw_iload_n X dX0_part_59 2 2 rfl rfl ?_
              obtain ⟨y14, hy14, h⟩ := bind_some h
              refine aw_cV X (st := [.inl v3]) hy14 [.inl v2] rfl rfl ml_X0_188 (fun o h => AX0_of (Cx.ok X) φ (d + 1) _ _ _ _ h) dX0_part_60 (Nat.le_of_ble_eq_true rfl) ?_
              obtain ⟨x15, hx15, h⟩ := bind_some h
              refine aw_alen X dX0_part_63 hx15 ?_
              refine aw_iload X dX0_part_64 4 rfl ?_
              refine aw_isub X dX0_part_66 ?_
              refine aw_icmp_le X 76 dX0_part_67 rfl (fun c16 => ?_) (fun c16 => ?_)
              · rw [if_pos c16] at h
                refine aw_aload_n X dX0_part_76 0 0 rfl rfl ?_
                obtain ⟨x17, hx17, h⟩ := bind_some h
                refine aw_gfR X fl_X0_46 dX0_part_77 hx17 ?_
                refine aw_iload_n X dX0_part_80 1 1 rfl rfl ?_
                obtain ⟨n18, hn18, h⟩ := bind_some h
                refine aw_new X (ci := 4) dX0_part_81 rfl q498 q499 q95 (r := n18.1) (σ' := n18.2) hn18 ?_
                refine aw_dup X dX0_part_84 rfl ?_
                refine aw_aload_n X dX0_part_85 0 0 rfl rfl ?_
                refine aw_iload_n X dX0_part_86 2 2 rfl rfl ?_
                obtain ⟨y19, hy19, h⟩ := bind_some h
                refine aw_cV X (st := [.inr (.inr n18.1), .inr (.inr n18.1), .inl v1, .inr (.inr x17)]) hy19 [.inl v2] rfl rfl ml_X0_188 (fun o h => AX0_of (Cx.ok X) φ (d + 1) _ _ _ _ h) dX0_part_87 (Nat.le_of_ble_eq_true rfl) ?_
                refine aw_iload_n X dX0_part_90 3 3 rfl rfl ?_
                refine aw_iload X dX0_part_91 4 rfl ?_
                obtain ⟨y20, hy20, h⟩ := bind_some h
                refine aw_callS X (st := [.inr (.inr n18.1), .inr (.inr n18.1), .inl v1, .inr (.inr x17)]) [.inr (.inr y19), .inl v3, .inl v4] rfl ml_X0_178 (AX0_cut (Cx.ok X) φ (d + 1) _ _ _ _ _  hy20) dX0_part_93 (Nat.le_of_ble_eq_true rfl) ?_
                refine aw_iload_n X dX0_part_96 2 2 rfl rfl ?_
                obtain ⟨y21, hy21, h⟩ := bind_some h
                refine aw_cI X (st := [.inr (.inr n18.1), .inl v1, .inr (.inr x17)]) hy21 [.inr (.inr y20.1), .inl v2] rfl ml_X0_194 (fun o h => AX4_init (Cx.ok X) φ d _ _ _ _ _ h) dX0_part_97 (Nat.le_of_ble_eq_true rfl) ?_
                obtain ⟨s22, hs22, h⟩ := bind_some h
                refine aw_aast X (kd := 7) (lo := 10) (hi := 14) dX0_part_100 (by decide) hs22 ?_
                refine aw_iload X dX0_part_101 4 rfl ?_
                cases h
                exact aw_iret X dX0_part_103
              · rw [if_neg c16] at h
                refine aw_sub [(0, .inr (.inr (some this)))] [0] rfl ?_
                exact wX0_part_b70 X φ this σ y h
        · rw [if_pos c8] at h
          refine aw_aload_n X dX0_part_36 0 0 rfl rfl ?_
          refine aw_iconst X (1 : Int32) dX0_part_37 (by decide) ?_
          obtain ⟨y23, hy23, h⟩ := bind_some h
          refine aw_cV X (st := []) hy23 [.inl (1 : Int32)] rfl rfl ml_X0_103 (fun o h => AX0_met (Cx.ok X) φ (d + 1) _ _ _ _ h) dX0_part_38 (Nat.le_of_ble_eq_true rfl) ?_
          cases h
          exact aw_iret X dX0_part_41
      · rw [if_neg c5] at h
        refine aw_aload_n X dX0_part_21 0 0 rfl rfl ?_
        refine aw_iconst X (5 : Int32) dX0_part_22 (by decide) ?_
        obtain ⟨y24, hy24, h⟩ := bind_some h
        refine aw_cV X (st := []) hy24 [.inl (5 : Int32)] rfl rfl ml_X0_103 (fun o h => AX0_met (Cx.ok X) φ (d + 1) _ _ _ _ h) dX0_part_23 (Nat.le_of_ble_eq_true rfl) ?_
        cases h
        exact aw_iret X dX0_part_26
    · rw [if_pos c4] at h
      refine aw_iconst X (-1 : Int32) dX0_part_14 (by decide) ?_
      cases h
      exact aw_iret X dX0_part_15
theorem AX0_part {E : AE} {l : Launch} (hE : EOK E l) (φ d : Nat) (this : Nat) (v1 : Int32) (v2 : Int32) (v3 : Int32) (v4 : Int32) (σ : St) (y : Int32 × St) (h : fX0_part φ this v1 v2 v3 v4 σ = some y) : AMet E l yX0_part (ws_ yX0_part cX0_part 5 (some .int)) (d + 2) [.inr (.inr (some this)), .inl v1, .inl v2, .inl v3, .inl v4] σ (some (.inl y.1)) y.2 := by
  refine amet_of hE (by decide +kernel) (Nat.le_of_ble_eq_true rfl) fun C e1 e2 X XI => ?_
  subst e1
  exact wX0_part X φ this v1 v2 v3 v4 σ y h
theorem wX0_askedWord {C : CT} {d : Nat} (X : Cx C cX0_askedWord RX0 (some .int) 2 (d + 2)) (φ : Nat) (this : Nat) (v1 : Int32) (σ : St) (y : Int32 × St) (h : fX0_askedWord φ this v1 σ = some y) : AW C 0 [(0, .inr (.inr (some this))), (1, .inl v1)] [] σ (AQ C (some (.inl y.1)) y.2) := by
  unfold fX0_askedWord at h
  refine aw_iload_n X dX0_askedWord_0 1 1 rfl rfl ?_
  obtain ⟨y1, hy1, h⟩ := bind_some h
  refine aw_callS X (st := []) [.inl v1] rfl ml_X0_131 (AX0_isWord (Cx.ok X) φ d _ _ _  hy1) dX0_askedWord_1 (Nat.le_of_ble_eq_true rfl) ?_
  refine aw_if_ne X 11 dX0_askedWord_4 rfl (fun c2 => ?_) (fun c2 => ?_)
  · rw [if_neg c2] at h
    refine aw_aload_n X dX0_askedWord_11 0 0 rfl rfl ?_
    obtain ⟨x3, hx3, h⟩ := bind_some h
    refine aw_gfR X fl_X0_46 dX0_askedWord_12 hx3 ?_
    refine aw_iload_n X dX0_askedWord_15 1 1 rfl rfl ?_
    obtain ⟨x4, hx4, h⟩ := bind_some h
    refine aw_aald X (kd := 7) dX0_askedWord_16 (by decide) (by decide) hx4 ?_
    refine aw_ifnonnull X 28 dX0_askedWord_17 rfl (fun c5 => ?_) (fun c5 => ?_)
    · rw [if_neg c5] at h
      refine aw_iconst X (0 : Int32) dX0_askedWord_28 (by decide) ?_
      cases h
      exact aw_iret X dX0_askedWord_29
    · rw [if_pos c5] at h
      refine aw_aload_n X dX0_askedWord_20 0 0 rfl rfl ?_
      refine aw_iconst X (1 : Int32) dX0_askedWord_21 (by decide) ?_
      obtain ⟨y6, hy6, h⟩ := bind_some h
      refine aw_cV X (st := []) hy6 [.inl (1 : Int32)] rfl rfl ml_X0_103 (fun o h => AX0_met (Cx.ok X) φ (d + 1) _ _ _ _ h) dX0_askedWord_22 (Nat.le_of_ble_eq_true rfl) ?_
      refine aw_goto X 29 dX0_askedWord_25 rfl ?_
      cases h
      exact aw_iret X dX0_askedWord_29
  · rw [if_pos c2] at h
    refine aw_iconst X (-1 : Int32) dX0_askedWord_7 (by decide) ?_
    refine aw_goto X 29 dX0_askedWord_8 rfl ?_
    cases h
    exact aw_iret X dX0_askedWord_29
theorem AX0_askedWord {E : AE} {l : Launch} (hE : EOK E l) (φ d : Nat) (this : Nat) (v1 : Int32) (σ : St) (y : Int32 × St) (h : fX0_askedWord φ this v1 σ = some y) : AMet E l yX0_askedWord (ws_ yX0_askedWord cX0_askedWord 2 (some .int)) (d + 2) [.inr (.inr (some this)), .inl v1] σ (some (.inl y.1)) y.2 := by
  refine amet_of hE (by decide +kernel) (Nat.le_of_ble_eq_true rfl) fun C e1 e2 X XI => ?_
  subst e1
  exact wX0_askedWord X φ this v1 σ y h
theorem wX0_turn_l50 {C : CT} {d : Nat} {Z : State → Prop} (X : Cx C cX0_turn RX0 (some .int) 8 (d + 3)) (φ : Nat) (this : Nat) (v1 : Int32) (v2 : Int32) (v3 : Int32) (v5 : Option Nat) (v6 : Option Nat) (v7 : Int32) (σ : St) (y : (Int32 × St) ⊕ (St)) (h : fX0_turn_l50 φ this v1 v2 v3 v5 v6 v7 σ = some y) (kH : ∀ s : Int32 × St, y = .inl s → AW C 50 [(0, .inr (.inr (some this))), (1, .inl v1), (2, .inl v2), (3, .inl v3), (5, .inr (.inr v5)), (6, .inr (.inr v6)), (7, .inl s.1)] [] s.2 Z) (kE0 : ∀ e : St, y = .inr e → AW C 100 [(0, .inr (.inr (some this))), (1, .inl v1), (2, .inl v2), (3, .inl v3), (6, .inr (.inr v6))] [] e Z) : AW C 50 [(0, .inr (.inr (some this))), (1, .inl v1), (2, .inl v2), (3, .inl v3), (5, .inr (.inr v5)), (6, .inr (.inr v6)), (7, .inl v7)] [] σ Z := by
  unfold fX0_turn_l50 at h
  refine aw_iload X dX0_turn_50 6 rfl ?_
  refine aw_aload X dX0_turn_52 4 rfl ?_
  obtain ⟨x10, hx10, h⟩ := bind_some h
  refine aw_alen X dX0_turn_54 hx10 ?_
  refine aw_icmp_ge X 100 dX0_turn_55 rfl (fun c11 => ?_) (fun c11 => ?_)
  · rw [if_pos c11] at h
    cases h
    refine aw_sub [(0, .inr (.inr (some this))), (1, .inl v1), (2, .inl v2), (3, .inl v3), (6, .inr (.inr v6))] [0, 1, 2, 3, 5] rfl ?_
    exact kE0 σ rfl
  · rw [if_neg c11] at h
    refine aw_aload X dX0_turn_58 5 rfl ?_
    refine aw_iload X dX0_turn_60 6 rfl ?_
    refine aw_iload_n X dX0_turn_62 3 3 rfl rfl ?_
    refine aw_if_ne X 80 dX0_turn_63 rfl (fun c12 => ?_) (fun c12 => ?_)
    · rw [if_neg c12] at h
      refine aw_aload_n X dX0_turn_80 0 0 rfl rfl ?_
      obtain ⟨x13, hx13, h⟩ := bind_some h
      refine aw_gfI X fl_X0_30 dX0_turn_81 hx13 ?_
      refine aw_iconst X (1 : Int32) dX0_turn_84 (by decide) ?_
      refine aw_isub X dX0_turn_85 ?_
      refine aw_aload X dX0_turn_86 4 rfl ?_
      refine aw_iload X dX0_turn_88 6 rfl ?_
      obtain ⟨x14, hx14, h⟩ := bind_some h
      refine aw_bald X dX0_turn_90 hx14 ?_
      refine aw_isub X dX0_turn_91 ?_
      refine aw_i2b X dX0_turn_92 ?_
      obtain ⟨s15, hs15, h⟩ := bind_some h
      refine aw_bast X dX0_turn_93 hs15 ?_
      refine aw_iinc X dX0_turn_94 6 rfl (1 : Int32) rfl (by decide) [(7, .inl (v7 + (1 : Int32))), (0, .inr (.inr (some this))), (1, .inl v1), (2, .inl v2), (3, .inl v3), (5, .inr (.inr v5)), (6, .inr (.inr v6))] rfl ?_
      refine aw_goto X 50 dX0_turn_97 rfl ?_
      cases h
      refine aw_sub [(0, .inr (.inr (some this))), (1, .inl v1), (2, .inl v2), (3, .inl v3), (5, .inr (.inr v5)), (6, .inr (.inr v6)), (7, .inl (v7 + (1 : Int32)))] [1, 2, 3, 4, 5, 6, 0] rfl ?_
      exact kH ((v7 + (1 : Int32)), s15) rfl
    · rw [if_pos c12] at h
      refine aw_aload X dX0_turn_66 4 rfl ?_
      refine aw_aload X dX0_turn_68 4 rfl ?_
      obtain ⟨x16, hx16, h⟩ := bind_some h
      refine aw_alen X dX0_turn_70 hx16 ?_
      refine aw_iconst X (1 : Int32) dX0_turn_71 (by decide) ?_
      refine aw_isub X dX0_turn_72 ?_
      refine aw_iload X dX0_turn_73 6 rfl ?_
      refine aw_isub X dX0_turn_75 ?_
      obtain ⟨x17, hx17, h⟩ := bind_some h
      refine aw_bald X dX0_turn_76 hx17 ?_
      refine aw_goto X 93 dX0_turn_77 rfl ?_
      obtain ⟨s18, hs18, h⟩ := bind_some h
      refine aw_bast X dX0_turn_93 hs18 ?_
      refine aw_iinc X dX0_turn_94 6 rfl (1 : Int32) rfl (by decide) [(7, .inl (v7 + (1 : Int32))), (0, .inr (.inr (some this))), (1, .inl v1), (2, .inl v2), (3, .inl v3), (5, .inr (.inr v5)), (6, .inr (.inr v6))] rfl ?_
      refine aw_goto X 50 dX0_turn_97 rfl ?_
      cases h
      refine aw_sub [(0, .inr (.inr (some this))), (1, .inl v1), (2, .inl v2), (3, .inl v3), (5, .inr (.inr v5)), (6, .inr (.inr v6)), (7, .inl (v7 + (1 : Int32)))] [1, 2, 3, 4, 5, 6, 0] rfl ?_
      exact kH ((v7 + (1 : Int32)), s18) rfl
theorem wX0_turn {C : CT} {d : Nat} (X : Cx C cX0_turn RX0 (some .int) 8 (d + 3)) (φ : Nat) (this : Nat) (v1 : Int32) (v2 : Int32) (v3 : Int32) (σ : St) (y : Int32 × St) (h : fX0_turn φ this v1 v2 v3 σ = some y) : AW C 0 [(0, .inr (.inr (some this))), (1, .inl v1), (2, .inl v2), (3, .inl v3)] [] σ (AQ C (some (.inl y.1)) y.2) := by
  unfold fX0_turn at h
  refine aw_iload_n X dX0_turn_0 1 1 rfl rfl ?_
  obtain ⟨y1, hy1, h⟩ := bind_some h
  refine aw_callS X (st := []) [.inl v1] rfl ml_X0_131 (AX0_isWord (Cx.ok X) φ (d + 1) _ _ _  hy1) dX0_turn_1 (Nat.le_of_ble_eq_true rfl) ?_
  refine aw_if_eq X 16 dX0_turn_4 rfl (fun c2 => ?_) (fun c2 => ?_)
  · rw [if_pos c2] at h
    refine aw_iconst X (-1 : Int32) dX0_turn_16 (by decide) ?_
    cases h
    exact aw_iret X dX0_turn_17
  · rw [if_neg c2] at h
    refine aw_iload_n X dX0_turn_7 3 3 rfl rfl ?_
    refine aw_iconst X (0 : Int32) dX0_turn_8 (by decide) ?_
    refine aw_iconst X (1 : Int32) dX0_turn_9 (by decide) ?_
    obtain ⟨y3, hy3, h⟩ := bind_some h
    refine aw_callS X (st := []) [.inl v3, .inl (0 : Int32), .inl (1 : Int32)] rfl ml_X0_93 (AX0_isIn (Cx.ok X) φ (d + 2) _ _ _ _ _  hy3) dX0_turn_10 (Nat.le_of_ble_eq_true rfl) ?_
    refine aw_if_ne X 18 dX0_turn_13 rfl (fun c4 => ?_) (fun c4 => ?_)
    · rw [if_neg c4] at h
      refine aw_aload_n X dX0_turn_18 0 0 rfl rfl ?_
      refine aw_iload_n X dX0_turn_19 2 2 rfl rfl ?_
      obtain ⟨y5, hy5, h⟩ := bind_some h
      refine aw_cV X (st := []) hy5 [.inl v2] rfl rfl ml_X0_195 (fun o h => AX0_askedWord (Cx.ok X) φ d _ _ _ _ h) dX0_turn_20 (Nat.le_of_ble_eq_true rfl) ?_
      refine aw_istore X dX0_turn_23 (by decide) [(4, .inl y5.1), (0, .inr (.inr (some this))), (1, .inl v1), (2, .inl v2), (3, .inl v3)] rfl ?_
      refine aw_iload X dX0_turn_25 0 rfl ?_
      refine aw_if_ge X 33 dX0_turn_27 rfl (fun c6 => ?_) (fun c6 => ?_)
      · rw [if_pos c6] at h
        refine aw_aload_n X dX0_turn_33 1 0 rfl rfl ?_
        refine aw_iload_n X dX0_turn_34 3 2 rfl rfl ?_
        obtain ⟨y7, hy7, h⟩ := bind_some h
        refine aw_cV X (st := []) hy7 [.inl v2] rfl rfl ml_X0_188 (fun o h => AX0_of (Cx.ok X) φ (d + 2) _ _ _ _ h) dX0_turn_35 (Nat.le_of_ble_eq_true rfl) ?_
        refine aw_astore X dX0_turn_38 (by decide) [(5, .inr (.inr y7)), (4, .inl y5.1), (0, .inr (.inr (some this))), (1, .inl v1), (2, .inl v2), (3, .inl v3)] rfl ?_
        refine aw_aload X dX0_turn_40 0 rfl ?_
        obtain ⟨x8, hx8, h⟩ := bind_some h
        refine aw_alen X dX0_turn_42 hx8 ?_
        obtain ⟨n9, hn9, h⟩ := bind_some h
        refine aw_newa X (kd := 2) dX0_turn_43 rfl (by decide) (by decide) q216 (r := n9.1) (σ' := n9.2) hn9 ?_
        refine aw_astore X dX0_turn_45 (by decide) [(6, .inr (.inr n9.1)), (5, .inr (.inr y7)), (4, .inl y5.1), (0, .inr (.inr (some this))), (1, .inl v1), (2, .inl v2), (3, .inl v3)] rfl ?_
        refine aw_iconst X (0 : Int32) dX0_turn_47 (by decide) ?_
        refine aw_istore X dX0_turn_48 (by decide) [(7, .inl (0 : Int32)), (6, .inr (.inr n9.1)), (5, .inr (.inr y7)), (4, .inl y5.1), (0, .inr (.inr (some this))), (1, .inl v1), (2, .inl v2), (3, .inl v3)] rfl ?_
        obtain ⟨e19, h20, h⟩ := bind_some h
        refine aw_sub [(0, .inr (.inr (some this))), (1, .inl v1), (2, .inl v2), (3, .inl v3), (5, .inr (.inr y7)), (6, .inr (.inr n9.1)), (7, .inl (0 : Int32))] [4, 5, 6, 7, 2, 1, 0] rfl ?_
        refine aw_it (fun s => AW C 50 [(0, .inr (.inr (some this))), (1, .inl v1), (2, .inl v2), (3, .inl v3), (5, .inr (.inr y7)), (6, .inr (.inr n9.1)), (7, .inl s.1)] [] s.2 (AQ C (some (.inl y.1)) y.2)) (fun e => AW C 100 [(0, .inr (.inr (some this))), (1, .inl v1), (2, .inl v2), (3, .inl v3), (6, .inr (.inr n9.1))] [] e (AQ C (some (.inl y.1)) y.2)) (fun s r hr kH kE => wX0_turn_l50 X φ this v1 v2 v3 y7 n9.1 s.1 s.2 r hr kH kE) φ _ e19 h20 ?_
        refine aw_aload_n X dX0_turn_100 0 0 rfl rfl ?_
        obtain ⟨x21, hx21, h⟩ := bind_some h
        refine aw_gfR X fl_X0_46 dX0_turn_101 hx21 ?_
        refine aw_iload_n X dX0_turn_104 1 1 rfl rfl ?_
        obtain ⟨n22, hn22, h⟩ := bind_some h
        refine aw_new X (ci := 5) dX0_turn_105 rfl q522 q523 q96 (r := n22.1) (σ' := n22.2) hn22 ?_
        refine aw_dup X dX0_turn_108 rfl ?_
        refine aw_aload X dX0_turn_109 4 rfl ?_
        refine aw_iload_n X dX0_turn_111 2 2 rfl rfl ?_
        refine aw_iload_n X dX0_turn_112 3 3 rfl rfl ?_
        obtain ⟨y23, hy23, h⟩ := bind_some h
        refine aw_cI X (st := [.inr (.inr n22.1), .inl v1, .inr (.inr x21)]) hy23 [.inr (.inr n9.1), .inl v2, .inl v3] rfl ml_X0_200 (fun o h => AX5_init (Cx.ok X) φ d _ _ _ _ _ _ h) dX0_turn_113 (Nat.le_of_ble_eq_true rfl) ?_
        obtain ⟨s24, hs24, h⟩ := bind_some h
        refine aw_aast X (kd := 7) (lo := 10) (hi := 14) dX0_turn_116 (by decide) hs24 ?_
        refine aw_aload X dX0_turn_117 4 rfl ?_
        obtain ⟨x25, hx25, h⟩ := bind_some h
        refine aw_alen X dX0_turn_119 hx25 ?_
        cases h
        exact aw_iret X dX0_turn_120
      · rw [if_neg c6] at h
        refine aw_iload X dX0_turn_30 0 rfl ?_
        cases h
        exact aw_iret X dX0_turn_32
    · rw [if_pos c4] at h
      refine aw_iconst X (-1 : Int32) dX0_turn_16 (by decide) ?_
      cases h
      exact aw_iret X dX0_turn_17
theorem AX0_turn {E : AE} {l : Launch} (hE : EOK E l) (φ d : Nat) (this : Nat) (v1 : Int32) (v2 : Int32) (v3 : Int32) (σ : St) (y : Int32 × St) (h : fX0_turn φ this v1 v2 v3 σ = some y) : AMet E l yX0_turn (ws_ yX0_turn cX0_turn 8 (some .int)) (d + 3) [.inr (.inr (some this)), .inl v1, .inl v2, .inl v3] σ (some (.inl y.1)) y.2 := by
  refine amet_of hE (by decide +kernel) (Nat.le_of_ble_eq_true rfl) fun C e1 e2 X XI => ?_
  subst e1
  exact wX0_turn X φ this v1 v2 v3 σ y h
theorem wX0_setNext_l5 {C : CT} {d : Nat} {Z : State → Prop} (X : Cx C cX0_setNext RX0 none 5 d) (φ : Nat) (v0 : Option Nat) (v1 : Option Nat) (v2 : Int32) (v3 : Int32) (σ : St) (y : (Int32 × St) ⊕ (St)) (h : fX0_setNext_l5 φ v0 v1 v2 v3 σ = some y) (kH : ∀ s : Int32 × St, y = .inl s → AW C 5 [(0, .inr (.inr v0)), (1, .inr (.inr v1)), (2, .inl v2), (3, .inl s.1)] [] s.2 Z) (kE0 : ∀ e : St, y = .inr e → AW C 27 [(0, .inr (.inr v0)), (1, .inr (.inr v1)), (2, .inl v2)] [] e Z) : AW C 5 [(0, .inr (.inr v0)), (1, .inr (.inr v1)), (2, .inl v2), (3, .inl v3)] [] σ Z := by
  unfold fX0_setNext_l5 at h
  refine aw_iload_n X dX0_setNext_5 3 3 rfl rfl ?_
  refine aw_bipush X (6 : Int32) dX0_setNext_6 (by decide) ?_
  refine aw_icmp_ge X 27 dX0_setNext_8 rfl (fun c2 => ?_) (fun c2 => ?_)
  · rw [if_pos c2] at h
    cases h
    refine aw_sub [(0, .inr (.inr v0)), (1, .inr (.inr v1)), (2, .inl v2)] [0, 1, 2] rfl ?_
    exact kE0 σ rfl
  · rw [if_neg c2] at h
    refine aw_aload_n X dX0_setNext_11 1 1 rfl rfl ?_
    refine aw_bipush X (6 : Int32) dX0_setNext_12 (by decide) ?_
    refine aw_iload_n X dX0_setNext_14 2 2 rfl rfl ?_
    refine aw_imul X dX0_setNext_15 ?_
    refine aw_iload_n X dX0_setNext_16 3 3 rfl rfl ?_
    refine aw_iadd X dX0_setNext_17 ?_
    refine aw_bipush X (-9 : Int32) dX0_setNext_18 (by decide) ?_
    obtain ⟨s3, hs3, h⟩ := bind_some h
    refine aw_iast X dX0_setNext_20 hs3 ?_
    refine aw_iinc X dX0_setNext_21 3 rfl (1 : Int32) rfl (by decide) [(3, .inl (v3 + (1 : Int32))), (0, .inr (.inr v0)), (1, .inr (.inr v1)), (2, .inl v2)] rfl ?_
    refine aw_goto X 5 dX0_setNext_24 rfl ?_
    cases h
    refine aw_sub [(0, .inr (.inr v0)), (1, .inr (.inr v1)), (2, .inl v2), (3, .inl (v3 + (1 : Int32)))] [1, 2, 3, 0] rfl ?_
    exact kH ((v3 + (1 : Int32)), s3) rfl
theorem wX0_setNext_l38 {C : CT} {d : Nat} {Z : State → Prop} (X : Cx C cX0_setNext RX0 none 5 d) (φ : Nat) (v0 : Option Nat) (v1 : Option Nat) (v3 : Int32) (v4 : Int32) (σ : St) (y : (Int32 × St) ⊕ (St)) (h : fX0_setNext_l38 φ v0 v1 v3 v4 σ = some y) (kH : ∀ s : Int32 × St, y = .inl s → AW C 38 [(0, .inr (.inr v0)), (1, .inr (.inr v1)), (3, .inl v3), (4, .inl s.1)] [] s.2 Z) (kE0 : ∀ e : St, y = .inr e → AW C 85 [(0, .inr (.inr v0)), (1, .inr (.inr v1)), (3, .inl v3)] [] e Z) : AW C 38 [(0, .inr (.inr v0)), (1, .inr (.inr v1)), (3, .inl v3), (4, .inl v4)] [] σ Z := by
  unfold fX0_setNext_l38 at h
  refine aw_iload X dX0_setNext_38 3 rfl ?_
  refine aw_bipush X (6 : Int32) dX0_setNext_40 (by decide) ?_
  refine aw_icmp_ge X 85 dX0_setNext_42 rfl (fun c7 => ?_) (fun c7 => ?_)
  · rw [if_pos c7] at h
    cases h
    refine aw_sub [(0, .inr (.inr v0)), (1, .inr (.inr v1)), (3, .inl v3)] [0, 1, 2] rfl ?_
    exact kE0 σ rfl
  · rw [if_neg c7] at h
    refine aw_aload_n X dX0_setNext_45 1 1 rfl rfl ?_
    refine aw_bipush X (6 : Int32) dX0_setNext_46 (by decide) ?_
    refine aw_iload_n X dX0_setNext_48 2 3 rfl rfl ?_
    refine aw_imul X dX0_setNext_49 ?_
    refine aw_iload X dX0_setNext_50 3 rfl ?_
    refine aw_iadd X dX0_setNext_52 ?_
    refine aw_aload_n X dX0_setNext_53 0 0 rfl rfl ?_
    refine aw_iload_n X dX0_setNext_54 2 3 rfl rfl ?_
    obtain ⟨x8, hx8, h⟩ := bind_some h
    refine aw_bald X dX0_setNext_55 hx8 ?_
    refine aw_iload X dX0_setNext_56 3 rfl ?_
    refine aw_icmp_ne X 67 dX0_setNext_58 rfl (fun c9 => ?_) (fun c9 => ?_)
    · rw [if_neg c9] at h
      refine aw_aload_n X dX0_setNext_67 1 1 rfl rfl ?_
      refine aw_bipush X (6 : Int32) dX0_setNext_68 (by decide) ?_
      refine aw_iload_n X dX0_setNext_70 2 3 rfl rfl ?_
      refine aw_iconst X (1 : Int32) dX0_setNext_71 (by decide) ?_
      refine aw_iadd X dX0_setNext_72 ?_
      refine aw_imul X dX0_setNext_73 ?_
      refine aw_iload X dX0_setNext_74 3 rfl ?_
      refine aw_iadd X dX0_setNext_76 ?_
      obtain ⟨x10, hx10, h⟩ := bind_some h
      refine aw_iald X dX0_setNext_77 hx10 ?_
      obtain ⟨s11, hs11, h⟩ := bind_some h
      refine aw_iast X dX0_setNext_78 hs11 ?_
      refine aw_iinc X dX0_setNext_79 3 rfl (1 : Int32) rfl (by decide) [(4, .inl (v4 + (1 : Int32))), (0, .inr (.inr v0)), (1, .inr (.inr v1)), (3, .inl v3)] rfl ?_
      refine aw_goto X 38 dX0_setNext_82 rfl ?_
      cases h
      refine aw_sub [(0, .inr (.inr v0)), (1, .inr (.inr v1)), (3, .inl v3), (4, .inl (v4 + (1 : Int32)))] [1, 2, 3, 0] rfl ?_
      exact kH ((v4 + (1 : Int32)), s11) rfl
    · rw [if_pos c9] at h
      refine aw_iload_n X dX0_setNext_61 2 3 rfl rfl ?_
      refine aw_iconst X (1 : Int32) dX0_setNext_62 (by decide) ?_
      refine aw_iadd X dX0_setNext_63 ?_
      refine aw_goto X 78 dX0_setNext_64 rfl ?_
      obtain ⟨s12, hs12, h⟩ := bind_some h
      refine aw_iast X dX0_setNext_78 hs12 ?_
      refine aw_iinc X dX0_setNext_79 3 rfl (1 : Int32) rfl (by decide) [(4, .inl (v4 + (1 : Int32))), (0, .inr (.inr v0)), (1, .inr (.inr v1)), (3, .inl v3)] rfl ?_
      refine aw_goto X 38 dX0_setNext_82 rfl ?_
      cases h
      refine aw_sub [(0, .inr (.inr v0)), (1, .inr (.inr v1)), (3, .inl v3), (4, .inl (v4 + (1 : Int32)))] [1, 2, 3, 0] rfl ?_
      exact kH ((v4 + (1 : Int32)), s12) rfl
theorem wX0_setNext_l31 {C : CT} {d : Nat} {Z : State → Prop} (X : Cx C cX0_setNext RX0 none 5 d) (φ : Nat) (v0 : Option Nat) (v1 : Option Nat) (v3 : Int32) (σ : St) (y : (Int32 × St) ⊕ (St)) (h : fX0_setNext_l31 φ v0 v1 v3 σ = some y) (kH : ∀ s : Int32 × St, y = .inl s → AW C 31 [(0, .inr (.inr v0)), (1, .inr (.inr v1)), (3, .inl s.1)] [] s.2 Z) (kE0 : ∀ e : St, y = .inr e → AW C 91 [] [] e Z) : AW C 31 [(0, .inr (.inr v0)), (1, .inr (.inr v1)), (3, .inl v3)] [] σ Z := by
  unfold fX0_setNext_l31 at h
  refine aw_iload_n X dX0_setNext_31 2 3 rfl rfl ?_
  refine aw_if_lt X 91 dX0_setNext_32 rfl (fun c6 => ?_) (fun c6 => ?_)
  · rw [if_pos c6] at h
    cases h
    refine aw_sub [] [] rfl ?_
    exact kE0 σ rfl
  · rw [if_neg c6] at h
    refine aw_iconst X (0 : Int32) dX0_setNext_35 (by decide) ?_
    refine aw_istore X dX0_setNext_36 (by decide) [(4, .inl (0 : Int32)), (0, .inr (.inr v0)), (1, .inr (.inr v1)), (3, .inl v3)] rfl ?_
    obtain ⟨e13, h14, h⟩ := bind_some h
    refine aw_sub [(0, .inr (.inr v0)), (1, .inr (.inr v1)), (3, .inl v3), (4, .inl (0 : Int32))] [1, 2, 3, 0] rfl ?_
    refine aw_it (fun s => AW C 38 [(0, .inr (.inr v0)), (1, .inr (.inr v1)), (3, .inl v3), (4, .inl s.1)] [] s.2 Z) (fun e => AW C 85 [(0, .inr (.inr v0)), (1, .inr (.inr v1)), (3, .inl v3)] [] e Z) (fun s r hr kH kE => wX0_setNext_l38 X φ v0 v1 v3 s.1 s.2 r hr kH kE) φ _ e13 h14 ?_
    refine aw_iinc X dX0_setNext_85 2 rfl (-1 : Int32) rfl (by decide) [(3, .inl (v3 + (-1 : Int32))), (0, .inr (.inr v0)), (1, .inr (.inr v1))] rfl ?_
    refine aw_goto X 31 dX0_setNext_88 rfl ?_
    cases h
    refine aw_sub [(0, .inr (.inr v0)), (1, .inr (.inr v1)), (3, .inl (v3 + (-1 : Int32)))] [1, 2, 0] rfl ?_
    exact kH ((v3 + (-1 : Int32)), e13) rfl
theorem wX0_setNext {C : CT} {d : Nat} (X : Cx C cX0_setNext RX0 none 5 d) (φ : Nat) (v0 : Option Nat) (v1 : Option Nat) (σ : St) (y : St) (h : fX0_setNext φ v0 v1 σ = some y) : AW C 0 [(0, .inr (.inr v0)), (1, .inr (.inr v1))] [] σ (AQ C none y) := by
  unfold fX0_setNext at h
  refine aw_aload_n X dX0_setNext_0 0 0 rfl rfl ?_
  obtain ⟨x1, hx1, h⟩ := bind_some h
  refine aw_alen X dX0_setNext_1 hx1 ?_
  refine aw_istore_n X dX0_setNext_2 2 rfl (by decide) [(2, .inl x1), (0, .inr (.inr v0)), (1, .inr (.inr v1))] rfl ?_
  refine aw_iconst X (0 : Int32) dX0_setNext_3 (by decide) ?_
  refine aw_istore_n X dX0_setNext_4 3 rfl (by decide) [(3, .inl (0 : Int32)), (2, .inl x1), (0, .inr (.inr v0)), (1, .inr (.inr v1))] rfl ?_
  obtain ⟨e4, h5, h⟩ := bind_some h
  refine aw_sub [(0, .inr (.inr v0)), (1, .inr (.inr v1)), (2, .inl x1), (3, .inl (0 : Int32))] [2, 3, 1, 0] rfl ?_
  refine aw_it (fun s => AW C 5 [(0, .inr (.inr v0)), (1, .inr (.inr v1)), (2, .inl x1), (3, .inl s.1)] [] s.2 (AQ C none y)) (fun e => AW C 27 [(0, .inr (.inr v0)), (1, .inr (.inr v1)), (2, .inl x1)] [] e (AQ C none y)) (fun s r hr kH kE => wX0_setNext_l5 X φ v0 v1 x1 s.1 s.2 r hr kH kE) φ _ e4 h5 ?_
  refine aw_iload_n X dX0_setNext_27 2 2 rfl rfl ?_
  refine aw_iconst X (1 : Int32) dX0_setNext_28 (by decide) ?_
  refine aw_isub X dX0_setNext_29 ?_
  refine aw_istore_n X dX0_setNext_30 3 rfl (by decide) [(3, .inl (x1 - (1 : Int32))), (0, .inr (.inr v0)), (1, .inr (.inr v1)), (2, .inl x1)] rfl ?_
  obtain ⟨e15, h16, h⟩ := bind_some h
  refine aw_sub [(0, .inr (.inr v0)), (1, .inr (.inr v1)), (3, .inl (x1 - (1 : Int32)))] [1, 2, 0] rfl ?_
  refine aw_it (fun s => AW C 31 [(0, .inr (.inr v0)), (1, .inr (.inr v1)), (3, .inl s.1)] [] s.2 (AQ C none y)) (fun e => AW C 91 [] [] e (AQ C none y)) (fun s r hr kH kE => wX0_setNext_l31 X φ v0 v1 s.1 s.2 r hr kH kE) φ _ e15 h16 ?_
  cases h
  exact aw_vret X dX0_setNext_91
theorem AX0_setNext {E : AE} {l : Launch} (hE : EOK E l) (φ d : Nat) (v0 : Option Nat) (v1 : Option Nat) (σ : St) (y : St) (h : fX0_setNext φ v0 v1 σ = some y) : AMet E l yX0_setNext (ws_ yX0_setNext cX0_setNext 5 none) d [.inr (.inr v0), .inr (.inr v1)] σ none y := by
  refine amet_of hE (by decide +kernel) (Nat.le_of_ble_eq_true rfl) fun C e1 e2 X XI => ?_
  subst e1
  exact wX0_setNext X φ v0 v1 σ y h
theorem wX0_lengthTo_l4 {C : CT} {d : Nat} {Z : State → Prop} (X : Cx C cX0_lengthTo RX0 (some .int) 4 d) (φ : Nat) (this : Nat) (σ : St) (v2 : Int32) (v3 : Int32) (y : (Int32 × Int32) ⊕ (Int32)) (h : fX0_lengthTo_l4 φ this σ v2 v3 = some y) (kH : ∀ s : Int32 × Int32, y = .inl s → AW C 4 [(0, .inr (.inr (some this))), (2, .inl s.1), (3, .inl s.2)] [] σ Z) (kE0 : ∀ e : Int32, y = .inr e → AW C 21 [(2, .inl e)] [] σ Z) : AW C 4 [(0, .inr (.inr (some this))), (2, .inl v2), (3, .inl v3)] [] σ Z := by
  unfold fX0_lengthTo_l4 at h
  refine aw_iload_n X dX0_lengthTo_4 2 3 rfl rfl ?_
  refine aw_if_eq X 21 dX0_lengthTo_5 rfl (fun c1 => ?_) (fun c1 => ?_)
  · rw [if_pos c1] at h
    cases h
    refine aw_sub [(2, .inl v2)] [1] rfl ?_
    exact kE0 v2 rfl
  · rw [if_neg c1] at h
    refine aw_iinc X dX0_lengthTo_8 1 rfl (1 : Int32) rfl (by decide) [(2, .inl (v2 + (1 : Int32))), (0, .inr (.inr (some this))), (3, .inl v3)] rfl ?_
    refine aw_aload_n X dX0_lengthTo_11 1 0 rfl rfl ?_
    obtain ⟨x2, hx2, h⟩ := bind_some h
    refine aw_gfR X fl_X0_72 dX0_lengthTo_12 hx2 ?_
    refine aw_iload_n X dX0_lengthTo_15 2 3 rfl rfl ?_
    obtain ⟨x3, hx3, h⟩ := bind_some h
    refine aw_iald X dX0_lengthTo_16 hx3 ?_
    refine aw_istore_n X dX0_lengthTo_17 3 rfl (by decide) [(3, .inl x3), (2, .inl (v2 + (1 : Int32))), (0, .inr (.inr (some this)))] rfl ?_
    refine aw_goto X 4 dX0_lengthTo_18 rfl ?_
    cases h
    refine aw_sub [(0, .inr (.inr (some this))), (2, .inl (v2 + (1 : Int32))), (3, .inl x3)] [2, 1, 0] rfl ?_
    exact kH ((v2 + (1 : Int32)), x3) rfl
theorem wX0_lengthTo {C : CT} {d : Nat} (X : Cx C cX0_lengthTo RX0 (some .int) 4 d) (φ : Nat) (this : Nat) (v1 : Int32) (σ : St) (y : Int32) (h : fX0_lengthTo φ this v1 σ = some y) : AW C 0 [(0, .inr (.inr (some this))), (1, .inl v1)] [] σ (AQ C (some (.inl y)) σ) := by
  unfold fX0_lengthTo at h
  refine aw_iconst X (0 : Int32) dX0_lengthTo_0 (by decide) ?_
  refine aw_istore_n X dX0_lengthTo_1 2 rfl (by decide) [(2, .inl (0 : Int32)), (0, .inr (.inr (some this))), (1, .inl v1)] rfl ?_
  refine aw_iload_n X dX0_lengthTo_2 2 1 rfl rfl ?_
  refine aw_istore_n X dX0_lengthTo_3 3 rfl (by decide) [(3, .inl v1), (2, .inl (0 : Int32)), (0, .inr (.inr (some this))), (1, .inl v1)] rfl ?_
  obtain ⟨e4, h5, h⟩ := bind_some h
  refine aw_sub [(0, .inr (.inr (some this))), (2, .inl (0 : Int32)), (3, .inl v1)] [2, 1, 0] rfl ?_
  refine aw_it (fun s => AW C 4 [(0, .inr (.inr (some this))), (2, .inl s.1), (3, .inl s.2)] [] σ (AQ C (some (.inl y)) σ)) (fun e => AW C 21 [(2, .inl e)] [] σ (AQ C (some (.inl y)) σ)) (fun s r hr kH kE => wX0_lengthTo_l4 X φ this σ s.1 s.2 r hr kH kE) φ _ e4 h5 ?_
  refine aw_iload_n X dX0_lengthTo_21 0 2 rfl rfl ?_
  cases h
  exact aw_iret X dX0_lengthTo_22
theorem AX0_lengthTo {E : AE} {l : Launch} (hE : EOK E l) (φ d : Nat) (this : Nat) (v1 : Int32) (σ : St) (y : Int32) (h : fX0_lengthTo φ this v1 σ = some y) : AMet E l yX0_lengthTo (ws_ yX0_lengthTo cX0_lengthTo 4 (some .int)) d [.inr (.inr (some this)), .inl v1] σ (some (.inl y)) σ := by
  refine amet_of hE (by decide +kernel) (Nat.le_of_ble_eq_true rfl) fun C e1 e2 X XI => ?_
  subst e1
  exact wX0_lengthTo X φ this v1 σ y h
theorem wX0_parted_l18 {C : CT} {d : Nat} {Z : State → Prop} (X : Cx C cX0_parted RX0 (some .int) 10 (d + 1)) (φ : Nat) (this : Nat) (v3 : Int32) (σ : St) (y : (Int32 × St) ⊕ (St)) (h : fX0_parted_l18 φ this v3 σ = some y) (kH : ∀ s : Int32 × St, y = .inl s → AW C 18 [(0, .inr (.inr (some this))), (3, .inl s.1)] [] s.2 Z) (kE0 : ∀ e : St, y = .inr e → AW C 41 [(0, .inr (.inr (some this)))] [] e Z) : AW C 18 [(0, .inr (.inr (some this))), (3, .inl v3)] [] σ Z := by
  unfold fX0_parted_l18 at h
  refine aw_iload_n X dX0_parted_18 1 3 rfl rfl ?_
  refine aw_aload_n X dX0_parted_19 0 0 rfl rfl ?_
  obtain ⟨x5, hx5, h⟩ := bind_some h
  refine aw_gfR X fl_X0_72 dX0_parted_20 hx5 ?_
  obtain ⟨x6, hx6, h⟩ := bind_some h
  refine aw_alen X dX0_parted_23 hx6 ?_
  refine aw_icmp_ge X 41 dX0_parted_24 rfl (fun c7 => ?_) (fun c7 => ?_)
  · rw [if_pos c7] at h
    cases h
    refine aw_sub [(0, .inr (.inr (some this)))] [0] rfl ?_
    exact kE0 σ rfl
  · rw [if_neg c7] at h
    refine aw_aload_n X dX0_parted_27 0 0 rfl rfl ?_
    obtain ⟨x8, hx8, h⟩ := bind_some h
    refine aw_gfR X fl_X0_72 dX0_parted_28 hx8 ?_
    refine aw_iload_n X dX0_parted_31 1 3 rfl rfl ?_
    refine aw_bipush X (-9 : Int32) dX0_parted_32 (by decide) ?_
    obtain ⟨s9, hs9, h⟩ := bind_some h
    refine aw_iast X dX0_parted_34 hs9 ?_
    refine aw_iinc X dX0_parted_35 1 rfl (1 : Int32) rfl (by decide) [(3, .inl (v3 + (1 : Int32))), (0, .inr (.inr (some this)))] rfl ?_
    refine aw_goto X 18 dX0_parted_38 rfl ?_
    cases h
    refine aw_sub [(0, .inr (.inr (some this))), (3, .inl (v3 + (1 : Int32)))] [1, 0] rfl ?_
    exact kH ((v3 + (1 : Int32)), s9) rfl
theorem wX0_parted_b147 {C : CT} {d : Nat} {Z : State → Prop} (X : Cx C cX0_parted RX0 (some .int) 10 (d + 1)) (φ : Nat) (this : Nat) (v3 : Int32) (v4 : Int32) (v5 : Int32) (v6 : Int32) (v7 : Int32) (v8 : Int32) (k0 : Int32) (k1 : Int32) (σ : St) (y : (Int32 × Int32 × St) ⊕ ((Int32 × St) ⊕ (Int32 × St))) (h : fX0_parted_b147 φ this v3 v4 v5 v6 v7 v8 k0 k1 σ = some y) (kH : ∀ s : Int32 × Int32 × St, y = .inl s → AW C 80 [(0, .inr (.inr (some this))), (3, .inl v3), (4, .inl s.1), (5, .inl v5), (6, .inl s.2.1)] [] s.2.2 Z) (kE0 : ∀ e : Int32 × St, y = .inr (.inl e) → AW C 236 [(0, .inr (.inr (some this))), (3, .inl v3), (4, .inl e.1)] [] e.2 Z) (kE1 : ∀ e : Int32 × St, y = .inr (.inr e) → AW C 150 [(0, .inr (.inr (some this))), (5, .inl v5), (6, .inl e.1)] [] e.2 Z) : AW C 147 [(0, .inr (.inr (some this))), (3, .inl v3), (4, .inl v4), (5, .inl v5), (6, .inl v6), (7, .inl v7), (8, .inl v8)] [.inl k1, .inl k0] σ Z := by
  unfold fX0_parted_b147 at h
  refine aw_icmp_eq X 171 dX0_parted_147 rfl (fun c26 => ?_) (fun c26 => ?_)
  · rw [if_pos c26] at h
    refine aw_bipush X (41 : Int32) dX0_parted_171 (by decide) ?_
    refine aw_iload X dX0_parted_173 5 rfl ?_
    refine aw_imul X dX0_parted_175 ?_
    refine aw_iload X dX0_parted_176 6 rfl ?_
    refine aw_iadd X dX0_parted_178 ?_
    refine aw_istore X dX0_parted_179 (by decide) [(9, .inl (((41 : Int32) * v7) + v8)), (0, .inr (.inr (some this))), (3, .inl v3), (4, .inl v4), (5, .inl v5), (6, .inl v6), (7, .inl v7), (8, .inl v8)] rfl ?_
    refine aw_iload X dX0_parted_181 6 rfl ?_
    refine aw_bipush X (-9 : Int32) dX0_parted_183 (by decide) ?_
    refine aw_icmp_eq X 230 dX0_parted_185 rfl (fun c27 => ?_) (fun c27 => ?_)
    · rw [if_pos c27] at h
      refine aw_iinc X dX0_parted_230 5 rfl (1 : Int32) rfl (by decide) [(6, .inl (v6 + (1 : Int32))), (9, .inl (((41 : Int32) * v7) + v8)), (0, .inr (.inr (some this))), (3, .inl v3), (4, .inl v4), (5, .inl v5), (7, .inl v7), (8, .inl v8)] rfl ?_
      refine aw_goto X 80 dX0_parted_233 rfl ?_
      cases h
      refine aw_sub [(0, .inr (.inr (some this))), (3, .inl v3), (4, .inl v4), (5, .inl v5), (6, .inl (v6 + (1 : Int32)))] [2, 3, 4, 5, 0] rfl ?_
      exact kH (v4, (v6 + (1 : Int32)), σ) rfl
    · rw [if_neg c27] at h
      refine aw_aload_n X dX0_parted_188 1 0 rfl rfl ?_
      obtain ⟨x28, hx28, h⟩ := bind_some h
      refine aw_gfR X fl_X0_72 dX0_parted_189 hx28 ?_
      refine aw_iload X dX0_parted_192 0 rfl ?_
      obtain ⟨x29, hx29, h⟩ := bind_some h
      refine aw_iald X dX0_parted_194 hx29 ?_
      refine aw_bipush X (-9 : Int32) dX0_parted_195 (by decide) ?_
      refine aw_icmp_ne X 230 dX0_parted_197 rfl (fun c30 => ?_) (fun c30 => ?_)
      · rw [if_neg c30] at h
        refine aw_iinc X dX0_parted_230 5 rfl (1 : Int32) rfl (by decide) [(6, .inl (v6 + (1 : Int32))), (9, .inl (((41 : Int32) * v7) + v8)), (0, .inr (.inr (some this))), (3, .inl v3), (4, .inl v4), (5, .inl v5), (7, .inl v7), (8, .inl v8)] rfl ?_
        refine aw_goto X 80 dX0_parted_233 rfl ?_
        cases h
        refine aw_sub [(0, .inr (.inr (some this))), (3, .inl v3), (4, .inl v4), (5, .inl v5), (6, .inl (v6 + (1 : Int32)))] [2, 3, 4, 5, 0] rfl ?_
        exact kH (v4, (v6 + (1 : Int32)), σ) rfl
      · rw [if_pos c30] at h
        refine aw_aload_n X dX0_parted_200 1 0 rfl rfl ?_
        obtain ⟨x31, hx31, h⟩ := bind_some h
        refine aw_gfR X fl_X0_72 dX0_parted_201 hx31 ?_
        refine aw_iload X dX0_parted_204 0 rfl ?_
        refine aw_iload X dX0_parted_206 4 rfl ?_
        obtain ⟨s32, hs32, h⟩ := bind_some h
        refine aw_iast X dX0_parted_208 hs32 ?_
        refine aw_aload_n X dX0_parted_209 1 0 rfl rfl ?_
        obtain ⟨x33, hx33, h⟩ := bind_some h
        refine aw_gfR X fl_X0_75 dX0_parted_210 hx33 ?_
        refine aw_iload X dX0_parted_213 0 rfl ?_
        refine aw_iload X dX0_parted_215 5 rfl ?_
        obtain ⟨s34, hs34, h⟩ := bind_some h
        refine aw_iast X dX0_parted_217 hs34 ?_
        refine aw_aload_n X dX0_parted_218 1 0 rfl rfl ?_
        obtain ⟨x35, hx35, h⟩ := bind_some h
        refine aw_gfR X fl_X0_69 dX0_parted_219 hx35 ?_
        refine aw_iload X dX0_parted_222 3 rfl ?_
        refine aw_iload X dX0_parted_224 0 rfl ?_
        obtain ⟨s36, hs36, h⟩ := bind_some h
        refine aw_iast X dX0_parted_226 hs36 ?_
        refine aw_iinc X dX0_parted_227 3 rfl (1 : Int32) rfl (by decide) [(4, .inl (v4 + (1 : Int32))), (9, .inl (((41 : Int32) * v7) + v8)), (0, .inr (.inr (some this))), (3, .inl v3), (5, .inl v5), (6, .inl v6), (7, .inl v7), (8, .inl v8)] rfl ?_
        refine aw_iinc X dX0_parted_230 5 rfl (1 : Int32) rfl (by decide) [(6, .inl (v6 + (1 : Int32))), (4, .inl (v4 + (1 : Int32))), (9, .inl (((41 : Int32) * v7) + v8)), (0, .inr (.inr (some this))), (3, .inl v3), (5, .inl v5), (7, .inl v7), (8, .inl v8)] rfl ?_
        refine aw_goto X 80 dX0_parted_233 rfl ?_
        cases h
        refine aw_sub [(0, .inr (.inr (some this))), (3, .inl v3), (4, .inl (v4 + (1 : Int32))), (5, .inl v5), (6, .inl (v6 + (1 : Int32)))] [3, 4, 1, 5, 0] rfl ?_
        exact kH ((v4 + (1 : Int32)), (v6 + (1 : Int32)), s36) rfl
  · rw [if_neg c26] at h
    cases h
    refine aw_sub [(0, .inr (.inr (some this))), (5, .inl v5), (6, .inl v6)] [0, 3, 4] rfl ?_
    exact kE1 (v6, σ) rfl
theorem wX0_parted_b135 {C : CT} {d : Nat} {Z : State → Prop} (X : Cx C cX0_parted RX0 (some .int) 10 (d + 1)) (φ : Nat) (this : Nat) (v3 : Int32) (v4 : Int32) (v5 : Int32) (v6 : Int32) (v7 : Int32) (v8 : Int32) (k0 : Int32) (σ : St) (y : (Int32 × Int32 × St) ⊕ ((Int32 × St) ⊕ (Int32 × St))) (h : fX0_parted_b135 φ this v3 v4 v5 v6 v7 v8 k0 σ = some y) (kH : ∀ s : Int32 × Int32 × St, y = .inl s → AW C 80 [(0, .inr (.inr (some this))), (3, .inl v3), (4, .inl s.1), (5, .inl v5), (6, .inl s.2.1)] [] s.2.2 Z) (kE0 : ∀ e : Int32 × St, y = .inr (.inl e) → AW C 236 [(0, .inr (.inr (some this))), (3, .inl v3), (4, .inl e.1)] [] e.2 Z) (kE1 : ∀ e : Int32 × St, y = .inr (.inr e) → AW C 150 [(0, .inr (.inr (some this))), (5, .inl v5), (6, .inl e.1)] [] e.2 Z) : AW C 135 [(0, .inr (.inr (some this))), (3, .inl v3), (4, .inl v4), (5, .inl v5), (6, .inl v6), (7, .inl v7), (8, .inl v8)] [.inl k0] σ Z := by
  unfold fX0_parted_b135 at h
  refine aw_iload X dX0_parted_135 6 rfl ?_
  refine aw_bipush X (-9 : Int32) dX0_parted_137 (by decide) ?_
  refine aw_icmp_ne X 146 dX0_parted_139 rfl (fun c25 => ?_) (fun c25 => ?_)
  · rw [if_neg c25] at h
    refine aw_iconst X (0 : Int32) dX0_parted_146 (by decide) ?_
    exact wX0_parted_b147 X φ this v3 v4 v5 v6 v7 v8 k0 (0 : Int32) σ y h kH kE0 kE1
  · rw [if_pos c25] at h
    refine aw_iconst X (1 : Int32) dX0_parted_142 (by decide) ?_
    refine aw_goto X 147 dX0_parted_143 rfl ?_
    exact wX0_parted_b147 X φ this v3 v4 v5 v6 v7 v8 k0 (1 : Int32) σ y h kH kE0 kE1
theorem wX0_parted_l80 {C : CT} {d : Nat} {Z : State → Prop} (X : Cx C cX0_parted RX0 (some .int) 10 (d + 1)) (φ : Nat) (this : Nat) (v3 : Int32) (v5 : Int32) (v4 : Int32) (v6 : Int32) (σ : St) (y : (Int32 × Int32 × St) ⊕ ((Int32 × St) ⊕ (Int32 × St))) (h : fX0_parted_l80 φ this v3 v5 v4 v6 σ = some y) (kH : ∀ s : Int32 × Int32 × St, y = .inl s → AW C 80 [(0, .inr (.inr (some this))), (3, .inl v3), (4, .inl s.1), (5, .inl v5), (6, .inl s.2.1)] [] s.2.2 Z) (kE0 : ∀ e : Int32 × St, y = .inr (.inl e) → AW C 236 [(0, .inr (.inr (some this))), (3, .inl v3), (4, .inl e.1)] [] e.2 Z) (kE1 : ∀ e : Int32 × St, y = .inr (.inr e) → AW C 150 [(0, .inr (.inr (some this))), (5, .inl v5), (6, .inl e.1)] [] e.2 Z) : AW C 80 [(0, .inr (.inr (some this))), (3, .inl v3), (4, .inl v4), (5, .inl v5), (6, .inl v6)] [] σ Z := by
  unfold fX0_parted_l80 at h
  refine aw_iload X dX0_parted_80 4 rfl ?_
  refine aw_bipush X (6 : Int32) dX0_parted_82 (by decide) ?_
  refine aw_icmp_ge X 236 dX0_parted_84 rfl (fun c19 => ?_) (fun c19 => ?_)
  · rw [if_pos c19] at h
    cases h
    refine aw_sub [(0, .inr (.inr (some this))), (3, .inl v3), (4, .inl v4)] [0, 1, 2] rfl ?_
    exact kE0 (v4, σ) rfl
  · rw [if_neg c19] at h
    refine aw_aload_n X dX0_parted_87 0 0 rfl rfl ?_
    obtain ⟨x20, hx20, h⟩ := bind_some h
    refine aw_gfR X fl_X0_53 dX0_parted_88 hx20 ?_
    refine aw_bipush X (6 : Int32) dX0_parted_91 (by decide) ?_
    refine aw_iload X dX0_parted_93 3 rfl ?_
    refine aw_bipush X (41 : Int32) dX0_parted_95 (by decide) ?_
    refine aw_idiv X dX0_parted_97 (by decide) ?_
    refine aw_imul X dX0_parted_98 ?_
    refine aw_iload X dX0_parted_99 4 rfl ?_
    refine aw_iadd X dX0_parted_101 ?_
    obtain ⟨x21, hx21, h⟩ := bind_some h
    refine aw_iald X dX0_parted_102 hx21 ?_
    refine aw_istore X dX0_parted_103 (by decide) [(7, .inl x21), (0, .inr (.inr (some this))), (3, .inl v3), (4, .inl v4), (5, .inl v5), (6, .inl v6)] rfl ?_
    refine aw_aload_n X dX0_parted_105 1 0 rfl rfl ?_
    obtain ⟨x22, hx22, h⟩ := bind_some h
    refine aw_gfR X fl_X0_56 dX0_parted_106 hx22 ?_
    refine aw_bipush X (6 : Int32) dX0_parted_109 (by decide) ?_
    refine aw_iload X dX0_parted_111 4 rfl ?_
    refine aw_bipush X (41 : Int32) dX0_parted_113 (by decide) ?_
    refine aw_irem X dX0_parted_115 (by decide) ?_
    refine aw_imul X dX0_parted_116 ?_
    refine aw_iload X dX0_parted_117 5 rfl ?_
    refine aw_iadd X dX0_parted_119 ?_
    obtain ⟨x23, hx23, h⟩ := bind_some h
    refine aw_iald X dX0_parted_120 hx23 ?_
    refine aw_istore X dX0_parted_121 (by decide) [(8, .inl x23), (7, .inl x21), (0, .inr (.inr (some this))), (3, .inl v3), (4, .inl v4), (5, .inl v5), (6, .inl v6)] rfl ?_
    refine aw_iload X dX0_parted_123 1 rfl ?_
    refine aw_bipush X (-9 : Int32) dX0_parted_125 (by decide) ?_
    refine aw_icmp_ne X 134 dX0_parted_127 rfl (fun c24 => ?_) (fun c24 => ?_)
    · rw [if_neg c24] at h
      refine aw_iconst X (0 : Int32) dX0_parted_134 (by decide) ?_
      refine aw_sub [(0, .inr (.inr (some this))), (3, .inl v3), (4, .inl v4), (5, .inl v5), (6, .inl v6), (7, .inl x21), (8, .inl x23)] [2, 3, 4, 5, 6, 1, 0] rfl ?_
      exact wX0_parted_b135 X φ this v3 v4 v5 v6 x21 x23 (0 : Int32) σ y h kH kE0 kE1
    · rw [if_pos c24] at h
      refine aw_iconst X (1 : Int32) dX0_parted_130 (by decide) ?_
      refine aw_goto X 135 dX0_parted_131 rfl ?_
      refine aw_sub [(0, .inr (.inr (some this))), (3, .inl v3), (4, .inl v4), (5, .inl v5), (6, .inl v6), (7, .inl x21), (8, .inl x23)] [2, 3, 4, 5, 6, 1, 0] rfl ?_
      exact wX0_parted_b135 X φ this v3 v4 v5 v6 x21 x23 (1 : Int32) σ y h kH kE0 kE1
theorem wX0_parted_l60 {C : CT} {d : Nat} {Z : State → Prop} (X : Cx C cX0_parted RX0 (some .int) 10 (d + 1)) (φ : Nat) (this : Nat) (v3 : Int32) (v4 : Int32) (σ : St) (y : (Int32 × Int32 × St) ⊕ ((St) ⊕ (Int32 × Int32 × St))) (h : fX0_parted_l60 φ this v3 v4 σ = some y) (kH : ∀ s : Int32 × Int32 × St, y = .inl s → AW C 60 [(0, .inr (.inr (some this))), (3, .inl s.1), (4, .inl s.2.1)] [] s.2.2 Z) (kE0 : ∀ e : St, y = .inr (.inl e) → AW C 239 [] [] e Z) (kE1 : ∀ e : Int32 × Int32 × St, y = .inr (.inr e) → AW C 150 [(0, .inr (.inr (some this))), (5, .inl e.1), (6, .inl e.2.1)] [] e.2.2 Z) : AW C 60 [(0, .inr (.inr (some this))), (3, .inl v3), (4, .inl v4)] [] σ Z := by
  unfold fX0_parted_l60 at h
  refine aw_iload_n X dX0_parted_60 1 3 rfl rfl ?_
  refine aw_iload X dX0_parted_61 2 rfl ?_
  refine aw_icmp_ge X 239 dX0_parted_63 rfl (fun c16 => ?_) (fun c16 => ?_)
  · rw [if_pos c16] at h
    cases h
    refine aw_sub [] [] rfl ?_
    exact kE0 σ rfl
  · rw [if_neg c16] at h
    refine aw_aload_n X dX0_parted_66 0 0 rfl rfl ?_
    obtain ⟨x17, hx17, h⟩ := bind_some h
    refine aw_gfR X fl_X0_69 dX0_parted_67 hx17 ?_
    refine aw_iload_n X dX0_parted_70 1 3 rfl rfl ?_
    obtain ⟨x18, hx18, h⟩ := bind_some h
    refine aw_iald X dX0_parted_71 hx18 ?_
    refine aw_istore X dX0_parted_72 (by decide) [(5, .inl x18), (0, .inr (.inr (some this))), (3, .inl v3), (4, .inl v4)] rfl ?_
    refine aw_iinc X dX0_parted_74 2 rfl (1 : Int32) rfl (by decide) [(3, .inl (v3 + (1 : Int32))), (5, .inl x18), (0, .inr (.inr (some this))), (4, .inl v4)] rfl ?_
    refine aw_iconst X (0 : Int32) dX0_parted_77 (by decide) ?_
    refine aw_istore X dX0_parted_78 (by decide) [(6, .inl (0 : Int32)), (3, .inl (v3 + (1 : Int32))), (5, .inl x18), (0, .inr (.inr (some this))), (4, .inl v4)] rfl ?_
    obtain ⟨e37, h38, h⟩ := bind_some h
    refine aw_sub [(0, .inr (.inr (some this))), (3, .inl (v3 + (1 : Int32))), (4, .inl v4), (5, .inl x18), (6, .inl (0 : Int32))] [3, 1, 4, 2, 0] rfl ?_
    refine aw_it (fun s => AW C 80 [(0, .inr (.inr (some this))), (3, .inl (v3 + (1 : Int32))), (4, .inl s.1), (5, .inl x18), (6, .inl s.2.1)] [] s.2.2 Z) (fun e => match e with | (.inl e) => AW C 236 [(0, .inr (.inr (some this))), (3, .inl (v3 + (1 : Int32))), (4, .inl e.1)] [] e.2 Z | (.inr e) => AW C 150 [(0, .inr (.inr (some this))), (5, .inl x18), (6, .inl e.1)] [] e.2 Z) (fun s r hr kH kE => wX0_parted_l80 X φ this (v3 + (1 : Int32)) x18 s.1 s.2.1 s.2.2 r hr kH (fun e he => kE (.inl e) he) (fun e he => kE (.inr e) he)) φ _ e37 h38 ?_
    rcases e37 with e39 | e40
    · refine aw_goto X 60 dX0_parted_236 rfl ?_
      cases h
      exact kH ((v3 + (1 : Int32)), e39.1, e39.2) rfl
    · cases h
      exact kE1 (x18, e40.1, e40.2) rfl
theorem wX0_parted {C : CT} {d : Nat} (X : Cx C cX0_parted RX0 (some .int) 10 (d + 1)) (φ : Nat) (this : Nat) (v1 : Option Nat) (v2 : Option Nat) (σ : St) (y : Int32 × St) (h : fX0_parted φ this v1 v2 σ = some y) : AW C 0 [(0, .inr (.inr (some this))), (1, .inr (.inr v1)), (2, .inr (.inr v2))] [] σ (AQ C (some (.inl y.1)) y.2) := by
  unfold fX0_parted at h
  refine aw_aload_n X dX0_parted_0 1 1 rfl rfl ?_
  refine aw_aload_n X dX0_parted_1 0 0 rfl rfl ?_
  obtain ⟨x1, hx1, h⟩ := bind_some h
  refine aw_gfR X fl_X0_53 dX0_parted_2 hx1 ?_
  obtain ⟨y2, hy2, h⟩ := bind_some h
  refine aw_callS X (st := []) [.inr (.inr v1), .inr (.inr x1)] rfl ml_X0_249 (AX0_setNext (Cx.ok X) φ d _ _ _ _  hy2) dX0_parted_5 (Nat.le_of_ble_eq_true rfl) ?_
  refine aw_aload_n X dX0_parted_8 2 2 rfl rfl ?_
  refine aw_aload_n X dX0_parted_9 0 0 rfl rfl ?_
  obtain ⟨x3, hx3, h⟩ := bind_some h
  refine aw_gfR X fl_X0_56 dX0_parted_10 hx3 ?_
  obtain ⟨y4, hy4, h⟩ := bind_some h
  refine aw_callS X (st := []) [.inr (.inr v2), .inr (.inr x3)] rfl ml_X0_249 (AX0_setNext (Cx.ok X) φ d _ _ _ _  hy4) dX0_parted_13 (Nat.le_of_ble_eq_true rfl) ?_
  refine aw_iconst X (0 : Int32) dX0_parted_16 (by decide) ?_
  refine aw_istore_n X dX0_parted_17 3 rfl (by decide) [(3, .inl (0 : Int32)), (0, .inr (.inr (some this))), (1, .inr (.inr v1)), (2, .inr (.inr v2))] rfl ?_
  obtain ⟨e10, h11, h⟩ := bind_some h
  refine aw_sub [(0, .inr (.inr (some this))), (3, .inl (0 : Int32))] [1, 0] rfl ?_
  refine aw_it (fun s => AW C 18 [(0, .inr (.inr (some this))), (3, .inl s.1)] [] s.2 (AQ C (some (.inl y.1)) y.2)) (fun e => AW C 41 [(0, .inr (.inr (some this)))] [] e (AQ C (some (.inl y.1)) y.2)) (fun s r hr kH kE => wX0_parted_l18 X φ this s.1 s.2 r hr kH kE) φ _ e10 h11 ?_
  refine aw_iconst X (0 : Int32) dX0_parted_41 (by decide) ?_
  refine aw_istore_n X dX0_parted_42 3 rfl (by decide) [(3, .inl (0 : Int32)), (0, .inr (.inr (some this)))] rfl ?_
  refine aw_iconst X (1 : Int32) dX0_parted_43 (by decide) ?_
  refine aw_istore X dX0_parted_44 (by decide) [(4, .inl (1 : Int32)), (3, .inl (0 : Int32)), (0, .inr (.inr (some this)))] rfl ?_
  refine aw_aload_n X dX0_parted_46 2 0 rfl rfl ?_
  obtain ⟨x12, hx12, h⟩ := bind_some h
  refine aw_gfR X fl_X0_69 dX0_parted_47 hx12 ?_
  refine aw_iconst X (0 : Int32) dX0_parted_50 (by decide) ?_
  refine aw_iconst X (0 : Int32) dX0_parted_51 (by decide) ?_
  obtain ⟨s13, hs13, h⟩ := bind_some h
  refine aw_iast X dX0_parted_52 hs13 ?_
  refine aw_aload_n X dX0_parted_53 2 0 rfl rfl ?_
  obtain ⟨x14, hx14, h⟩ := bind_some h
  refine aw_gfR X fl_X0_72 dX0_parted_54 hx14 ?_
  refine aw_iconst X (0 : Int32) dX0_parted_57 (by decide) ?_
  refine aw_iconst X (0 : Int32) dX0_parted_58 (by decide) ?_
  obtain ⟨s15, hs15, h⟩ := bind_some h
  refine aw_iast X dX0_parted_59 hs15 ?_
  obtain ⟨e41, h42, h⟩ := bind_some h
  refine aw_sub [(0, .inr (.inr (some this))), (3, .inl (0 : Int32)), (4, .inl (1 : Int32))] [2, 1, 0] rfl ?_
  refine aw_it (fun s => AW C 60 [(0, .inr (.inr (some this))), (3, .inl s.1), (4, .inl s.2.1)] [] s.2.2 (AQ C (some (.inl y.1)) y.2)) (fun e => match e with | (.inl e) => AW C 239 [] [] e (AQ C (some (.inl y.1)) y.2) | (.inr e) => AW C 150 [(0, .inr (.inr (some this))), (5, .inl e.1), (6, .inl e.2.1)] [] e.2.2 (AQ C (some (.inl y.1)) y.2)) (fun s r hr kH kE => wX0_parted_l60 X φ this s.1 s.2.1 s.2.2 r hr kH (fun e he => kE (.inl e) he) (fun e he => kE (.inr e) he)) φ _ e41 h42 ?_
  rcases e41 with e43 | e44
  · refine aw_sipush X (1000 : Int32) dX0_parted_239 (by decide) ?_
    cases h
    exact aw_iret X dX0_parted_242
  · refine aw_aload_n X dX0_parted_150 0 0 rfl rfl ?_
    refine aw_iload X dX0_parted_151 1 rfl ?_
    obtain ⟨s45, hs45, h⟩ := bind_some h
    refine aw_pfI X fl_X0_272 dX0_parted_153 hs45 ?_
    refine aw_aload_n X dX0_parted_156 0 0 rfl rfl ?_
    refine aw_iload X dX0_parted_157 2 rfl ?_
    obtain ⟨s46, hs46, h⟩ := bind_some h
    refine aw_pfI X fl_X0_275 dX0_parted_159 hs46 ?_
    refine aw_aload_n X dX0_parted_162 0 0 rfl rfl ?_
    refine aw_iload X dX0_parted_163 1 rfl ?_
    obtain ⟨y47, hy47, h⟩ := bind_some h
    refine aw_cV X (st := []) hy47 [.inl e44.1] rfl rfl ml_X0_278 (fun o h => AX0_lengthTo (Cx.ok X) φ d _ _ _ _ h) dX0_parted_165 (Nat.le_of_ble_eq_true rfl) ?_
    refine aw_iconst X (1 : Int32) dX0_parted_168 (by decide) ?_
    refine aw_iadd X dX0_parted_169 ?_
    cases h
    exact aw_iret X dX0_parted_170
theorem AX0_parted {E : AE} {l : Launch} (hE : EOK E l) (φ d : Nat) (this : Nat) (v1 : Option Nat) (v2 : Option Nat) (σ : St) (y : Int32 × St) (h : fX0_parted φ this v1 v2 σ = some y) : AMet E l yX0_parted (ws_ yX0_parted cX0_parted 10 (some .int)) (d + 1) [.inr (.inr (some this)), .inr (.inr v1), .inr (.inr v2)] σ (some (.inl y.1)) y.2 := by
  refine amet_of hE (by decide +kernel) (Nat.le_of_ble_eq_true rfl) fun C e1 e2 X XI => ?_
  subst e1
  exact wX0_parted X φ this v1 v2 σ y h
theorem wX0_drop_l44 {C : CT} {d : Nat} {Z : State → Prop} (X : Cx C cX0_drop RX0 (some .int) 8 (d + 3)) (φ : Nat) (this : Nat) (v1 : Int32) (v2 : Int32) (v3 : Int32) (v5 : Option Nat) (v6 : Int32) (σ : St) (y : ((Option Nat) × Int32 × St) ⊕ ((Option Nat) × St)) (h : fX0_drop_l44 φ this v1 v2 v3 v5 v6 σ = some y) (kH : ∀ s : (Option Nat) × Int32 × St, y = .inl s → AW C 44 [(0, .inr (.inr (some this))), (1, .inl v1), (2, .inl v2), (3, .inl v3), (5, .inr (.inr s.1)), (6, .inl s.2.1)] [] s.2.2 Z) (kE0 : ∀ e : (Option Nat) × St, y = .inr e → AW C 119 [(0, .inr (.inr (some this))), (1, .inl v1), (2, .inl v2), (3, .inl v3), (5, .inr (.inr e.1))] [] e.2 Z) : AW C 44 [(0, .inr (.inr (some this))), (1, .inl v1), (2, .inl v2), (3, .inl v3), (5, .inr (.inr v5)), (6, .inl v6)] [] σ Z := by
  unfold fX0_drop_l44 at h
  refine aw_iload X dX0_drop_44 5 rfl ?_
  refine aw_aload X dX0_drop_46 4 rfl ?_
  obtain ⟨x8, hx8, h⟩ := bind_some h
  refine aw_alen X dX0_drop_48 hx8 ?_
  refine aw_icmp_ge X 119 dX0_drop_49 rfl (fun c9 => ?_) (fun c9 => ?_)
  · rw [if_pos c9] at h
    cases h
    refine aw_sub [(0, .inr (.inr (some this))), (1, .inl v1), (2, .inl v2), (3, .inl v3), (5, .inr (.inr v5))] [0, 1, 2, 3, 4] rfl ?_
    exact kE0 (v5, σ) rfl
  · rw [if_neg c9] at h
    refine aw_aload X dX0_drop_52 4 rfl ?_
    obtain ⟨x10, hx10, h⟩ := bind_some h
    refine aw_alen X dX0_drop_54 hx10 ?_
    refine aw_iconst X (1 : Int32) dX0_drop_55 (by decide) ?_
    refine aw_isub X dX0_drop_56 ?_
    obtain ⟨n11, hn11, h⟩ := bind_some h
    refine aw_newa X (kd := 2) dX0_drop_57 rfl (by decide) (by decide) q216 (r := n11.1) (σ' := n11.2) hn11 ?_
    refine aw_astore X dX0_drop_59 (by decide) [(7, .inr (.inr n11.1)), (0, .inr (.inr (some this))), (1, .inl v1), (2, .inl v2), (3, .inl v3), (5, .inr (.inr v5)), (6, .inl v6)] rfl ?_
    refine aw_aload X dX0_drop_61 5 rfl ?_
    refine aw_iconst X (0 : Int32) dX0_drop_63 (by decide) ?_
    refine aw_aload X dX0_drop_64 0 rfl ?_
    refine aw_iconst X (0 : Int32) dX0_drop_66 (by decide) ?_
    refine aw_iload X dX0_drop_67 6 rfl ?_
    obtain ⟨s12, hs12, h⟩ := bind_some h
    refine aw_acopy X q383 dX0_drop_69 (Nat.le_of_ble_eq_true rfl) hs12 ?_
    refine aw_aload X dX0_drop_72 5 rfl ?_
    refine aw_iload X dX0_drop_74 6 rfl ?_
    refine aw_iconst X (1 : Int32) dX0_drop_76 (by decide) ?_
    refine aw_iadd X dX0_drop_77 ?_
    refine aw_aload X dX0_drop_78 0 rfl ?_
    refine aw_iload X dX0_drop_80 6 rfl ?_
    refine aw_aload X dX0_drop_82 0 rfl ?_
    obtain ⟨x13, hx13, h⟩ := bind_some h
    refine aw_alen X dX0_drop_84 hx13 ?_
    refine aw_iload X dX0_drop_85 6 rfl ?_
    refine aw_isub X dX0_drop_87 ?_
    obtain ⟨s14, hs14, h⟩ := bind_some h
    refine aw_acopy X q383 dX0_drop_88 (Nat.le_of_ble_eq_true rfl) hs14 ?_
    refine aw_aload_n X dX0_drop_91 1 0 rfl rfl ?_
    refine aw_aload X dX0_drop_92 0 rfl ?_
    refine aw_aload_n X dX0_drop_94 1 0 rfl rfl ?_
    refine aw_iload_n X dX0_drop_95 3 2 rfl rfl ?_
    obtain ⟨y15, hy15, h⟩ := bind_some h
    refine aw_cV X (st := [.inr (.inr n11.1), .inr (.inr (some this))]) hy15 [.inl v2] rfl rfl ml_X0_188 (fun o h => AX0_of (Cx.ok X) φ (d + 2) _ _ _ _ h) dX0_drop_96 (Nat.le_of_ble_eq_true rfl) ?_
    obtain ⟨y16, hy16, h⟩ := bind_some h
    refine aw_cV X (st := []) hy16 [.inr (.inr n11.1), .inr (.inr y15)] rfl rfl ml_X0_203 (fun o h => AX0_parted (Cx.ok X) φ (d + 1) _ _ _ _ _ h) dX0_drop_99 (Nat.le_of_ble_eq_true rfl) ?_
    refine aw_iload_n X dX0_drop_102 4 3 rfl rfl ?_
    refine aw_icmp_le X 113 dX0_drop_103 rfl (fun c17 => ?_) (fun c17 => ?_)
    · rw [if_pos c17] at h
      refine aw_iinc X dX0_drop_113 6 rfl (1 : Int32) rfl (by decide) [(6, .inl (v6 + (1 : Int32))), (7, .inr (.inr n11.1)), (0, .inr (.inr (some this))), (1, .inl v1), (2, .inl v2), (3, .inl v3), (5, .inr (.inr v5))] rfl ?_
      refine aw_goto X 44 dX0_drop_116 rfl ?_
      cases h
      refine aw_sub [(0, .inr (.inr (some this))), (1, .inl v1), (2, .inl v2), (3, .inl v3), (5, .inr (.inr v5)), (6, .inl (v6 + (1 : Int32)))] [2, 3, 4, 5, 6, 0] rfl ?_
      exact kH (v5, (v6 + (1 : Int32)), y16.2) rfl
    · rw [if_neg c17] at h
      refine aw_aload X dX0_drop_106 0 rfl ?_
      refine aw_astore X dX0_drop_108 (by decide) [(5, .inr (.inr n11.1)), (7, .inr (.inr n11.1)), (0, .inr (.inr (some this))), (1, .inl v1), (2, .inl v2), (3, .inl v3), (6, .inl v6)] rfl ?_
      refine aw_goto X 116 dX0_drop_110 rfl ?_
      refine aw_goto X 44 dX0_drop_116 rfl ?_
      cases h
      refine aw_sub [(0, .inr (.inr (some this))), (1, .inl v1), (2, .inl v2), (3, .inl v3), (5, .inr (.inr n11.1)), (6, .inl v6)] [2, 3, 4, 5, 0, 6] rfl ?_
      exact kH (n11.1, v6, y16.2) rfl
theorem wX0_drop {C : CT} {d : Nat} (X : Cx C cX0_drop RX0 (some .int) 8 (d + 3)) (φ : Nat) (this : Nat) (v1 : Int32) (v2 : Int32) (v3 : Int32) (σ : St) (y : Int32 × St) (h : fX0_drop φ this v1 v2 v3 σ = some y) : AW C 0 [(0, .inr (.inr (some this))), (1, .inl v1), (2, .inl v2), (3, .inl v3)] [] σ (AQ C (some (.inl y.1)) y.2) := by
  unfold fX0_drop at h
  refine aw_iload_n X dX0_drop_0 1 1 rfl rfl ?_
  obtain ⟨y1, hy1, h⟩ := bind_some h
  refine aw_callS X (st := []) [.inl v1] rfl ml_X0_131 (AX0_isWord (Cx.ok X) φ (d + 1) _ _ _  hy1) dX0_drop_1 (Nat.le_of_ble_eq_true rfl) ?_
  refine aw_if_eq X 17 dX0_drop_4 rfl (fun c2 => ?_) (fun c2 => ?_)
  · rw [if_pos c2] at h
    refine aw_iconst X (-1 : Int32) dX0_drop_17 (by decide) ?_
    cases h
    exact aw_iret X dX0_drop_18
  · rw [if_neg c2] at h
    refine aw_iload_n X dX0_drop_7 3 3 rfl rfl ?_
    refine aw_iconst X (0 : Int32) dX0_drop_8 (by decide) ?_
    refine aw_bipush X (40 : Int32) dX0_drop_9 (by decide) ?_
    obtain ⟨y3, hy3, h⟩ := bind_some h
    refine aw_callS X (st := []) [.inl v3, .inl (0 : Int32), .inl (40 : Int32)] rfl ml_X0_93 (AX0_isIn (Cx.ok X) φ (d + 2) _ _ _ _ _  hy3) dX0_drop_11 (Nat.le_of_ble_eq_true rfl) ?_
    refine aw_if_ne X 19 dX0_drop_14 rfl (fun c4 => ?_) (fun c4 => ?_)
    · rw [if_neg c4] at h
      refine aw_aload_n X dX0_drop_19 0 0 rfl rfl ?_
      refine aw_iload_n X dX0_drop_20 2 2 rfl rfl ?_
      obtain ⟨y5, hy5, h⟩ := bind_some h
      refine aw_cV X (st := []) hy5 [.inl v2] rfl rfl ml_X0_195 (fun o h => AX0_askedWord (Cx.ok X) φ d _ _ _ _ h) dX0_drop_21 (Nat.le_of_ble_eq_true rfl) ?_
      refine aw_istore X dX0_drop_24 (by decide) [(4, .inl y5.1), (0, .inr (.inr (some this))), (1, .inl v1), (2, .inl v2), (3, .inl v3)] rfl ?_
      refine aw_iload X dX0_drop_26 0 rfl ?_
      refine aw_if_ge X 34 dX0_drop_28 rfl (fun c6 => ?_) (fun c6 => ?_)
      · rw [if_pos c6] at h
        refine aw_aload_n X dX0_drop_34 1 0 rfl rfl ?_
        refine aw_iload_n X dX0_drop_35 3 2 rfl rfl ?_
        obtain ⟨y7, hy7, h⟩ := bind_some h
        refine aw_cV X (st := []) hy7 [.inl v2] rfl rfl ml_X0_188 (fun o h => AX0_of (Cx.ok X) φ (d + 2) _ _ _ _ h) dX0_drop_36 (Nat.le_of_ble_eq_true rfl) ?_
        refine aw_astore X dX0_drop_39 (by decide) [(5, .inr (.inr y7)), (4, .inl y5.1), (0, .inr (.inr (some this))), (1, .inl v1), (2, .inl v2), (3, .inl v3)] rfl ?_
        refine aw_iconst X (0 : Int32) dX0_drop_41 (by decide) ?_
        refine aw_istore X dX0_drop_42 (by decide) [(6, .inl (0 : Int32)), (5, .inr (.inr y7)), (4, .inl y5.1), (0, .inr (.inr (some this))), (1, .inl v1), (2, .inl v2), (3, .inl v3)] rfl ?_
        obtain ⟨e18, h19, h⟩ := bind_some h
        refine aw_sub [(0, .inr (.inr (some this))), (1, .inl v1), (2, .inl v2), (3, .inl v3), (5, .inr (.inr y7)), (6, .inl (0 : Int32))] [3, 4, 5, 6, 1, 0] rfl ?_
        refine aw_it (fun s => AW C 44 [(0, .inr (.inr (some this))), (1, .inl v1), (2, .inl v2), (3, .inl v3), (5, .inr (.inr s.1)), (6, .inl s.2.1)] [] s.2.2 (AQ C (some (.inl y.1)) y.2)) (fun e => AW C 119 [(0, .inr (.inr (some this))), (1, .inl v1), (2, .inl v2), (3, .inl v3), (5, .inr (.inr e.1))] [] e.2 (AQ C (some (.inl y.1)) y.2)) (fun s r hr kH kE => wX0_drop_l44 X φ this v1 v2 v3 s.1 s.2.1 s.2.2 r hr kH kE) φ _ e18 h19 ?_
        refine aw_aload_n X dX0_drop_119 0 0 rfl rfl ?_
        obtain ⟨x20, hx20, h⟩ := bind_some h
        refine aw_gfR X fl_X0_46 dX0_drop_120 hx20 ?_
        refine aw_iload_n X dX0_drop_123 1 1 rfl rfl ?_
        obtain ⟨n21, hn21, h⟩ := bind_some h
        refine aw_new X (ci := 6) dX0_drop_124 rfl q550 q551 q97 (r := n21.1) (σ' := n21.2) hn21 ?_
        refine aw_dup X dX0_drop_127 rfl ?_
        refine aw_aload X dX0_drop_128 4 rfl ?_
        refine aw_iconst X (0 : Int32) dX0_drop_130 (by decide) ?_
        refine aw_aload X dX0_drop_131 4 rfl ?_
        obtain ⟨x22, hx22, h⟩ := bind_some h
        refine aw_alen X dX0_drop_133 hx22 ?_
        obtain ⟨y23, hy23, h⟩ := bind_some h
        refine aw_callS X (st := [.inr (.inr n21.1), .inr (.inr n21.1), .inl v1, .inr (.inr x20)]) [.inr (.inr e18.1), .inl (0 : Int32), .inl x22] rfl ml_X0_178 (AX0_cut (Cx.ok X) φ (d + 2) _ _ _ _ _  hy23) dX0_drop_134 (Nat.le_of_ble_eq_true rfl) ?_
        refine aw_iload_n X dX0_drop_137 2 2 rfl rfl ?_
        refine aw_iload_n X dX0_drop_138 3 3 rfl rfl ?_
        obtain ⟨y24, hy24, h⟩ := bind_some h
        refine aw_cI X (st := [.inr (.inr n21.1), .inl v1, .inr (.inr x20)]) hy24 [.inr (.inr y23.1), .inl v2, .inl v3] rfl ml_X0_209 (fun o h => AX6_init (Cx.ok X) φ d _ _ _ _ _ _ h) dX0_drop_139 (Nat.le_of_ble_eq_true rfl) ?_
        obtain ⟨s25, hs25, h⟩ := bind_some h
        refine aw_aast X (kd := 7) (lo := 10) (hi := 14) dX0_drop_142 (by decide) hs25 ?_
        refine aw_aload X dX0_drop_143 4 rfl ?_
        obtain ⟨x26, hx26, h⟩ := bind_some h
        refine aw_alen X dX0_drop_145 hx26 ?_
        cases h
        exact aw_iret X dX0_drop_146
      · rw [if_neg c6] at h
        refine aw_iload X dX0_drop_31 0 rfl ?_
        cases h
        exact aw_iret X dX0_drop_33
    · rw [if_pos c4] at h
      refine aw_iconst X (-1 : Int32) dX0_drop_17 (by decide) ?_
      cases h
      exact aw_iret X dX0_drop_18
theorem AX0_drop {E : AE} {l : Launch} (hE : EOK E l) (φ d : Nat) (this : Nat) (v1 : Int32) (v2 : Int32) (v3 : Int32) (σ : St) (y : Int32 × St) (h : fX0_drop φ this v1 v2 v3 σ = some y) : AMet E l yX0_drop (ws_ yX0_drop cX0_drop 8 (some .int)) (d + 3) [.inr (.inr (some this)), .inl v1, .inl v2, .inl v3] σ (some (.inl y.1)) y.2 := by
  refine amet_of hE (by decide +kernel) (Nat.le_of_ble_eq_true rfl) fun C e1 e2 X XI => ?_
  subst e1
  exact wX0_drop X φ this v1 v2 v3 σ y h
theorem wX0_erase {C : CT} {d : Nat} (X : Cx C cX0_erase RX0 (some .int) 3 (d + 3)) (φ : Nat) (this : Nat) (v1 : Int32) (σ : St) (y : Int32 × St) (h : fX0_erase φ this v1 σ = some y) : AW C 0 [(0, .inr (.inr (some this))), (1, .inl v1)] [] σ (AQ C (some (.inl y.1)) y.2) := by
  unfold fX0_erase at h
  refine aw_aload_n X dX0_erase_0 0 0 rfl rfl ?_
  refine aw_iload_n X dX0_erase_1 1 1 rfl rfl ?_
  obtain ⟨y1, hy1, h⟩ := bind_some h
  refine aw_cV X (st := []) hy1 [.inl v1] rfl rfl ml_X0_195 (fun o h => AX0_askedWord (Cx.ok X) φ d _ _ _ _ h) dX0_erase_2 (Nat.le_of_ble_eq_true rfl) ?_
  refine aw_istore_n X dX0_erase_5 2 rfl (by decide) [(2, .inl y1.1), (0, .inr (.inr (some this))), (1, .inl v1)] rfl ?_
  refine aw_iload_n X dX0_erase_6 0 2 rfl rfl ?_
  refine aw_if_ge X 12 dX0_erase_7 rfl (fun c2 => ?_) (fun c2 => ?_)
  · rw [if_pos c2] at h
    refine aw_aload_n X dX0_erase_12 1 0 rfl rfl ?_
    obtain ⟨x3, hx3, h⟩ := bind_some h
    refine aw_gfR X fl_X0_46 dX0_erase_13 hx3 ?_
    refine aw_iload_n X dX0_erase_16 2 1 rfl rfl ?_
    refine aw_null X dX0_erase_17 ?_
    obtain ⟨s4, hs4, h⟩ := bind_some h
    refine aw_aast X (kd := 7) (lo := 10) (hi := 14) dX0_erase_18 (by decide) hs4 ?_
    refine aw_iconst X (1 : Int32) dX0_erase_19 (by decide) ?_
    cases h
    exact aw_iret X dX0_erase_20
  · rw [if_neg c2] at h
    refine aw_iload_n X dX0_erase_10 0 2 rfl rfl ?_
    cases h
    exact aw_iret X dX0_erase_11
theorem AX0_erase {E : AE} {l : Launch} (hE : EOK E l) (φ d : Nat) (this : Nat) (v1 : Int32) (σ : St) (y : Int32 × St) (h : fX0_erase φ this v1 σ = some y) : AMet E l yX0_erase (ws_ yX0_erase cX0_erase 3 (some .int)) (d + 3) [.inr (.inr (some this)), .inl v1] σ (some (.inl y.1)) y.2 := by
  refine amet_of hE (by decide +kernel) (Nat.le_of_ble_eq_true rfl) fun C e1 e2 X XI => ?_
  subst e1
  exact wX0_erase X φ this v1 σ y h
theorem wX0_size {C : CT} {d : Nat} (X : Cx C cX0_size RX0 (some .int) 3 (d + 3)) (φ : Nat) (this : Nat) (v1 : Int32) (σ : St) (y : Int32 × St) (h : fX0_size φ this v1 σ = some y) : AW C 0 [(0, .inr (.inr (some this))), (1, .inl v1)] [] σ (AQ C (some (.inl y.1)) y.2) := by
  unfold fX0_size at h
  refine aw_aload_n X dX0_size_0 0 0 rfl rfl ?_
  refine aw_iload_n X dX0_size_1 1 1 rfl rfl ?_
  obtain ⟨y1, hy1, h⟩ := bind_some h
  refine aw_cV X (st := []) hy1 [.inl v1] rfl rfl ml_X0_195 (fun o h => AX0_askedWord (Cx.ok X) φ d _ _ _ _ h) dX0_size_2 (Nat.le_of_ble_eq_true rfl) ?_
  refine aw_istore_n X dX0_size_5 2 rfl (by decide) [(2, .inl y1.1), (0, .inr (.inr (some this))), (1, .inl v1)] rfl ?_
  refine aw_iload_n X dX0_size_6 0 2 rfl rfl ?_
  refine aw_if_ge X 14 dX0_size_7 rfl (fun c2 => ?_) (fun c2 => ?_)
  · rw [if_pos c2] at h
    refine aw_aload_n X dX0_size_14 1 0 rfl rfl ?_
    refine aw_iload_n X dX0_size_15 2 1 rfl rfl ?_
    obtain ⟨y3, hy3, h⟩ := bind_some h
    refine aw_cV X (st := []) hy3 [.inl v1] rfl rfl ml_X0_188 (fun o h => AX0_of (Cx.ok X) φ (d + 2) _ _ _ _ h) dX0_size_16 (Nat.le_of_ble_eq_true rfl) ?_
    obtain ⟨x4, hx4, h⟩ := bind_some h
    refine aw_alen X dX0_size_19 hx4 ?_
    cases h
    exact aw_iret X dX0_size_20
  · rw [if_neg c2] at h
    refine aw_iload_n X dX0_size_10 0 2 rfl rfl ?_
    refine aw_goto X 20 dX0_size_11 rfl ?_
    cases h
    exact aw_iret X dX0_size_20
theorem AX0_size {E : AE} {l : Launch} (hE : EOK E l) (φ d : Nat) (this : Nat) (v1 : Int32) (σ : St) (y : Int32 × St) (h : fX0_size φ this v1 σ = some y) : AMet E l yX0_size (ws_ yX0_size cX0_size 3 (some .int)) (d + 3) [.inr (.inr (some this)), .inl v1] σ (some (.inl y.1)) y.2 := by
  refine amet_of hE (by decide +kernel) (Nat.le_of_ble_eq_true rfl) fun C e1 e2 X XI => ?_
  subst e1
  exact wX0_size X φ this v1 σ y h
theorem wX0_letter {C : CT} {d : Nat} (X : Cx C cX0_letter RX0 (some .int) 4 (d + 3)) (φ : Nat) (this : Nat) (v1 : Int32) (v2 : Int32) (σ : St) (y : Int32 × St) (h : fX0_letter φ this v1 v2 σ = some y) : AW C 0 [(0, .inr (.inr (some this))), (1, .inl v1), (2, .inl v2)] [] σ (AQ C (some (.inl y.1)) y.2) := by
  unfold fX0_letter at h
  refine aw_aload_n X dX0_letter_0 0 0 rfl rfl ?_
  refine aw_iload_n X dX0_letter_1 1 1 rfl rfl ?_
  obtain ⟨y1, hy1, h⟩ := bind_some h
  refine aw_cV X (st := []) hy1 [.inl v1] rfl rfl ml_X0_195 (fun o h => AX0_askedWord (Cx.ok X) φ d _ _ _ _ h) dX0_letter_2 (Nat.le_of_ble_eq_true rfl) ?_
  refine aw_istore_n X dX0_letter_5 3 rfl (by decide) [(3, .inl y1.1), (0, .inr (.inr (some this))), (1, .inl v1), (2, .inl v2)] rfl ?_
  refine aw_iload_n X dX0_letter_6 0 3 rfl rfl ?_
  refine aw_if_ge X 12 dX0_letter_7 rfl (fun c2 => ?_) (fun c2 => ?_)
  · rw [if_pos c2] at h
    refine aw_iload_n X dX0_letter_12 3 2 rfl rfl ?_
    refine aw_iconst X (0 : Int32) dX0_letter_13 (by decide) ?_
    refine aw_aload_n X dX0_letter_14 1 0 rfl rfl ?_
    refine aw_iload_n X dX0_letter_15 2 1 rfl rfl ?_
    obtain ⟨y3, hy3, h⟩ := bind_some h
    refine aw_cV X (st := [.inl (0 : Int32), .inl v2]) hy3 [.inl v1] rfl rfl ml_X0_188 (fun o h => AX0_of (Cx.ok X) φ (d + 2) _ _ _ _ h) dX0_letter_16 (Nat.le_of_ble_eq_true rfl) ?_
    obtain ⟨x4, hx4, h⟩ := bind_some h
    refine aw_alen X dX0_letter_19 hx4 ?_
    refine aw_iconst X (1 : Int32) dX0_letter_20 (by decide) ?_
    refine aw_isub X dX0_letter_21 ?_
    obtain ⟨y5, hy5, h⟩ := bind_some h
    refine aw_callS X (st := []) [.inl v2, .inl (0 : Int32), .inl (x4 - (1 : Int32))] rfl ml_X0_93 (AX0_isIn (Cx.ok X) φ (d + 2) _ _ _ _ _  hy5) dX0_letter_22 (Nat.le_of_ble_eq_true rfl) ?_
    refine aw_if_eq X 38 dX0_letter_25 rfl (fun c6 => ?_) (fun c6 => ?_)
    · rw [if_pos c6] at h
      refine aw_aload_n X dX0_letter_38 1 0 rfl rfl ?_
      refine aw_iconst X (2 : Int32) dX0_letter_39 (by decide) ?_
      obtain ⟨y7, hy7, h⟩ := bind_some h
      refine aw_cV X (st := []) hy7 [.inl (2 : Int32)] rfl rfl ml_X0_103 (fun o h => AX0_met (Cx.ok X) φ (d + 2) _ _ _ _ h) dX0_letter_40 (Nat.le_of_ble_eq_true rfl) ?_
      cases h
      exact aw_iret X dX0_letter_43
    · rw [if_neg c6] at h
      refine aw_aload_n X dX0_letter_28 1 0 rfl rfl ?_
      refine aw_iload_n X dX0_letter_29 2 1 rfl rfl ?_
      obtain ⟨y8, hy8, h⟩ := bind_some h
      refine aw_cV X (st := []) hy8 [.inl v1] rfl rfl ml_X0_188 (fun o h => AX0_of (Cx.ok X) φ (d + 2) _ _ _ _ h) dX0_letter_30 (Nat.le_of_ble_eq_true rfl) ?_
      refine aw_iload_n X dX0_letter_33 3 2 rfl rfl ?_
      obtain ⟨x9, hx9, h⟩ := bind_some h
      refine aw_bald X dX0_letter_34 hx9 ?_
      refine aw_goto X 43 dX0_letter_35 rfl ?_
      cases h
      exact aw_iret X dX0_letter_43
  · rw [if_neg c2] at h
    refine aw_iload_n X dX0_letter_10 0 3 rfl rfl ?_
    cases h
    exact aw_iret X dX0_letter_11
theorem AX0_letter {E : AE} {l : Launch} (hE : EOK E l) (φ d : Nat) (this : Nat) (v1 : Int32) (v2 : Int32) (σ : St) (y : Int32 × St) (h : fX0_letter φ this v1 v2 σ = some y) : AMet E l yX0_letter (ws_ yX0_letter cX0_letter 4 (some .int)) (d + 3) [.inr (.inr (some this)), .inl v1, .inl v2] σ (some (.inl y.1)) y.2 := by
  refine amet_of hE (by decide +kernel) (Nat.le_of_ble_eq_true rfl) fun C e1 e2 X XI => ?_
  subst e1
  exact wX0_letter X φ this v1 v2 σ y h
theorem wX0_kind {C : CT} {d : Nat} (X : Cx C cX0_kind RX0 (some .int) 3 (d + 3)) (φ : Nat) (this : Nat) (v1 : Int32) (σ : St) (y : Int32 × St) (h : fX0_kind φ this v1 σ = some y) : AW C 0 [(0, .inr (.inr (some this))), (1, .inl v1)] [] σ (AQ C (some (.inl y.1)) y.2) := by
  unfold fX0_kind at h
  refine aw_aload_n X dX0_kind_0 0 0 rfl rfl ?_
  refine aw_iload_n X dX0_kind_1 1 1 rfl rfl ?_
  obtain ⟨y1, hy1, h⟩ := bind_some h
  refine aw_cV X (st := []) hy1 [.inl v1] rfl rfl ml_X0_195 (fun o h => AX0_askedWord (Cx.ok X) φ d _ _ _ _ h) dX0_kind_2 (Nat.le_of_ble_eq_true rfl) ?_
  refine aw_istore_n X dX0_kind_5 2 rfl (by decide) [(2, .inl y1.1), (0, .inr (.inr (some this))), (1, .inl v1)] rfl ?_
  refine aw_iload_n X dX0_kind_6 0 2 rfl rfl ?_
  refine aw_if_ge X 14 dX0_kind_7 rfl (fun c2 => ?_) (fun c2 => ?_)
  · rw [if_pos c2] at h
    refine aw_aload_n X dX0_kind_14 1 0 rfl rfl ?_
    obtain ⟨x3, hx3, h⟩ := bind_some h
    refine aw_gfR X fl_X0_46 dX0_kind_15 hx3 ?_
    refine aw_iload_n X dX0_kind_18 2 1 rfl rfl ?_
    obtain ⟨x4, hx4, h⟩ := bind_some h
    refine aw_aald X (kd := 7) dX0_kind_19 (by decide) (by decide) hx4 ?_
    obtain ⟨y5, hy5, h⟩ := bind_some h
    refine aw_v_kind X (st := []) hy5 rfl dX0_kind_20 (Nat.le_of_ble_eq_true rfl) ?_
    cases h
    exact aw_iret X dX0_kind_23
  · rw [if_neg c2] at h
    refine aw_iload_n X dX0_kind_10 0 2 rfl rfl ?_
    refine aw_goto X 23 dX0_kind_11 rfl ?_
    cases h
    exact aw_iret X dX0_kind_23
theorem AX0_kind {E : AE} {l : Launch} (hE : EOK E l) (φ d : Nat) (this : Nat) (v1 : Int32) (σ : St) (y : Int32 × St) (h : fX0_kind φ this v1 σ = some y) : AMet E l yX0_kind (ws_ yX0_kind cX0_kind 3 (some .int)) (d + 3) [.inr (.inr (some this)), .inl v1] σ (some (.inl y.1)) y.2 := by
  refine amet_of hE (by decide +kernel) (Nat.le_of_ble_eq_true rfl) fun C e1 e2 X XI => ?_
  subst e1
  exact wX0_kind X φ this v1 σ y h
theorem wX0_mark {C : CT} {d : Nat} (X : Cx C cX0_mark RX0 (some .int) 6 (d + 3)) (XH : CxH C [(38, 72, 100, 225), (73, 81, 100, 225), (82, 90, 100, 225), (91, 99, 100, 225)]) (φ : Nat) (this : Nat) (v1 : Int32) (v2 : Int32) (σ : St) (y : Int32 × St) (h : fX0_mark φ this v1 v2 σ = some y) : AW C 0 [(0, .inr (.inr (some this))), (1, .inl v1), (2, .inl v2)] [] σ (AQ C (some (.inl y.1)) y.2) := by
  unfold fX0_mark at h
  refine aw_iload_n X dX0_mark_0 1 1 rfl rfl ?_
  obtain ⟨y1, hy1, h⟩ := bind_some h
  refine aw_callS X (st := []) [.inl v1] rfl ml_X0_131 (AX0_isWord (Cx.ok X) φ (d + 1) _ _ _  hy1) dX0_mark_1 (Nat.le_of_ble_eq_true rfl) ?_
  refine aw_if_eq X 16 dX0_mark_4 rfl (fun c2 => ?_) (fun c2 => ?_)
  · rw [if_pos c2] at h
    refine aw_iconst X (-1 : Int32) dX0_mark_16 (by decide) ?_
    cases h
    exact aw_iret X dX0_mark_17
  · rw [if_neg c2] at h
    refine aw_iload_n X dX0_mark_7 2 2 rfl rfl ?_
    refine aw_iconst X (1 : Int32) dX0_mark_8 (by decide) ?_
    refine aw_iconst X (4 : Int32) dX0_mark_9 (by decide) ?_
    obtain ⟨y3, hy3, h⟩ := bind_some h
    refine aw_callS X (st := []) [.inl v2, .inl (1 : Int32), .inl (4 : Int32)] rfl ml_X0_93 (AX0_isIn (Cx.ok X) φ (d + 2) _ _ _ _ _  hy3) dX0_mark_10 (Nat.le_of_ble_eq_true rfl) ?_
    refine aw_if_ne X 18 dX0_mark_13 rfl (fun c4 => ?_) (fun c4 => ?_)
    · rw [if_neg c4] at h
      refine aw_aload_n X dX0_mark_18 0 0 rfl rfl ?_
      refine aw_iload_n X dX0_mark_19 1 1 rfl rfl ?_
      obtain ⟨y5, hy5, h⟩ := bind_some h
      refine aw_cV X (st := []) hy5 [.inl v1] rfl rfl ml_X0_195 (fun o h => AX0_askedWord (Cx.ok X) φ d _ _ _ _ h) dX0_mark_20 (Nat.le_of_ble_eq_true rfl) ?_
      refine aw_istore_n X dX0_mark_23 3 rfl (by decide) [(3, .inl y5.1), (0, .inr (.inr (some this))), (1, .inl v1), (2, .inl v2)] rfl ?_
      refine aw_iload_n X dX0_mark_24 0 3 rfl rfl ?_
      refine aw_if_ge X 30 dX0_mark_25 rfl (fun c6 => ?_) (fun c6 => ?_)
      · rw [if_pos c6] at h
        refine aw_aload_n X dX0_mark_30 1 0 rfl rfl ?_
        obtain ⟨x7, hx7, h⟩ := bind_some h
        refine aw_gfR X fl_X0_46 dX0_mark_31 hx7 ?_
        refine aw_iload_n X dX0_mark_34 2 1 rfl rfl ?_
        obtain ⟨x8, hx8, h⟩ := bind_some h
        refine aw_aald X (kd := 7) dX0_mark_35 (by decide) (by decide) hx8 ?_
        refine aw_astore X dX0_mark_36 (by decide) [(4, .inr (.inr x8)), (3, .inl y5.1), (0, .inr (.inr (some this))), (1, .inl v1), (2, .inl v2)] rfl ?_
        refine aw_iload_n X dX0_mark_38 4 2 rfl rfl ?_
        by_cases c9 : v2 = (1 : Int32)
        · rw [if_pos c9] at h
          refine aw_tabIn X 64 dX0_mark_39 (by rw [c9]; decide) (by rw [c9]; decide) (by rw [c9]; rfl) rfl ?_
          refine aw_aload X dX0_mark_64 0 rfl ?_
          obtain ⟨b10, hb10, h⟩ := bind_some h
          cases b10
          · rw [if_neg Bool.false_ne_true] at h
            obtain ⟨s11, hs11, h⟩ := bind_some h
            refine aw_castN X XH ck_X0_176 dX0_mark_66 hb10 (Nat.le_of_ble_eq_true rfl) (Or.inr ⟨rfl, by decide, "java/lang/ClassCastException", q600, Or.inl ⟨q612, rfl⟩⟩) hs11 ?_
            refine aw_astore X dX0_mark_100 (by decide) [(5, .inr (.inr (some (sn y5.2 + 2)))), (4, .inr (.inr x8)), (3, .inl y5.1), (0, .inr (.inr (some this))), (1, .inl v1), (2, .inl v2)] rfl ?_
            refine aw_aload_n X dX0_mark_102 3 0 rfl rfl ?_
            refine aw_iconst X (3 : Int32) dX0_mark_103 (by decide) ?_
            obtain ⟨y12, hy12, h⟩ := bind_some h
            refine aw_cV X (st := []) hy12 [.inl (3 : Int32)] rfl rfl ml_X0_103 (fun o h => AX0_met (Cx.ok X) φ (d + 2) _ _ _ _ h) dX0_mark_104 (Nat.le_of_ble_eq_true rfl) ?_
            cases h
            exact aw_iret X dX0_mark_107
          · rw [if_pos rfl] at h
            refine aw_castY X ck_X0_176 dX0_mark_66 hb10 ?_
            obtain ⟨x13, hx13, h⟩ := bind_some h
            refine aw_gfIN X fl_X0_213 dX0_mark_69 hx13 ?_
            cases h
            exact aw_iret X dX0_mark_72
        rw [if_neg c9] at h
        by_cases c14 : v2 = (2 : Int32)
        · rw [if_pos c14] at h
          refine aw_tabIn X 73 dX0_mark_39 (by rw [c14]; decide) (by rw [c14]; decide) (by rw [c14]; rfl) rfl ?_
          refine aw_aload X dX0_mark_73 0 rfl ?_
          obtain ⟨b15, hb15, h⟩ := bind_some h
          cases b15
          · rw [if_neg Bool.false_ne_true] at h
            obtain ⟨s16, hs16, h⟩ := bind_some h
            refine aw_castN X XH ck_X0_192 dX0_mark_75 hb15 (Nat.le_of_ble_eq_true rfl) (Or.inl ⟨rfl, (Or.inr ⟨rfl, by decide, "java/lang/ClassCastException", q600, Or.inl ⟨q612, rfl⟩⟩)⟩) hs16 ?_
            refine aw_astore X dX0_mark_100 (by decide) [(5, .inr (.inr (some (sn y5.2 + 2)))), (4, .inr (.inr x8)), (3, .inl y5.1), (0, .inr (.inr (some this))), (1, .inl v1), (2, .inl v2)] rfl ?_
            refine aw_aload_n X dX0_mark_102 3 0 rfl rfl ?_
            refine aw_iconst X (3 : Int32) dX0_mark_103 (by decide) ?_
            obtain ⟨y17, hy17, h⟩ := bind_some h
            refine aw_cV X (st := []) hy17 [.inl (3 : Int32)] rfl rfl ml_X0_103 (fun o h => AX0_met (Cx.ok X) φ (d + 2) _ _ _ _ h) dX0_mark_104 (Nat.le_of_ble_eq_true rfl) ?_
            cases h
            exact aw_iret X dX0_mark_107
          · rw [if_pos rfl] at h
            refine aw_castY X ck_X0_192 dX0_mark_75 hb15 ?_
            obtain ⟨x18, hx18, h⟩ := bind_some h
            refine aw_gfIN X fl_X0_216 dX0_mark_78 hx18 ?_
            cases h
            exact aw_iret X dX0_mark_81
        rw [if_neg c14] at h
        by_cases c19 : v2 = (3 : Int32)
        · rw [if_pos c19] at h
          refine aw_tabIn X 82 dX0_mark_39 (by rw [c19]; decide) (by rw [c19]; decide) (by rw [c19]; rfl) rfl ?_
          refine aw_aload X dX0_mark_82 0 rfl ?_
          obtain ⟨b20, hb20, h⟩ := bind_some h
          cases b20
          · rw [if_neg Bool.false_ne_true] at h
            obtain ⟨s21, hs21, h⟩ := bind_some h
            refine aw_castN X XH ck_X0_198 dX0_mark_84 hb20 (Nat.le_of_ble_eq_true rfl) (Or.inl ⟨rfl, (Or.inl ⟨rfl, (Or.inr ⟨rfl, by decide, "java/lang/ClassCastException", q600, Or.inl ⟨q612, rfl⟩⟩)⟩)⟩) hs21 ?_
            refine aw_astore X dX0_mark_100 (by decide) [(5, .inr (.inr (some (sn y5.2 + 2)))), (4, .inr (.inr x8)), (3, .inl y5.1), (0, .inr (.inr (some this))), (1, .inl v1), (2, .inl v2)] rfl ?_
            refine aw_aload_n X dX0_mark_102 3 0 rfl rfl ?_
            refine aw_iconst X (3 : Int32) dX0_mark_103 (by decide) ?_
            obtain ⟨y22, hy22, h⟩ := bind_some h
            refine aw_cV X (st := []) hy22 [.inl (3 : Int32)] rfl rfl ml_X0_103 (fun o h => AX0_met (Cx.ok X) φ (d + 2) _ _ _ _ h) dX0_mark_104 (Nat.le_of_ble_eq_true rfl) ?_
            cases h
            exact aw_iret X dX0_mark_107
          · rw [if_pos rfl] at h
            refine aw_castY X ck_X0_198 dX0_mark_84 hb20 ?_
            obtain ⟨x23, hx23, h⟩ := bind_some h
            refine aw_gfIN X fl_X0_219 dX0_mark_87 hx23 ?_
            cases h
            exact aw_iret X dX0_mark_90
        rw [if_neg c19] at h
        refine aw_tabOut X 91 dX0_mark_39 (by have := lv_neT c9 (a := 1) rfl; have := lv_neT c14 (a := 2) rfl; have := lv_neT c19 (a := 3) rfl; omega) rfl ?_
        refine aw_aload X dX0_mark_91 0 rfl ?_
        obtain ⟨b24, hb24, h⟩ := bind_some h
        cases b24
        · rw [if_neg Bool.false_ne_true] at h
          obtain ⟨s25, hs25, h⟩ := bind_some h
          refine aw_castN X XH ck_X0_207 dX0_mark_93 hb24 (Nat.le_of_ble_eq_true rfl) (Or.inl ⟨rfl, (Or.inl ⟨rfl, (Or.inl ⟨rfl, (Or.inr ⟨rfl, by decide, "java/lang/ClassCastException", q600, Or.inl ⟨q612, rfl⟩⟩)⟩)⟩)⟩) hs25 ?_
          refine aw_astore X dX0_mark_100 (by decide) [(5, .inr (.inr (some (sn y5.2 + 2)))), (4, .inr (.inr x8)), (3, .inl y5.1), (0, .inr (.inr (some this))), (1, .inl v1), (2, .inl v2)] rfl ?_
          refine aw_aload_n X dX0_mark_102 3 0 rfl rfl ?_
          refine aw_iconst X (3 : Int32) dX0_mark_103 (by decide) ?_
          obtain ⟨y26, hy26, h⟩ := bind_some h
          refine aw_cV X (st := []) hy26 [.inl (3 : Int32)] rfl rfl ml_X0_103 (fun o h => AX0_met (Cx.ok X) φ (d + 2) _ _ _ _ h) dX0_mark_104 (Nat.le_of_ble_eq_true rfl) ?_
          cases h
          exact aw_iret X dX0_mark_107
        · rw [if_pos rfl] at h
          refine aw_castY X ck_X0_207 dX0_mark_93 hb24 ?_
          obtain ⟨x27, hx27, h⟩ := bind_some h
          refine aw_gfIN X fl_X0_222 dX0_mark_96 hx27 ?_
          cases h
          exact aw_iret X dX0_mark_99
      · rw [if_neg c6] at h
        refine aw_iload_n X dX0_mark_28 0 3 rfl rfl ?_
        cases h
        exact aw_iret X dX0_mark_29
    · rw [if_pos c4] at h
      refine aw_iconst X (-1 : Int32) dX0_mark_16 (by decide) ?_
      cases h
      exact aw_iret X dX0_mark_17
theorem AX0_mark {E : AE} {l : Launch} (hE : EOK E l) (φ d : Nat) (this : Nat) (v1 : Int32) (v2 : Int32) (σ : St) (y : Int32 × St) (h : fX0_mark φ this v1 v2 σ = some y) : AMet E l yX0_mark (wsW_ yX0_mark cX0_mark 6 (some .int) [(38, 72, 100, 225), (73, 81, 100, 225), (82, 90, 100, 225), (91, 99, 100, 225)]) (d + 3) [.inr (.inr (some this)), .inl v1, .inl v2] σ (some (.inl y.1)) y.2 := by
  refine amet_ofW hE (by decide +kernel) (Nat.le_of_ble_eq_true rfl) fun C e1 e2 X XI XH => ?_
  subst e1
  exact wX0_mark X XH φ this v1 v2 σ y h
theorem wX0_waysOf_l43 {C : CT} {d : Nat} {Z : State → Prop} (X : Cx C cX0_waysOf RX0 (some .long) 9 d) (φ : Nat) (v1 : Option Nat) (v2 : Int32) (v3 : Option Nat) (v4 : Option Nat) (v5 : Int32) (v6 : Int32) (v7 : Int32) (v8 : Int32) (σ : St) (y : (Int32 × St) ⊕ (St)) (h : fX0_waysOf_l43 φ v1 v2 v3 v4 v5 v6 v7 v8 σ = some y) (kH : ∀ s : Int32 × St, y = .inl s → AW C 43 [(1, .inr (.inr v1)), (2, .inl v2), (3, .inr (.inr v3)), (4, .inr (.inr v4)), (5, .inl v5), (6, .inl v6), (7, .inl v7), (8, .inl s.1)] [] s.2 Z) (kE0 : ∀ e : St, y = .inr e → AW C 80 [(1, .inr (.inr v1)), (2, .inl v2), (3, .inr (.inr v3)), (4, .inr (.inr v4)), (5, .inl v5), (6, .inl v6)] [] e Z) : AW C 43 [(1, .inr (.inr v1)), (2, .inl v2), (3, .inr (.inr v3)), (4, .inr (.inr v4)), (5, .inl v5), (6, .inl v6), (7, .inl v7), (8, .inl v8)] [] σ Z := by
  unfold fX0_waysOf_l43 at h
  refine aw_iload X dX0_waysOf_43 7 rfl ?_
  refine aw_if_lt X 80 dX0_waysOf_45 rfl (fun c7 => ?_) (fun c7 => ?_)
  · rw [if_pos c7] at h
    cases h
    refine aw_sub [(1, .inr (.inr v1)), (2, .inl v2), (3, .inr (.inr v3)), (4, .inr (.inr v4)), (5, .inl v5), (6, .inl v6)] [0, 1, 2, 3, 4, 5] rfl ?_
    exact kE0 σ rfl
  · rw [if_neg c7] at h
    refine aw_aload_n X dX0_waysOf_48 2 3 rfl rfl ?_
    refine aw_iload X dX0_waysOf_49 7 rfl ?_
    refine aw_iconst X (1 : Int32) dX0_waysOf_51 (by decide) ?_
    refine aw_iadd X dX0_waysOf_52 ?_
    refine aw_dup2 X dX0_waysOf_53 rfl rfl ?_
    obtain ⟨x8, hx8, h⟩ := bind_some h
    refine aw_lald X dX0_waysOf_54 hx8 ?_
    refine aw_aload_n X dX0_waysOf_55 0 1 rfl rfl ?_
    refine aw_iload X dX0_waysOf_56 7 rfl ?_
    obtain ⟨x9, hx9, h⟩ := bind_some h
    refine aw_bald X dX0_waysOf_58 hx9 ?_
    refine aw_iload X dX0_waysOf_59 6 rfl ?_
    refine aw_icmp_ne X 71 dX0_waysOf_61 rfl (fun c10 => ?_) (fun c10 => ?_)
    · rw [if_neg c10] at h
      refine aw_lconst X (0 : Int64) dX0_waysOf_71 rfl ?_
      refine aw_ladd X dX0_waysOf_72 ?_
      obtain ⟨s11, hs11, h⟩ := bind_some h
      refine aw_last X dX0_waysOf_73 hs11 ?_
      refine aw_iinc X dX0_waysOf_74 7 rfl (-1 : Int32) rfl (by decide) [(8, .inl (v8 + (-1 : Int32))), (1, .inr (.inr v1)), (2, .inl v2), (3, .inr (.inr v3)), (4, .inr (.inr v4)), (5, .inl v5), (6, .inl v6), (7, .inl v7)] rfl ?_
      refine aw_goto X 43 dX0_waysOf_77 rfl ?_
      cases h
      refine aw_sub [(1, .inr (.inr v1)), (2, .inl v2), (3, .inr (.inr v3)), (4, .inr (.inr v4)), (5, .inl v5), (6, .inl v6), (7, .inl v7), (8, .inl (v8 + (-1 : Int32)))] [1, 2, 3, 4, 5, 6, 7, 0] rfl ?_
      exact kH ((v8 + (-1 : Int32)), s11) rfl
    · rw [if_pos c10] at h
      refine aw_aload_n X dX0_waysOf_64 2 3 rfl rfl ?_
      refine aw_iload X dX0_waysOf_65 7 rfl ?_
      obtain ⟨x12, hx12, h⟩ := bind_some h
      refine aw_lald X dX0_waysOf_67 hx12 ?_
      refine aw_goto X 72 dX0_waysOf_68 rfl ?_
      refine aw_ladd X dX0_waysOf_72 ?_
      obtain ⟨s13, hs13, h⟩ := bind_some h
      refine aw_last X dX0_waysOf_73 hs13 ?_
      refine aw_iinc X dX0_waysOf_74 7 rfl (-1 : Int32) rfl (by decide) [(8, .inl (v8 + (-1 : Int32))), (1, .inr (.inr v1)), (2, .inl v2), (3, .inr (.inr v3)), (4, .inr (.inr v4)), (5, .inl v5), (6, .inl v6), (7, .inl v7)] rfl ?_
      refine aw_goto X 43 dX0_waysOf_77 rfl ?_
      cases h
      refine aw_sub [(1, .inr (.inr v1)), (2, .inl v2), (3, .inr (.inr v3)), (4, .inr (.inr v4)), (5, .inl v5), (6, .inl v6), (7, .inl v7), (8, .inl (v8 + (-1 : Int32)))] [1, 2, 3, 4, 5, 6, 7, 0] rfl ?_
      exact kH ((v8 + (-1 : Int32)), s13) rfl
theorem wX0_waysOf_l24 {C : CT} {d : Nat} {Z : State → Prop} (X : Cx C cX0_waysOf RX0 (some .long) 9 d) (φ : Nat) (v1 : Option Nat) (v2 : Int32) (v3 : Option Nat) (v4 : Option Nat) (v5 : Int32) (v6 : Int32) (σ : St) (y : (Int32 × St) ⊕ (St)) (h : fX0_waysOf_l24 φ v1 v2 v3 v4 v5 v6 σ = some y) (kH : ∀ s : Int32 × St, y = .inl s → AW C 24 [(1, .inr (.inr v1)), (2, .inl v2), (3, .inr (.inr v3)), (4, .inr (.inr v4)), (5, .inl v5), (6, .inl s.1)] [] s.2 Z) (kE0 : ∀ e : St, y = .inr e → AW C 86 [(2, .inl v2), (3, .inr (.inr v3))] [] e Z) : AW C 24 [(1, .inr (.inr v1)), (2, .inl v2), (3, .inr (.inr v3)), (4, .inr (.inr v4)), (5, .inl v5), (6, .inl v6)] [] σ Z := by
  unfold fX0_waysOf_l24 at h
  refine aw_iload X dX0_waysOf_24 5 rfl ?_
  refine aw_iload X dX0_waysOf_26 4 rfl ?_
  refine aw_icmp_ge X 86 dX0_waysOf_28 rfl (fun c5 => ?_) (fun c5 => ?_)
  · rw [if_pos c5] at h
    cases h
    refine aw_sub [(2, .inl v2), (3, .inr (.inr v3))] [1, 2] rfl ?_
    exact kE0 σ rfl
  · rw [if_neg c5] at h
    refine aw_aload X dX0_waysOf_31 3 rfl ?_
    refine aw_iload X dX0_waysOf_33 5 rfl ?_
    obtain ⟨x6, hx6, h⟩ := bind_some h
    refine aw_bald X dX0_waysOf_35 hx6 ?_
    refine aw_istore X dX0_waysOf_36 (by decide) [(7, .inl x6), (1, .inr (.inr v1)), (2, .inl v2), (3, .inr (.inr v3)), (4, .inr (.inr v4)), (5, .inl v5), (6, .inl v6)] rfl ?_
    refine aw_iload_n X dX0_waysOf_38 2 2 rfl rfl ?_
    refine aw_iconst X (1 : Int32) dX0_waysOf_39 (by decide) ?_
    refine aw_isub X dX0_waysOf_40 ?_
    refine aw_istore X dX0_waysOf_41 (by decide) [(8, .inl (v2 - (1 : Int32))), (7, .inl x6), (1, .inr (.inr v1)), (2, .inl v2), (3, .inr (.inr v3)), (4, .inr (.inr v4)), (5, .inl v5), (6, .inl v6)] rfl ?_
    obtain ⟨e14, h15, h⟩ := bind_some h
    refine aw_sub [(1, .inr (.inr v1)), (2, .inl v2), (3, .inr (.inr v3)), (4, .inr (.inr v4)), (5, .inl v5), (6, .inl v6), (7, .inl x6), (8, .inl (v2 - (1 : Int32)))] [2, 3, 4, 5, 6, 7, 1, 0] rfl ?_
    refine aw_it (fun s => AW C 43 [(1, .inr (.inr v1)), (2, .inl v2), (3, .inr (.inr v3)), (4, .inr (.inr v4)), (5, .inl v5), (6, .inl v6), (7, .inl x6), (8, .inl s.1)] [] s.2 Z) (fun e => AW C 80 [(1, .inr (.inr v1)), (2, .inl v2), (3, .inr (.inr v3)), (4, .inr (.inr v4)), (5, .inl v5), (6, .inl v6)] [] e Z) (fun s r hr kH kE => wX0_waysOf_l43 X φ v1 v2 v3 v4 v5 v6 x6 s.1 s.2 r hr kH kE) φ _ e14 h15 ?_
    refine aw_iinc X dX0_waysOf_80 5 rfl (1 : Int32) rfl (by decide) [(6, .inl (v6 + (1 : Int32))), (1, .inr (.inr v1)), (2, .inl v2), (3, .inr (.inr v3)), (4, .inr (.inr v4)), (5, .inl v5)] rfl ?_
    refine aw_goto X 24 dX0_waysOf_83 rfl ?_
    cases h
    refine aw_sub [(1, .inr (.inr v1)), (2, .inl v2), (3, .inr (.inr v3)), (4, .inr (.inr v4)), (5, .inl v5), (6, .inl (v6 + (1 : Int32)))] [1, 2, 3, 4, 5, 0] rfl ?_
    exact kH ((v6 + (1 : Int32)), e14) rfl
theorem wX0_waysOf {C : CT} {d : Nat} (X : Cx C cX0_waysOf RX0 (some .long) 9 d) (φ : Nat) (v0 : Option Nat) (v1 : Option Nat) (σ : St) (y : Int64 × St) (h : fX0_waysOf φ v0 v1 σ = some y) : AW C 0 [(0, .inr (.inr v0)), (1, .inr (.inr v1))] [] σ (AQ C (some (.inr (.inl y.1))) y.2) := by
  unfold fX0_waysOf at h
  refine aw_aload_n X dX0_waysOf_0 1 1 rfl rfl ?_
  obtain ⟨x1, hx1, h⟩ := bind_some h
  refine aw_alen X dX0_waysOf_1 hx1 ?_
  refine aw_istore_n X dX0_waysOf_2 2 rfl (by decide) [(2, .inl x1), (0, .inr (.inr v0)), (1, .inr (.inr v1))] rfl ?_
  refine aw_iload_n X dX0_waysOf_3 0 2 rfl rfl ?_
  refine aw_iconst X (1 : Int32) dX0_waysOf_4 (by decide) ?_
  refine aw_iadd X dX0_waysOf_5 ?_
  obtain ⟨n2, hn2, h⟩ := bind_some h
  refine aw_newa X (kd := 3) dX0_waysOf_6 rfl (by decide) (by decide) q217 (r := n2.1) (σ' := n2.2) hn2 ?_
  refine aw_astore_n X dX0_waysOf_8 3 rfl (by decide) [(3, .inr (.inr n2.1)), (2, .inl x1), (0, .inr (.inr v0)), (1, .inr (.inr v1))] rfl ?_
  refine aw_aload_n X dX0_waysOf_9 0 3 rfl rfl ?_
  refine aw_iconst X (0 : Int32) dX0_waysOf_10 (by decide) ?_
  refine aw_lconst X (1 : Int64) dX0_waysOf_11 rfl ?_
  obtain ⟨s3, hs3, h⟩ := bind_some h
  refine aw_last X dX0_waysOf_12 hs3 ?_
  refine aw_aload_n X dX0_waysOf_13 2 0 rfl rfl ?_
  refine aw_astore X dX0_waysOf_14 (by decide) [(4, .inr (.inr v0)), (3, .inr (.inr n2.1)), (2, .inl x1), (0, .inr (.inr v0)), (1, .inr (.inr v1))] rfl ?_
  refine aw_aload X dX0_waysOf_16 0 rfl ?_
  obtain ⟨x4, hx4, h⟩ := bind_some h
  refine aw_alen X dX0_waysOf_18 hx4 ?_
  refine aw_istore X dX0_waysOf_19 (by decide) [(5, .inl x4), (4, .inr (.inr v0)), (3, .inr (.inr n2.1)), (2, .inl x1), (0, .inr (.inr v0)), (1, .inr (.inr v1))] rfl ?_
  refine aw_iconst X (0 : Int32) dX0_waysOf_21 (by decide) ?_
  refine aw_istore X dX0_waysOf_22 (by decide) [(6, .inl (0 : Int32)), (5, .inl x4), (4, .inr (.inr v0)), (3, .inr (.inr n2.1)), (2, .inl x1), (0, .inr (.inr v0)), (1, .inr (.inr v1))] rfl ?_
  obtain ⟨e16, h17, h⟩ := bind_some h
  refine aw_sub [(1, .inr (.inr v1)), (2, .inl x1), (3, .inr (.inr n2.1)), (4, .inr (.inr v0)), (5, .inl x4), (6, .inl (0 : Int32))] [6, 4, 3, 2, 1, 0] rfl ?_
  refine aw_it (fun s => AW C 24 [(1, .inr (.inr v1)), (2, .inl x1), (3, .inr (.inr n2.1)), (4, .inr (.inr v0)), (5, .inl x4), (6, .inl s.1)] [] s.2 (AQ C (some (.inr (.inl y.1))) y.2)) (fun e => AW C 86 [(2, .inl x1), (3, .inr (.inr n2.1))] [] e (AQ C (some (.inr (.inl y.1))) y.2)) (fun s r hr kH kE => wX0_waysOf_l24 X φ v1 x1 n2.1 v0 x4 s.1 s.2 r hr kH kE) φ _ e16 h17 ?_
  refine aw_aload_n X dX0_waysOf_86 1 3 rfl rfl ?_
  refine aw_iload_n X dX0_waysOf_87 0 2 rfl rfl ?_
  obtain ⟨x18, hx18, h⟩ := bind_some h
  refine aw_lald X dX0_waysOf_88 hx18 ?_
  cases h
  exact aw_lret X dX0_waysOf_89
theorem AX0_waysOf {E : AE} {l : Launch} (hE : EOK E l) (φ d : Nat) (v0 : Option Nat) (v1 : Option Nat) (σ : St) (y : Int64 × St) (h : fX0_waysOf φ v0 v1 σ = some y) : AMet E l yX0_waysOf (ws_ yX0_waysOf cX0_waysOf 9 (some .long)) d [.inr (.inr v0), .inr (.inr v1)] σ (some (.inr (.inl y.1))) y.2 := by
  refine amet_of hE (by decide +kernel) (Nat.le_of_ble_eq_true rfl) fun C e1 e2 X XI => ?_
  subst e1
  exact wX0_waysOf X φ v0 v1 σ y h
theorem wX0_tellMany {C : CT} {d : Nat} (X : Cx C cX0_tellMany RX0 (some .int) 4 d) (φ : Nat) (this : Nat) (v1 : Int64) (v3 : Int32) (σ : St) (y : Int32 × St) (h : fX0_tellMany φ this v1 v3 σ = some y) : AW C 0 [(0, .inr (.inr (some this))), (1, .inr (.inl v1)), (3, .inl v3)] [] σ (AQ C (some (.inl y.1)) y.2) := by
  unfold fX0_tellMany at h
  refine aw_aload_n X dX0_tellMany_0 0 0 rfl rfl ?_
  refine aw_lload_n X dX0_tellMany_1 1 1 rfl rfl ?_
  obtain ⟨s1, hs1, h⟩ := bind_some h
  refine aw_pfL X fl_X0_14 dX0_tellMany_2 hs1 ?_
  refine aw_iload_n X dX0_tellMany_5 2 3 rfl rfl ?_
  cases h
  exact aw_iret X dX0_tellMany_6
theorem AX0_tellMany {E : AE} {l : Launch} (hE : EOK E l) (φ d : Nat) (this : Nat) (v1 : Int64) (v3 : Int32) (σ : St) (y : Int32 × St) (h : fX0_tellMany φ this v1 v3 σ = some y) : AMet E l yX0_tellMany (ws_ yX0_tellMany cX0_tellMany 4 (some .int)) d [.inr (.inr (some this)), .inr (.inl v1), .inl v3] σ (some (.inl y.1)) y.2 := by
  refine amet_of hE (by decide +kernel) (Nat.le_of_ble_eq_true rfl) fun C e1 e2 X XI => ?_
  subst e1
  exact wX0_tellMany X φ this v1 v3 σ y h
theorem wX0_ways_b43 {C : CT} {d : Nat} (X : Cx C cX0_ways RX0 (some .int) 6 (d + 3)) (φ : Nat) (k0 : Option Nat) (k1 : Int64) (k2 : Int32) (σ : St) (y : Int32 × St) (h : fX0_ways_b43 φ k0 k1 k2 σ = some y)  : AW C 43 [] [.inl k2, .inr (.inl k1), .inr (.inr k0)] σ (AQ C (some (.inl y.1)) y.2) := by
  unfold fX0_ways_b43 at h
  obtain ⟨y7, hy7, h⟩ := bind_some h
  refine aw_cV X (st := []) hy7 [.inr (.inl k1), .inl k2] rfl rfl ml_X0_231 (fun o h => AX0_tellMany (Cx.ok X) φ (d + 2) _ _ _ _ _ h) dX0_ways_43 (Nat.le_of_ble_eq_true rfl) ?_
  cases h
  exact aw_iret X dX0_ways_46
theorem wX0_ways {C : CT} {d : Nat} (X : Cx C cX0_ways RX0 (some .int) 6 (d + 3)) (φ : Nat) (this : Nat) (v1 : Int32) (v2 : Int32) (σ : St) (y : Int32 × St) (h : fX0_ways φ this v1 v2 σ = some y) : AW C 0 [(0, .inr (.inr (some this))), (1, .inl v1), (2, .inl v2)] [] σ (AQ C (some (.inl y.1)) y.2) := by
  unfold fX0_ways at h
  refine aw_aload_n X dX0_ways_0 0 0 rfl rfl ?_
  refine aw_iload_n X dX0_ways_1 1 1 rfl rfl ?_
  refine aw_iload_n X dX0_ways_2 2 2 rfl rfl ?_
  obtain ⟨y1, hy1, h⟩ := bind_some h
  refine aw_cV X (st := []) hy1 [.inl v1, .inl v2] rfl rfl ml_X0_185 (fun o h => AX0_askedTwo (Cx.ok X) φ d _ _ _ _ _ h) dX0_ways_3 (Nat.le_of_ble_eq_true rfl) ?_
  refine aw_istore_n X dX0_ways_6 3 rfl (by decide) [(3, .inl y1.1), (0, .inr (.inr (some this))), (1, .inl v1), (2, .inl v2)] rfl ?_
  refine aw_iload_n X dX0_ways_7 0 3 rfl rfl ?_
  refine aw_if_ge X 13 dX0_ways_8 rfl (fun c2 => ?_) (fun c2 => ?_)
  · rw [if_pos c2] at h
    refine aw_aload_n X dX0_ways_13 1 0 rfl rfl ?_
    refine aw_iload_n X dX0_ways_14 2 1 rfl rfl ?_
    obtain ⟨y3, hy3, h⟩ := bind_some h
    refine aw_cV X (st := []) hy3 [.inl v1] rfl rfl ml_X0_188 (fun o h => AX0_of (Cx.ok X) φ (d + 2) _ _ _ _ h) dX0_ways_15 (Nat.le_of_ble_eq_true rfl) ?_
    refine aw_aload_n X dX0_ways_18 1 0 rfl rfl ?_
    refine aw_iload_n X dX0_ways_19 3 2 rfl rfl ?_
    obtain ⟨y4, hy4, h⟩ := bind_some h
    refine aw_cV X (st := [.inr (.inr y3)]) hy4 [.inl v2] rfl rfl ml_X0_188 (fun o h => AX0_of (Cx.ok X) φ (d + 2) _ _ _ _ h) dX0_ways_20 (Nat.le_of_ble_eq_true rfl) ?_
    obtain ⟨y5, hy5, h⟩ := bind_some h
    refine aw_callS X (st := []) [.inr (.inr y3), .inr (.inr y4)] rfl ml_X0_227 (AX0_waysOf (Cx.ok X) φ (d + 2) _ _ _ _  hy5) dX0_ways_23 (Nat.le_of_ble_eq_true rfl) ?_
    refine aw_lstore X dX0_ways_26 (by decide) [(4, .inr (.inl y5.1)), (3, .inl y1.1), (0, .inr (.inr (some this))), (1, .inl v1), (2, .inl v2)] rfl ?_
    refine aw_aload_n X dX0_ways_28 2 0 rfl rfl ?_
    refine aw_lload X dX0_ways_29 0 rfl ?_
    refine aw_lload X dX0_ways_31 0 rfl ?_
    refine aw_lconst X (0 : Int64) dX0_ways_33 rfl ?_
    refine aw_lcmp_le X 42 dX0_ways_34 dX0_ways_35 rfl (fun c6 => ?_) (fun c6 => ?_)
    · rw [if_pos c6] at h
      refine aw_iconst X (0 : Int32) dX0_ways_42 (by decide) ?_
      refine aw_sub [] [] rfl ?_
      exact wX0_ways_b43 X φ (some this) y5.1 (0 : Int32) y5.2 y h
    · rw [if_neg c6] at h
      refine aw_iconst X (1 : Int32) dX0_ways_38 (by decide) ?_
      refine aw_goto X 43 dX0_ways_39 rfl ?_
      refine aw_sub [] [] rfl ?_
      exact wX0_ways_b43 X φ (some this) y5.1 (1 : Int32) y5.2 y h
  · rw [if_neg c2] at h
    refine aw_iload_n X dX0_ways_11 0 3 rfl rfl ?_
    cases h
    exact aw_iret X dX0_ways_12
theorem AX0_ways {E : AE} {l : Launch} (hE : EOK E l) (φ d : Nat) (this : Nat) (v1 : Int32) (v2 : Int32) (σ : St) (y : Int32 × St) (h : fX0_ways φ this v1 v2 σ = some y) : AMet E l yX0_ways (ws_ yX0_ways cX0_ways 6 (some .int)) (d + 3) [.inr (.inr (some this)), .inl v1, .inl v2] σ (some (.inl y.1)) y.2 := by
  refine amet_of hE (by decide +kernel) (Nat.le_of_ble_eq_true rfl) fun C e1 e2 X XI => ?_
  subst e1
  exact wX0_ways X φ this v1 v2 σ y h
theorem wX0_setWays_l5 {C : CT} {d : Nat} {Z : State → Prop} (X : Cx C cX0_setWays RX0 (some .boolean) 5 d) (φ : Nat) (this : Nat) (v1 : Option Nat) (v2 : Option Nat) (v3 : Int32) (v4 : Int32) (σ : St) (y : (Int32 × Int32 × St) ⊕ (Int32 × St)) (h : fX0_setWays_l5 φ this v1 v2 v3 v4 σ = some y) (kH : ∀ s : Int32 × Int32 × St, y = .inl s → AW C 5 [(0, .inr (.inr (some this))), (1, .inr (.inr v1)), (2, .inr (.inr v2)), (3, .inl s.1), (4, .inl s.2.1)] [] s.2.2 Z) (kE0 : ∀ e : Int32 × St, y = .inr e → AW C 45 [(0, .inr (.inr (some this))), (1, .inr (.inr v1)), (2, .inr (.inr v2)), (3, .inl e.1)] [] e.2 Z) : AW C 5 [(0, .inr (.inr (some this))), (1, .inr (.inr v1)), (2, .inr (.inr v2)), (3, .inl v3), (4, .inl v4)] [] σ Z := by
  unfold fX0_setWays_l5 at h
  refine aw_iload X dX0_setWays_5 4 rfl ?_
  refine aw_aload_n X dX0_setWays_7 1 1 rfl rfl ?_
  obtain ⟨x1, hx1, h⟩ := bind_some h
  refine aw_alen X dX0_setWays_8 hx1 ?_
  refine aw_icmp_ge X 45 dX0_setWays_9 rfl (fun c2 => ?_) (fun c2 => ?_)
  · rw [if_pos c2] at h
    cases h
    refine aw_sub [(0, .inr (.inr (some this))), (1, .inr (.inr v1)), (2, .inr (.inr v2)), (3, .inl v3)] [0, 1, 2, 3] rfl ?_
    exact kE0 (v3, σ) rfl
  · rw [if_neg c2] at h
    refine aw_iload_n X dX0_setWays_12 3 3 rfl rfl ?_
    refine aw_aload_n X dX0_setWays_13 2 2 rfl rfl ?_
    obtain ⟨x3, hx3, h⟩ := bind_some h
    refine aw_alen X dX0_setWays_14 hx3 ?_
    refine aw_icmp_ge X 45 dX0_setWays_15 rfl (fun c4 => ?_) (fun c4 => ?_)
    · rw [if_pos c4] at h
      cases h
      refine aw_sub [(0, .inr (.inr (some this))), (1, .inr (.inr v1)), (2, .inr (.inr v2)), (3, .inl v3)] [0, 1, 2, 3] rfl ?_
      exact kE0 (v3, σ) rfl
    · rw [if_neg c4] at h
      refine aw_aload_n X dX0_setWays_18 1 1 rfl rfl ?_
      refine aw_iload X dX0_setWays_19 4 rfl ?_
      obtain ⟨x5, hx5, h⟩ := bind_some h
      refine aw_bald X dX0_setWays_21 hx5 ?_
      refine aw_aload_n X dX0_setWays_22 2 2 rfl rfl ?_
      refine aw_iload_n X dX0_setWays_23 3 3 rfl rfl ?_
      obtain ⟨x6, hx6, h⟩ := bind_some h
      refine aw_bald X dX0_setWays_24 hx6 ?_
      refine aw_icmp_ne X 39 dX0_setWays_25 rfl (fun c7 => ?_) (fun c7 => ?_)
      · rw [if_neg c7] at h
        refine aw_iinc X dX0_setWays_39 4 rfl (1 : Int32) rfl (by decide) [(4, .inl (v4 + (1 : Int32))), (0, .inr (.inr (some this))), (1, .inr (.inr v1)), (2, .inr (.inr v2)), (3, .inl v3)] rfl ?_
        refine aw_goto X 5 dX0_setWays_42 rfl ?_
        cases h
        refine aw_sub [(0, .inr (.inr (some this))), (1, .inr (.inr v1)), (2, .inr (.inr v2)), (3, .inl v3), (4, .inl (v4 + (1 : Int32)))] [1, 2, 3, 4, 0] rfl ?_
        exact kH (v3, (v4 + (1 : Int32)), σ) rfl
      · rw [if_pos c7] at h
        refine aw_aload_n X dX0_setWays_28 0 0 rfl rfl ?_
        obtain ⟨x8, hx8, h⟩ := bind_some h
        refine aw_gfR X fl_X0_59 dX0_setWays_29 hx8 ?_
        refine aw_iload_n X dX0_setWays_32 3 3 rfl rfl ?_
        refine aw_iload X dX0_setWays_33 4 rfl ?_
        obtain ⟨s9, hs9, h⟩ := bind_some h
        refine aw_iast X dX0_setWays_35 hs9 ?_
        refine aw_iinc X dX0_setWays_36 3 rfl (1 : Int32) rfl (by decide) [(3, .inl (v3 + (1 : Int32))), (0, .inr (.inr (some this))), (1, .inr (.inr v1)), (2, .inr (.inr v2)), (4, .inl v4)] rfl ?_
        refine aw_iinc X dX0_setWays_39 4 rfl (1 : Int32) rfl (by decide) [(4, .inl (v4 + (1 : Int32))), (3, .inl (v3 + (1 : Int32))), (0, .inr (.inr (some this))), (1, .inr (.inr v1)), (2, .inr (.inr v2))] rfl ?_
        refine aw_goto X 5 dX0_setWays_42 rfl ?_
        cases h
        refine aw_sub [(0, .inr (.inr (some this))), (1, .inr (.inr v1)), (2, .inr (.inr v2)), (3, .inl (v3 + (1 : Int32))), (4, .inl (v4 + (1 : Int32)))] [2, 3, 4, 1, 0] rfl ?_
        exact kH ((v3 + (1 : Int32)), (v4 + (1 : Int32)), s9) rfl
theorem wX0_setWays_l64 {C : CT} {d : Nat} {Z : State → Prop} (X : Cx C cX0_setWays RX0 (some .boolean) 5 d) (φ : Nat) (this : Nat) (v1 : Option Nat) (v2 : Option Nat) (v3 : Int32) (v4 : Int32) (σ : St) (y : (Int32 × Int32 × St) ⊕ (St)) (h : fX0_setWays_l64 φ this v1 v2 v3 v4 σ = some y) (kH : ∀ s : Int32 × Int32 × St, y = .inl s → AW C 64 [(0, .inr (.inr (some this))), (1, .inr (.inr v1)), (2, .inr (.inr v2)), (3, .inl s.1), (4, .inl s.2.1)] [] s.2.2 Z) (kE0 : ∀ e : St, y = .inr e → AW C 100 [] [] e Z) : AW C 64 [(0, .inr (.inr (some this))), (1, .inr (.inr v1)), (2, .inr (.inr v2)), (3, .inl v3), (4, .inl v4)] [] σ Z := by
  unfold fX0_setWays_l64 at h
  refine aw_iload X dX0_setWays_64 4 rfl ?_
  refine aw_if_lt X 100 dX0_setWays_66 rfl (fun c16 => ?_) (fun c16 => ?_)
  · rw [if_pos c16] at h
    cases h
    refine aw_sub [] [] rfl ?_
    exact kE0 σ rfl
  · rw [if_neg c16] at h
    refine aw_iload_n X dX0_setWays_69 3 3 rfl rfl ?_
    refine aw_if_lt X 100 dX0_setWays_70 rfl (fun c17 => ?_) (fun c17 => ?_)
    · rw [if_pos c17] at h
      cases h
      refine aw_sub [] [] rfl ?_
      exact kE0 σ rfl
    · rw [if_neg c17] at h
      refine aw_aload_n X dX0_setWays_73 1 1 rfl rfl ?_
      refine aw_iload X dX0_setWays_74 4 rfl ?_
      obtain ⟨x18, hx18, h⟩ := bind_some h
      refine aw_bald X dX0_setWays_76 hx18 ?_
      refine aw_aload_n X dX0_setWays_77 2 2 rfl rfl ?_
      refine aw_iload_n X dX0_setWays_78 3 3 rfl rfl ?_
      obtain ⟨x19, hx19, h⟩ := bind_some h
      refine aw_bald X dX0_setWays_79 hx19 ?_
      refine aw_icmp_ne X 94 dX0_setWays_80 rfl (fun c20 => ?_) (fun c20 => ?_)
      · rw [if_neg c20] at h
        refine aw_iinc X dX0_setWays_94 4 rfl (-1 : Int32) rfl (by decide) [(4, .inl (v4 + (-1 : Int32))), (0, .inr (.inr (some this))), (1, .inr (.inr v1)), (2, .inr (.inr v2)), (3, .inl v3)] rfl ?_
        refine aw_goto X 64 dX0_setWays_97 rfl ?_
        cases h
        refine aw_sub [(0, .inr (.inr (some this))), (1, .inr (.inr v1)), (2, .inr (.inr v2)), (3, .inl v3), (4, .inl (v4 + (-1 : Int32)))] [1, 2, 3, 4, 0] rfl ?_
        exact kH (v3, (v4 + (-1 : Int32)), σ) rfl
      · rw [if_pos c20] at h
        refine aw_aload_n X dX0_setWays_83 0 0 rfl rfl ?_
        obtain ⟨x21, hx21, h⟩ := bind_some h
        refine aw_gfR X fl_X0_62 dX0_setWays_84 hx21 ?_
        refine aw_iload_n X dX0_setWays_87 3 3 rfl rfl ?_
        refine aw_iload X dX0_setWays_88 4 rfl ?_
        obtain ⟨s22, hs22, h⟩ := bind_some h
        refine aw_iast X dX0_setWays_90 hs22 ?_
        refine aw_iinc X dX0_setWays_91 3 rfl (-1 : Int32) rfl (by decide) [(3, .inl (v3 + (-1 : Int32))), (0, .inr (.inr (some this))), (1, .inr (.inr v1)), (2, .inr (.inr v2)), (4, .inl v4)] rfl ?_
        refine aw_iinc X dX0_setWays_94 4 rfl (-1 : Int32) rfl (by decide) [(4, .inl (v4 + (-1 : Int32))), (3, .inl (v3 + (-1 : Int32))), (0, .inr (.inr (some this))), (1, .inr (.inr v1)), (2, .inr (.inr v2))] rfl ?_
        refine aw_goto X 64 dX0_setWays_97 rfl ?_
        cases h
        refine aw_sub [(0, .inr (.inr (some this))), (1, .inr (.inr v1)), (2, .inr (.inr v2)), (3, .inl (v3 + (-1 : Int32))), (4, .inl (v4 + (-1 : Int32)))] [2, 3, 4, 1, 0] rfl ?_
        exact kH ((v3 + (-1 : Int32)), (v4 + (-1 : Int32)), s22) rfl
theorem wX0_setWays {C : CT} {d : Nat} (X : Cx C cX0_setWays RX0 (some .boolean) 5 d) (φ : Nat) (this : Nat) (v1 : Option Nat) (v2 : Option Nat) (σ : St) (y : Int32 × St) (h : fX0_setWays φ this v1 v2 σ = some y) : AW C 0 [(0, .inr (.inr (some this))), (1, .inr (.inr v1)), (2, .inr (.inr v2))] [] σ (AQ C (some (.inl y.1)) y.2) := by
  unfold fX0_setWays at h
  refine aw_iconst X (0 : Int32) dX0_setWays_0 (by decide) ?_
  refine aw_istore_n X dX0_setWays_1 3 rfl (by decide) [(3, .inl (0 : Int32)), (0, .inr (.inr (some this))), (1, .inr (.inr v1)), (2, .inr (.inr v2))] rfl ?_
  refine aw_iconst X (0 : Int32) dX0_setWays_2 (by decide) ?_
  refine aw_istore X dX0_setWays_3 (by decide) [(4, .inl (0 : Int32)), (3, .inl (0 : Int32)), (0, .inr (.inr (some this))), (1, .inr (.inr v1)), (2, .inr (.inr v2))] rfl ?_
  obtain ⟨e10, h11, h⟩ := bind_some h
  refine aw_sub [(0, .inr (.inr (some this))), (1, .inr (.inr v1)), (2, .inr (.inr v2)), (3, .inl (0 : Int32)), (4, .inl (0 : Int32))] [2, 3, 4, 1, 0] rfl ?_
  refine aw_it (fun s => AW C 5 [(0, .inr (.inr (some this))), (1, .inr (.inr v1)), (2, .inr (.inr v2)), (3, .inl s.1), (4, .inl s.2.1)] [] s.2.2 (AQ C (some (.inl y.1)) y.2)) (fun e => AW C 45 [(0, .inr (.inr (some this))), (1, .inr (.inr v1)), (2, .inr (.inr v2)), (3, .inl e.1)] [] e.2 (AQ C (some (.inl y.1)) y.2)) (fun s r hr kH kE => wX0_setWays_l5 X φ this v1 v2 s.1 s.2.1 s.2.2 r hr kH kE) φ _ e10 h11 ?_
  refine aw_iload_n X dX0_setWays_45 3 3 rfl rfl ?_
  refine aw_aload_n X dX0_setWays_46 2 2 rfl rfl ?_
  obtain ⟨x12, hx12, h⟩ := bind_some h
  refine aw_alen X dX0_setWays_47 hx12 ?_
  refine aw_icmp_ge X 53 dX0_setWays_48 rfl (fun c13 => ?_) (fun c13 => ?_)
  · rw [if_pos c13] at h
    refine aw_aload_n X dX0_setWays_53 2 2 rfl rfl ?_
    obtain ⟨x14, hx14, h⟩ := bind_some h
    refine aw_alen X dX0_setWays_54 hx14 ?_
    refine aw_iconst X (1 : Int32) dX0_setWays_55 (by decide) ?_
    refine aw_isub X dX0_setWays_56 ?_
    refine aw_istore_n X dX0_setWays_57 3 rfl (by decide) [(3, .inl (x14 - (1 : Int32))), (0, .inr (.inr (some this))), (1, .inr (.inr v1)), (2, .inr (.inr v2))] rfl ?_
    refine aw_aload_n X dX0_setWays_58 2 1 rfl rfl ?_
    obtain ⟨x15, hx15, h⟩ := bind_some h
    refine aw_alen X dX0_setWays_59 hx15 ?_
    refine aw_iconst X (1 : Int32) dX0_setWays_60 (by decide) ?_
    refine aw_isub X dX0_setWays_61 ?_
    refine aw_istore X dX0_setWays_62 (by decide) [(4, .inl (x15 - (1 : Int32))), (3, .inl (x14 - (1 : Int32))), (0, .inr (.inr (some this))), (1, .inr (.inr v1)), (2, .inr (.inr v2))] rfl ?_
    obtain ⟨e23, h24, h⟩ := bind_some h
    refine aw_sub [(0, .inr (.inr (some this))), (1, .inr (.inr v1)), (2, .inr (.inr v2)), (3, .inl (x14 - (1 : Int32))), (4, .inl (x15 - (1 : Int32)))] [2, 3, 4, 1, 0] rfl ?_
    refine aw_it (fun s => AW C 64 [(0, .inr (.inr (some this))), (1, .inr (.inr v1)), (2, .inr (.inr v2)), (3, .inl s.1), (4, .inl s.2.1)] [] s.2.2 (AQ C (some (.inl y.1)) y.2)) (fun e => AW C 100 [] [] e (AQ C (some (.inl y.1)) y.2)) (fun s r hr kH kE => wX0_setWays_l64 X φ this v1 v2 s.1 s.2.1 s.2.2 r hr kH kE) φ _ e23 h24 ?_
    refine aw_iconst X (1 : Int32) dX0_setWays_100 (by decide) ?_
    cases h
    exact aw_zret X (Or.inr rfl) dX0_setWays_101
  · rw [if_neg c13] at h
    refine aw_iconst X (0 : Int32) dX0_setWays_51 (by decide) ?_
    cases h
    exact aw_zret X (Or.inl rfl) dX0_setWays_52
theorem AX0_setWays {E : AE} {l : Launch} (hE : EOK E l) (φ d : Nat) (this : Nat) (v1 : Option Nat) (v2 : Option Nat) (σ : St) (y : Int32 × St) (h : fX0_setWays φ this v1 v2 σ = some y) : AMet E l yX0_setWays (ws_ yX0_setWays cX0_setWays 5 (some .boolean)) d [.inr (.inr (some this)), .inr (.inr v1), .inr (.inr v2)] σ (some (.inl y.1)) y.2 := by
  refine amet_of hE (by decide +kernel) (Nat.le_of_ble_eq_true rfl) fun C e1 e2 X XI => ?_
  subst e1
  exact wX0_setWays X φ this v1 v2 σ y h
theorem wX0_come {C : CT} {d : Nat} (X : Cx C cX0_come RX0 none 4 d) (φ : Nat) (this : Nat) (v1 : Int32) (v2 : Option Nat) (v3 : Int32) (σ : St) (y : St) (h : fX0_come φ this v1 v2 v3 σ = some y) : AW C 0 [(0, .inr (.inr (some this))), (1, .inl v1), (2, .inr (.inr v2)), (3, .inl v3)] [] σ (AQ C none y) := by
  unfold fX0_come at h
  refine aw_aload_n X dX0_come_0 0 0 rfl rfl ?_
  obtain ⟨x1, hx1, h⟩ := bind_some h
  refine aw_gfR X fl_X0_34 dX0_come_1 hx1 ?_
  refine aw_iload_n X dX0_come_4 1 1 rfl rfl ?_
  refine aw_iload_n X dX0_come_5 3 3 rfl rfl ?_
  obtain ⟨n2, hn2, h⟩ := bind_some h
  refine aw_newa X (kd := 1) dX0_come_6 rfl (by decide) (by decide) q215 (r := n2.1) (σ' := n2.2) hn2 ?_
  obtain ⟨s3, hs3, h⟩ := bind_some h
  refine aw_aast X (kd := 5) (lo := 1) (hi := 1) dX0_come_8 (by decide) hs3 ?_
  refine aw_aload_n X dX0_come_9 2 2 rfl rfl ?_
  refine aw_iconst X (0 : Int32) dX0_come_10 (by decide) ?_
  refine aw_aload_n X dX0_come_11 0 0 rfl rfl ?_
  obtain ⟨x4, hx4, h⟩ := bind_some h
  refine aw_gfR X fl_X0_34 dX0_come_12 hx4 ?_
  refine aw_iload_n X dX0_come_15 1 1 rfl rfl ?_
  obtain ⟨x5, hx5, h⟩ := bind_some h
  refine aw_aald X (kd := 5) dX0_come_16 (by decide) (by decide) hx5 ?_
  refine aw_iconst X (0 : Int32) dX0_come_17 (by decide) ?_
  refine aw_iload_n X dX0_come_18 3 3 rfl rfl ?_
  obtain ⟨s6, hs6, h⟩ := bind_some h
  refine aw_acopy X q383 dX0_come_19 (Nat.le_of_ble_eq_true rfl) hs6 ?_
  cases h
  exact aw_vret X dX0_come_22
theorem AX0_come {E : AE} {l : Launch} (hE : EOK E l) (φ d : Nat) (this : Nat) (v1 : Int32) (v2 : Option Nat) (v3 : Int32) (σ : St) (y : St) (h : fX0_come φ this v1 v2 v3 σ = some y) : AMet E l yX0_come (ws_ yX0_come cX0_come 4 none) d [.inr (.inr (some this)), .inl v1, .inr (.inr v2), .inl v3] σ none y := by
  refine amet_of hE (by decide +kernel) (Nat.le_of_ble_eq_true rfl) fun C e1 e2 X XI => ?_
  subst e1
  exact wX0_come X φ this v1 v2 v3 σ y h
theorem wX0_way_b63 {C : CT} {d : Nat} (X : Cx C cX0_way RX0 (some .int) 6 (d + 3)) (φ : Nat) (this : Nat) (v2 : Int32) (k0 : Option Nat) (k1 : Int32) (k2 : Option Nat) (σ : St) (y : Int32 × St) (h : fX0_way_b63 φ this v2 k0 k1 k2 σ = some y)  : AW C 63 [(0, .inr (.inr (some this))), (2, .inl v2)] [.inr (.inr k2), .inl k1, .inr (.inr k0)] σ (AQ C (some (.inl y.1)) y.2) := by
  unfold fX0_way_b63 at h
  refine aw_aload_n X dX0_way_63 0 0 rfl rfl ?_
  refine aw_iload_n X dX0_way_64 1 2 rfl rfl ?_
  obtain ⟨y11, hy11, h⟩ := bind_some h
  refine aw_cV X (st := [.inr (.inr k2), .inl k1, .inr (.inr k0)]) hy11 [.inl v2] rfl rfl ml_X0_188 (fun o h => AX0_of (Cx.ok X) φ (d + 2) _ _ _ _ h) dX0_way_65 (Nat.le_of_ble_eq_true rfl) ?_
  obtain ⟨x12, hx12, h⟩ := bind_some h
  refine aw_alen X dX0_way_68 hx12 ?_
  obtain ⟨y13, hy13, h⟩ := bind_some h
  refine aw_cV X (st := []) hy13 [.inl k1, .inr (.inr k2), .inl x12] rfl rfl ml_X0_239 (fun o h => AX0_come (Cx.ok X) φ (d + 2) _ _ _ _ _ _ h) dX0_way_69 (Nat.le_of_ble_eq_true rfl) ?_
  refine aw_aload_n X dX0_way_72 0 0 rfl rfl ?_
  refine aw_iload_n X dX0_way_73 1 2 rfl rfl ?_
  obtain ⟨y14, hy14, h⟩ := bind_some h
  refine aw_cV X (st := []) hy14 [.inl v2] rfl rfl ml_X0_188 (fun o h => AX0_of (Cx.ok X) φ (d + 2) _ _ _ _ h) dX0_way_74 (Nat.le_of_ble_eq_true rfl) ?_
  obtain ⟨x15, hx15, h⟩ := bind_some h
  refine aw_alen X dX0_way_77 hx15 ?_
  cases h
  exact aw_iret X dX0_way_78
theorem wX0_way {C : CT} {d : Nat} (X : Cx C cX0_way RX0 (some .int) 6 (d + 3)) (φ : Nat) (this : Nat) (v1 : Int32) (v2 : Int32) (v3 : Int32) (v4 : Int32) (σ : St) (y : Int32 × St) (h : fX0_way φ this v1 v2 v3 v4 σ = some y) : AW C 0 [(0, .inr (.inr (some this))), (1, .inl v1), (2, .inl v2), (3, .inl v3), (4, .inl v4)] [] σ (AQ C (some (.inl y.1)) y.2) := by
  unfold fX0_way at h
  refine aw_iload_n X dX0_way_0 3 3 rfl rfl ?_
  obtain ⟨y1, hy1, h⟩ := bind_some h
  refine aw_callS X (st := []) [.inl v3] rfl ml_X0_97 (AX0_isRow (Cx.ok X) φ (d + 1) _ _ _  hy1) dX0_way_1 (Nat.le_of_ble_eq_true rfl) ?_
  refine aw_if_ne X 9 dX0_way_4 rfl (fun c2 => ?_) (fun c2 => ?_)
  · rw [if_neg c2] at h
    refine aw_aload_n X dX0_way_9 0 0 rfl rfl ?_
    refine aw_iload_n X dX0_way_10 1 1 rfl rfl ?_
    refine aw_iload_n X dX0_way_11 2 2 rfl rfl ?_
    obtain ⟨y3, hy3, h⟩ := bind_some h
    refine aw_cV X (st := []) hy3 [.inl v1, .inl v2] rfl rfl ml_X0_185 (fun o h => AX0_askedTwo (Cx.ok X) φ d _ _ _ _ _ h) dX0_way_12 (Nat.le_of_ble_eq_true rfl) ?_
    refine aw_istore X dX0_way_15 (by decide) [(5, .inl y3.1), (0, .inr (.inr (some this))), (1, .inl v1), (2, .inl v2), (3, .inl v3), (4, .inl v4)] rfl ?_
    refine aw_iload X dX0_way_17 0 rfl ?_
    refine aw_if_ge X 25 dX0_way_19 rfl (fun c4 => ?_) (fun c4 => ?_)
    · rw [if_pos c4] at h
      refine aw_aload_n X dX0_way_25 1 0 rfl rfl ?_
      refine aw_aload_n X dX0_way_26 1 0 rfl rfl ?_
      refine aw_iload_n X dX0_way_27 2 1 rfl rfl ?_
      obtain ⟨y5, hy5, h⟩ := bind_some h
      refine aw_cV X (st := [.inr (.inr (some this))]) hy5 [.inl v1] rfl rfl ml_X0_188 (fun o h => AX0_of (Cx.ok X) φ (d + 2) _ _ _ _ h) dX0_way_28 (Nat.le_of_ble_eq_true rfl) ?_
      refine aw_aload_n X dX0_way_31 1 0 rfl rfl ?_
      refine aw_iload_n X dX0_way_32 3 2 rfl rfl ?_
      obtain ⟨y6, hy6, h⟩ := bind_some h
      refine aw_cV X (st := [.inr (.inr y5), .inr (.inr (some this))]) hy6 [.inl v2] rfl rfl ml_X0_188 (fun o h => AX0_of (Cx.ok X) φ (d + 2) _ _ _ _ h) dX0_way_33 (Nat.le_of_ble_eq_true rfl) ?_
      obtain ⟨y7, hy7, h⟩ := bind_some h
      refine aw_cV X (st := []) hy7 [.inr (.inr y5), .inr (.inr y6)] rfl rfl ml_X0_235 (fun o h => AX0_setWays (Cx.ok X) φ (d + 2) _ _ _ _ _ h) dX0_way_36 (Nat.le_of_ble_eq_true rfl) ?_
      refine aw_if_ne X 45 dX0_way_39 rfl (fun c8 => ?_) (fun c8 => ?_)
      · rw [if_neg c8] at h
        refine aw_aload_n X dX0_way_45 1 0 rfl rfl ?_
        refine aw_iload_n X dX0_way_46 4 3 rfl rfl ?_
        refine aw_iload X dX0_way_47 5 rfl ?_
        refine aw_if_eq X 59 dX0_way_49 rfl (fun c9 => ?_) (fun c9 => ?_)
        · rw [if_pos c9] at h
          refine aw_aload_n X dX0_way_59 1 0 rfl rfl ?_
          obtain ⟨x10, hx10, h⟩ := bind_some h
          refine aw_gfR X fl_X0_59 dX0_way_60 hx10 ?_
          refine aw_sub [(0, .inr (.inr (some this))), (2, .inl v2)] [1, 3] rfl ?_
          exact wX0_way_b63 X φ this v2 (some this) v3 x10 y7.2 y h
        · rw [if_neg c9] at h
          refine aw_aload_n X dX0_way_52 1 0 rfl rfl ?_
          obtain ⟨x16, hx16, h⟩ := bind_some h
          refine aw_gfR X fl_X0_62 dX0_way_53 hx16 ?_
          refine aw_goto X 63 dX0_way_56 rfl ?_
          refine aw_sub [(0, .inr (.inr (some this))), (2, .inl v2)] [1, 3] rfl ?_
          exact wX0_way_b63 X φ this v2 (some this) v3 x16 y7.2 y h
      · rw [if_pos c8] at h
        refine aw_bipush X (-9 : Int32) dX0_way_42 (by decide) ?_
        cases h
        exact aw_iret X dX0_way_44
    · rw [if_neg c4] at h
      refine aw_iload X dX0_way_22 0 rfl ?_
      cases h
      exact aw_iret X dX0_way_24
  · rw [if_pos c2] at h
    refine aw_iconst X (-1 : Int32) dX0_way_7 (by decide) ?_
    cases h
    exact aw_iret X dX0_way_8
theorem AX0_way {E : AE} {l : Launch} (hE : EOK E l) (φ d : Nat) (this : Nat) (v1 : Int32) (v2 : Int32) (v3 : Int32) (v4 : Int32) (σ : St) (y : Int32 × St) (h : fX0_way φ this v1 v2 v3 v4 σ = some y) : AMet E l yX0_way (ws_ yX0_way cX0_way 6 (some .int)) (d + 3) [.inr (.inr (some this)), .inl v1, .inl v2, .inl v3, .inl v4] σ (some (.inl y.1)) y.2 := by
  refine amet_of hE (by decide +kernel) (Nat.le_of_ble_eq_true rfl) fun C e1 e2 X XI => ?_
  subst e1
  exact wX0_way X φ this v1 v2 v3 v4 σ y h
theorem wJ11_bitCount {C : CT} {d : Nat} (X : Cx C cJ11_bitCount RJ11 (some .int) 2 d) (φ : Nat) (v0 : Int64) (σ : St) (y : Int32) (h : fJ11_bitCount φ v0 σ = some y) : AW C 0 [(0, .inr (.inl v0))] [] σ (AQ C (some (.inl y)) σ) := by
  unfold fJ11_bitCount at h
  refine aw_lload_n X dJ11_bitCount_0 0 0 rfl rfl ?_
  refine aw_lload_n X dJ11_bitCount_1 0 0 rfl rfl ?_
  refine aw_iconst X (1 : Int32) dJ11_bitCount_2 (by decide) ?_
  refine aw_lushr X dJ11_bitCount_3 ?_
  refine aw_ldc2 X q644 dJ11_bitCount_4 ?_
  refine aw_land X dJ11_bitCount_7 ?_
  refine aw_lsub X dJ11_bitCount_8 ?_
  refine aw_lstore_n X dJ11_bitCount_9 0 rfl (by decide) [(0, .inr (.inl (v0 - (((v0.toUInt64 >>> ((1 : Int32).toInt64.toUInt64 &&& Int64.toUInt64 63)).toInt64) &&& (6148914691236517205 : Int64)))))] rfl ?_
  refine aw_lload_n X dJ11_bitCount_10 0 0 rfl rfl ?_
  refine aw_ldc2 X q645 dJ11_bitCount_11 ?_
  refine aw_land X dJ11_bitCount_14 ?_
  refine aw_lload_n X dJ11_bitCount_15 0 0 rfl rfl ?_
  refine aw_iconst X (2 : Int32) dJ11_bitCount_16 (by decide) ?_
  refine aw_lushr X dJ11_bitCount_17 ?_
  refine aw_ldc2 X q645 dJ11_bitCount_18 ?_
  refine aw_land X dJ11_bitCount_21 ?_
  refine aw_ladd X dJ11_bitCount_22 ?_
  refine aw_lstore_n X dJ11_bitCount_23 0 rfl (by decide) [(0, .inr (.inl (((v0 - (((v0.toUInt64 >>> ((1 : Int32).toInt64.toUInt64 &&& Int64.toUInt64 63)).toInt64) &&& (6148914691236517205 : Int64))) &&& (3689348814741910323 : Int64)) + ((((v0 - (((v0.toUInt64 >>> ((1 : Int32).toInt64.toUInt64 &&& Int64.toUInt64 63)).toInt64) &&& (6148914691236517205 : Int64))).toUInt64 >>> ((2 : Int32).toInt64.toUInt64 &&& Int64.toUInt64 63)).toInt64) &&& (3689348814741910323 : Int64)))))] rfl ?_
  refine aw_lload_n X dJ11_bitCount_24 0 0 rfl rfl ?_
  refine aw_lload_n X dJ11_bitCount_25 0 0 rfl rfl ?_
  refine aw_iconst X (4 : Int32) dJ11_bitCount_26 (by decide) ?_
  refine aw_lushr X dJ11_bitCount_27 ?_
  refine aw_ladd X dJ11_bitCount_28 ?_
  refine aw_ldc2 X q646 dJ11_bitCount_29 ?_
  refine aw_land X dJ11_bitCount_32 ?_
  refine aw_lstore_n X dJ11_bitCount_33 0 rfl (by decide) [(0, .inr (.inl (((((v0 - (((v0.toUInt64 >>> ((1 : Int32).toInt64.toUInt64 &&& Int64.toUInt64 63)).toInt64) &&& (6148914691236517205 : Int64))) &&& (3689348814741910323 : Int64)) + ((((v0 - (((v0.toUInt64 >>> ((1 : Int32).toInt64.toUInt64 &&& Int64.toUInt64 63)).toInt64) &&& (6148914691236517205 : Int64))).toUInt64 >>> ((2 : Int32).toInt64.toUInt64 &&& Int64.toUInt64 63)).toInt64) &&& (3689348814741910323 : Int64))) + (((((v0 - (((v0.toUInt64 >>> ((1 : Int32).toInt64.toUInt64 &&& Int64.toUInt64 63)).toInt64) &&& (6148914691236517205 : Int64))) &&& (3689348814741910323 : Int64)) + ((((v0 - (((v0.toUInt64 >>> ((1 : Int32).toInt64.toUInt64 &&& Int64.toUInt64 63)).toInt64) &&& (6148914691236517205 : Int64))).toUInt64 >>> ((2 : Int32).toInt64.toUInt64 &&& Int64.toUInt64 63)).toInt64) &&& (3689348814741910323 : Int64))).toUInt64 >>> ((4 : Int32).toInt64.toUInt64 &&& Int64.toUInt64 63)).toInt64)) &&& (1085102592571150095 : Int64))))] rfl ?_
  refine aw_lload_n X dJ11_bitCount_34 0 0 rfl rfl ?_
  refine aw_lload_n X dJ11_bitCount_35 0 0 rfl rfl ?_
  refine aw_bipush X (8 : Int32) dJ11_bitCount_36 (by decide) ?_
  refine aw_lushr X dJ11_bitCount_38 ?_
  refine aw_ladd X dJ11_bitCount_39 ?_
  refine aw_lstore_n X dJ11_bitCount_40 0 rfl (by decide) [(0, .inr (.inl ((((((v0 - (((v0.toUInt64 >>> ((1 : Int32).toInt64.toUInt64 &&& Int64.toUInt64 63)).toInt64) &&& (6148914691236517205 : Int64))) &&& (3689348814741910323 : Int64)) + ((((v0 - (((v0.toUInt64 >>> ((1 : Int32).toInt64.toUInt64 &&& Int64.toUInt64 63)).toInt64) &&& (6148914691236517205 : Int64))).toUInt64 >>> ((2 : Int32).toInt64.toUInt64 &&& Int64.toUInt64 63)).toInt64) &&& (3689348814741910323 : Int64))) + (((((v0 - (((v0.toUInt64 >>> ((1 : Int32).toInt64.toUInt64 &&& Int64.toUInt64 63)).toInt64) &&& (6148914691236517205 : Int64))) &&& (3689348814741910323 : Int64)) + ((((v0 - (((v0.toUInt64 >>> ((1 : Int32).toInt64.toUInt64 &&& Int64.toUInt64 63)).toInt64) &&& (6148914691236517205 : Int64))).toUInt64 >>> ((2 : Int32).toInt64.toUInt64 &&& Int64.toUInt64 63)).toInt64) &&& (3689348814741910323 : Int64))).toUInt64 >>> ((4 : Int32).toInt64.toUInt64 &&& Int64.toUInt64 63)).toInt64)) &&& (1085102592571150095 : Int64)) + (((((((v0 - (((v0.toUInt64 >>> ((1 : Int32).toInt64.toUInt64 &&& Int64.toUInt64 63)).toInt64) &&& (6148914691236517205 : Int64))) &&& (3689348814741910323 : Int64)) + ((((v0 - (((v0.toUInt64 >>> ((1 : Int32).toInt64.toUInt64 &&& Int64.toUInt64 63)).toInt64) &&& (6148914691236517205 : Int64))).toUInt64 >>> ((2 : Int32).toInt64.toUInt64 &&& Int64.toUInt64 63)).toInt64) &&& (3689348814741910323 : Int64))) + (((((v0 - (((v0.toUInt64 >>> ((1 : Int32).toInt64.toUInt64 &&& Int64.toUInt64 63)).toInt64) &&& (6148914691236517205 : Int64))) &&& (3689348814741910323 : Int64)) + ((((v0 - (((v0.toUInt64 >>> ((1 : Int32).toInt64.toUInt64 &&& Int64.toUInt64 63)).toInt64) &&& (6148914691236517205 : Int64))).toUInt64 >>> ((2 : Int32).toInt64.toUInt64 &&& Int64.toUInt64 63)).toInt64) &&& (3689348814741910323 : Int64))).toUInt64 >>> ((4 : Int32).toInt64.toUInt64 &&& Int64.toUInt64 63)).toInt64)) &&& (1085102592571150095 : Int64)).toUInt64 >>> ((8 : Int32).toInt64.toUInt64 &&& Int64.toUInt64 63)).toInt64))))] rfl ?_
  refine aw_lload_n X dJ11_bitCount_41 0 0 rfl rfl ?_
  refine aw_lload_n X dJ11_bitCount_42 0 0 rfl rfl ?_
  refine aw_bipush X (16 : Int32) dJ11_bitCount_43 (by decide) ?_
  refine aw_lushr X dJ11_bitCount_45 ?_
  refine aw_ladd X dJ11_bitCount_46 ?_
  refine aw_lstore_n X dJ11_bitCount_47 0 rfl (by decide) [(0, .inr (.inl (((((((v0 - (((v0.toUInt64 >>> ((1 : Int32).toInt64.toUInt64 &&& Int64.toUInt64 63)).toInt64) &&& (6148914691236517205 : Int64))) &&& (3689348814741910323 : Int64)) + ((((v0 - (((v0.toUInt64 >>> ((1 : Int32).toInt64.toUInt64 &&& Int64.toUInt64 63)).toInt64) &&& (6148914691236517205 : Int64))).toUInt64 >>> ((2 : Int32).toInt64.toUInt64 &&& Int64.toUInt64 63)).toInt64) &&& (3689348814741910323 : Int64))) + (((((v0 - (((v0.toUInt64 >>> ((1 : Int32).toInt64.toUInt64 &&& Int64.toUInt64 63)).toInt64) &&& (6148914691236517205 : Int64))) &&& (3689348814741910323 : Int64)) + ((((v0 - (((v0.toUInt64 >>> ((1 : Int32).toInt64.toUInt64 &&& Int64.toUInt64 63)).toInt64) &&& (6148914691236517205 : Int64))).toUInt64 >>> ((2 : Int32).toInt64.toUInt64 &&& Int64.toUInt64 63)).toInt64) &&& (3689348814741910323 : Int64))).toUInt64 >>> ((4 : Int32).toInt64.toUInt64 &&& Int64.toUInt64 63)).toInt64)) &&& (1085102592571150095 : Int64)) + (((((((v0 - (((v0.toUInt64 >>> ((1 : Int32).toInt64.toUInt64 &&& Int64.toUInt64 63)).toInt64) &&& (6148914691236517205 : Int64))) &&& (3689348814741910323 : Int64)) + ((((v0 - (((v0.toUInt64 >>> ((1 : Int32).toInt64.toUInt64 &&& Int64.toUInt64 63)).toInt64) &&& (6148914691236517205 : Int64))).toUInt64 >>> ((2 : Int32).toInt64.toUInt64 &&& Int64.toUInt64 63)).toInt64) &&& (3689348814741910323 : Int64))) + (((((v0 - (((v0.toUInt64 >>> ((1 : Int32).toInt64.toUInt64 &&& Int64.toUInt64 63)).toInt64) &&& (6148914691236517205 : Int64))) &&& (3689348814741910323 : Int64)) + ((((v0 - (((v0.toUInt64 >>> ((1 : Int32).toInt64.toUInt64 &&& Int64.toUInt64 63)).toInt64) &&& (6148914691236517205 : Int64))).toUInt64 >>> ((2 : Int32).toInt64.toUInt64 &&& Int64.toUInt64 63)).toInt64) &&& (3689348814741910323 : Int64))).toUInt64 >>> ((4 : Int32).toInt64.toUInt64 &&& Int64.toUInt64 63)).toInt64)) &&& (1085102592571150095 : Int64)).toUInt64 >>> ((8 : Int32).toInt64.toUInt64 &&& Int64.toUInt64 63)).toInt64)) + ((((((((v0 - (((v0.toUInt64 >>> ((1 : Int32).toInt64.toUInt64 &&& Int64.toUInt64 63)).toInt64) &&& (6148914691236517205 : Int64))) &&& (3689348814741910323 : Int64)) + ((((v0 - (((v0.toUInt64 >>> ((1 : Int32).toInt64.toUInt64 &&& Int64.toUInt64 63)).toInt64) &&& (6148914691236517205 : Int64))).toUInt64 >>> ((2 : Int32).toInt64.toUInt64 &&& Int64.toUInt64 63)).toInt64) &&& (3689348814741910323 : Int64))) + (((((v0 - (((v0.toUInt64 >>> ((1 : Int32).toInt64.toUInt64 &&& Int64.toUInt64 63)).toInt64) &&& (6148914691236517205 : Int64))) &&& (3689348814741910323 : Int64)) + ((((v0 - (((v0.toUInt64 >>> ((1 : Int32).toInt64.toUInt64 &&& Int64.toUInt64 63)).toInt64) &&& (6148914691236517205 : Int64))).toUInt64 >>> ((2 : Int32).toInt64.toUInt64 &&& Int64.toUInt64 63)).toInt64) &&& (3689348814741910323 : Int64))).toUInt64 >>> ((4 : Int32).toInt64.toUInt64 &&& Int64.toUInt64 63)).toInt64)) &&& (1085102592571150095 : Int64)) + (((((((v0 - (((v0.toUInt64 >>> ((1 : Int32).toInt64.toUInt64 &&& Int64.toUInt64 63)).toInt64) &&& (6148914691236517205 : Int64))) &&& (3689348814741910323 : Int64)) + ((((v0 - (((v0.toUInt64 >>> ((1 : Int32).toInt64.toUInt64 &&& Int64.toUInt64 63)).toInt64) &&& (6148914691236517205 : Int64))).toUInt64 >>> ((2 : Int32).toInt64.toUInt64 &&& Int64.toUInt64 63)).toInt64) &&& (3689348814741910323 : Int64))) + (((((v0 - (((v0.toUInt64 >>> ((1 : Int32).toInt64.toUInt64 &&& Int64.toUInt64 63)).toInt64) &&& (6148914691236517205 : Int64))) &&& (3689348814741910323 : Int64)) + ((((v0 - (((v0.toUInt64 >>> ((1 : Int32).toInt64.toUInt64 &&& Int64.toUInt64 63)).toInt64) &&& (6148914691236517205 : Int64))).toUInt64 >>> ((2 : Int32).toInt64.toUInt64 &&& Int64.toUInt64 63)).toInt64) &&& (3689348814741910323 : Int64))).toUInt64 >>> ((4 : Int32).toInt64.toUInt64 &&& Int64.toUInt64 63)).toInt64)) &&& (1085102592571150095 : Int64)).toUInt64 >>> ((8 : Int32).toInt64.toUInt64 &&& Int64.toUInt64 63)).toInt64)).toUInt64 >>> ((16 : Int32).toInt64.toUInt64 &&& Int64.toUInt64 63)).toInt64))))] rfl ?_
  refine aw_lload_n X dJ11_bitCount_48 0 0 rfl rfl ?_
  refine aw_lload_n X dJ11_bitCount_49 0 0 rfl rfl ?_
  refine aw_bipush X (32 : Int32) dJ11_bitCount_50 (by decide) ?_
  refine aw_lushr X dJ11_bitCount_52 ?_
  refine aw_ladd X dJ11_bitCount_53 ?_
  refine aw_lstore_n X dJ11_bitCount_54 0 rfl (by decide) [(0, .inr (.inl ((((((((v0 - (((v0.toUInt64 >>> ((1 : Int32).toInt64.toUInt64 &&& Int64.toUInt64 63)).toInt64) &&& (6148914691236517205 : Int64))) &&& (3689348814741910323 : Int64)) + ((((v0 - (((v0.toUInt64 >>> ((1 : Int32).toInt64.toUInt64 &&& Int64.toUInt64 63)).toInt64) &&& (6148914691236517205 : Int64))).toUInt64 >>> ((2 : Int32).toInt64.toUInt64 &&& Int64.toUInt64 63)).toInt64) &&& (3689348814741910323 : Int64))) + (((((v0 - (((v0.toUInt64 >>> ((1 : Int32).toInt64.toUInt64 &&& Int64.toUInt64 63)).toInt64) &&& (6148914691236517205 : Int64))) &&& (3689348814741910323 : Int64)) + ((((v0 - (((v0.toUInt64 >>> ((1 : Int32).toInt64.toUInt64 &&& Int64.toUInt64 63)).toInt64) &&& (6148914691236517205 : Int64))).toUInt64 >>> ((2 : Int32).toInt64.toUInt64 &&& Int64.toUInt64 63)).toInt64) &&& (3689348814741910323 : Int64))).toUInt64 >>> ((4 : Int32).toInt64.toUInt64 &&& Int64.toUInt64 63)).toInt64)) &&& (1085102592571150095 : Int64)) + (((((((v0 - (((v0.toUInt64 >>> ((1 : Int32).toInt64.toUInt64 &&& Int64.toUInt64 63)).toInt64) &&& (6148914691236517205 : Int64))) &&& (3689348814741910323 : Int64)) + ((((v0 - (((v0.toUInt64 >>> ((1 : Int32).toInt64.toUInt64 &&& Int64.toUInt64 63)).toInt64) &&& (6148914691236517205 : Int64))).toUInt64 >>> ((2 : Int32).toInt64.toUInt64 &&& Int64.toUInt64 63)).toInt64) &&& (3689348814741910323 : Int64))) + (((((v0 - (((v0.toUInt64 >>> ((1 : Int32).toInt64.toUInt64 &&& Int64.toUInt64 63)).toInt64) &&& (6148914691236517205 : Int64))) &&& (3689348814741910323 : Int64)) + ((((v0 - (((v0.toUInt64 >>> ((1 : Int32).toInt64.toUInt64 &&& Int64.toUInt64 63)).toInt64) &&& (6148914691236517205 : Int64))).toUInt64 >>> ((2 : Int32).toInt64.toUInt64 &&& Int64.toUInt64 63)).toInt64) &&& (3689348814741910323 : Int64))).toUInt64 >>> ((4 : Int32).toInt64.toUInt64 &&& Int64.toUInt64 63)).toInt64)) &&& (1085102592571150095 : Int64)).toUInt64 >>> ((8 : Int32).toInt64.toUInt64 &&& Int64.toUInt64 63)).toInt64)) + ((((((((v0 - (((v0.toUInt64 >>> ((1 : Int32).toInt64.toUInt64 &&& Int64.toUInt64 63)).toInt64) &&& (6148914691236517205 : Int64))) &&& (3689348814741910323 : Int64)) + ((((v0 - (((v0.toUInt64 >>> ((1 : Int32).toInt64.toUInt64 &&& Int64.toUInt64 63)).toInt64) &&& (6148914691236517205 : Int64))).toUInt64 >>> ((2 : Int32).toInt64.toUInt64 &&& Int64.toUInt64 63)).toInt64) &&& (3689348814741910323 : Int64))) + (((((v0 - (((v0.toUInt64 >>> ((1 : Int32).toInt64.toUInt64 &&& Int64.toUInt64 63)).toInt64) &&& (6148914691236517205 : Int64))) &&& (3689348814741910323 : Int64)) + ((((v0 - (((v0.toUInt64 >>> ((1 : Int32).toInt64.toUInt64 &&& Int64.toUInt64 63)).toInt64) &&& (6148914691236517205 : Int64))).toUInt64 >>> ((2 : Int32).toInt64.toUInt64 &&& Int64.toUInt64 63)).toInt64) &&& (3689348814741910323 : Int64))).toUInt64 >>> ((4 : Int32).toInt64.toUInt64 &&& Int64.toUInt64 63)).toInt64)) &&& (1085102592571150095 : Int64)) + (((((((v0 - (((v0.toUInt64 >>> ((1 : Int32).toInt64.toUInt64 &&& Int64.toUInt64 63)).toInt64) &&& (6148914691236517205 : Int64))) &&& (3689348814741910323 : Int64)) + ((((v0 - (((v0.toUInt64 >>> ((1 : Int32).toInt64.toUInt64 &&& Int64.toUInt64 63)).toInt64) &&& (6148914691236517205 : Int64))).toUInt64 >>> ((2 : Int32).toInt64.toUInt64 &&& Int64.toUInt64 63)).toInt64) &&& (3689348814741910323 : Int64))) + (((((v0 - (((v0.toUInt64 >>> ((1 : Int32).toInt64.toUInt64 &&& Int64.toUInt64 63)).toInt64) &&& (6148914691236517205 : Int64))) &&& (3689348814741910323 : Int64)) + ((((v0 - (((v0.toUInt64 >>> ((1 : Int32).toInt64.toUInt64 &&& Int64.toUInt64 63)).toInt64) &&& (6148914691236517205 : Int64))).toUInt64 >>> ((2 : Int32).toInt64.toUInt64 &&& Int64.toUInt64 63)).toInt64) &&& (3689348814741910323 : Int64))).toUInt64 >>> ((4 : Int32).toInt64.toUInt64 &&& Int64.toUInt64 63)).toInt64)) &&& (1085102592571150095 : Int64)).toUInt64 >>> ((8 : Int32).toInt64.toUInt64 &&& Int64.toUInt64 63)).toInt64)).toUInt64 >>> ((16 : Int32).toInt64.toUInt64 &&& Int64.toUInt64 63)).toInt64)) + (((((((((v0 - (((v0.toUInt64 >>> ((1 : Int32).toInt64.toUInt64 &&& Int64.toUInt64 63)).toInt64) &&& (6148914691236517205 : Int64))) &&& (3689348814741910323 : Int64)) + ((((v0 - (((v0.toUInt64 >>> ((1 : Int32).toInt64.toUInt64 &&& Int64.toUInt64 63)).toInt64) &&& (6148914691236517205 : Int64))).toUInt64 >>> ((2 : Int32).toInt64.toUInt64 &&& Int64.toUInt64 63)).toInt64) &&& (3689348814741910323 : Int64))) + (((((v0 - (((v0.toUInt64 >>> ((1 : Int32).toInt64.toUInt64 &&& Int64.toUInt64 63)).toInt64) &&& (6148914691236517205 : Int64))) &&& (3689348814741910323 : Int64)) + ((((v0 - (((v0.toUInt64 >>> ((1 : Int32).toInt64.toUInt64 &&& Int64.toUInt64 63)).toInt64) &&& (6148914691236517205 : Int64))).toUInt64 >>> ((2 : Int32).toInt64.toUInt64 &&& Int64.toUInt64 63)).toInt64) &&& (3689348814741910323 : Int64))).toUInt64 >>> ((4 : Int32).toInt64.toUInt64 &&& Int64.toUInt64 63)).toInt64)) &&& (1085102592571150095 : Int64)) + (((((((v0 - (((v0.toUInt64 >>> ((1 : Int32).toInt64.toUInt64 &&& Int64.toUInt64 63)).toInt64) &&& (6148914691236517205 : Int64))) &&& (3689348814741910323 : Int64)) + ((((v0 - (((v0.toUInt64 >>> ((1 : Int32).toInt64.toUInt64 &&& Int64.toUInt64 63)).toInt64) &&& (6148914691236517205 : Int64))).toUInt64 >>> ((2 : Int32).toInt64.toUInt64 &&& Int64.toUInt64 63)).toInt64) &&& (3689348814741910323 : Int64))) + (((((v0 - (((v0.toUInt64 >>> ((1 : Int32).toInt64.toUInt64 &&& Int64.toUInt64 63)).toInt64) &&& (6148914691236517205 : Int64))) &&& (3689348814741910323 : Int64)) + ((((v0 - (((v0.toUInt64 >>> ((1 : Int32).toInt64.toUInt64 &&& Int64.toUInt64 63)).toInt64) &&& (6148914691236517205 : Int64))).toUInt64 >>> ((2 : Int32).toInt64.toUInt64 &&& Int64.toUInt64 63)).toInt64) &&& (3689348814741910323 : Int64))).toUInt64 >>> ((4 : Int32).toInt64.toUInt64 &&& Int64.toUInt64 63)).toInt64)) &&& (1085102592571150095 : Int64)).toUInt64 >>> ((8 : Int32).toInt64.toUInt64 &&& Int64.toUInt64 63)).toInt64)) + ((((((((v0 - (((v0.toUInt64 >>> ((1 : Int32).toInt64.toUInt64 &&& Int64.toUInt64 63)).toInt64) &&& (6148914691236517205 : Int64))) &&& (3689348814741910323 : Int64)) + ((((v0 - (((v0.toUInt64 >>> ((1 : Int32).toInt64.toUInt64 &&& Int64.toUInt64 63)).toInt64) &&& (6148914691236517205 : Int64))).toUInt64 >>> ((2 : Int32).toInt64.toUInt64 &&& Int64.toUInt64 63)).toInt64) &&& (3689348814741910323 : Int64))) + (((((v0 - (((v0.toUInt64 >>> ((1 : Int32).toInt64.toUInt64 &&& Int64.toUInt64 63)).toInt64) &&& (6148914691236517205 : Int64))) &&& (3689348814741910323 : Int64)) + ((((v0 - (((v0.toUInt64 >>> ((1 : Int32).toInt64.toUInt64 &&& Int64.toUInt64 63)).toInt64) &&& (6148914691236517205 : Int64))).toUInt64 >>> ((2 : Int32).toInt64.toUInt64 &&& Int64.toUInt64 63)).toInt64) &&& (3689348814741910323 : Int64))).toUInt64 >>> ((4 : Int32).toInt64.toUInt64 &&& Int64.toUInt64 63)).toInt64)) &&& (1085102592571150095 : Int64)) + (((((((v0 - (((v0.toUInt64 >>> ((1 : Int32).toInt64.toUInt64 &&& Int64.toUInt64 63)).toInt64) &&& (6148914691236517205 : Int64))) &&& (3689348814741910323 : Int64)) + ((((v0 - (((v0.toUInt64 >>> ((1 : Int32).toInt64.toUInt64 &&& Int64.toUInt64 63)).toInt64) &&& (6148914691236517205 : Int64))).toUInt64 >>> ((2 : Int32).toInt64.toUInt64 &&& Int64.toUInt64 63)).toInt64) &&& (3689348814741910323 : Int64))) + (((((v0 - (((v0.toUInt64 >>> ((1 : Int32).toInt64.toUInt64 &&& Int64.toUInt64 63)).toInt64) &&& (6148914691236517205 : Int64))) &&& (3689348814741910323 : Int64)) + ((((v0 - (((v0.toUInt64 >>> ((1 : Int32).toInt64.toUInt64 &&& Int64.toUInt64 63)).toInt64) &&& (6148914691236517205 : Int64))).toUInt64 >>> ((2 : Int32).toInt64.toUInt64 &&& Int64.toUInt64 63)).toInt64) &&& (3689348814741910323 : Int64))).toUInt64 >>> ((4 : Int32).toInt64.toUInt64 &&& Int64.toUInt64 63)).toInt64)) &&& (1085102592571150095 : Int64)).toUInt64 >>> ((8 : Int32).toInt64.toUInt64 &&& Int64.toUInt64 63)).toInt64)).toUInt64 >>> ((16 : Int32).toInt64.toUInt64 &&& Int64.toUInt64 63)).toInt64)).toUInt64 >>> ((32 : Int32).toInt64.toUInt64 &&& Int64.toUInt64 63)).toInt64))))] rfl ?_
  refine aw_lload_n X dJ11_bitCount_55 0 0 rfl rfl ?_
  refine aw_l2i X dJ11_bitCount_56 ?_
  refine aw_bipush X (127 : Int32) dJ11_bitCount_57 (by decide) ?_
  refine aw_iand X dJ11_bitCount_59 ?_
  cases h
  exact aw_iret X dJ11_bitCount_60
theorem AJ11_bitCount {E : AE} {l : Launch} (hE : EOK E l) (φ d : Nat) (v0 : Int64) (σ : St) (y : Int32) (h : fJ11_bitCount φ v0 σ = some y) : AMet E l yJ11_bitCount (ws_ yJ11_bitCount cJ11_bitCount 2 (some .int)) d [.inr (.inl v0)] σ (some (.inl y)) σ := by
  refine amet_of hE (by decide +kernel) (Nat.le_of_ble_eq_true rfl) fun C e1 e2 X XI => ?_
  subst e1
  exact wJ11_bitCount X φ v0 σ y h
