/-! walks (written by gen2.py): X0_places X0_judge X0_bar X0_setCounts X0_inner X0_rank X0_from X0_byRank X0_setArches X0_arches X0_absent J12_bitCount X0_added X0_alike X0_parting X0_askedSome X0_placeIn X0_allGo X0_common X0_someGo X0_cover X0_both X0_power X0_spell X0_few -/
set_option maxRecDepth 100000
theorem wX0_places_b128 {C : CT} {d : Nat} {Z : State → Prop} (X : Cx C cX0_places RX0 (some .int) 10 (d + 3)) (φ : Nat) (this : Nat) (v1 : Int32) (v2 : Int32) (v3 : Int32) (v7 : Int32) (v8 : Int32) (k0 : Int64) (σ : St) (y : (Int64 × Int32) ⊕ (Int64)) (h : fX0_places_b128 φ this v1 v2 v3 v7 v8 k0 σ = some y) (kH : ∀ s : Int64 × Int32, y = .inl s → AW C 62 [(0, .inr (.inr (some this))), (1, .inl v1), (2, .inl v2), (3, .inl v3), (5, .inr (.inl s.1)), (7, .inl v7), (8, .inl s.2)] [] σ Z) (kE0 : ∀ e : Int64, y = .inr e → AW C 145 [(0, .inr (.inr (some this))), (1, .inl v1), (2, .inl v2), (3, .inl v3), (5, .inr (.inl e)), (7, .inl v7)] [] σ Z) : AW C 128 [(0, .inr (.inr (some this))), (1, .inl v1), (2, .inl v2), (3, .inl v3), (7, .inl v7), (8, .inl v8)] [.inr (.inl k0)] σ Z := by
  unfold fX0_places_b128 at h
  refine aw_lconst X (1 : Int64) dX0_places_128 rfl ?_
  refine aw_iload X dX0_places_129 5 rfl ?_
  refine aw_lshl X dX0_places_131 ?_
  refine aw_goto X 136 dX0_places_132 rfl ?_
  refine aw_lor X dX0_places_136 ?_
  refine aw_lstore X dX0_places_137 (by decide) [(5, .inr (.inl (k0 ||| ((1 : Int64) <<< (v8.toInt64 &&& 63))))), (0, .inr (.inr (some this))), (1, .inl v1), (2, .inl v2), (3, .inl v3), (7, .inl v7), (8, .inl v8)] rfl ?_
  refine aw_iinc X dX0_places_139 6 rfl (1 : Int32) rfl (by decide) [(8, .inl (v8 + (1 : Int32))), (5, .inr (.inl (k0 ||| ((1 : Int64) <<< (v8.toInt64 &&& 63))))), (0, .inr (.inr (some this))), (1, .inl v1), (2, .inl v2), (3, .inl v3), (7, .inl v7)] rfl ?_
  refine aw_goto X 62 dX0_places_142 rfl ?_
  cases h
  refine aw_sub [(0, .inr (.inr (some this))), (1, .inl v1), (2, .inl v2), (3, .inl v3), (5, .inr (.inl (k0 ||| ((1 : Int64) <<< (v8.toInt64 &&& 63))))), (7, .inl v7), (8, .inl (v8 + (1 : Int32)))] [2, 3, 4, 5, 1, 6, 0] rfl ?_
  exact kH ((k0 ||| ((1 : Int64) <<< (v8.toInt64 &&& 63))), (v8 + (1 : Int32))) rfl
theorem wX0_places_b98 {C : CT} {d : Nat} {Z : State → Prop} (X : Cx C cX0_places RX0 (some .int) 10 (d + 3)) (φ : Nat) (this : Nat) (v1 : Int32) (v2 : Int32) (v3 : Int32) (v5 : Int64) (v7 : Int32) (v8 : Int32) (k0 : Int32) (σ : St) (y : (Int64 × Int32) ⊕ (Int64)) (h : fX0_places_b98 φ this v1 v2 v3 v5 v7 v8 k0 σ = some y) (kH : ∀ s : Int64 × Int32, y = .inl s → AW C 62 [(0, .inr (.inr (some this))), (1, .inl v1), (2, .inl v2), (3, .inl v3), (5, .inr (.inl s.1)), (7, .inl v7), (8, .inl s.2)] [] σ Z) (kE0 : ∀ e : Int64, y = .inr e → AW C 145 [(0, .inr (.inr (some this))), (1, .inl v1), (2, .inl v2), (3, .inl v3), (5, .inr (.inl e)), (7, .inl v7)] [] σ Z) : AW C 98 [(0, .inr (.inr (some this))), (1, .inl v1), (2, .inl v2), (3, .inl v3), (5, .inr (.inl v5)), (7, .inl v7), (8, .inl v8)] [.inl k0] σ Z := by
  unfold fX0_places_b98 at h
  refine aw_istore X dX0_places_98 (by decide) [(9, .inl k0), (0, .inr (.inr (some this))), (1, .inl v1), (2, .inl v2), (3, .inl v3), (5, .inr (.inl v5)), (7, .inl v7), (8, .inl v8)] rfl ?_
  refine aw_lload X dX0_places_100 5 rfl ?_
  refine aw_iload X dX0_places_102 0 rfl ?_
  refine aw_if_eq X 135 dX0_places_104 rfl (fun c20 => ?_) (fun c20 => ?_)
  · rw [if_pos c20] at h
    refine aw_lconst X (0 : Int64) dX0_places_135 rfl ?_
    refine aw_lor X dX0_places_136 ?_
    refine aw_lstore X dX0_places_137 (by decide) [(5, .inr (.inl (v5 ||| (0 : Int64)))), (9, .inl k0), (0, .inr (.inr (some this))), (1, .inl v1), (2, .inl v2), (3, .inl v3), (7, .inl v7), (8, .inl v8)] rfl ?_
    refine aw_iinc X dX0_places_139 7 rfl (1 : Int32) rfl (by decide) [(8, .inl (v8 + (1 : Int32))), (5, .inr (.inl (v5 ||| (0 : Int64)))), (9, .inl k0), (0, .inr (.inr (some this))), (1, .inl v1), (2, .inl v2), (3, .inl v3), (7, .inl v7)] rfl ?_
    refine aw_goto X 62 dX0_places_142 rfl ?_
    cases h
    refine aw_sub [(0, .inr (.inr (some this))), (1, .inl v1), (2, .inl v2), (3, .inl v3), (5, .inr (.inl (v5 ||| (0 : Int64)))), (7, .inl v7), (8, .inl (v8 + (1 : Int32)))] [3, 4, 5, 6, 1, 7, 0] rfl ?_
    exact kH ((v5 ||| (0 : Int64)), (v8 + (1 : Int32))) rfl
  · rw [if_neg c20] at h
    refine aw_iload_n X dX0_places_107 4 3 rfl rfl ?_
    refine aw_if_eq X 128 dX0_places_108 rfl (fun c21 => ?_) (fun c21 => ?_)
    · rw [if_pos c21] at h
      refine aw_sub [(0, .inr (.inr (some this))), (1, .inl v1), (2, .inl v2), (3, .inl v3), (7, .inl v7), (8, .inl v8)] [1, 2, 3, 4, 6, 7] rfl ?_
      exact wX0_places_b128 X φ this v1 v2 v3 v7 v8 v5 σ y h kH kE0
    · rw [if_neg c21] at h
      refine aw_aload_n X dX0_places_111 1 0 rfl rfl ?_
      obtain ⟨x22, hx22, h⟩ := bind_some h
      refine aw_gfR X fl_X0_59 dX0_places_112 hx22 ?_
      refine aw_iload X dX0_places_115 6 rfl ?_
      obtain ⟨x23, hx23, h⟩ := bind_some h
      refine aw_iald X dX0_places_117 hx23 ?_
      refine aw_aload_n X dX0_places_118 1 0 rfl rfl ?_
      obtain ⟨x24, hx24, h⟩ := bind_some h
      refine aw_gfR X fl_X0_62 dX0_places_119 hx24 ?_
      refine aw_iload X dX0_places_122 6 rfl ?_
      obtain ⟨x25, hx25, h⟩ := bind_some h
      refine aw_iald X dX0_places_124 hx25 ?_
      refine aw_icmp_ne X 135 dX0_places_125 rfl (fun c26 => ?_) (fun c26 => ?_)
      · rw [if_neg c26] at h
        refine aw_lconst X (0 : Int64) dX0_places_135 rfl ?_
        refine aw_lor X dX0_places_136 ?_
        refine aw_lstore X dX0_places_137 (by decide) [(5, .inr (.inl (v5 ||| (0 : Int64)))), (9, .inl k0), (0, .inr (.inr (some this))), (1, .inl v1), (2, .inl v2), (3, .inl v3), (7, .inl v7), (8, .inl v8)] rfl ?_
        refine aw_iinc X dX0_places_139 7 rfl (1 : Int32) rfl (by decide) [(8, .inl (v8 + (1 : Int32))), (5, .inr (.inl (v5 ||| (0 : Int64)))), (9, .inl k0), (0, .inr (.inr (some this))), (1, .inl v1), (2, .inl v2), (3, .inl v3), (7, .inl v7)] rfl ?_
        refine aw_goto X 62 dX0_places_142 rfl ?_
        cases h
        refine aw_sub [(0, .inr (.inr (some this))), (1, .inl v1), (2, .inl v2), (3, .inl v3), (5, .inr (.inl (v5 ||| (0 : Int64)))), (7, .inl v7), (8, .inl (v8 + (1 : Int32)))] [3, 4, 5, 6, 1, 7, 0] rfl ?_
        exact kH ((v5 ||| (0 : Int64)), (v8 + (1 : Int32))) rfl
      · rw [if_pos c26] at h
        refine aw_sub [(0, .inr (.inr (some this))), (1, .inl v1), (2, .inl v2), (3, .inl v3), (7, .inl v7), (8, .inl v8)] [1, 2, 3, 4, 6, 7] rfl ?_
        exact wX0_places_b128 X φ this v1 v2 v3 v7 v8 v5 σ y h kH kE0
theorem wX0_places_l62 {C : CT} {d : Nat} {Z : State → Prop} (X : Cx C cX0_places RX0 (some .int) 10 (d + 3)) (φ : Nat) (this : Nat) (v1 : Int32) (v2 : Int32) (v3 : Int32) (v7 : Int32) (σ : St) (v5 : Int64) (v8 : Int32) (y : (Int64 × Int32) ⊕ (Int64)) (h : fX0_places_l62 φ this v1 v2 v3 v7 σ v5 v8 = some y) (kH : ∀ s : Int64 × Int32, y = .inl s → AW C 62 [(0, .inr (.inr (some this))), (1, .inl v1), (2, .inl v2), (3, .inl v3), (5, .inr (.inl s.1)), (7, .inl v7), (8, .inl s.2)] [] σ Z) (kE0 : ∀ e : Int64, y = .inr e → AW C 145 [(0, .inr (.inr (some this))), (1, .inl v1), (2, .inl v2), (3, .inl v3), (5, .inr (.inl e)), (7, .inl v7)] [] σ Z) : AW C 62 [(0, .inr (.inr (some this))), (1, .inl v1), (2, .inl v2), (3, .inl v3), (5, .inr (.inl v5)), (7, .inl v7), (8, .inl v8)] [] σ Z := by
  unfold fX0_places_l62 at h
  refine aw_iload X dX0_places_62 6 rfl ?_
  refine aw_aload_n X dX0_places_64 0 0 rfl rfl ?_
  obtain ⟨x12, hx12, h⟩ := bind_some h
  refine aw_gfR X fl_X0_62 dX0_places_65 hx12 ?_
  refine aw_iload X dX0_places_68 5 rfl ?_
  obtain ⟨x13, hx13, h⟩ := bind_some h
  refine aw_iald X dX0_places_70 hx13 ?_
  refine aw_icmp_gt X 145 dX0_places_71 rfl (fun c14 => ?_) (fun c14 => ?_)
  · rw [if_pos c14] at h
    cases h
    refine aw_sub [(0, .inr (.inr (some this))), (1, .inl v1), (2, .inl v2), (3, .inl v3), (5, .inr (.inl v5)), (7, .inl v7)] [0, 1, 2, 3, 4, 5] rfl ?_
    exact kE0 v5 rfl
  · rw [if_neg c14] at h
    refine aw_aload_n X dX0_places_74 0 0 rfl rfl ?_
    refine aw_iload_n X dX0_places_75 1 1 rfl rfl ?_
    obtain ⟨y15, hy15, h⟩ := bind_some h
    refine aw_cV X (st := []) hy15 [.inl v1] rfl rfl ml_X0_188 (fun o h => AX0_of (Cx.ok X) φ (d + 2) _ _ _ _ h) dX0_places_76 (Nat.le_of_ble_eq_true rfl) ?_
    refine aw_iload X dX0_places_79 6 rfl ?_
    obtain ⟨x16, hx16, h⟩ := bind_some h
    refine aw_bald X dX0_places_81 hx16 ?_
    refine aw_aload_n X dX0_places_82 0 0 rfl rfl ?_
    refine aw_iload_n X dX0_places_83 2 2 rfl rfl ?_
    obtain ⟨y17, hy17, h⟩ := bind_some h
    refine aw_cV X (st := [.inl x16]) hy17 [.inl v2] rfl rfl ml_X0_188 (fun o h => AX0_of (Cx.ok X) φ (d + 2) _ _ _ _ h) dX0_places_84 (Nat.le_of_ble_eq_true rfl) ?_
    refine aw_iload X dX0_places_87 5 rfl ?_
    obtain ⟨x18, hx18, h⟩ := bind_some h
    refine aw_bald X dX0_places_89 hx18 ?_
    refine aw_icmp_ne X 97 dX0_places_90 rfl (fun c19 => ?_) (fun c19 => ?_)
    · rw [if_neg c19] at h
      refine aw_iconst X (0 : Int32) dX0_places_97 (by decide) ?_
      exact wX0_places_b98 X φ this v1 v2 v3 v5 v7 v8 (0 : Int32) σ y h kH kE0
    · rw [if_pos c19] at h
      refine aw_iconst X (1 : Int32) dX0_places_93 (by decide) ?_
      refine aw_goto X 98 dX0_places_94 rfl ?_
      exact wX0_places_b98 X φ this v1 v2 v3 v5 v7 v8 (1 : Int32) σ y h kH kE0
theorem wX0_places_l42 {C : CT} {d : Nat} {Z : State → Prop} (X : Cx C cX0_places RX0 (some .int) 10 (d + 3)) (φ : Nat) (this : Nat) (v1 : Int32) (v2 : Int32) (v3 : Int32) (σ : St) (v5 : Int64) (v7 : Int32) (y : (Int64 × Int32) ⊕ (Int64)) (h : fX0_places_l42 φ this v1 v2 v3 σ v5 v7 = some y) (kH : ∀ s : Int64 × Int32, y = .inl s → AW C 42 [(0, .inr (.inr (some this))), (1, .inl v1), (2, .inl v2), (3, .inl v3), (5, .inr (.inl s.1)), (7, .inl s.2)] [] σ Z) (kE0 : ∀ e : Int64, y = .inr e → AW C 151 [(0, .inr (.inr (some this))), (5, .inr (.inl e))] [] σ Z) : AW C 42 [(0, .inr (.inr (some this))), (1, .inl v1), (2, .inl v2), (3, .inl v3), (5, .inr (.inl v5)), (7, .inl v7)] [] σ Z := by
  unfold fX0_places_l42 at h
  refine aw_iload X dX0_places_42 5 rfl ?_
  refine aw_aload_n X dX0_places_44 0 0 rfl rfl ?_
  refine aw_iload_n X dX0_places_45 2 2 rfl rfl ?_
  obtain ⟨y7, hy7, h⟩ := bind_some h
  refine aw_cV X (st := [.inl v7]) hy7 [.inl v2] rfl rfl ml_X0_188 (fun o h => AX0_of (Cx.ok X) φ (d + 2) _ _ _ _ h) dX0_places_46 (Nat.le_of_ble_eq_true rfl) ?_
  obtain ⟨x8, hx8, h⟩ := bind_some h
  refine aw_alen X dX0_places_49 hx8 ?_
  refine aw_icmp_ge X 151 dX0_places_50 rfl (fun c9 => ?_) (fun c9 => ?_)
  · rw [if_pos c9] at h
    cases h
    refine aw_sub [(0, .inr (.inr (some this))), (5, .inr (.inl v5))] [0, 4] rfl ?_
    exact kE0 v5 rfl
  · rw [if_neg c9] at h
    refine aw_aload_n X dX0_places_53 0 0 rfl rfl ?_
    obtain ⟨x10, hx10, h⟩ := bind_some h
    refine aw_gfR X fl_X0_59 dX0_places_54 hx10 ?_
    refine aw_iload X dX0_places_57 5 rfl ?_
    obtain ⟨x11, hx11, h⟩ := bind_some h
    refine aw_iald X dX0_places_59 hx11 ?_
    refine aw_istore X dX0_places_60 (by decide) [(8, .inl x11), (0, .inr (.inr (some this))), (1, .inl v1), (2, .inl v2), (3, .inl v3), (5, .inr (.inl v5)), (7, .inl v7)] rfl ?_
    obtain ⟨e27, h28, h⟩ := bind_some h
    refine aw_sub [(0, .inr (.inr (some this))), (1, .inl v1), (2, .inl v2), (3, .inl v3), (5, .inr (.inl v5)), (7, .inl v7), (8, .inl x11)] [1, 2, 3, 4, 5, 6, 0] rfl ?_
    refine aw_it (fun s => AW C 62 [(0, .inr (.inr (some this))), (1, .inl v1), (2, .inl v2), (3, .inl v3), (5, .inr (.inl s.1)), (7, .inl v7), (8, .inl s.2)] [] σ Z) (fun e => AW C 145 [(0, .inr (.inr (some this))), (1, .inl v1), (2, .inl v2), (3, .inl v3), (5, .inr (.inl e)), (7, .inl v7)] [] σ Z) (fun s r hr kH kE => wX0_places_l62 X φ this v1 v2 v3 v7 σ s.1 s.2 r hr kH kE) φ _ e27 h28 ?_
    refine aw_iinc X dX0_places_145 5 rfl (1 : Int32) rfl (by decide) [(7, .inl (v7 + (1 : Int32))), (0, .inr (.inr (some this))), (1, .inl v1), (2, .inl v2), (3, .inl v3), (5, .inr (.inl e27))] rfl ?_
    refine aw_goto X 42 dX0_places_148 rfl ?_
    cases h
    refine aw_sub [(0, .inr (.inr (some this))), (1, .inl v1), (2, .inl v2), (3, .inl v3), (5, .inr (.inl e27)), (7, .inl (v7 + (1 : Int32)))] [1, 2, 3, 4, 5, 0] rfl ?_
    exact kH (e27, (v7 + (1 : Int32))) rfl
theorem wX0_places {C : CT} {d : Nat} (X : Cx C cX0_places RX0 (some .int) 10 (d + 3)) (φ : Nat) (this : Nat) (v1 : Int32) (v2 : Int32) (v3 : Int32) (σ : St) (y : Int32 × St) (h : fX0_places φ this v1 v2 v3 σ = some y) : AW C 0 [(0, .inr (.inr (some this))), (1, .inl v1), (2, .inl v2), (3, .inl v3)] [] σ (AQ C (some (.inl y.1)) y.2) := by
  unfold fX0_places at h
  refine aw_aload_n X dX0_places_0 0 0 rfl rfl ?_
  refine aw_iload_n X dX0_places_1 1 1 rfl rfl ?_
  refine aw_iload_n X dX0_places_2 2 2 rfl rfl ?_
  obtain ⟨y1, hy1, h⟩ := bind_some h
  refine aw_cV X (st := []) hy1 [.inl v1, .inl v2] rfl rfl ml_X0_185 (fun o h => AX0_askedTwo (Cx.ok X) φ d _ _ _ _ _ h) dX0_places_3 (Nat.le_of_ble_eq_true rfl) ?_
  refine aw_istore X dX0_places_6 (by decide) [(4, .inl y1.1), (0, .inr (.inr (some this))), (1, .inl v1), (2, .inl v2), (3, .inl v3)] rfl ?_
  refine aw_iload X dX0_places_8 0 rfl ?_
  refine aw_if_ge X 16 dX0_places_10 rfl (fun c2 => ?_) (fun c2 => ?_)
  · rw [if_pos c2] at h
    refine aw_aload_n X dX0_places_16 1 0 rfl rfl ?_
    refine aw_aload_n X dX0_places_17 1 0 rfl rfl ?_
    refine aw_iload_n X dX0_places_18 2 1 rfl rfl ?_
    obtain ⟨y3, hy3, h⟩ := bind_some h
    refine aw_cV X (st := [.inr (.inr (some this))]) hy3 [.inl v1] rfl rfl ml_X0_188 (fun o h => AX0_of (Cx.ok X) φ (d + 2) _ _ _ _ h) dX0_places_19 (Nat.le_of_ble_eq_true rfl) ?_
    refine aw_aload_n X dX0_places_22 1 0 rfl rfl ?_
    refine aw_iload_n X dX0_places_23 3 2 rfl rfl ?_
    obtain ⟨y4, hy4, h⟩ := bind_some h
    refine aw_cV X (st := [.inr (.inr y3), .inr (.inr (some this))]) hy4 [.inl v2] rfl rfl ml_X0_188 (fun o h => AX0_of (Cx.ok X) φ (d + 2) _ _ _ _ h) dX0_places_24 (Nat.le_of_ble_eq_true rfl) ?_
    obtain ⟨y5, hy5, h⟩ := bind_some h
    refine aw_cV X (st := []) hy5 [.inr (.inr y3), .inr (.inr y4)] rfl rfl ml_X0_235 (fun o h => AX0_setWays (Cx.ok X) φ (d + 2) _ _ _ _ _ h) dX0_places_27 (Nat.le_of_ble_eq_true rfl) ?_
    refine aw_if_ne X 36 dX0_places_30 rfl (fun c6 => ?_) (fun c6 => ?_)
    · rw [if_neg c6] at h
      refine aw_lconst X (0 : Int64) dX0_places_36 rfl ?_
      refine aw_lstore X dX0_places_37 (by decide) [(5, .inr (.inl (0 : Int64))), (4, .inl y1.1), (0, .inr (.inr (some this))), (1, .inl v1), (2, .inl v2), (3, .inl v3)] rfl ?_
      refine aw_iconst X (0 : Int32) dX0_places_39 (by decide) ?_
      refine aw_istore X dX0_places_40 (by decide) [(7, .inl (0 : Int32)), (5, .inr (.inl (0 : Int64))), (4, .inl y1.1), (0, .inr (.inr (some this))), (1, .inl v1), (2, .inl v2), (3, .inl v3)] rfl ?_
      obtain ⟨e29, h30, h⟩ := bind_some h
      refine aw_sub [(0, .inr (.inr (some this))), (1, .inl v1), (2, .inl v2), (3, .inl v3), (5, .inr (.inl (0 : Int64))), (7, .inl (0 : Int32))] [3, 4, 5, 6, 1, 0] rfl ?_
      refine aw_it (fun s => AW C 42 [(0, .inr (.inr (some this))), (1, .inl v1), (2, .inl v2), (3, .inl v3), (5, .inr (.inl s.1)), (7, .inl s.2)] [] y5.2 (AQ C (some (.inl y.1)) y.2)) (fun e => AW C 151 [(0, .inr (.inr (some this))), (5, .inr (.inl e))] [] y5.2 (AQ C (some (.inl y.1)) y.2)) (fun s r hr kH kE => wX0_places_l42 X φ this v1 v2 v3 y5.2 s.1 s.2 r hr kH kE) φ _ e29 h30 ?_
      refine aw_aload_n X dX0_places_151 0 0 rfl rfl ?_
      refine aw_lload X dX0_places_152 1 rfl ?_
      refine aw_lload X dX0_places_154 1 rfl ?_
      obtain ⟨y31, hy31, h⟩ := bind_some h
      refine aw_callS X (st := [.inr (.inl e29), .inr (.inr (some this))]) [.inr (.inl e29)] rfl ml_X0_243 (AJ11_bitCount (Cx.ok X) φ (d + 2) _ _ _  hy31) dX0_places_156 (Nat.le_of_ble_eq_true rfl) ?_
      obtain ⟨y32, hy32, h⟩ := bind_some h
      refine aw_cV X (st := []) hy32 [.inr (.inl e29), .inl y31] rfl rfl ml_X0_231 (fun o h => AX0_tellMany (Cx.ok X) φ (d + 2) _ _ _ _ _ h) dX0_places_159 (Nat.le_of_ble_eq_true rfl) ?_
      cases h
      exact aw_iret X dX0_places_162
    · rw [if_pos c6] at h
      refine aw_bipush X (-9 : Int32) dX0_places_33 (by decide) ?_
      cases h
      exact aw_iret X dX0_places_35
  · rw [if_neg c2] at h
    refine aw_iload X dX0_places_13 0 rfl ?_
    cases h
    exact aw_iret X dX0_places_15
theorem AX0_places {E : AE} {l : Launch} (hE : EOK E l) (φ d : Nat) (this : Nat) (v1 : Int32) (v2 : Int32) (v3 : Int32) (σ : St) (y : Int32 × St) (h : fX0_places φ this v1 v2 v3 σ = some y) : AMet E l yX0_places (ws_ yX0_places cX0_places 10 (some .int)) (d + 3) [.inr (.inr (some this)), .inl v1, .inl v2, .inl v3] σ (some (.inl y.1)) y.2 := by
  refine amet_of hE (by decide +kernel) (Nat.le_of_ble_eq_true rfl) fun C e1 e2 X XI => ?_
  subst e1
  exact wX0_places X φ this v1 v2 v3 σ y h
theorem wX0_judge_l69 {C : CT} {d : Nat} {Z : State → Prop} (X : Cx C cX0_judge RX0 (some .int) 9 (d + 3)) (φ : Nat) (this : Nat) (v1 : Int32) (v2 : Int32) (v3 : Int32) (σ : St) (v5 : Int32) (v6 : Int32) (v7 : Int32) (y : (Int32 × Int32 × Int32) ⊕ (Int32)) (h : fX0_judge_l69 φ this v1 v2 v3 σ v5 v6 v7 = some y) (kH : ∀ s : Int32 × Int32 × Int32, y = .inl s → AW C 69 [(0, .inr (.inr (some this))), (1, .inl v1), (2, .inl v2), (3, .inl v3), (5, .inl s.1), (6, .inl s.2.1), (7, .inl s.2.2)] [] σ Z) (kE0 : ∀ e : Int32, y = .inr e → AW C 151 [(5, .inl e)] [] σ Z) : AW C 69 [(0, .inr (.inr (some this))), (1, .inl v1), (2, .inl v2), (3, .inl v3), (5, .inl v5), (6, .inl v6), (7, .inl v7)] [] σ Z := by
  unfold fX0_judge_l69 at h
  refine aw_iload X dX0_judge_69 4 rfl ?_
  refine aw_if_eq X 151 dX0_judge_71 rfl (fun c14 => ?_) (fun c14 => ?_)
  · rw [if_pos c14] at h
    cases h
    refine aw_sub [(5, .inl v5)] [4] rfl ?_
    exact kE0 v5 rfl
  · rw [if_neg c14] at h
    refine aw_iload X dX0_judge_74 6 rfl ?_
    refine aw_aload_n X dX0_judge_76 0 0 rfl rfl ?_
    obtain ⟨x15, hx15, h⟩ := bind_some h
    refine aw_gfR X fl_X0_34 dX0_judge_77 hx15 ?_
    refine aw_iload_n X dX0_judge_80 3 3 rfl rfl ?_
    obtain ⟨x16, hx16, h⟩ := bind_some h
    refine aw_aald X (kd := 5) dX0_judge_81 (by decide) (by decide) hx16 ?_
    obtain ⟨x17, hx17, h⟩ := bind_some h
    refine aw_alen X dX0_judge_82 hx17 ?_
    refine aw_icmp_ge X 151 dX0_judge_83 rfl (fun c18 => ?_) (fun c18 => ?_)
    · rw [if_pos c18] at h
      cases h
      refine aw_sub [(5, .inl v5)] [4] rfl ?_
      exact kE0 v5 rfl
    · rw [if_neg c18] at h
      refine aw_aload_n X dX0_judge_86 0 0 rfl rfl ?_
      obtain ⟨x19, hx19, h⟩ := bind_some h
      refine aw_gfR X fl_X0_34 dX0_judge_87 hx19 ?_
      refine aw_iload_n X dX0_judge_90 3 3 rfl rfl ?_
      obtain ⟨x20, hx20, h⟩ := bind_some h
      refine aw_aald X (kd := 5) dX0_judge_91 (by decide) (by decide) hx20 ?_
      refine aw_iload X dX0_judge_92 6 rfl ?_
      obtain ⟨x21, hx21, h⟩ := bind_some h
      refine aw_iald X dX0_judge_94 hx21 ?_
      refine aw_istore X dX0_judge_95 (by decide) [(8, .inl x21), (0, .inr (.inr (some this))), (1, .inl v1), (2, .inl v2), (3, .inl v3), (5, .inl v5), (6, .inl v6), (7, .inl v7)] rfl ?_
      refine aw_iload X dX0_judge_97 0 rfl ?_
      refine aw_iload X dX0_judge_99 6 rfl ?_
      refine aw_icmp_le X 138 dX0_judge_101 rfl (fun c22 => ?_) (fun c22 => ?_)
      · rw [if_pos c22] at h
        refine aw_iconst X (0 : Int32) dX0_judge_138 (by decide) ?_
        refine aw_istore X dX0_judge_139 (by decide) [(5, .inl (0 : Int32)), (8, .inl x21), (0, .inr (.inr (some this))), (1, .inl v1), (2, .inl v2), (3, .inl v3), (6, .inl v6), (7, .inl v7)] rfl ?_
        refine aw_iload X dX0_judge_141 1 rfl ?_
        refine aw_istore X dX0_judge_143 (by decide) [(6, .inl x21), (5, .inl (0 : Int32)), (8, .inl x21), (0, .inr (.inr (some this))), (1, .inl v1), (2, .inl v2), (3, .inl v3), (7, .inl v7)] rfl ?_
        refine aw_iinc X dX0_judge_145 7 rfl (1 : Int32) rfl (by decide) [(7, .inl (v7 + (1 : Int32))), (6, .inl x21), (5, .inl (0 : Int32)), (8, .inl x21), (0, .inr (.inr (some this))), (1, .inl v1), (2, .inl v2), (3, .inl v3)] rfl ?_
        refine aw_goto X 69 dX0_judge_148 rfl ?_
        cases h
        refine aw_sub [(0, .inr (.inr (some this))), (1, .inl v1), (2, .inl v2), (3, .inl v3), (5, .inl (0 : Int32)), (6, .inl x21), (7, .inl (v7 + (1 : Int32)))] [4, 5, 6, 7, 2, 1, 0] rfl ?_
        exact kH ((0 : Int32), x21, (v7 + (1 : Int32))) rfl
      · rw [if_neg c22] at h
        refine aw_iload X dX0_judge_104 0 rfl ?_
        refine aw_aload_n X dX0_judge_106 1 0 rfl rfl ?_
        refine aw_iload_n X dX0_judge_107 2 1 rfl rfl ?_
        obtain ⟨y23, hy23, h⟩ := bind_some h
        refine aw_cV X (st := [.inl x21]) hy23 [.inl v1] rfl rfl ml_X0_188 (fun o h => AX0_of (Cx.ok X) φ (d + 2) _ _ _ _ h) dX0_judge_108 (Nat.le_of_ble_eq_true rfl) ?_
        obtain ⟨x24, hx24, h⟩ := bind_some h
        refine aw_alen X dX0_judge_111 hx24 ?_
        refine aw_icmp_ge X 138 dX0_judge_112 rfl (fun c25 => ?_) (fun c25 => ?_)
        · rw [if_pos c25] at h
          refine aw_iconst X (0 : Int32) dX0_judge_138 (by decide) ?_
          refine aw_istore X dX0_judge_139 (by decide) [(5, .inl (0 : Int32)), (8, .inl x21), (0, .inr (.inr (some this))), (1, .inl v1), (2, .inl v2), (3, .inl v3), (6, .inl v6), (7, .inl v7)] rfl ?_
          refine aw_iload X dX0_judge_141 1 rfl ?_
          refine aw_istore X dX0_judge_143 (by decide) [(6, .inl x21), (5, .inl (0 : Int32)), (8, .inl x21), (0, .inr (.inr (some this))), (1, .inl v1), (2, .inl v2), (3, .inl v3), (7, .inl v7)] rfl ?_
          refine aw_iinc X dX0_judge_145 7 rfl (1 : Int32) rfl (by decide) [(7, .inl (v7 + (1 : Int32))), (6, .inl x21), (5, .inl (0 : Int32)), (8, .inl x21), (0, .inr (.inr (some this))), (1, .inl v1), (2, .inl v2), (3, .inl v3)] rfl ?_
          refine aw_goto X 69 dX0_judge_148 rfl ?_
          cases h
          refine aw_sub [(0, .inr (.inr (some this))), (1, .inl v1), (2, .inl v2), (3, .inl v3), (5, .inl (0 : Int32)), (6, .inl x21), (7, .inl (v7 + (1 : Int32)))] [4, 5, 6, 7, 2, 1, 0] rfl ?_
          exact kH ((0 : Int32), x21, (v7 + (1 : Int32))) rfl
        · rw [if_neg c25] at h
          refine aw_aload_n X dX0_judge_115 1 0 rfl rfl ?_
          refine aw_iload_n X dX0_judge_116 2 1 rfl rfl ?_
          obtain ⟨y26, hy26, h⟩ := bind_some h
          refine aw_cV X (st := []) hy26 [.inl v1] rfl rfl ml_X0_188 (fun o h => AX0_of (Cx.ok X) φ (d + 2) _ _ _ _ h) dX0_judge_117 (Nat.le_of_ble_eq_true rfl) ?_
          refine aw_iload X dX0_judge_120 0 rfl ?_
          obtain ⟨x27, hx27, h⟩ := bind_some h
          refine aw_bald X dX0_judge_122 hx27 ?_
          refine aw_aload_n X dX0_judge_123 1 0 rfl rfl ?_
          refine aw_iload_n X dX0_judge_124 3 2 rfl rfl ?_
          obtain ⟨y28, hy28, h⟩ := bind_some h
          refine aw_cV X (st := [.inl x27]) hy28 [.inl v2] rfl rfl ml_X0_188 (fun o h => AX0_of (Cx.ok X) φ (d + 2) _ _ _ _ h) dX0_judge_125 (Nat.le_of_ble_eq_true rfl) ?_
          refine aw_iload X dX0_judge_128 7 rfl ?_
          obtain ⟨x29, hx29, h⟩ := bind_some h
          refine aw_bald X dX0_judge_130 hx29 ?_
          refine aw_icmp_ne X 138 dX0_judge_131 rfl (fun c30 => ?_) (fun c30 => ?_)
          · rw [if_neg c30] at h
            refine aw_iconst X (0 : Int32) dX0_judge_138 (by decide) ?_
            refine aw_istore X dX0_judge_139 (by decide) [(5, .inl (0 : Int32)), (8, .inl x21), (0, .inr (.inr (some this))), (1, .inl v1), (2, .inl v2), (3, .inl v3), (6, .inl v6), (7, .inl v7)] rfl ?_
            refine aw_iload X dX0_judge_141 1 rfl ?_
            refine aw_istore X dX0_judge_143 (by decide) [(6, .inl x21), (5, .inl (0 : Int32)), (8, .inl x21), (0, .inr (.inr (some this))), (1, .inl v1), (2, .inl v2), (3, .inl v3), (7, .inl v7)] rfl ?_
            refine aw_iinc X dX0_judge_145 7 rfl (1 : Int32) rfl (by decide) [(7, .inl (v7 + (1 : Int32))), (6, .inl x21), (5, .inl (0 : Int32)), (8, .inl x21), (0, .inr (.inr (some this))), (1, .inl v1), (2, .inl v2), (3, .inl v3)] rfl ?_
            refine aw_goto X 69 dX0_judge_148 rfl ?_
            cases h
            refine aw_sub [(0, .inr (.inr (some this))), (1, .inl v1), (2, .inl v2), (3, .inl v3), (5, .inl (0 : Int32)), (6, .inl x21), (7, .inl (v7 + (1 : Int32)))] [4, 5, 6, 7, 2, 1, 0] rfl ?_
            exact kH ((0 : Int32), x21, (v7 + (1 : Int32))) rfl
          · rw [if_pos c30] at h
            refine aw_iconst X (1 : Int32) dX0_judge_134 (by decide) ?_
            refine aw_goto X 139 dX0_judge_135 rfl ?_
            refine aw_istore X dX0_judge_139 (by decide) [(5, .inl (1 : Int32)), (8, .inl x21), (0, .inr (.inr (some this))), (1, .inl v1), (2, .inl v2), (3, .inl v3), (6, .inl v6), (7, .inl v7)] rfl ?_
            refine aw_iload X dX0_judge_141 1 rfl ?_
            refine aw_istore X dX0_judge_143 (by decide) [(6, .inl x21), (5, .inl (1 : Int32)), (8, .inl x21), (0, .inr (.inr (some this))), (1, .inl v1), (2, .inl v2), (3, .inl v3), (7, .inl v7)] rfl ?_
            refine aw_iinc X dX0_judge_145 7 rfl (1 : Int32) rfl (by decide) [(7, .inl (v7 + (1 : Int32))), (6, .inl x21), (5, .inl (1 : Int32)), (8, .inl x21), (0, .inr (.inr (some this))), (1, .inl v1), (2, .inl v2), (3, .inl v3)] rfl ?_
            refine aw_goto X 69 dX0_judge_148 rfl ?_
            cases h
            refine aw_sub [(0, .inr (.inr (some this))), (1, .inl v1), (2, .inl v2), (3, .inl v3), (5, .inl (1 : Int32)), (6, .inl x21), (7, .inl (v7 + (1 : Int32)))] [4, 5, 6, 7, 2, 1, 0] rfl ?_
            exact kH ((1 : Int32), x21, (v7 + (1 : Int32))) rfl
theorem wX0_judge {C : CT} {d : Nat} (X : Cx C cX0_judge RX0 (some .int) 9 (d + 3)) (φ : Nat) (this : Nat) (v1 : Int32) (v2 : Int32) (v3 : Int32) (σ : St) (y : Int32 × St) (h : fX0_judge φ this v1 v2 v3 σ = some y) : AW C 0 [(0, .inr (.inr (some this))), (1, .inl v1), (2, .inl v2), (3, .inl v3)] [] σ (AQ C (some (.inl y.1)) y.2) := by
  unfold fX0_judge at h
  refine aw_iload_n X dX0_judge_0 3 3 rfl rfl ?_
  obtain ⟨y1, hy1, h⟩ := bind_some h
  refine aw_callS X (st := []) [.inl v3] rfl ml_X0_97 (AX0_isRow (Cx.ok X) φ (d + 1) _ _ _  hy1) dX0_judge_1 (Nat.le_of_ble_eq_true rfl) ?_
  refine aw_if_ne X 9 dX0_judge_4 rfl (fun c2 => ?_) (fun c2 => ?_)
  · rw [if_neg c2] at h
    refine aw_aload_n X dX0_judge_9 0 0 rfl rfl ?_
    refine aw_iload_n X dX0_judge_10 1 1 rfl rfl ?_
    refine aw_iload_n X dX0_judge_11 2 2 rfl rfl ?_
    obtain ⟨y3, hy3, h⟩ := bind_some h
    refine aw_cV X (st := []) hy3 [.inl v1, .inl v2] rfl rfl ml_X0_185 (fun o h => AX0_askedTwo (Cx.ok X) φ d _ _ _ _ _ h) dX0_judge_12 (Nat.le_of_ble_eq_true rfl) ?_
    refine aw_istore X dX0_judge_15 (by decide) [(4, .inl y3.1), (0, .inr (.inr (some this))), (1, .inl v1), (2, .inl v2), (3, .inl v3)] rfl ?_
    refine aw_iload X dX0_judge_17 0 rfl ?_
    refine aw_if_ge X 25 dX0_judge_19 rfl (fun c4 => ?_) (fun c4 => ?_)
    · rw [if_pos c4] at h
      refine aw_aload_n X dX0_judge_25 1 0 rfl rfl ?_
      obtain ⟨x5, hx5, h⟩ := bind_some h
      refine aw_gfR X fl_X0_34 dX0_judge_26 hx5 ?_
      refine aw_iload_n X dX0_judge_29 4 3 rfl rfl ?_
      obtain ⟨x6, hx6, h⟩ := bind_some h
      refine aw_aald X (kd := 5) dX0_judge_30 (by decide) (by decide) hx6 ?_
      refine aw_ifnonnull X 40 dX0_judge_31 rfl (fun c7 => ?_) (fun c7 => ?_)
      · rw [if_neg c7] at h
        refine aw_aload_n X dX0_judge_40 1 0 rfl rfl ?_
        obtain ⟨x8, hx8, h⟩ := bind_some h
        refine aw_gfR X fl_X0_34 dX0_judge_41 hx8 ?_
        refine aw_iload_n X dX0_judge_44 4 3 rfl rfl ?_
        obtain ⟨x9, hx9, h⟩ := bind_some h
        refine aw_aald X (kd := 5) dX0_judge_45 (by decide) (by decide) hx9 ?_
        obtain ⟨x10, hx10, h⟩ := bind_some h
        refine aw_alen X dX0_judge_46 hx10 ?_
        refine aw_aload_n X dX0_judge_47 1 0 rfl rfl ?_
        refine aw_iload_n X dX0_judge_48 3 2 rfl rfl ?_
        obtain ⟨y11, hy11, h⟩ := bind_some h
        refine aw_cV X (st := [.inl x10]) hy11 [.inl v2] rfl rfl ml_X0_188 (fun o h => AX0_of (Cx.ok X) φ (d + 2) _ _ _ _ h) dX0_judge_49 (Nat.le_of_ble_eq_true rfl) ?_
        obtain ⟨x12, hx12, h⟩ := bind_some h
        refine aw_alen X dX0_judge_52 hx12 ?_
        refine aw_icmp_ne X 60 dX0_judge_53 rfl (fun c13 => ?_) (fun c13 => ?_)
        · rw [if_neg c13] at h
          refine aw_iconst X (0 : Int32) dX0_judge_60 (by decide) ?_
          refine aw_istore X dX0_judge_61 (by decide) [(5, .inl (0 : Int32)), (4, .inl y3.1), (0, .inr (.inr (some this))), (1, .inl v1), (2, .inl v2), (3, .inl v3)] rfl ?_
          refine aw_iconst X (-1 : Int32) dX0_judge_63 (by decide) ?_
          refine aw_istore X dX0_judge_64 (by decide) [(6, .inl (-1 : Int32)), (5, .inl (0 : Int32)), (4, .inl y3.1), (0, .inr (.inr (some this))), (1, .inl v1), (2, .inl v2), (3, .inl v3)] rfl ?_
          refine aw_iconst X (0 : Int32) dX0_judge_66 (by decide) ?_
          refine aw_istore X dX0_judge_67 (by decide) [(7, .inl (0 : Int32)), (6, .inl (-1 : Int32)), (5, .inl (0 : Int32)), (4, .inl y3.1), (0, .inr (.inr (some this))), (1, .inl v1), (2, .inl v2), (3, .inl v3)] rfl ?_
          obtain ⟨e31, h32, h⟩ := bind_some h
          refine aw_sub [(0, .inr (.inr (some this))), (1, .inl v1), (2, .inl v2), (3, .inl v3), (5, .inl (0 : Int32)), (6, .inl (-1 : Int32)), (7, .inl (0 : Int32))] [4, 5, 6, 7, 2, 1, 0] rfl ?_
          refine aw_it (fun s => AW C 69 [(0, .inr (.inr (some this))), (1, .inl v1), (2, .inl v2), (3, .inl v3), (5, .inl s.1), (6, .inl s.2.1), (7, .inl s.2.2)] [] y3.2 (AQ C (some (.inl y.1)) y.2)) (fun e => AW C 151 [(5, .inl e)] [] y3.2 (AQ C (some (.inl y.1)) y.2)) (fun s r hr kH kE => wX0_judge_l69 X φ this v1 v2 v3 y3.2 s.1 s.2.1 s.2.2 r hr kH kE) φ _ e31 h32 ?_
          refine aw_iload X dX0_judge_151 0 rfl ?_
          refine aw_if_eq X 160 dX0_judge_153 rfl (fun c33 => ?_) (fun c33 => ?_)
          · rw [if_pos c33] at h
            refine aw_iconst X (0 : Int32) dX0_judge_160 (by decide) ?_
            cases h
            exact aw_iret X dX0_judge_161
          · rw [if_neg c33] at h
            refine aw_iconst X (1 : Int32) dX0_judge_156 (by decide) ?_
            refine aw_goto X 161 dX0_judge_157 rfl ?_
            cases h
            exact aw_iret X dX0_judge_161
        · rw [if_pos c13] at h
          refine aw_iconst X (1 : Int32) dX0_judge_56 (by decide) ?_
          refine aw_goto X 61 dX0_judge_57 rfl ?_
          refine aw_istore X dX0_judge_61 (by decide) [(5, .inl (1 : Int32)), (4, .inl y3.1), (0, .inr (.inr (some this))), (1, .inl v1), (2, .inl v2), (3, .inl v3)] rfl ?_
          refine aw_iconst X (-1 : Int32) dX0_judge_63 (by decide) ?_
          refine aw_istore X dX0_judge_64 (by decide) [(6, .inl (-1 : Int32)), (5, .inl (1 : Int32)), (4, .inl y3.1), (0, .inr (.inr (some this))), (1, .inl v1), (2, .inl v2), (3, .inl v3)] rfl ?_
          refine aw_iconst X (0 : Int32) dX0_judge_66 (by decide) ?_
          refine aw_istore X dX0_judge_67 (by decide) [(7, .inl (0 : Int32)), (6, .inl (-1 : Int32)), (5, .inl (1 : Int32)), (4, .inl y3.1), (0, .inr (.inr (some this))), (1, .inl v1), (2, .inl v2), (3, .inl v3)] rfl ?_
          obtain ⟨e34, h35, h⟩ := bind_some h
          refine aw_sub [(0, .inr (.inr (some this))), (1, .inl v1), (2, .inl v2), (3, .inl v3), (5, .inl (1 : Int32)), (6, .inl (-1 : Int32)), (7, .inl (0 : Int32))] [4, 5, 6, 7, 2, 1, 0] rfl ?_
          refine aw_it (fun s => AW C 69 [(0, .inr (.inr (some this))), (1, .inl v1), (2, .inl v2), (3, .inl v3), (5, .inl s.1), (6, .inl s.2.1), (7, .inl s.2.2)] [] y3.2 (AQ C (some (.inl y.1)) y.2)) (fun e => AW C 151 [(5, .inl e)] [] y3.2 (AQ C (some (.inl y.1)) y.2)) (fun s r hr kH kE => wX0_judge_l69 X φ this v1 v2 v3 y3.2 s.1 s.2.1 s.2.2 r hr kH kE) φ _ e34 h35 ?_
          refine aw_iload X dX0_judge_151 0 rfl ?_
          refine aw_if_eq X 160 dX0_judge_153 rfl (fun c36 => ?_) (fun c36 => ?_)
          · rw [if_pos c36] at h
            refine aw_iconst X (0 : Int32) dX0_judge_160 (by decide) ?_
            cases h
            exact aw_iret X dX0_judge_161
          · rw [if_neg c36] at h
            refine aw_iconst X (1 : Int32) dX0_judge_156 (by decide) ?_
            refine aw_goto X 161 dX0_judge_157 rfl ?_
            cases h
            exact aw_iret X dX0_judge_161
      · rw [if_pos c7] at h
        refine aw_aload_n X dX0_judge_34 1 0 rfl rfl ?_
        refine aw_iconst X (1 : Int32) dX0_judge_35 (by decide) ?_
        obtain ⟨y37, hy37, h⟩ := bind_some h
        refine aw_cV X (st := []) hy37 [.inl (1 : Int32)] rfl rfl ml_X0_103 (fun o h => AX0_met (Cx.ok X) φ (d + 2) _ _ _ _ h) dX0_judge_36 (Nat.le_of_ble_eq_true rfl) ?_
        cases h
        exact aw_iret X dX0_judge_39
    · rw [if_neg c4] at h
      refine aw_iload X dX0_judge_22 0 rfl ?_
      cases h
      exact aw_iret X dX0_judge_24
  · rw [if_pos c2] at h
    refine aw_iconst X (-1 : Int32) dX0_judge_7 (by decide) ?_
    cases h
    exact aw_iret X dX0_judge_8
theorem AX0_judge {E : AE} {l : Launch} (hE : EOK E l) (φ d : Nat) (this : Nat) (v1 : Int32) (v2 : Int32) (v3 : Int32) (σ : St) (y : Int32 × St) (h : fX0_judge φ this v1 v2 v3 σ = some y) : AMet E l yX0_judge (ws_ yX0_judge cX0_judge 9 (some .int)) (d + 3) [.inr (.inr (some this)), .inl v1, .inl v2, .inl v3] σ (some (.inl y.1)) y.2 := by
  refine amet_of hE (by decide +kernel) (Nat.le_of_ble_eq_true rfl) fun C e1 e2 X XI => ?_
  subst e1
  exact wX0_judge X φ this v1 v2 v3 σ y h
theorem wX0_bar_l39 {C : CT} {d : Nat} {Z : State → Prop} (X : Cx C cX0_bar RX0 (some .int) 11 (d + 3)) (φ : Nat) (this : Nat) (v1 : Int32) (v4 : Option Nat) (v5 : Option Nat) (v6 : Int32) (σ : St) (y : (Int32 × St) ⊕ (St)) (h : fX0_bar_l39 φ this v1 v4 v5 v6 σ = some y) (kH : ∀ s : Int32 × St, y = .inl s → AW C 39 [(0, .inr (.inr (some this))), (1, .inl v1), (4, .inr (.inr v4)), (5, .inr (.inr v5)), (6, .inl s.1)] [] s.2 Z) (kE0 : ∀ e : St, y = .inr e → AW C 61 [(0, .inr (.inr (some this))), (1, .inl v1), (4, .inr (.inr v4)), (5, .inr (.inr v5))] [] e Z) : AW C 39 [(0, .inr (.inr (some this))), (1, .inl v1), (4, .inr (.inr v4)), (5, .inr (.inr v5)), (6, .inl v6)] [] σ Z := by
  unfold fX0_bar_l39 at h
  refine aw_iload X dX0_bar_39 4 rfl ?_
  refine aw_aload X dX0_bar_41 2 rfl ?_
  obtain ⟨x8, hx8, h⟩ := bind_some h
  refine aw_alen X dX0_bar_43 hx8 ?_
  refine aw_icmp_ge X 61 dX0_bar_44 rfl (fun c9 => ?_) (fun c9 => ?_)
  · rw [if_pos c9] at h
    cases h
    refine aw_sub [(0, .inr (.inr (some this))), (1, .inl v1), (4, .inr (.inr v4)), (5, .inr (.inr v5))] [0, 1, 2, 3] rfl ?_
    exact kE0 σ rfl
  · rw [if_neg c9] at h
    refine aw_aload X dX0_bar_47 3 rfl ?_
    refine aw_iload X dX0_bar_49 4 rfl ?_
    refine aw_sipush X (1000 : Int32) dX0_bar_51 (by decide) ?_
    obtain ⟨s10, hs10, h⟩ := bind_some h
    refine aw_iast X dX0_bar_54 hs10 ?_
    refine aw_iinc X dX0_bar_55 4 rfl (1 : Int32) rfl (by decide) [(6, .inl (v6 + (1 : Int32))), (0, .inr (.inr (some this))), (1, .inl v1), (4, .inr (.inr v4)), (5, .inr (.inr v5))] rfl ?_
    refine aw_goto X 39 dX0_bar_58 rfl ?_
    cases h
    refine aw_sub [(0, .inr (.inr (some this))), (1, .inl v1), (4, .inr (.inr v4)), (5, .inr (.inr v5)), (6, .inl (v6 + (1 : Int32)))] [1, 2, 3, 4, 0] rfl ?_
    exact kH ((v6 + (1 : Int32)), s10) rfl
theorem wX0_bar_b144 {C : CT} {d : Nat} {Z : State → Prop} (X : Cx C cX0_bar RX0 (some .int) 11 (d + 3)) (φ : Nat) (v4 : Option Nat) (v5 : Option Nat) (v6 : Option Nat) (v7 : Int32) (v8 : Int32) (v9 : Int32) (v10 : Int32) (σ : St) (y : (Int32 × St) ⊕ (St)) (h : fX0_bar_b144 φ v4 v5 v6 v7 v8 v9 v10 σ = some y) (kH : ∀ s : Int32 × St, y = .inl s → AW C 97 [(4, .inr (.inr v4)), (5, .inr (.inr v5)), (6, .inr (.inr v6)), (7, .inl v7), (8, .inl v8), (9, .inl v9), (10, .inl s.1)] [] s.2 Z) (kE0 : ∀ e : St, y = .inr e → AW C 168 [(4, .inr (.inr v4)), (5, .inr (.inr v5)), (6, .inr (.inr v6)), (7, .inl v7), (8, .inl v8)] [] e Z) : AW C 144 [(4, .inr (.inr v4)), (5, .inr (.inr v5)), (6, .inr (.inr v6)), (7, .inl v7), (8, .inl v8), (9, .inl v9), (10, .inl v10)] [] σ Z := by
  unfold fX0_bar_b144 at h
  refine aw_aload X dX0_bar_144 1 rfl ?_
  refine aw_iload X dX0_bar_146 6 rfl ?_
  refine aw_sipush X (1000 : Int32) dX0_bar_148 (by decide) ?_
  refine aw_aload X dX0_bar_151 1 rfl ?_
  refine aw_iload X dX0_bar_153 6 rfl ?_
  obtain ⟨x23, hx23, h⟩ := bind_some h
  refine aw_iald X dX0_bar_155 hx23 ?_
  refine aw_iconst X (1 : Int32) dX0_bar_156 (by decide) ?_
  refine aw_iadd X dX0_bar_157 ?_
  refine aw_mmin X q460 dX0_bar_158 (Nat.le_of_ble_eq_true rfl) ?_
  obtain ⟨s24, hs24, h⟩ := bind_some h
  refine aw_iast X dX0_bar_161 hs24 ?_
  refine aw_iinc X dX0_bar_162 6 rfl (-1 : Int32) rfl (by decide) [(10, .inl (v10 + (-1 : Int32))), (4, .inr (.inr v4)), (5, .inr (.inr v5)), (6, .inr (.inr v6)), (7, .inl v7), (8, .inl v8), (9, .inl v9)] rfl ?_
  refine aw_goto X 97 dX0_bar_165 rfl ?_
  cases h
  refine aw_sub [(4, .inr (.inr v4)), (5, .inr (.inr v5)), (6, .inr (.inr v6)), (7, .inl v7), (8, .inl v8), (9, .inl v9), (10, .inl (v10 + (-1 : Int32)))] [1, 2, 3, 4, 5, 6, 0] rfl ?_
  exact kH ((v10 + (-1 : Int32)), s24) rfl
theorem wX0_bar_l97 {C : CT} {d : Nat} {Z : State → Prop} (X : Cx C cX0_bar RX0 (some .int) 11 (d + 3)) (φ : Nat) (v4 : Option Nat) (v5 : Option Nat) (v6 : Option Nat) (v7 : Int32) (v8 : Int32) (v9 : Int32) (v10 : Int32) (σ : St) (y : (Int32 × St) ⊕ (St)) (h : fX0_bar_l97 φ v4 v5 v6 v7 v8 v9 v10 σ = some y) (kH : ∀ s : Int32 × St, y = .inl s → AW C 97 [(4, .inr (.inr v4)), (5, .inr (.inr v5)), (6, .inr (.inr v6)), (7, .inl v7), (8, .inl v8), (9, .inl v9), (10, .inl s.1)] [] s.2 Z) (kE0 : ∀ e : St, y = .inr e → AW C 168 [(4, .inr (.inr v4)), (5, .inr (.inr v5)), (6, .inr (.inr v6)), (7, .inl v7), (8, .inl v8)] [] e Z) : AW C 97 [(4, .inr (.inr v4)), (5, .inr (.inr v5)), (6, .inr (.inr v6)), (7, .inl v7), (8, .inl v8), (9, .inl v9), (10, .inl v10)] [] σ Z := by
  unfold fX0_bar_l97 at h
  refine aw_iload X dX0_bar_97 6 rfl ?_
  refine aw_if_lt X 168 dX0_bar_99 rfl (fun c18 => ?_) (fun c18 => ?_)
  · rw [if_pos c18] at h
    cases h
    refine aw_sub [(4, .inr (.inr v4)), (5, .inr (.inr v5)), (6, .inr (.inr v6)), (7, .inl v7), (8, .inl v8)] [0, 1, 2, 3, 4] rfl ?_
    exact kE0 σ rfl
  · rw [if_neg c18] at h
    refine aw_aload X dX0_bar_102 0 rfl ?_
    refine aw_iload X dX0_bar_104 6 rfl ?_
    obtain ⟨x19, hx19, h⟩ := bind_some h
    refine aw_bald X dX0_bar_106 hx19 ?_
    refine aw_iload X dX0_bar_107 5 rfl ?_
    refine aw_icmp_ne X 162 dX0_bar_109 rfl (fun c20 => ?_) (fun c20 => ?_)
    · rw [if_neg c20] at h
      refine aw_iinc X dX0_bar_162 6 rfl (-1 : Int32) rfl (by decide) [(10, .inl (v10 + (-1 : Int32))), (4, .inr (.inr v4)), (5, .inr (.inr v5)), (6, .inr (.inr v6)), (7, .inl v7), (8, .inl v8), (9, .inl v9)] rfl ?_
      refine aw_goto X 97 dX0_bar_165 rfl ?_
      cases h
      refine aw_sub [(4, .inr (.inr v4)), (5, .inr (.inr v5)), (6, .inr (.inr v6)), (7, .inl v7), (8, .inl v8), (9, .inl v9), (10, .inl (v10 + (-1 : Int32)))] [1, 2, 3, 4, 5, 6, 0] rfl ?_
      exact kH ((v10 + (-1 : Int32)), σ) rfl
    · rw [if_pos c20] at h
      refine aw_iload X dX0_bar_112 6 rfl ?_
      refine aw_iconst X (1 : Int32) dX0_bar_114 (by decide) ?_
      refine aw_iadd X dX0_bar_115 ?_
      refine aw_aload X dX0_bar_116 0 rfl ?_
      obtain ⟨x21, hx21, h⟩ := bind_some h
      refine aw_alen X dX0_bar_118 hx21 ?_
      refine aw_icmp_ge X 144 dX0_bar_119 rfl (fun c22 => ?_) (fun c22 => ?_)
      · rw [if_pos c22] at h
        exact wX0_bar_b144 X φ v4 v5 v6 v7 v8 v9 v10 σ y h kH kE0
      · rw [if_neg c22] at h
        refine aw_aload X dX0_bar_122 1 rfl ?_
        refine aw_iload X dX0_bar_124 6 rfl ?_
        refine aw_iconst X (1 : Int32) dX0_bar_126 (by decide) ?_
        refine aw_iadd X dX0_bar_127 ?_
        refine aw_aload X dX0_bar_128 1 rfl ?_
        refine aw_iload X dX0_bar_130 6 rfl ?_
        refine aw_iconst X (1 : Int32) dX0_bar_132 (by decide) ?_
        refine aw_iadd X dX0_bar_133 ?_
        obtain ⟨x25, hx25, h⟩ := bind_some h
        refine aw_iald X dX0_bar_134 hx25 ?_
        refine aw_aload X dX0_bar_135 1 rfl ?_
        refine aw_iload X dX0_bar_137 6 rfl ?_
        obtain ⟨x26, hx26, h⟩ := bind_some h
        refine aw_iald X dX0_bar_139 hx26 ?_
        refine aw_mmin X q460 dX0_bar_140 (Nat.le_of_ble_eq_true rfl) ?_
        obtain ⟨s27, hs27, h⟩ := bind_some h
        refine aw_iast X dX0_bar_143 hs27 ?_
        exact wX0_bar_b144 X φ v4 v5 v6 v7 v8 v9 v10 s27 y h kH kE0
theorem wX0_bar_l76 {C : CT} {d : Nat} {Z : State → Prop} (X : Cx C cX0_bar RX0 (some .int) 11 (d + 3)) (φ : Nat) (v4 : Option Nat) (v5 : Option Nat) (v6 : Option Nat) (v7 : Int32) (v8 : Int32) (σ : St) (y : (Int32 × St) ⊕ (St)) (h : fX0_bar_l76 φ v4 v5 v6 v7 v8 σ = some y) (kH : ∀ s : Int32 × St, y = .inl s → AW C 76 [(4, .inr (.inr v4)), (5, .inr (.inr v5)), (6, .inr (.inr v6)), (7, .inl v7), (8, .inl s.1)] [] s.2 Z) (kE0 : ∀ e : St, y = .inr e → AW C 174 [(5, .inr (.inr v5))] [] e Z) : AW C 76 [(4, .inr (.inr v4)), (5, .inr (.inr v5)), (6, .inr (.inr v6)), (7, .inl v7), (8, .inl v8)] [] σ Z := by
  unfold fX0_bar_l76 at h
  refine aw_iload X dX0_bar_76 4 rfl ?_
  refine aw_iload X dX0_bar_78 3 rfl ?_
  refine aw_icmp_ge X 174 dX0_bar_80 rfl (fun c15 => ?_) (fun c15 => ?_)
  · rw [if_pos c15] at h
    cases h
    refine aw_sub [(5, .inr (.inr v5))] [1] rfl ?_
    exact kE0 σ rfl
  · rw [if_neg c15] at h
    refine aw_aload X dX0_bar_83 2 rfl ?_
    refine aw_iload X dX0_bar_85 4 rfl ?_
    obtain ⟨x16, hx16, h⟩ := bind_some h
    refine aw_bald X dX0_bar_87 hx16 ?_
    refine aw_istore X dX0_bar_88 (by decide) [(9, .inl x16), (4, .inr (.inr v4)), (5, .inr (.inr v5)), (6, .inr (.inr v6)), (7, .inl v7), (8, .inl v8)] rfl ?_
    refine aw_aload X dX0_bar_90 1 rfl ?_
    obtain ⟨x17, hx17, h⟩ := bind_some h
    refine aw_alen X dX0_bar_92 hx17 ?_
    refine aw_iconst X (1 : Int32) dX0_bar_93 (by decide) ?_
    refine aw_isub X dX0_bar_94 ?_
    refine aw_istore X dX0_bar_95 (by decide) [(10, .inl (x17 - (1 : Int32))), (9, .inl x16), (4, .inr (.inr v4)), (5, .inr (.inr v5)), (6, .inr (.inr v6)), (7, .inl v7), (8, .inl v8)] rfl ?_
    obtain ⟨e28, h29, h⟩ := bind_some h
    refine aw_sub [(4, .inr (.inr v4)), (5, .inr (.inr v5)), (6, .inr (.inr v6)), (7, .inl v7), (8, .inl v8), (9, .inl x16), (10, .inl (x17 - (1 : Int32)))] [2, 3, 4, 5, 6, 1, 0] rfl ?_
    refine aw_it (fun s => AW C 97 [(4, .inr (.inr v4)), (5, .inr (.inr v5)), (6, .inr (.inr v6)), (7, .inl v7), (8, .inl v8), (9, .inl x16), (10, .inl s.1)] [] s.2 Z) (fun e => AW C 168 [(4, .inr (.inr v4)), (5, .inr (.inr v5)), (6, .inr (.inr v6)), (7, .inl v7), (8, .inl v8)] [] e Z) (fun s r hr kH kE => wX0_bar_l97 X φ v4 v5 v6 v7 v8 x16 s.1 s.2 r hr kH kE) φ _ e28 h29 ?_
    refine aw_iinc X dX0_bar_168 4 rfl (1 : Int32) rfl (by decide) [(8, .inl (v8 + (1 : Int32))), (4, .inr (.inr v4)), (5, .inr (.inr v5)), (6, .inr (.inr v6)), (7, .inl v7)] rfl ?_
    refine aw_goto X 76 dX0_bar_171 rfl ?_
    cases h
    refine aw_sub [(4, .inr (.inr v4)), (5, .inr (.inr v5)), (6, .inr (.inr v6)), (7, .inl v7), (8, .inl (v8 + (1 : Int32)))] [1, 2, 3, 4, 0] rfl ?_
    exact kH ((v8 + (1 : Int32)), e28) rfl
theorem wX0_bar_l191 {C : CT} {d : Nat} {Z : State → Prop} (X : Cx C cX0_bar RX0 (some .int) 11 (d + 3)) (φ : Nat) (v7 : Option Nat) (v8 : Int32) (σ : St) (v6 : Int32) (v9 : Int32) (y : (Int32 × Int32) ⊕ (Int32)) (h : fX0_bar_l191 φ v7 v8 σ v6 v9 = some y) (kH : ∀ s : Int32 × Int32, y = .inl s → AW C 191 [(6, .inl s.1), (7, .inr (.inr v7)), (8, .inl v8), (9, .inl s.2)] [] σ Z) (kE0 : ∀ e : Int32, y = .inr e → AW C 220 [(6, .inl e)] [] σ Z) : AW C 191 [(6, .inl v6), (7, .inr (.inr v7)), (8, .inl v8), (9, .inl v9)] [] σ Z := by
  unfold fX0_bar_l191 at h
  refine aw_iload X dX0_bar_191 3 rfl ?_
  refine aw_iload X dX0_bar_193 2 rfl ?_
  refine aw_icmp_ge X 220 dX0_bar_195 rfl (fun c33 => ?_) (fun c33 => ?_)
  · rw [if_pos c33] at h
    cases h
    refine aw_sub [(6, .inl v6)] [0] rfl ?_
    exact kE0 v6 rfl
  · rw [if_neg c33] at h
    refine aw_aload X dX0_bar_198 1 rfl ?_
    refine aw_iload X dX0_bar_200 3 rfl ?_
    obtain ⟨x34, hx34, h⟩ := bind_some h
    refine aw_iald X dX0_bar_202 hx34 ?_
    refine aw_istore X dX0_bar_203 (by decide) [(10, .inl x34), (6, .inl v6), (7, .inr (.inr v7)), (8, .inl v8), (9, .inl v9)] rfl ?_
    refine aw_iload X dX0_bar_205 1 rfl ?_
    refine aw_iload X dX0_bar_207 0 rfl ?_
    refine aw_mmin X q460 dX0_bar_209 (Nat.le_of_ble_eq_true rfl) ?_
    refine aw_istore X dX0_bar_212 (by decide) [(6, .inl (min32 v6 x34)), (10, .inl x34), (7, .inr (.inr v7)), (8, .inl v8), (9, .inl v9)] rfl ?_
    refine aw_iinc X dX0_bar_214 4 rfl (1 : Int32) rfl (by decide) [(9, .inl (v9 + (1 : Int32))), (6, .inl (min32 v6 x34)), (10, .inl x34), (7, .inr (.inr v7)), (8, .inl v8)] rfl ?_
    refine aw_goto X 191 dX0_bar_217 rfl ?_
    cases h
    refine aw_sub [(6, .inl (min32 v6 x34)), (7, .inr (.inr v7)), (8, .inl v8), (9, .inl (v9 + (1 : Int32)))] [1, 3, 4, 0] rfl ?_
    exact kH ((min32 v6 x34), (v9 + (1 : Int32))) rfl
theorem wX0_bar {C : CT} {d : Nat} (X : Cx C cX0_bar RX0 (some .int) 11 (d + 3)) (φ : Nat) (this : Nat) (v1 : Int32) (v2 : Int32) (σ : St) (y : Int32 × St) (h : fX0_bar φ this v1 v2 σ = some y) : AW C 0 [(0, .inr (.inr (some this))), (1, .inl v1), (2, .inl v2)] [] σ (AQ C (some (.inl y.1)) y.2) := by
  unfold fX0_bar at h
  refine aw_aload_n X dX0_bar_0 0 0 rfl rfl ?_
  refine aw_iload_n X dX0_bar_1 1 1 rfl rfl ?_
  refine aw_iload_n X dX0_bar_2 2 2 rfl rfl ?_
  obtain ⟨y1, hy1, h⟩ := bind_some h
  refine aw_cV X (st := []) hy1 [.inl v1, .inl v2] rfl rfl ml_X0_185 (fun o h => AX0_askedTwo (Cx.ok X) φ d _ _ _ _ _ h) dX0_bar_3 (Nat.le_of_ble_eq_true rfl) ?_
  refine aw_istore_n X dX0_bar_6 3 rfl (by decide) [(3, .inl y1.1), (0, .inr (.inr (some this))), (1, .inl v1), (2, .inl v2)] rfl ?_
  refine aw_iload_n X dX0_bar_7 0 3 rfl rfl ?_
  refine aw_if_ge X 13 dX0_bar_8 rfl (fun c2 => ?_) (fun c2 => ?_)
  · rw [if_pos c2] at h
    refine aw_aload_n X dX0_bar_13 1 0 rfl rfl ?_
    refine aw_iload_n X dX0_bar_14 3 2 rfl rfl ?_
    obtain ⟨y3, hy3, h⟩ := bind_some h
    refine aw_cV X (st := []) hy3 [.inl v2] rfl rfl ml_X0_188 (fun o h => AX0_of (Cx.ok X) φ (d + 2) _ _ _ _ h) dX0_bar_15 (Nat.le_of_ble_eq_true rfl) ?_
    refine aw_astore X dX0_bar_18 (by decide) [(4, .inr (.inr y3)), (3, .inl y1.1), (0, .inr (.inr (some this))), (1, .inl v1), (2, .inl v2)] rfl ?_
    refine aw_aload X dX0_bar_20 0 rfl ?_
    obtain ⟨x4, hx4, h⟩ := bind_some h
    refine aw_alen X dX0_bar_22 hx4 ?_
    refine aw_if_ne X 29 dX0_bar_23 rfl (fun c5 => ?_) (fun c5 => ?_)
    · rw [if_neg c5] at h
      refine aw_aload X dX0_bar_29 0 rfl ?_
      obtain ⟨x6, hx6, h⟩ := bind_some h
      refine aw_alen X dX0_bar_31 hx6 ?_
      obtain ⟨n7, hn7, h⟩ := bind_some h
      refine aw_newa X (kd := 1) dX0_bar_32 rfl (by decide) (by decide) q215 (r := n7.1) (σ' := n7.2) hn7 ?_
      refine aw_astore X dX0_bar_34 (by decide) [(5, .inr (.inr n7.1)), (4, .inr (.inr y3)), (3, .inl y1.1), (0, .inr (.inr (some this))), (1, .inl v1), (2, .inl v2)] rfl ?_
      refine aw_iconst X (1 : Int32) dX0_bar_36 (by decide) ?_
      refine aw_istore X dX0_bar_37 (by decide) [(6, .inl (1 : Int32)), (5, .inr (.inr n7.1)), (4, .inr (.inr y3)), (3, .inl y1.1), (0, .inr (.inr (some this))), (1, .inl v1), (2, .inl v2)] rfl ?_
      obtain ⟨e11, h12, h⟩ := bind_some h
      refine aw_sub [(0, .inr (.inr (some this))), (1, .inl v1), (4, .inr (.inr y3)), (5, .inr (.inr n7.1)), (6, .inl (1 : Int32))] [4, 5, 2, 1, 0] rfl ?_
      refine aw_it (fun s => AW C 39 [(0, .inr (.inr (some this))), (1, .inl v1), (4, .inr (.inr y3)), (5, .inr (.inr n7.1)), (6, .inl s.1)] [] s.2 (AQ C (some (.inl y.1)) y.2)) (fun e => AW C 61 [(0, .inr (.inr (some this))), (1, .inl v1), (4, .inr (.inr y3)), (5, .inr (.inr n7.1))] [] e (AQ C (some (.inl y.1)) y.2)) (fun s r hr kH kE => wX0_bar_l39 X φ this v1 y3 n7.1 s.1 s.2 r hr kH kE) φ _ e11 h12 ?_
      refine aw_aload_n X dX0_bar_61 0 0 rfl rfl ?_
      refine aw_iload_n X dX0_bar_62 1 1 rfl rfl ?_
      obtain ⟨y13, hy13, h⟩ := bind_some h
      refine aw_cV X (st := []) hy13 [.inl v1] rfl rfl ml_X0_188 (fun o h => AX0_of (Cx.ok X) φ (d + 2) _ _ _ _ h) dX0_bar_63 (Nat.le_of_ble_eq_true rfl) ?_
      refine aw_astore X dX0_bar_66 (by decide) [(6, .inr (.inr y13)), (0, .inr (.inr (some this))), (1, .inl v1), (4, .inr (.inr y3)), (5, .inr (.inr n7.1))] rfl ?_
      refine aw_aload X dX0_bar_68 0 rfl ?_
      obtain ⟨x14, hx14, h⟩ := bind_some h
      refine aw_alen X dX0_bar_70 hx14 ?_
      refine aw_istore X dX0_bar_71 (by decide) [(7, .inl x14), (6, .inr (.inr y13)), (0, .inr (.inr (some this))), (1, .inl v1), (4, .inr (.inr y3)), (5, .inr (.inr n7.1))] rfl ?_
      refine aw_iconst X (0 : Int32) dX0_bar_73 (by decide) ?_
      refine aw_istore X dX0_bar_74 (by decide) [(8, .inl (0 : Int32)), (7, .inl x14), (6, .inr (.inr y13)), (0, .inr (.inr (some this))), (1, .inl v1), (4, .inr (.inr y3)), (5, .inr (.inr n7.1))] rfl ?_
      obtain ⟨e30, h31, h⟩ := bind_some h
      refine aw_sub [(4, .inr (.inr y3)), (5, .inr (.inr n7.1)), (6, .inr (.inr y13)), (7, .inl x14), (8, .inl (0 : Int32))] [5, 6, 2, 1, 0] rfl ?_
      refine aw_it (fun s => AW C 76 [(4, .inr (.inr y3)), (5, .inr (.inr n7.1)), (6, .inr (.inr y13)), (7, .inl x14), (8, .inl s.1)] [] s.2 (AQ C (some (.inl y.1)) y.2)) (fun e => AW C 174 [(5, .inr (.inr n7.1))] [] e (AQ C (some (.inl y.1)) y.2)) (fun s r hr kH kE => wX0_bar_l76 X φ y3 n7.1 y13 x14 s.1 s.2 r hr kH kE) φ _ e30 h31 ?_
      refine aw_sipush X (1000 : Int32) dX0_bar_174 (by decide) ?_
      refine aw_istore X dX0_bar_177 (by decide) [(6, .inl (1000 : Int32)), (5, .inr (.inr n7.1))] rfl ?_
      refine aw_aload X dX0_bar_179 1 rfl ?_
      refine aw_astore X dX0_bar_181 (by decide) [(7, .inr (.inr n7.1)), (6, .inl (1000 : Int32)), (5, .inr (.inr n7.1))] rfl ?_
      refine aw_aload X dX0_bar_183 0 rfl ?_
      obtain ⟨x32, hx32, h⟩ := bind_some h
      refine aw_alen X dX0_bar_185 hx32 ?_
      refine aw_istore X dX0_bar_186 (by decide) [(8, .inl x32), (7, .inr (.inr n7.1)), (6, .inl (1000 : Int32)), (5, .inr (.inr n7.1))] rfl ?_
      refine aw_iconst X (0 : Int32) dX0_bar_188 (by decide) ?_
      refine aw_istore X dX0_bar_189 (by decide) [(9, .inl (0 : Int32)), (8, .inl x32), (7, .inr (.inr n7.1)), (6, .inl (1000 : Int32)), (5, .inr (.inr n7.1))] rfl ?_
      obtain ⟨e35, h36, h⟩ := bind_some h
      refine aw_sub [(6, .inl (1000 : Int32)), (7, .inr (.inr n7.1)), (8, .inl x32), (9, .inl (0 : Int32))] [3, 2, 1, 0] rfl ?_
      refine aw_it (fun s => AW C 191 [(6, .inl s.1), (7, .inr (.inr n7.1)), (8, .inl x32), (9, .inl s.2)] [] e30 (AQ C (some (.inl y.1)) y.2)) (fun e => AW C 220 [(6, .inl e)] [] e30 (AQ C (some (.inl y.1)) y.2)) (fun s r hr kH kE => wX0_bar_l191 X φ n7.1 x32 e30 s.1 s.2 r hr kH kE) φ _ e35 h36 ?_
      refine aw_iload X dX0_bar_220 0 rfl ?_
      cases h
      exact aw_iret X dX0_bar_222
    · rw [if_pos c5] at h
      refine aw_bipush X (-4 : Int32) dX0_bar_26 (by decide) ?_
      cases h
      exact aw_iret X dX0_bar_28
  · rw [if_neg c2] at h
    refine aw_iload_n X dX0_bar_11 0 3 rfl rfl ?_
    cases h
    exact aw_iret X dX0_bar_12
theorem AX0_bar {E : AE} {l : Launch} (hE : EOK E l) (φ d : Nat) (this : Nat) (v1 : Int32) (v2 : Int32) (σ : St) (y : Int32 × St) (h : fX0_bar φ this v1 v2 σ = some y) : AMet E l yX0_bar (ws_ yX0_bar cX0_bar 11 (some .int)) (d + 3) [.inr (.inr (some this)), .inl v1, .inl v2] σ (some (.inl y.1)) y.2 := by
  refine amet_of hE (by decide +kernel) (Nat.le_of_ble_eq_true rfl) fun C e1 e2 X XI => ?_
  subst e1
  exact wX0_bar X φ this v1 v2 σ y h
theorem wX0_setCounts_l39 {C : CT} {d : Nat} {Z : State → Prop} (X : Cx C cX0_setCounts RX0 none 8 (d + 1)) (φ : Nat) (this : Nat) (v2 : Int32) (v3 : Int32) (σ : St) (v4 : Int64) (v6 : Int32) (y : (Int64 × Int32) ⊕ (Int64)) (h : fX0_setCounts_l39 φ this v2 v3 σ v4 v6 = some y) (kH : ∀ s : Int64 × Int32, y = .inl s → AW C 39 [(0, .inr (.inr (some this))), (2, .inl v2), (3, .inl v3), (4, .inr (.inl s.1)), (6, .inl s.2)] [] σ Z) (kE0 : ∀ e : Int64, y = .inr e → AW C 98 [(0, .inr (.inr (some this))), (2, .inl v2), (3, .inl v3), (4, .inr (.inl e))] [] σ Z) : AW C 39 [(0, .inr (.inr (some this))), (2, .inl v2), (3, .inl v3), (4, .inr (.inl v4)), (6, .inl v6)] [] σ Z := by
  unfold fX0_setCounts_l39 at h
  refine aw_iload X dX0_setCounts_39 4 rfl ?_
  refine aw_aload_n X dX0_setCounts_41 0 0 rfl rfl ?_
  obtain ⟨x8, hx8, h⟩ := bind_some h
  refine aw_gfI X fl_X0_30 dX0_setCounts_42 hx8 ?_
  refine aw_icmp_ge X 98 dX0_setCounts_45 rfl (fun c9 => ?_) (fun c9 => ?_)
  · rw [if_pos c9] at h
    cases h
    refine aw_sub [(0, .inr (.inr (some this))), (2, .inl v2), (3, .inl v3), (4, .inr (.inl v4))] [0, 1, 2, 3] rfl ?_
    exact kE0 v4 rfl
  · rw [if_neg c9] at h
    refine aw_aload_n X dX0_setCounts_48 0 0 rfl rfl ?_
    obtain ⟨x10, hx10, h⟩ := bind_some h
    refine aw_gfR X fl_X0_53 dX0_setCounts_49 hx10 ?_
    refine aw_bipush X (6 : Int32) dX0_setCounts_52 (by decide) ?_
    refine aw_iload_n X dX0_setCounts_54 1 2 rfl rfl ?_
    refine aw_imul X dX0_setCounts_55 ?_
    refine aw_iload X dX0_setCounts_56 4 rfl ?_
    refine aw_iadd X dX0_setCounts_58 ?_
    obtain ⟨x11, hx11, h⟩ := bind_some h
    refine aw_iald X dX0_setCounts_59 hx11 ?_
    refine aw_istore X dX0_setCounts_60 (by decide) [(7, .inl x11), (0, .inr (.inr (some this))), (2, .inl v2), (3, .inl v3), (4, .inr (.inl v4)), (6, .inl v6)] rfl ?_
    refine aw_lload X dX0_setCounts_62 4 rfl ?_
    refine aw_iload X dX0_setCounts_64 0 rfl ?_
    refine aw_bipush X (-9 : Int32) dX0_setCounts_66 (by decide) ?_
    refine aw_icmp_ne X 75 dX0_setCounts_68 rfl (fun c12 => ?_) (fun c12 => ?_)
    · rw [if_neg c12] at h
      refine aw_aload_n X dX0_setCounts_75 1 0 rfl rfl ?_
      obtain ⟨x13, hx13, h⟩ := bind_some h
      refine aw_gfR X fl_X0_65 dX0_setCounts_76 hx13 ?_
      refine aw_bipush X (41 : Int32) dX0_setCounts_79 (by decide) ?_
      refine aw_iload X dX0_setCounts_81 0 rfl ?_
      refine aw_imul X dX0_setCounts_83 ?_
      refine aw_iload_n X dX0_setCounts_84 3 3 rfl rfl ?_
      refine aw_iadd X dX0_setCounts_85 ?_
      refine aw_iconst X (1 : Int32) dX0_setCounts_86 (by decide) ?_
      refine aw_isub X dX0_setCounts_87 ?_
      obtain ⟨x14, hx14, h⟩ := bind_some h
      refine aw_lald X dX0_setCounts_88 hx14 ?_
      refine aw_ladd X dX0_setCounts_89 ?_
      refine aw_lstore X dX0_setCounts_90 (by decide) [(4, .inr (.inl (v4 + x14))), (7, .inl x11), (0, .inr (.inr (some this))), (2, .inl v2), (3, .inl v3), (6, .inl v6)] rfl ?_
      refine aw_iinc X dX0_setCounts_92 5 rfl (1 : Int32) rfl (by decide) [(6, .inl (v6 + (1 : Int32))), (4, .inr (.inl (v4 + x14))), (7, .inl x11), (0, .inr (.inr (some this))), (2, .inl v2), (3, .inl v3)] rfl ?_
      refine aw_goto X 39 dX0_setCounts_95 rfl ?_
      cases h
      refine aw_sub [(0, .inr (.inr (some this))), (2, .inl v2), (3, .inl v3), (4, .inr (.inl (v4 + x14))), (6, .inl (v6 + (1 : Int32)))] [3, 4, 5, 1, 0] rfl ?_
      exact kH ((v4 + x14), (v6 + (1 : Int32))) rfl
    · rw [if_pos c12] at h
      refine aw_lconst X (0 : Int64) dX0_setCounts_71 rfl ?_
      refine aw_goto X 89 dX0_setCounts_72 rfl ?_
      refine aw_ladd X dX0_setCounts_89 ?_
      refine aw_lstore X dX0_setCounts_90 (by decide) [(4, .inr (.inl (v4 + (0 : Int64)))), (7, .inl x11), (0, .inr (.inr (some this))), (2, .inl v2), (3, .inl v3), (6, .inl v6)] rfl ?_
      refine aw_iinc X dX0_setCounts_92 5 rfl (1 : Int32) rfl (by decide) [(6, .inl (v6 + (1 : Int32))), (4, .inr (.inl (v4 + (0 : Int64)))), (7, .inl x11), (0, .inr (.inr (some this))), (2, .inl v2), (3, .inl v3)] rfl ?_
      refine aw_goto X 39 dX0_setCounts_95 rfl ?_
      cases h
      refine aw_sub [(0, .inr (.inr (some this))), (2, .inl v2), (3, .inl v3), (4, .inr (.inl (v4 + (0 : Int64)))), (6, .inl (v6 + (1 : Int32)))] [3, 4, 5, 1, 0] rfl ?_
      exact kH ((v4 + (0 : Int64)), (v6 + (1 : Int32))) rfl
theorem wX0_setCounts_l27 {C : CT} {d : Nat} {Z : State → Prop} (X : Cx C cX0_setCounts RX0 none 8 (d + 1)) (φ : Nat) (this : Nat) (v2 : Int32) (v3 : Int32) (σ : St) (y : (Int32 × St) ⊕ (St)) (h : fX0_setCounts_l27 φ this v2 v3 σ = some y) (kH : ∀ s : Int32 × St, y = .inl s → AW C 27 [(0, .inr (.inr (some this))), (2, .inl v2), (3, .inl s.1)] [] s.2 Z) (kE0 : ∀ e : St, y = .inr e → AW C 117 [(0, .inr (.inr (some this))), (2, .inl v2)] [] e Z) : AW C 27 [(0, .inr (.inr (some this))), (2, .inl v2), (3, .inl v3)] [] σ Z := by
  unfold fX0_setCounts_l27 at h
  refine aw_iload_n X dX0_setCounts_27 2 3 rfl rfl ?_
  refine aw_bipush X (40 : Int32) dX0_setCounts_28 (by decide) ?_
  refine aw_icmp_gt X 117 dX0_setCounts_30 rfl (fun c7 => ?_) (fun c7 => ?_)
  · rw [if_pos c7] at h
    cases h
    refine aw_sub [(0, .inr (.inr (some this))), (2, .inl v2)] [0, 1] rfl ?_
    exact kE0 σ rfl
  · rw [if_neg c7] at h
    refine aw_lconst X (0 : Int64) dX0_setCounts_33 rfl ?_
    refine aw_lstore X dX0_setCounts_34 (by decide) [(4, .inr (.inl (0 : Int64))), (0, .inr (.inr (some this))), (2, .inl v2), (3, .inl v3)] rfl ?_
    refine aw_iconst X (0 : Int32) dX0_setCounts_36 (by decide) ?_
    refine aw_istore X dX0_setCounts_37 (by decide) [(6, .inl (0 : Int32)), (4, .inr (.inl (0 : Int64))), (0, .inr (.inr (some this))), (2, .inl v2), (3, .inl v3)] rfl ?_
    obtain ⟨e15, h16, h⟩ := bind_some h
    refine aw_sub [(0, .inr (.inr (some this))), (2, .inl v2), (3, .inl v3), (4, .inr (.inl (0 : Int64))), (6, .inl (0 : Int32))] [2, 3, 4, 1, 0] rfl ?_
    refine aw_it (fun s => AW C 39 [(0, .inr (.inr (some this))), (2, .inl v2), (3, .inl v3), (4, .inr (.inl s.1)), (6, .inl s.2)] [] σ Z) (fun e => AW C 98 [(0, .inr (.inr (some this))), (2, .inl v2), (3, .inl v3), (4, .inr (.inl e))] [] σ Z) (fun s r hr kH kE => wX0_setCounts_l39 X φ this v2 v3 σ s.1 s.2 r hr kH kE) φ _ e15 h16 ?_
    refine aw_aload_n X dX0_setCounts_98 0 0 rfl rfl ?_
    obtain ⟨x17, hx17, h⟩ := bind_some h
    refine aw_gfR X fl_X0_65 dX0_setCounts_99 hx17 ?_
    refine aw_bipush X (41 : Int32) dX0_setCounts_102 (by decide) ?_
    refine aw_iload_n X dX0_setCounts_104 1 2 rfl rfl ?_
    refine aw_imul X dX0_setCounts_105 ?_
    refine aw_iload_n X dX0_setCounts_106 2 3 rfl rfl ?_
    refine aw_iadd X dX0_setCounts_107 ?_
    refine aw_lload X dX0_setCounts_108 3 rfl ?_
    obtain ⟨s18, hs18, h⟩ := bind_some h
    refine aw_last X dX0_setCounts_110 hs18 ?_
    refine aw_iinc X dX0_setCounts_111 2 rfl (1 : Int32) rfl (by decide) [(3, .inl (v3 + (1 : Int32))), (0, .inr (.inr (some this))), (2, .inl v2), (4, .inr (.inl e15))] rfl ?_
    refine aw_goto X 27 dX0_setCounts_114 rfl ?_
    cases h
    refine aw_sub [(0, .inr (.inr (some this))), (2, .inl v2), (3, .inl (v3 + (1 : Int32)))] [1, 2, 0] rfl ?_
    exact kH ((v3 + (1 : Int32)), s18) rfl
theorem wX0_setCounts_l11 {C : CT} {d : Nat} {Z : State → Prop} (X : Cx C cX0_setCounts RX0 none 8 (d + 1)) (φ : Nat) (this : Nat) (v2 : Int32) (σ : St) (y : (Int32 × St) ⊕ (St)) (h : fX0_setCounts_l11 φ this v2 σ = some y) (kH : ∀ s : Int32 × St, y = .inl s → AW C 11 [(0, .inr (.inr (some this))), (2, .inl s.1)] [] s.2 Z) (kE0 : ∀ e : St, y = .inr e → AW C 123 [] [] e Z) : AW C 11 [(0, .inr (.inr (some this))), (2, .inl v2)] [] σ Z := by
  unfold fX0_setCounts_l11 at h
  refine aw_iload_n X dX0_setCounts_11 1 2 rfl rfl ?_
  refine aw_if_lt X 123 dX0_setCounts_12 rfl (fun c4 => ?_) (fun c4 => ?_)
  · rw [if_pos c4] at h
    cases h
    refine aw_sub [] [] rfl ?_
    exact kE0 σ rfl
  · rw [if_neg c4] at h
    refine aw_aload_n X dX0_setCounts_15 0 0 rfl rfl ?_
    obtain ⟨x5, hx5, h⟩ := bind_some h
    refine aw_gfR X fl_X0_65 dX0_setCounts_16 hx5 ?_
    refine aw_bipush X (41 : Int32) dX0_setCounts_19 (by decide) ?_
    refine aw_iload_n X dX0_setCounts_21 1 2 rfl rfl ?_
    refine aw_imul X dX0_setCounts_22 ?_
    refine aw_lconst X (1 : Int64) dX0_setCounts_23 rfl ?_
    obtain ⟨s6, hs6, h⟩ := bind_some h
    refine aw_last X dX0_setCounts_24 hs6 ?_
    refine aw_iconst X (1 : Int32) dX0_setCounts_25 (by decide) ?_
    refine aw_istore_n X dX0_setCounts_26 3 rfl (by decide) [(3, .inl (1 : Int32)), (0, .inr (.inr (some this))), (2, .inl v2)] rfl ?_
    obtain ⟨e19, h20, h⟩ := bind_some h
    refine aw_sub [(0, .inr (.inr (some this))), (2, .inl v2), (3, .inl (1 : Int32))] [1, 2, 0] rfl ?_
    refine aw_it (fun s => AW C 27 [(0, .inr (.inr (some this))), (2, .inl v2), (3, .inl s.1)] [] s.2 Z) (fun e => AW C 117 [(0, .inr (.inr (some this))), (2, .inl v2)] [] e Z) (fun s r hr kH kE => wX0_setCounts_l27 X φ this v2 s.1 s.2 r hr kH kE) φ _ e19 h20 ?_
    refine aw_iinc X dX0_setCounts_117 1 rfl (-1 : Int32) rfl (by decide) [(2, .inl (v2 + (-1 : Int32))), (0, .inr (.inr (some this)))] rfl ?_
    refine aw_goto X 11 dX0_setCounts_120 rfl ?_
    cases h
    refine aw_sub [(0, .inr (.inr (some this))), (2, .inl (v2 + (-1 : Int32)))] [1, 0] rfl ?_
    exact kH ((v2 + (-1 : Int32)), e19) rfl
theorem wX0_setCounts {C : CT} {d : Nat} (X : Cx C cX0_setCounts RX0 none 8 (d + 1)) (φ : Nat) (this : Nat) (v1 : Option Nat) (σ : St) (y : St) (h : fX0_setCounts φ this v1 σ = some y) : AW C 0 [(0, .inr (.inr (some this))), (1, .inr (.inr v1))] [] σ (AQ C none y) := by
  unfold fX0_setCounts at h
  refine aw_aload_n X dX0_setCounts_0 1 1 rfl rfl ?_
  refine aw_aload_n X dX0_setCounts_1 0 0 rfl rfl ?_
  obtain ⟨x1, hx1, h⟩ := bind_some h
  refine aw_gfR X fl_X0_53 dX0_setCounts_2 hx1 ?_
  obtain ⟨y2, hy2, h⟩ := bind_some h
  refine aw_callS X (st := []) [.inr (.inr v1), .inr (.inr x1)] rfl ml_X0_249 (AX0_setNext (Cx.ok X) φ d _ _ _ _  hy2) dX0_setCounts_5 (Nat.le_of_ble_eq_true rfl) ?_
  refine aw_aload_n X dX0_setCounts_8 1 1 rfl rfl ?_
  obtain ⟨x3, hx3, h⟩ := bind_some h
  refine aw_alen X dX0_setCounts_9 hx3 ?_
  refine aw_istore_n X dX0_setCounts_10 2 rfl (by decide) [(2, .inl x3), (0, .inr (.inr (some this))), (1, .inr (.inr v1))] rfl ?_
  obtain ⟨e21, h22, h⟩ := bind_some h
  refine aw_sub [(0, .inr (.inr (some this))), (2, .inl x3)] [1, 0] rfl ?_
  refine aw_it (fun s => AW C 11 [(0, .inr (.inr (some this))), (2, .inl s.1)] [] s.2 (AQ C none y)) (fun e => AW C 123 [] [] e (AQ C none y)) (fun s r hr kH kE => wX0_setCounts_l11 X φ this s.1 s.2 r hr kH kE) φ _ e21 h22 ?_
  cases h
  exact aw_vret X dX0_setCounts_123
theorem AX0_setCounts {E : AE} {l : Launch} (hE : EOK E l) (φ d : Nat) (this : Nat) (v1 : Option Nat) (σ : St) (y : St) (h : fX0_setCounts φ this v1 σ = some y) : AMet E l yX0_setCounts (ws_ yX0_setCounts cX0_setCounts 8 none) (d + 1) [.inr (.inr (some this)), .inr (.inr v1)] σ none y := by
  refine amet_of hE (by decide +kernel) (Nat.le_of_ble_eq_true rfl) fun C e1 e2 X XI => ?_
  subst e1
  exact wX0_setCounts X φ this v1 σ y h
theorem wX0_inner_b66 {C : CT} {d : Nat} {Z : State → Prop} (X : Cx C cX0_inner RX0 (some .int) 7 (d + 3)) (φ : Nat) (this : Nat) (v2 : Int32) (v6 : Int32) (k0 : Int64) (σ : St) (y : (Int64 × Int32) ⊕ (Int64)) (h : fX0_inner_b66 φ this v2 v6 k0 σ = some y) (kH : ∀ s : Int64 × Int32, y = .inl s → AW C 45 [(0, .inr (.inr (some this))), (2, .inl v2), (4, .inr (.inl s.1)), (6, .inl s.2)] [] σ Z) (kE0 : ∀ e : Int64, y = .inr e → AW C 86 [(0, .inr (.inr (some this))), (4, .inr (.inl e))] [] σ Z) : AW C 66 [(0, .inr (.inr (some this))), (2, .inl v2), (6, .inl v6)] [.inr (.inl k0)] σ Z := by
  unfold fX0_inner_b66 at h
  refine aw_aload_n X dX0_inner_66 0 0 rfl rfl ?_
  obtain ⟨x8, hx8, h⟩ := bind_some h
  refine aw_gfR X fl_X0_65 dX0_inner_67 hx8 ?_
  refine aw_iload X dX0_inner_70 2 rfl ?_
  obtain ⟨x9, hx9, h⟩ := bind_some h
  refine aw_lald X dX0_inner_72 hx9 ?_
  refine aw_goto X 77 dX0_inner_73 rfl ?_
  refine aw_ladd X dX0_inner_77 ?_
  refine aw_lstore X dX0_inner_78 (by decide) [(4, .inr (.inl (k0 + x9))), (0, .inr (.inr (some this))), (2, .inl v2), (6, .inl v6)] rfl ?_
  refine aw_iinc X dX0_inner_80 3 rfl (1 : Int32) rfl (by decide) [(6, .inl (v6 + (1 : Int32))), (4, .inr (.inl (k0 + x9))), (0, .inr (.inr (some this))), (2, .inl v2)] rfl ?_
  refine aw_goto X 45 dX0_inner_83 rfl ?_
  cases h
  refine aw_sub [(0, .inr (.inr (some this))), (2, .inl v2), (4, .inr (.inl (k0 + x9))), (6, .inl (v6 + (1 : Int32)))] [2, 3, 1, 0] rfl ?_
  exact kH ((k0 + x9), (v6 + (1 : Int32))) rfl
theorem wX0_inner_l45 {C : CT} {d : Nat} {Z : State → Prop} (X : Cx C cX0_inner RX0 (some .int) 7 (d + 3)) (φ : Nat) (this : Nat) (v2 : Int32) (σ : St) (v4 : Int64) (v6 : Int32) (y : (Int64 × Int32) ⊕ (Int64)) (h : fX0_inner_l45 φ this v2 σ v4 v6 = some y) (kH : ∀ s : Int64 × Int32, y = .inl s → AW C 45 [(0, .inr (.inr (some this))), (2, .inl v2), (4, .inr (.inl s.1)), (6, .inl s.2)] [] σ Z) (kE0 : ∀ e : Int64, y = .inr e → AW C 86 [(0, .inr (.inr (some this))), (4, .inr (.inl e))] [] σ Z) : AW C 45 [(0, .inr (.inr (some this))), (2, .inl v2), (4, .inr (.inl v4)), (6, .inl v6)] [] σ Z := by
  unfold fX0_inner_l45 at h
  refine aw_iload X dX0_inner_45 3 rfl ?_
  refine aw_bipush X (40 : Int32) dX0_inner_47 (by decide) ?_
  refine aw_icmp_gt X 86 dX0_inner_49 rfl (fun c6 => ?_) (fun c6 => ?_)
  · rw [if_pos c6] at h
    cases h
    refine aw_sub [(0, .inr (.inr (some this))), (4, .inr (.inl v4))] [0, 2] rfl ?_
    exact kE0 v4 rfl
  · rw [if_neg c6] at h
    refine aw_lload X dX0_inner_52 2 rfl ?_
    refine aw_iload_n X dX0_inner_54 1 2 rfl rfl ?_
    refine aw_bipush X (-9 : Int32) dX0_inner_55 (by decide) ?_
    refine aw_icmp_eq X 66 dX0_inner_57 rfl (fun c7 => ?_) (fun c7 => ?_)
    · rw [if_pos c7] at h
      refine aw_sub [(0, .inr (.inr (some this))), (2, .inl v2), (6, .inl v6)] [0, 1, 3] rfl ?_
      exact wX0_inner_b66 X φ this v2 v6 v4 σ y h kH kE0
    · rw [if_neg c7] at h
      refine aw_iload_n X dX0_inner_60 1 2 rfl rfl ?_
      refine aw_iload X dX0_inner_61 3 rfl ?_
      refine aw_icmp_ne X 76 dX0_inner_63 rfl (fun c10 => ?_) (fun c10 => ?_)
      · rw [if_neg c10] at h
        refine aw_lconst X (0 : Int64) dX0_inner_76 rfl ?_
        refine aw_ladd X dX0_inner_77 ?_
        refine aw_lstore X dX0_inner_78 (by decide) [(4, .inr (.inl (v4 + (0 : Int64)))), (0, .inr (.inr (some this))), (2, .inl v2), (6, .inl v6)] rfl ?_
        refine aw_iinc X dX0_inner_80 3 rfl (1 : Int32) rfl (by decide) [(6, .inl (v6 + (1 : Int32))), (4, .inr (.inl (v4 + (0 : Int64)))), (0, .inr (.inr (some this))), (2, .inl v2)] rfl ?_
        refine aw_goto X 45 dX0_inner_83 rfl ?_
        cases h
        refine aw_sub [(0, .inr (.inr (some this))), (2, .inl v2), (4, .inr (.inl (v4 + (0 : Int64)))), (6, .inl (v6 + (1 : Int32)))] [2, 3, 1, 0] rfl ?_
        exact kH ((v4 + (0 : Int64)), (v6 + (1 : Int32))) rfl
      · rw [if_pos c10] at h
        refine aw_sub [(0, .inr (.inr (some this))), (2, .inl v2), (6, .inl v6)] [0, 1, 3] rfl ?_
        exact wX0_inner_b66 X φ this v2 v6 v4 σ y h kH kE0
theorem wX0_inner_b18 {C : CT} {d : Nat} (X : Cx C cX0_inner RX0 (some .int) 7 (d + 3)) (φ : Nat) (this : Nat) (v1 : Int32) (v2 : Int32) (σ : St) (y : Int32 × St) (h : fX0_inner_b18 φ this v1 v2 σ = some y)  : AW C 18 [(0, .inr (.inr (some this))), (1, .inl v1), (2, .inl v2)] [] σ (AQ C (some (.inl y.1)) y.2) := by
  unfold fX0_inner_b18 at h
  refine aw_aload_n X dX0_inner_18 0 0 rfl rfl ?_
  refine aw_iload_n X dX0_inner_19 1 1 rfl rfl ?_
  obtain ⟨y2, hy2, h⟩ := bind_some h
  refine aw_cV X (st := []) hy2 [.inl v1] rfl rfl ml_X0_195 (fun o h => AX0_askedWord (Cx.ok X) φ d _ _ _ _ h) dX0_inner_20 (Nat.le_of_ble_eq_true rfl) ?_
  refine aw_istore_n X dX0_inner_23 3 rfl (by decide) [(3, .inl y2.1), (0, .inr (.inr (some this))), (1, .inl v1), (2, .inl v2)] rfl ?_
  refine aw_iload_n X dX0_inner_24 0 3 rfl rfl ?_
  refine aw_if_ge X 30 dX0_inner_25 rfl (fun c3 => ?_) (fun c3 => ?_)
  · rw [if_pos c3] at h
    refine aw_aload_n X dX0_inner_30 1 0 rfl rfl ?_
    refine aw_aload_n X dX0_inner_31 1 0 rfl rfl ?_
    refine aw_iload_n X dX0_inner_32 2 1 rfl rfl ?_
    obtain ⟨y4, hy4, h⟩ := bind_some h
    refine aw_cV X (st := [.inr (.inr (some this))]) hy4 [.inl v1] rfl rfl ml_X0_188 (fun o h => AX0_of (Cx.ok X) φ (d + 2) _ _ _ _ h) dX0_inner_33 (Nat.le_of_ble_eq_true rfl) ?_
    obtain ⟨y5, hy5, h⟩ := bind_some h
    refine aw_cV X (st := []) hy5 [.inr (.inr y4)] rfl rfl ml_X0_253 (fun o h => AX0_setCounts (Cx.ok X) φ (d + 1) _ _ _ _ h) dX0_inner_36 (Nat.le_of_ble_eq_true rfl) ?_
    refine aw_lconst X (0 : Int64) dX0_inner_39 rfl ?_
    refine aw_lstore X dX0_inner_40 (by decide) [(4, .inr (.inl (0 : Int64))), (3, .inl y2.1), (0, .inr (.inr (some this))), (1, .inl v1), (2, .inl v2)] rfl ?_
    refine aw_iconst X (0 : Int32) dX0_inner_42 (by decide) ?_
    refine aw_istore X dX0_inner_43 (by decide) [(6, .inl (0 : Int32)), (4, .inr (.inl (0 : Int64))), (3, .inl y2.1), (0, .inr (.inr (some this))), (1, .inl v1), (2, .inl v2)] rfl ?_
    obtain ⟨e11, h12, h⟩ := bind_some h
    refine aw_sub [(0, .inr (.inr (some this))), (2, .inl v2), (4, .inr (.inl (0 : Int64))), (6, .inl (0 : Int32))] [3, 5, 1, 0] rfl ?_
    refine aw_it (fun s => AW C 45 [(0, .inr (.inr (some this))), (2, .inl v2), (4, .inr (.inl s.1)), (6, .inl s.2)] [] y5 (AQ C (some (.inl y.1)) y.2)) (fun e => AW C 86 [(0, .inr (.inr (some this))), (4, .inr (.inl e))] [] y5 (AQ C (some (.inl y.1)) y.2)) (fun s r hr kH kE => wX0_inner_l45 X φ this v2 y5 s.1 s.2 r hr kH kE) φ _ e11 h12 ?_
    refine aw_aload_n X dX0_inner_86 0 0 rfl rfl ?_
    refine aw_lload X dX0_inner_87 1 rfl ?_
    refine aw_iconst X (1 : Int32) dX0_inner_89 (by decide) ?_
    obtain ⟨y13, hy13, h⟩ := bind_some h
    refine aw_cV X (st := []) hy13 [.inr (.inl e11), .inl (1 : Int32)] rfl rfl ml_X0_231 (fun o h => AX0_tellMany (Cx.ok X) φ (d + 2) _ _ _ _ _ h) dX0_inner_90 (Nat.le_of_ble_eq_true rfl) ?_
    cases h
    exact aw_iret X dX0_inner_93
  · rw [if_neg c3] at h
    refine aw_iload_n X dX0_inner_28 0 3 rfl rfl ?_
    cases h
    exact aw_iret X dX0_inner_29
theorem wX0_inner {C : CT} {d : Nat} (X : Cx C cX0_inner RX0 (some .int) 7 (d + 3)) (φ : Nat) (this : Nat) (v1 : Int32) (v2 : Int32) (σ : St) (y : Int32 × St) (h : fX0_inner φ this v1 v2 σ = some y) : AW C 0 [(0, .inr (.inr (some this))), (1, .inl v1), (2, .inl v2)] [] σ (AQ C (some (.inl y.1)) y.2) := by
  unfold fX0_inner at h
  refine aw_iload_n X dX0_inner_0 2 2 rfl rfl ?_
  refine aw_bipush X (-9 : Int32) dX0_inner_1 (by decide) ?_
  refine aw_icmp_eq X 18 dX0_inner_3 rfl (fun c1 => ?_) (fun c1 => ?_)
  · rw [if_pos c1] at h
    exact wX0_inner_b18 X φ this v1 v2 σ y h
  · rw [if_neg c1] at h
    refine aw_iload_n X dX0_inner_6 2 2 rfl rfl ?_
    refine aw_iconst X (0 : Int32) dX0_inner_7 (by decide) ?_
    refine aw_bipush X (40 : Int32) dX0_inner_8 (by decide) ?_
    obtain ⟨y14, hy14, h⟩ := bind_some h
    refine aw_callS X (st := []) [.inl v2, .inl (0 : Int32), .inl (40 : Int32)] rfl ml_X0_93 (AX0_isIn (Cx.ok X) φ (d + 2) _ _ _ _ _  hy14) dX0_inner_10 (Nat.le_of_ble_eq_true rfl) ?_
    refine aw_if_ne X 18 dX0_inner_13 rfl (fun c15 => ?_) (fun c15 => ?_)
    · rw [if_neg c15] at h
      exact wX0_inner_b18 X φ this v1 v2 σ y h
    · rw [if_pos c15] at h
      refine aw_iconst X (-1 : Int32) dX0_inner_16 (by decide) ?_
      cases h
      exact aw_iret X dX0_inner_17
theorem AX0_inner {E : AE} {l : Launch} (hE : EOK E l) (φ d : Nat) (this : Nat) (v1 : Int32) (v2 : Int32) (σ : St) (y : Int32 × St) (h : fX0_inner φ this v1 v2 σ = some y) : AMet E l yX0_inner (ws_ yX0_inner cX0_inner 7 (some .int)) (d + 3) [.inr (.inr (some this)), .inl v1, .inl v2] σ (some (.inl y.1)) y.2 := by
  refine amet_of hE (by decide +kernel) (Nat.le_of_ble_eq_true rfl) fun C e1 e2 X XI => ?_
  subst e1
  exact wX0_inner X φ this v1 v2 σ y h
theorem wX0_rank_l58 {C : CT} {d : Nat} {Z : State → Prop} (X : Cx C cX0_rank RX0 (some .int) 11 (d + 3)) (φ : Nat) (this : Nat) (v2 : Int32) (v4 : Int32) (v7 : Int32) (v8 : Int32) (σ : St) (v5 : Int64) (v9 : Int32) (y : (Int64 × Int32) ⊕ (Int64)) (h : fX0_rank_l58 φ this v2 v4 v7 v8 σ v5 v9 = some y) (kH : ∀ s : Int64 × Int32, y = .inl s → AW C 58 [(0, .inr (.inr (some this))), (2, .inl v2), (4, .inl v4), (5, .inr (.inl s.1)), (7, .inl v7), (8, .inl v8), (9, .inl s.2)] [] σ Z) (kE0 : ∀ e : Int64, y = .inr e → AW C 121 [(0, .inr (.inr (some this))), (2, .inl v2), (4, .inl v4), (5, .inr (.inl e)), (7, .inl v7)] [] σ Z) : AW C 58 [(0, .inr (.inr (some this))), (2, .inl v2), (4, .inl v4), (5, .inr (.inl v5)), (7, .inl v7), (8, .inl v8), (9, .inl v9)] [] σ Z := by
  unfold fX0_rank_l58 at h
  refine aw_iload X dX0_rank_58 6 rfl ?_
  refine aw_aload_n X dX0_rank_60 0 0 rfl rfl ?_
  refine aw_iload_n X dX0_rank_61 1 2 rfl rfl ?_
  obtain ⟨y10, hy10, h⟩ := bind_some h
  refine aw_cV X (st := [.inl v9]) hy10 [.inl v2] rfl rfl ml_X0_188 (fun o h => AX0_of (Cx.ok X) φ (d + 2) _ _ _ _ h) dX0_rank_62 (Nat.le_of_ble_eq_true rfl) ?_
  refine aw_iload X dX0_rank_65 4 rfl ?_
  obtain ⟨x11, hx11, h⟩ := bind_some h
  refine aw_bald X dX0_rank_67 hx11 ?_
  refine aw_icmp_ge X 121 dX0_rank_68 rfl (fun c12 => ?_) (fun c12 => ?_)
  · rw [if_pos c12] at h
    cases h
    refine aw_sub [(0, .inr (.inr (some this))), (2, .inl v2), (4, .inl v4), (5, .inr (.inl v5)), (7, .inl v7)] [0, 1, 2, 3, 4] rfl ?_
    exact kE0 v5 rfl
  · rw [if_neg c12] at h
    refine aw_aload_n X dX0_rank_71 0 0 rfl rfl ?_
    obtain ⟨x13, hx13, h⟩ := bind_some h
    refine aw_gfR X fl_X0_53 dX0_rank_72 hx13 ?_
    refine aw_bipush X (6 : Int32) dX0_rank_75 (by decide) ?_
    refine aw_iload X dX0_rank_77 2 rfl ?_
    refine aw_imul X dX0_rank_79 ?_
    refine aw_iload X dX0_rank_80 6 rfl ?_
    refine aw_iadd X dX0_rank_82 ?_
    obtain ⟨x14, hx14, h⟩ := bind_some h
    refine aw_iald X dX0_rank_83 hx14 ?_
    refine aw_istore X dX0_rank_84 (by decide) [(10, .inl x14), (0, .inr (.inr (some this))), (2, .inl v2), (4, .inl v4), (5, .inr (.inl v5)), (7, .inl v7), (8, .inl v8), (9, .inl v9)] rfl ?_
    refine aw_lload X dX0_rank_86 4 rfl ?_
    refine aw_iload X dX0_rank_88 0 rfl ?_
    refine aw_bipush X (-9 : Int32) dX0_rank_90 (by decide) ?_
    refine aw_icmp_ne X 99 dX0_rank_92 rfl (fun c15 => ?_) (fun c15 => ?_)
    · rw [if_neg c15] at h
      refine aw_aload_n X dX0_rank_99 1 0 rfl rfl ?_
      obtain ⟨x16, hx16, h⟩ := bind_some h
      refine aw_gfR X fl_X0_65 dX0_rank_100 hx16 ?_
      refine aw_bipush X (41 : Int32) dX0_rank_103 (by decide) ?_
      refine aw_iload X dX0_rank_105 0 rfl ?_
      refine aw_imul X dX0_rank_107 ?_
      refine aw_iload X dX0_rank_108 6 rfl ?_
      refine aw_iadd X dX0_rank_110 ?_
      obtain ⟨x17, hx17, h⟩ := bind_some h
      refine aw_lald X dX0_rank_111 hx17 ?_
      refine aw_ladd X dX0_rank_112 ?_
      refine aw_lstore X dX0_rank_113 (by decide) [(5, .inr (.inl (v5 + x17))), (10, .inl x14), (0, .inr (.inr (some this))), (2, .inl v2), (4, .inl v4), (7, .inl v7), (8, .inl v8), (9, .inl v9)] rfl ?_
      refine aw_iinc X dX0_rank_115 7 rfl (1 : Int32) rfl (by decide) [(9, .inl (v9 + (1 : Int32))), (5, .inr (.inl (v5 + x17))), (10, .inl x14), (0, .inr (.inr (some this))), (2, .inl v2), (4, .inl v4), (7, .inl v7), (8, .inl v8)] rfl ?_
      refine aw_goto X 58 dX0_rank_118 rfl ?_
      cases h
      refine aw_sub [(0, .inr (.inr (some this))), (2, .inl v2), (4, .inl v4), (5, .inr (.inl (v5 + x17))), (7, .inl v7), (8, .inl v8), (9, .inl (v9 + (1 : Int32)))] [3, 4, 5, 1, 6, 7, 0] rfl ?_
      exact kH ((v5 + x17), (v9 + (1 : Int32))) rfl
    · rw [if_pos c15] at h
      refine aw_lconst X (0 : Int64) dX0_rank_95 rfl ?_
      refine aw_goto X 112 dX0_rank_96 rfl ?_
      refine aw_ladd X dX0_rank_112 ?_
      refine aw_lstore X dX0_rank_113 (by decide) [(5, .inr (.inl (v5 + (0 : Int64)))), (10, .inl x14), (0, .inr (.inr (some this))), (2, .inl v2), (4, .inl v4), (7, .inl v7), (8, .inl v8), (9, .inl v9)] rfl ?_
      refine aw_iinc X dX0_rank_115 7 rfl (1 : Int32) rfl (by decide) [(9, .inl (v9 + (1 : Int32))), (5, .inr (.inl (v5 + (0 : Int64)))), (10, .inl x14), (0, .inr (.inr (some this))), (2, .inl v2), (4, .inl v4), (7, .inl v7), (8, .inl v8)] rfl ?_
      refine aw_goto X 58 dX0_rank_118 rfl ?_
      cases h
      refine aw_sub [(0, .inr (.inr (some this))), (2, .inl v2), (4, .inl v4), (5, .inr (.inl (v5 + (0 : Int64)))), (7, .inl v7), (8, .inl v8), (9, .inl (v9 + (1 : Int32)))] [3, 4, 5, 1, 6, 7, 0] rfl ?_
      exact kH ((v5 + (0 : Int64)), (v9 + (1 : Int32))) rfl
theorem wX0_rank_l31 {C : CT} {d : Nat} {Z : State → Prop} (X : Cx C cX0_rank RX0 (some .int) 11 (d + 3)) (φ : Nat) (this : Nat) (v2 : Int32) (σ : St) (v4 : Int32) (v5 : Int64) (v7 : Int32) (y : (Int32 × Int64 × Int32) ⊕ ((Int64) ⊕ (Unit))) (h : fX0_rank_l31 φ this v2 σ v4 v5 v7 = some y) (kH : ∀ s : Int32 × Int64 × Int32, y = .inl s → AW C 31 [(0, .inr (.inr (some this))), (2, .inl v2), (4, .inl s.1), (5, .inr (.inl s.2.1)), (7, .inl s.2.2)] [] σ Z) (kE0 : ∀ e : Int64, y = .inr (.inl e) → AW C 158 [(0, .inr (.inr (some this))), (5, .inr (.inl e))] [] σ Z) (kE1 : ∀ e : Unit, y = .inr (.inr e) → AW C 149 [] [] σ Z) : AW C 31 [(0, .inr (.inr (some this))), (2, .inl v2), (4, .inl v4), (5, .inr (.inl v5)), (7, .inl v7)] [] σ Z := by
  unfold fX0_rank_l31 at h
  refine aw_iload X dX0_rank_31 4 rfl ?_
  refine aw_aload_n X dX0_rank_33 0 0 rfl rfl ?_
  refine aw_iload_n X dX0_rank_34 1 2 rfl rfl ?_
  obtain ⟨y5, hy5, h⟩ := bind_some h
  refine aw_cV X (st := [.inl v7]) hy5 [.inl v2] rfl rfl ml_X0_188 (fun o h => AX0_of (Cx.ok X) φ (d + 2) _ _ _ _ h) dX0_rank_35 (Nat.le_of_ble_eq_true rfl) ?_
  obtain ⟨x6, hx6, h⟩ := bind_some h
  refine aw_alen X dX0_rank_38 hx6 ?_
  refine aw_icmp_ge X 158 dX0_rank_39 rfl (fun c7 => ?_) (fun c7 => ?_)
  · rw [if_pos c7] at h
    cases h
    refine aw_sub [(0, .inr (.inr (some this))), (5, .inr (.inl v5))] [0, 3] rfl ?_
    exact kE0 v5 rfl
  · rw [if_neg c7] at h
    refine aw_aload_n X dX0_rank_42 0 0 rfl rfl ?_
    refine aw_iload_n X dX0_rank_43 1 2 rfl rfl ?_
    obtain ⟨y8, hy8, h⟩ := bind_some h
    refine aw_cV X (st := []) hy8 [.inl v2] rfl rfl ml_X0_188 (fun o h => AX0_of (Cx.ok X) φ (d + 2) _ _ _ _ h) dX0_rank_44 (Nat.le_of_ble_eq_true rfl) ?_
    obtain ⟨x9, hx9, h⟩ := bind_some h
    refine aw_alen X dX0_rank_47 hx9 ?_
    refine aw_iload X dX0_rank_48 4 rfl ?_
    refine aw_isub X dX0_rank_50 ?_
    refine aw_iconst X (1 : Int32) dX0_rank_51 (by decide) ?_
    refine aw_isub X dX0_rank_52 ?_
    refine aw_istore X dX0_rank_53 (by decide) [(8, .inl ((x9 - v7) - (1 : Int32))), (0, .inr (.inr (some this))), (2, .inl v2), (4, .inl v4), (5, .inr (.inl v5)), (7, .inl v7)] rfl ?_
    refine aw_iconst X (0 : Int32) dX0_rank_55 (by decide) ?_
    refine aw_istore X dX0_rank_56 (by decide) [(9, .inl (0 : Int32)), (8, .inl ((x9 - v7) - (1 : Int32))), (0, .inr (.inr (some this))), (2, .inl v2), (4, .inl v4), (5, .inr (.inl v5)), (7, .inl v7)] rfl ?_
    obtain ⟨e18, h19, h⟩ := bind_some h
    refine aw_sub [(0, .inr (.inr (some this))), (2, .inl v2), (4, .inl v4), (5, .inr (.inl v5)), (7, .inl v7), (8, .inl ((x9 - v7) - (1 : Int32))), (9, .inl (0 : Int32))] [2, 3, 4, 5, 6, 1, 0] rfl ?_
    refine aw_it (fun s => AW C 58 [(0, .inr (.inr (some this))), (2, .inl v2), (4, .inl v4), (5, .inr (.inl s.1)), (7, .inl v7), (8, .inl ((x9 - v7) - (1 : Int32))), (9, .inl s.2)] [] σ Z) (fun e => AW C 121 [(0, .inr (.inr (some this))), (2, .inl v2), (4, .inl v4), (5, .inr (.inl e)), (7, .inl v7)] [] σ Z) (fun s r hr kH kE => wX0_rank_l58 X φ this v2 v4 v7 ((x9 - v7) - (1 : Int32)) σ s.1 s.2 r hr kH kE) φ _ e18 h19 ?_
    refine aw_aload_n X dX0_rank_121 0 0 rfl rfl ?_
    obtain ⟨x20, hx20, h⟩ := bind_some h
    refine aw_gfR X fl_X0_53 dX0_rank_122 hx20 ?_
    refine aw_bipush X (6 : Int32) dX0_rank_125 (by decide) ?_
    refine aw_iload X dX0_rank_127 2 rfl ?_
    refine aw_imul X dX0_rank_129 ?_
    refine aw_aload_n X dX0_rank_130 0 0 rfl rfl ?_
    refine aw_iload_n X dX0_rank_131 1 2 rfl rfl ?_
    obtain ⟨y21, hy21, h⟩ := bind_some h
    refine aw_cV X (st := [.inl ((6 : Int32) * v4), .inr (.inr x20)]) hy21 [.inl v2] rfl rfl ml_X0_188 (fun o h => AX0_of (Cx.ok X) φ (d + 2) _ _ _ _ h) dX0_rank_132 (Nat.le_of_ble_eq_true rfl) ?_
    refine aw_iload X dX0_rank_135 4 rfl ?_
    obtain ⟨x22, hx22, h⟩ := bind_some h
    refine aw_bald X dX0_rank_137 hx22 ?_
    refine aw_iadd X dX0_rank_138 ?_
    obtain ⟨x23, hx23, h⟩ := bind_some h
    refine aw_iald X dX0_rank_139 hx23 ?_
    refine aw_istore X dX0_rank_140 (by decide) [(4, .inl x23), (0, .inr (.inr (some this))), (2, .inl v2), (5, .inr (.inl e18)), (7, .inl v7)] rfl ?_
    refine aw_iload X dX0_rank_142 0 rfl ?_
    refine aw_bipush X (-9 : Int32) dX0_rank_144 (by decide) ?_
    refine aw_icmp_ne X 152 dX0_rank_146 rfl (fun c24 => ?_) (fun c24 => ?_)
    · rw [if_neg c24] at h
      refine aw_iinc X dX0_rank_152 4 rfl (1 : Int32) rfl (by decide) [(7, .inl (v7 + (1 : Int32))), (4, .inl x23), (0, .inr (.inr (some this))), (2, .inl v2), (5, .inr (.inl e18))] rfl ?_
      refine aw_goto X 31 dX0_rank_155 rfl ?_
      cases h
      refine aw_sub [(0, .inr (.inr (some this))), (2, .inl v2), (4, .inl x23), (5, .inr (.inl e18)), (7, .inl (v7 + (1 : Int32)))] [2, 3, 1, 4, 0] rfl ?_
      exact kH (x23, e18, (v7 + (1 : Int32))) rfl
    · rw [if_pos c24] at h
      cases h
      refine aw_sub [] [] rfl ?_
      exact kE1 () rfl
theorem wX0_rank {C : CT} {d : Nat} (X : Cx C cX0_rank RX0 (some .int) 11 (d + 3)) (φ : Nat) (this : Nat) (v1 : Int32) (v2 : Int32) (σ : St) (y : Int32 × St) (h : fX0_rank φ this v1 v2 σ = some y) : AW C 0 [(0, .inr (.inr (some this))), (1, .inl v1), (2, .inl v2)] [] σ (AQ C (some (.inl y.1)) y.2) := by
  unfold fX0_rank at h
  refine aw_aload_n X dX0_rank_0 0 0 rfl rfl ?_
  refine aw_iload_n X dX0_rank_1 1 1 rfl rfl ?_
  refine aw_iload_n X dX0_rank_2 2 2 rfl rfl ?_
  obtain ⟨y1, hy1, h⟩ := bind_some h
  refine aw_cV X (st := []) hy1 [.inl v1, .inl v2] rfl rfl ml_X0_185 (fun o h => AX0_askedTwo (Cx.ok X) φ d _ _ _ _ _ h) dX0_rank_3 (Nat.le_of_ble_eq_true rfl) ?_
  refine aw_istore_n X dX0_rank_6 3 rfl (by decide) [(3, .inl y1.1), (0, .inr (.inr (some this))), (1, .inl v1), (2, .inl v2)] rfl ?_
  refine aw_iload_n X dX0_rank_7 0 3 rfl rfl ?_
  refine aw_if_ge X 13 dX0_rank_8 rfl (fun c2 => ?_) (fun c2 => ?_)
  · rw [if_pos c2] at h
    refine aw_aload_n X dX0_rank_13 1 0 rfl rfl ?_
    refine aw_aload_n X dX0_rank_14 1 0 rfl rfl ?_
    refine aw_iload_n X dX0_rank_15 2 1 rfl rfl ?_
    obtain ⟨y3, hy3, h⟩ := bind_some h
    refine aw_cV X (st := [.inr (.inr (some this))]) hy3 [.inl v1] rfl rfl ml_X0_188 (fun o h => AX0_of (Cx.ok X) φ (d + 2) _ _ _ _ h) dX0_rank_16 (Nat.le_of_ble_eq_true rfl) ?_
    obtain ⟨y4, hy4, h⟩ := bind_some h
    refine aw_cV X (st := []) hy4 [.inr (.inr y3)] rfl rfl ml_X0_253 (fun o h => AX0_setCounts (Cx.ok X) φ (d + 1) _ _ _ _ h) dX0_rank_19 (Nat.le_of_ble_eq_true rfl) ?_
    refine aw_iconst X (0 : Int32) dX0_rank_22 (by decide) ?_
    refine aw_istore X dX0_rank_23 (by decide) [(4, .inl (0 : Int32)), (3, .inl y1.1), (0, .inr (.inr (some this))), (1, .inl v1), (2, .inl v2)] rfl ?_
    refine aw_lconst X (0 : Int64) dX0_rank_25 rfl ?_
    refine aw_lstore X dX0_rank_26 (by decide) [(5, .inr (.inl (0 : Int64))), (4, .inl (0 : Int32)), (3, .inl y1.1), (0, .inr (.inr (some this))), (1, .inl v1), (2, .inl v2)] rfl ?_
    refine aw_iconst X (0 : Int32) dX0_rank_28 (by decide) ?_
    refine aw_istore X dX0_rank_29 (by decide) [(7, .inl (0 : Int32)), (5, .inr (.inl (0 : Int64))), (4, .inl (0 : Int32)), (3, .inl y1.1), (0, .inr (.inr (some this))), (1, .inl v1), (2, .inl v2)] rfl ?_
    obtain ⟨e25, h26, h⟩ := bind_some h
    refine aw_sub [(0, .inr (.inr (some this))), (2, .inl v2), (4, .inl (0 : Int32)), (5, .inr (.inl (0 : Int64))), (7, .inl (0 : Int32))] [4, 6, 2, 1, 0] rfl ?_
    refine aw_it (fun s => AW C 31 [(0, .inr (.inr (some this))), (2, .inl v2), (4, .inl s.1), (5, .inr (.inl s.2.1)), (7, .inl s.2.2)] [] y4 (AQ C (some (.inl y.1)) y.2)) (fun e => match e with | (.inl e) => AW C 158 [(0, .inr (.inr (some this))), (5, .inr (.inl e))] [] y4 (AQ C (some (.inl y.1)) y.2) | (.inr e) => AW C 149 [] [] y4 (AQ C (some (.inl y.1)) y.2)) (fun s r hr kH kE => wX0_rank_l31 X φ this v2 y4 s.1 s.2.1 s.2.2 r hr kH (fun e he => kE (.inl e) he) (fun e he => kE (.inr e) he)) φ _ e25 h26 ?_
    rcases e25 with e27 | e28
    · refine aw_aload_n X dX0_rank_158 0 0 rfl rfl ?_
      refine aw_lload X dX0_rank_159 1 rfl ?_
      refine aw_iconst X (1 : Int32) dX0_rank_161 (by decide) ?_
      obtain ⟨y29, hy29, h⟩ := bind_some h
      refine aw_cV X (st := []) hy29 [.inr (.inl e27), .inl (1 : Int32)] rfl rfl ml_X0_231 (fun o h => AX0_tellMany (Cx.ok X) φ (d + 2) _ _ _ _ _ h) dX0_rank_162 (Nat.le_of_ble_eq_true rfl) ?_
      cases h
      exact aw_iret X dX0_rank_165
    · refine aw_bipush X (-9 : Int32) dX0_rank_149 (by decide) ?_
      cases h
      exact aw_iret X dX0_rank_151
  · rw [if_neg c2] at h
    refine aw_iload_n X dX0_rank_11 0 3 rfl rfl ?_
    cases h
    exact aw_iret X dX0_rank_12
theorem AX0_rank {E : AE} {l : Launch} (hE : EOK E l) (φ d : Nat) (this : Nat) (v1 : Int32) (v2 : Int32) (σ : St) (y : Int32 × St) (h : fX0_rank φ this v1 v2 σ = some y) : AMet E l yX0_rank (ws_ yX0_rank cX0_rank 11 (some .int)) (d + 3) [.inr (.inr (some this)), .inl v1, .inl v2] σ (some (.inl y.1)) y.2 := by
  refine amet_of hE (by decide +kernel) (Nat.le_of_ble_eq_true rfl) fun C e1 e2 X XI => ?_
  subst e1
  exact wX0_rank X φ this v1 v2 σ y h
theorem wX0_from {C : CT} {d : Nat} (X : Cx C cX0_from RX0 (some .long) 5 d) (φ : Nat) (this : Nat) (v1 : Int32) (v2 : Int32) (v3 : Int32) (σ : St) (y : Int64) (h : fX0_from φ this v1 v2 v3 σ = some y) : AW C 0 [(0, .inr (.inr (some this))), (1, .inl v1), (2, .inl v2), (3, .inl v3)] [] σ (AQ C (some (.inr (.inl y))) σ) := by
  unfold fX0_from at h
  refine aw_aload_n X dX0_from_0 0 0 rfl rfl ?_
  obtain ⟨x1, hx1, h⟩ := bind_some h
  refine aw_gfR X fl_X0_53 dX0_from_1 hx1 ?_
  refine aw_bipush X (6 : Int32) dX0_from_4 (by decide) ?_
  refine aw_iload_n X dX0_from_6 1 1 rfl rfl ?_
  refine aw_imul X dX0_from_7 ?_
  refine aw_iload_n X dX0_from_8 2 2 rfl rfl ?_
  refine aw_iadd X dX0_from_9 ?_
  obtain ⟨x2, hx2, h⟩ := bind_some h
  refine aw_iald X dX0_from_10 hx2 ?_
  refine aw_istore X dX0_from_11 (by decide) [(4, .inl x2), (0, .inr (.inr (some this))), (1, .inl v1), (2, .inl v2), (3, .inl v3)] rfl ?_
  refine aw_iload X dX0_from_13 0 rfl ?_
  refine aw_bipush X (-9 : Int32) dX0_from_15 (by decide) ?_
  refine aw_icmp_ne X 24 dX0_from_17 rfl (fun c3 => ?_) (fun c3 => ?_)
  · rw [if_neg c3] at h
    refine aw_aload_n X dX0_from_24 1 0 rfl rfl ?_
    obtain ⟨x4, hx4, h⟩ := bind_some h
    refine aw_gfR X fl_X0_65 dX0_from_25 hx4 ?_
    refine aw_bipush X (41 : Int32) dX0_from_28 (by decide) ?_
    refine aw_iload X dX0_from_30 0 rfl ?_
    refine aw_imul X dX0_from_32 ?_
    refine aw_iload_n X dX0_from_33 4 3 rfl rfl ?_
    refine aw_iadd X dX0_from_34 ?_
    obtain ⟨x5, hx5, h⟩ := bind_some h
    refine aw_lald X dX0_from_35 hx5 ?_
    cases h
    exact aw_lret X dX0_from_36
  · rw [if_pos c3] at h
    refine aw_lconst X (0 : Int64) dX0_from_20 rfl ?_
    refine aw_goto X 36 dX0_from_21 rfl ?_
    cases h
    exact aw_lret X dX0_from_36
theorem AX0_from {E : AE} {l : Launch} (hE : EOK E l) (φ d : Nat) (this : Nat) (v1 : Int32) (v2 : Int32) (v3 : Int32) (σ : St) (y : Int64) (h : fX0_from φ this v1 v2 v3 σ = some y) : AMet E l yX0_from (ws_ yX0_from cX0_from 5 (some .long)) d [.inr (.inr (some this)), .inl v1, .inl v2, .inl v3] σ (some (.inr (.inl y))) σ := by
  refine amet_of hE (by decide +kernel) (Nat.le_of_ble_eq_true rfl) fun C e1 e2 X XI => ?_
  subst e1
  exact wX0_from X φ this v1 v2 v3 σ y h
theorem wX0_byRank_l103 {C : CT} {d : Nat} {Z : State → Prop} (X : Cx C cX0_byRank RX0 (some .int) 14 (d + 3)) (φ : Nat) (this : Nat) (v2 : Int32) (v4 : Int32) (v6 : Option Nat) (v7 : Int32) (v10 : Int32) (σ : St) (v8 : Int64) (v11 : Int32) (v12 : Int64) (y : (Int64 × Int32 × Int64) ⊕ (Int64 × Int32)) (h : fX0_byRank_l103 φ this v2 v4 v6 v7 v10 σ v8 v11 v12 = some y) (kH : ∀ s : Int64 × Int32 × Int64, y = .inl s → AW C 103 [(0, .inr (.inr (some this))), (2, .inl v2), (4, .inl v4), (6, .inr (.inr v6)), (7, .inl v7), (8, .inr (.inl s.1)), (10, .inl v10), (11, .inl s.2.1), (12, .inr (.inl s.2.2))] [] σ Z) (kE0 : ∀ e : Int64 × Int32, y = .inr e → AW C 140 [(0, .inr (.inr (some this))), (2, .inl v2), (4, .inl v4), (6, .inr (.inr v6)), (7, .inl v7), (8, .inr (.inl e.1)), (10, .inl v10), (11, .inl e.2)] [] σ Z) : AW C 103 [(0, .inr (.inr (some this))), (2, .inl v2), (4, .inl v4), (6, .inr (.inr v6)), (7, .inl v7), (8, .inr (.inl v8)), (10, .inl v10), (11, .inl v11), (12, .inr (.inl v12))] [] σ Z := by
  unfold fX0_byRank_l103 at h
  refine aw_lload X dX0_byRank_103 5 rfl ?_
  refine aw_lload X dX0_byRank_105 8 rfl ?_
  refine aw_lcmp_lt X 140 dX0_byRank_107 dX0_byRank_108 rfl (fun c16 => ?_) (fun c16 => ?_)
  · rw [if_pos c16] at h
    cases h
    refine aw_sub [(0, .inr (.inr (some this))), (2, .inl v2), (4, .inl v4), (6, .inr (.inr v6)), (7, .inl v7), (8, .inr (.inl v8)), (10, .inl v10), (11, .inl v11)] [0, 1, 2, 3, 4, 5, 6, 7] rfl ?_
    exact kE0 (v8, v11) rfl
  · rw [if_neg c16] at h
    refine aw_lload X dX0_byRank_111 5 rfl ?_
    refine aw_lload X dX0_byRank_113 8 rfl ?_
    refine aw_lsub X dX0_byRank_115 ?_
    refine aw_lstore X dX0_byRank_116 (by decide) [(8, .inr (.inl (v8 - v12))), (0, .inr (.inr (some this))), (2, .inl v2), (4, .inl v4), (6, .inr (.inr v6)), (7, .inl v7), (10, .inl v10), (11, .inl v11), (12, .inr (.inl v12))] rfl ?_
    refine aw_iinc X dX0_byRank_118 7 rfl (1 : Int32) rfl (by decide) [(11, .inl (v11 + (1 : Int32))), (8, .inr (.inl (v8 - v12))), (0, .inr (.inr (some this))), (2, .inl v2), (4, .inl v4), (6, .inr (.inr v6)), (7, .inl v7), (10, .inl v10), (12, .inr (.inl v12))] rfl ?_
    refine aw_aload_n X dX0_byRank_121 2 0 rfl rfl ?_
    refine aw_iload X dX0_byRank_122 6 rfl ?_
    refine aw_iload X dX0_byRank_124 0 rfl ?_
    refine aw_iload_n X dX0_byRank_126 3 2 rfl rfl ?_
    refine aw_iload X dX0_byRank_127 7 rfl ?_
    refine aw_isub X dX0_byRank_129 ?_
    refine aw_iconst X (1 : Int32) dX0_byRank_130 (by decide) ?_
    refine aw_isub X dX0_byRank_131 ?_
    obtain ⟨y17, hy17, h⟩ := bind_some h
    refine aw_cV X (st := []) hy17 [.inl v7, .inl (v11 + (1 : Int32)), .inl ((v2 - v10) - (1 : Int32))] rfl rfl ml_X0_256 (fun o h => AX0_from (Cx.ok X) φ (d + 2) _ _ _ _ _ _ h) dX0_byRank_132 (Nat.le_of_ble_eq_true rfl) ?_
    refine aw_lstore X dX0_byRank_135 (by decide) [(12, .inr (.inl y17)), (11, .inl (v11 + (1 : Int32))), (8, .inr (.inl (v8 - v12))), (0, .inr (.inr (some this))), (2, .inl v2), (4, .inl v4), (6, .inr (.inr v6)), (7, .inl v7), (10, .inl v10)] rfl ?_
    refine aw_goto X 103 dX0_byRank_137 rfl ?_
    cases h
    refine aw_sub [(0, .inr (.inr (some this))), (2, .inl v2), (4, .inl v4), (6, .inr (.inr v6)), (7, .inl v7), (8, .inr (.inl (v8 - v12))), (10, .inl v10), (11, .inl (v11 + (1 : Int32))), (12, .inr (.inl y17))] [3, 4, 5, 6, 7, 2, 8, 1, 0] rfl ?_
    exact kH ((v8 - v12), (v11 + (1 : Int32)), y17) rfl
theorem wX0_byRank_l78 {C : CT} {d : Nat} {Z : State → Prop} (X : Cx C cX0_byRank RX0 (some .int) 14 (d + 3)) (φ : Nat) (this : Nat) (v2 : Int32) (v4 : Int32) (v6 : Option Nat) (v7 : Int32) (v8 : Int64) (v10 : Int32) (σ : St) (y : (Int32 × Int64 × Int32 × St) ⊕ (St)) (h : fX0_byRank_l78 φ this v2 v4 v6 v7 v8 v10 σ = some y) (kH : ∀ s : Int32 × Int64 × Int32 × St, y = .inl s → AW C 78 [(0, .inr (.inr (some this))), (2, .inl v2), (4, .inl v4), (6, .inr (.inr v6)), (7, .inl s.1), (8, .inr (.inl s.2.1)), (10, .inl s.2.2.1)] [] s.2.2.2 Z) (kE0 : ∀ e : St, y = .inr e → AW C 168 [(0, .inr (.inr (some this))), (2, .inl v2), (4, .inl v4), (6, .inr (.inr v6))] [] e Z) : AW C 78 [(0, .inr (.inr (some this))), (2, .inl v2), (4, .inl v4), (6, .inr (.inr v6)), (7, .inl v7), (8, .inr (.inl v8)), (10, .inl v10)] [] σ Z := by
  unfold fX0_byRank_l78 at h
  refine aw_iload X dX0_byRank_78 6 rfl ?_
  refine aw_iload_n X dX0_byRank_80 1 2 rfl rfl ?_
  refine aw_icmp_ge X 168 dX0_byRank_81 rfl (fun c14 => ?_) (fun c14 => ?_)
  · rw [if_pos c14] at h
    cases h
    refine aw_sub [(0, .inr (.inr (some this))), (2, .inl v2), (4, .inl v4), (6, .inr (.inr v6))] [0, 1, 2, 3] rfl ?_
    exact kE0 σ rfl
  · rw [if_neg c14] at h
    refine aw_iconst X (0 : Int32) dX0_byRank_84 (by decide) ?_
    refine aw_istore X dX0_byRank_85 (by decide) [(11, .inl (0 : Int32)), (0, .inr (.inr (some this))), (2, .inl v2), (4, .inl v4), (6, .inr (.inr v6)), (7, .inl v7), (8, .inr (.inl v8)), (10, .inl v10)] rfl ?_
    refine aw_aload_n X dX0_byRank_87 1 0 rfl rfl ?_
    refine aw_iload X dX0_byRank_88 5 rfl ?_
    refine aw_iload X dX0_byRank_90 0 rfl ?_
    refine aw_iload_n X dX0_byRank_92 2 2 rfl rfl ?_
    refine aw_iload X dX0_byRank_93 7 rfl ?_
    refine aw_isub X dX0_byRank_95 ?_
    refine aw_iconst X (1 : Int32) dX0_byRank_96 (by decide) ?_
    refine aw_isub X dX0_byRank_97 ?_
    obtain ⟨y15, hy15, h⟩ := bind_some h
    refine aw_cV X (st := []) hy15 [.inl v7, .inl (0 : Int32), .inl ((v2 - v10) - (1 : Int32))] rfl rfl ml_X0_256 (fun o h => AX0_from (Cx.ok X) φ (d + 2) _ _ _ _ _ _ h) dX0_byRank_98 (Nat.le_of_ble_eq_true rfl) ?_
    refine aw_lstore X dX0_byRank_101 (by decide) [(12, .inr (.inl y15)), (11, .inl (0 : Int32)), (0, .inr (.inr (some this))), (2, .inl v2), (4, .inl v4), (6, .inr (.inr v6)), (7, .inl v7), (8, .inr (.inl v8)), (10, .inl v10)] rfl ?_
    obtain ⟨e18, h19, h⟩ := bind_some h
    refine aw_sub [(0, .inr (.inr (some this))), (2, .inl v2), (4, .inl v4), (6, .inr (.inr v6)), (7, .inl v7), (8, .inr (.inl v8)), (10, .inl v10), (11, .inl (0 : Int32)), (12, .inr (.inl y15))] [2, 3, 4, 5, 6, 7, 8, 1, 0] rfl ?_
    refine aw_it (fun s => AW C 103 [(0, .inr (.inr (some this))), (2, .inl v2), (4, .inl v4), (6, .inr (.inr v6)), (7, .inl v7), (8, .inr (.inl s.1)), (10, .inl v10), (11, .inl s.2.1), (12, .inr (.inl s.2.2))] [] σ Z) (fun e => AW C 140 [(0, .inr (.inr (some this))), (2, .inl v2), (4, .inl v4), (6, .inr (.inr v6)), (7, .inl v7), (8, .inr (.inl e.1)), (10, .inl v10), (11, .inl e.2)] [] σ Z) (fun s r hr kH kE => wX0_byRank_l103 X φ this v2 v4 v6 v7 v10 σ s.1 s.2.1 s.2.2 r hr kH kE) φ _ e18 h19 ?_
    refine aw_aload X dX0_byRank_140 3 rfl ?_
    refine aw_iload X dX0_byRank_142 6 rfl ?_
    refine aw_iload X dX0_byRank_144 7 rfl ?_
    obtain ⟨s20, hs20, h⟩ := bind_some h
    refine aw_iast X dX0_byRank_146 hs20 ?_
    refine aw_aload_n X dX0_byRank_147 0 0 rfl rfl ?_
    obtain ⟨x21, hx21, h⟩ := bind_some h
    refine aw_gfR X fl_X0_53 dX0_byRank_148 hx21 ?_
    refine aw_bipush X (6 : Int32) dX0_byRank_151 (by decide) ?_
    refine aw_iload X dX0_byRank_153 4 rfl ?_
    refine aw_imul X dX0_byRank_155 ?_
    refine aw_iload X dX0_byRank_156 7 rfl ?_
    refine aw_iadd X dX0_byRank_158 ?_
    obtain ⟨x22, hx22, h⟩ := bind_some h
    refine aw_iald X dX0_byRank_159 hx22 ?_
    refine aw_istore X dX0_byRank_160 (by decide) [(7, .inl x22), (0, .inr (.inr (some this))), (2, .inl v2), (4, .inl v4), (6, .inr (.inr v6)), (8, .inr (.inl e18.1)), (10, .inl v10), (11, .inl e18.2)] rfl ?_
    refine aw_iinc X dX0_byRank_162 6 rfl (1 : Int32) rfl (by decide) [(10, .inl (v10 + (1 : Int32))), (7, .inl x22), (0, .inr (.inr (some this))), (2, .inl v2), (4, .inl v4), (6, .inr (.inr v6)), (8, .inr (.inl e18.1)), (11, .inl e18.2)] rfl ?_
    refine aw_goto X 78 dX0_byRank_165 rfl ?_
    cases h
    refine aw_sub [(0, .inr (.inr (some this))), (2, .inl v2), (4, .inl v4), (6, .inr (.inr v6)), (7, .inl x22), (8, .inr (.inl e18.1)), (10, .inl (v10 + (1 : Int32)))] [2, 3, 4, 5, 1, 6, 0] rfl ?_
    exact kH (x22, e18.1, (v10 + (1 : Int32)), s20) rfl
theorem wX0_byRank {C : CT} {d : Nat} (X : Cx C cX0_byRank RX0 (some .int) 14 (d + 3)) (φ : Nat) (this : Nat) (v1 : Int32) (v2 : Int32) (v3 : Int32) (v4 : Int32) (σ : St) (y : Int32 × St) (h : fX0_byRank φ this v1 v2 v3 v4 σ = some y) : AW C 0 [(0, .inr (.inr (some this))), (1, .inl v1), (2, .inl v2), (3, .inl v3), (4, .inl v4)] [] σ (AQ C (some (.inl y.1)) y.2) := by
  unfold fX0_byRank at h
  refine aw_iload_n X dX0_byRank_0 2 2 rfl rfl ?_
  refine aw_iconst X (0 : Int32) dX0_byRank_1 (by decide) ?_
  refine aw_bipush X (40 : Int32) dX0_byRank_2 (by decide) ?_
  obtain ⟨y1, hy1, h⟩ := bind_some h
  refine aw_callS X (st := []) [.inl v2, .inl (0 : Int32), .inl (40 : Int32)] rfl ml_X0_93 (AX0_isIn (Cx.ok X) φ (d + 2) _ _ _ _ _  hy1) dX0_byRank_4 (Nat.le_of_ble_eq_true rfl) ?_
  refine aw_if_eq X 22 dX0_byRank_7 rfl (fun c2 => ?_) (fun c2 => ?_)
  · rw [if_pos c2] at h
    refine aw_iconst X (-1 : Int32) dX0_byRank_22 (by decide) ?_
    cases h
    exact aw_iret X dX0_byRank_23
  · rw [if_neg c2] at h
    refine aw_iload_n X dX0_byRank_10 3 3 rfl rfl ?_
    refine aw_if_lt X 22 dX0_byRank_11 rfl (fun c3 => ?_) (fun c3 => ?_)
    · rw [if_pos c3] at h
      refine aw_iconst X (-1 : Int32) dX0_byRank_22 (by decide) ?_
      cases h
      exact aw_iret X dX0_byRank_23
    · rw [if_neg c3] at h
      refine aw_iload X dX0_byRank_14 4 rfl ?_
      obtain ⟨y4, hy4, h⟩ := bind_some h
      refine aw_callS X (st := []) [.inl v4] rfl ml_X0_97 (AX0_isRow (Cx.ok X) φ (d + 1) _ _ _  hy4) dX0_byRank_16 (Nat.le_of_ble_eq_true rfl) ?_
      refine aw_if_ne X 24 dX0_byRank_19 rfl (fun c5 => ?_) (fun c5 => ?_)
      · rw [if_neg c5] at h
        refine aw_aload_n X dX0_byRank_24 0 0 rfl rfl ?_
        refine aw_iload_n X dX0_byRank_25 1 1 rfl rfl ?_
        obtain ⟨y6, hy6, h⟩ := bind_some h
        refine aw_cV X (st := []) hy6 [.inl v1] rfl rfl ml_X0_195 (fun o h => AX0_askedWord (Cx.ok X) φ d _ _ _ _ h) dX0_byRank_26 (Nat.le_of_ble_eq_true rfl) ?_
        refine aw_istore X dX0_byRank_29 (by decide) [(5, .inl y6.1), (0, .inr (.inr (some this))), (1, .inl v1), (2, .inl v2), (3, .inl v3), (4, .inl v4)] rfl ?_
        refine aw_iload X dX0_byRank_31 0 rfl ?_
        refine aw_if_ge X 39 dX0_byRank_33 rfl (fun c7 => ?_) (fun c7 => ?_)
        · rw [if_pos c7] at h
          refine aw_aload_n X dX0_byRank_39 1 0 rfl rfl ?_
          refine aw_aload_n X dX0_byRank_40 1 0 rfl rfl ?_
          refine aw_iload_n X dX0_byRank_41 2 1 rfl rfl ?_
          obtain ⟨y8, hy8, h⟩ := bind_some h
          refine aw_cV X (st := [.inr (.inr (some this))]) hy8 [.inl v1] rfl rfl ml_X0_188 (fun o h => AX0_of (Cx.ok X) φ (d + 2) _ _ _ _ h) dX0_byRank_42 (Nat.le_of_ble_eq_true rfl) ?_
          obtain ⟨y9, hy9, h⟩ := bind_some h
          refine aw_cV X (st := []) hy9 [.inr (.inr y8)] rfl rfl ml_X0_253 (fun o h => AX0_setCounts (Cx.ok X) φ (d + 1) _ _ _ _ h) dX0_byRank_45 (Nat.le_of_ble_eq_true rfl) ?_
          refine aw_iload_n X dX0_byRank_48 4 3 rfl rfl ?_
          refine aw_i2l X dX0_byRank_49 ?_
          refine aw_aload_n X dX0_byRank_50 1 0 rfl rfl ?_
          obtain ⟨x10, hx10, h⟩ := bind_some h
          refine aw_gfR X fl_X0_65 dX0_byRank_51 hx10 ?_
          refine aw_iload_n X dX0_byRank_54 3 2 rfl rfl ?_
          obtain ⟨x11, hx11, h⟩ := bind_some h
          refine aw_lald X dX0_byRank_55 hx11 ?_
          refine aw_lcmp_lt X 63 dX0_byRank_56 dX0_byRank_57 rfl (fun c12 => ?_) (fun c12 => ?_)
          · rw [if_pos c12] at h
            refine aw_iload_n X dX0_byRank_63 3 2 rfl rfl ?_
            obtain ⟨n13, hn13, h⟩ := bind_some h
            refine aw_newa X (kd := 1) dX0_byRank_64 rfl (by decide) (by decide) q215 (r := n13.1) (σ' := n13.2) hn13 ?_
            refine aw_astore X dX0_byRank_66 (by decide) [(6, .inr (.inr n13.1)), (5, .inl y6.1), (0, .inr (.inr (some this))), (1, .inl v1), (2, .inl v2), (3, .inl v3), (4, .inl v4)] rfl ?_
            refine aw_iconst X (0 : Int32) dX0_byRank_68 (by decide) ?_
            refine aw_istore X dX0_byRank_69 (by decide) [(7, .inl (0 : Int32)), (6, .inr (.inr n13.1)), (5, .inl y6.1), (0, .inr (.inr (some this))), (1, .inl v1), (2, .inl v2), (3, .inl v3), (4, .inl v4)] rfl ?_
            refine aw_iload_n X dX0_byRank_71 6 3 rfl rfl ?_
            refine aw_i2l X dX0_byRank_72 ?_
            refine aw_lstore X dX0_byRank_73 (by decide) [(8, .inr (.inl (v3.toInt64))), (7, .inl (0 : Int32)), (6, .inr (.inr n13.1)), (5, .inl y6.1), (0, .inr (.inr (some this))), (1, .inl v1), (2, .inl v2), (3, .inl v3), (4, .inl v4)] rfl ?_
            refine aw_iconst X (0 : Int32) dX0_byRank_75 (by decide) ?_
            refine aw_istore X dX0_byRank_76 (by decide) [(10, .inl (0 : Int32)), (8, .inr (.inl (v3.toInt64))), (7, .inl (0 : Int32)), (6, .inr (.inr n13.1)), (5, .inl y6.1), (0, .inr (.inr (some this))), (1, .inl v1), (2, .inl v2), (3, .inl v3), (4, .inl v4)] rfl ?_
            obtain ⟨e23, h24, h⟩ := bind_some h
            refine aw_sub [(0, .inr (.inr (some this))), (2, .inl v2), (4, .inl v4), (6, .inr (.inr n13.1)), (7, .inl (0 : Int32)), (8, .inr (.inl (v3.toInt64))), (10, .inl (0 : Int32))] [5, 7, 9, 3, 2, 1, 0] rfl ?_
            refine aw_it (fun s => AW C 78 [(0, .inr (.inr (some this))), (2, .inl v2), (4, .inl v4), (6, .inr (.inr n13.1)), (7, .inl s.1), (8, .inr (.inl s.2.1)), (10, .inl s.2.2.1)] [] s.2.2.2 (AQ C (some (.inl y.1)) y.2)) (fun e => AW C 168 [(0, .inr (.inr (some this))), (2, .inl v2), (4, .inl v4), (6, .inr (.inr n13.1))] [] e (AQ C (some (.inl y.1)) y.2)) (fun s r hr kH kE => wX0_byRank_l78 X φ this v2 v4 n13.1 s.1 s.2.1 s.2.2.1 s.2.2.2 r hr kH kE) φ _ e23 h24 ?_
            refine aw_aload_n X dX0_byRank_168 0 0 rfl rfl ?_
            obtain ⟨x25, hx25, h⟩ := bind_some h
            refine aw_gfR X fl_X0_34 dX0_byRank_169 hx25 ?_
            refine aw_iload X dX0_byRank_172 2 rfl ?_
            refine aw_aload X dX0_byRank_174 3 rfl ?_
            obtain ⟨s26, hs26, h⟩ := bind_some h
            refine aw_aast X (kd := 5) (lo := 1) (hi := 1) dX0_byRank_176 (by decide) hs26 ?_
            refine aw_iload_n X dX0_byRank_177 1 2 rfl rfl ?_
            cases h
            exact aw_iret X dX0_byRank_178
          · rw [if_neg c12] at h
            refine aw_bipush X (-9 : Int32) dX0_byRank_60 (by decide) ?_
            cases h
            exact aw_iret X dX0_byRank_62
        · rw [if_neg c7] at h
          refine aw_iload X dX0_byRank_36 0 rfl ?_
          cases h
          exact aw_iret X dX0_byRank_38
      · rw [if_pos c5] at h
        refine aw_iconst X (-1 : Int32) dX0_byRank_22 (by decide) ?_
        cases h
        exact aw_iret X dX0_byRank_23
theorem AX0_byRank {E : AE} {l : Launch} (hE : EOK E l) (φ d : Nat) (this : Nat) (v1 : Int32) (v2 : Int32) (v3 : Int32) (v4 : Int32) (σ : St) (y : Int32 × St) (h : fX0_byRank φ this v1 v2 v3 v4 σ = some y) : AMet E l yX0_byRank (ws_ yX0_byRank cX0_byRank 14 (some .int)) (d + 3) [.inr (.inr (some this)), .inl v1, .inl v2, .inl v3, .inl v4] σ (some (.inl y.1)) y.2 := by
  refine amet_of hE (by decide +kernel) (Nat.le_of_ble_eq_true rfl) fun C e1 e2 X XI => ?_
  subst e1
  exact wX0_byRank X φ this v1 v2 v3 v4 σ y h
theorem wX0_setArches_l14 {C : CT} {d : Nat} {Z : State → Prop} (X : Cx C cX0_setArches RX0 none 4 d) (φ : Nat) (this : Nat) (v1 : Option Nat) (v2 : Int32) (v3 : Int32) (σ : St) (y : (Int32 × Int32 × St) ⊕ (St)) (h : fX0_setArches_l14 φ this v1 v2 v3 σ = some y) (kH : ∀ s : Int32 × Int32 × St, y = .inl s → AW C 14 [(0, .inr (.inr (some this))), (1, .inr (.inr v1)), (2, .inl s.1), (3, .inl s.2.1)] [] s.2.2 Z) (kE0 : ∀ e : St, y = .inr e → AW C 65 [] [] e Z) : AW C 14 [(0, .inr (.inr (some this))), (1, .inr (.inr v1)), (2, .inl v2), (3, .inl v3)] [] σ Z := by
  unfold fX0_setArches_l14 at h
  refine aw_iload_n X dX0_setArches_14 3 3 rfl rfl ?_
  refine aw_aload_n X dX0_setArches_15 1 1 rfl rfl ?_
  obtain ⟨x3, hx3, h⟩ := bind_some h
  refine aw_alen X dX0_setArches_16 hx3 ?_
  refine aw_icmp_ge X 65 dX0_setArches_17 rfl (fun c4 => ?_) (fun c4 => ?_)
  · rw [if_pos c4] at h
    cases h
    refine aw_sub [] [] rfl ?_
    exact kE0 σ rfl
  · rw [if_neg c4] at h
    refine aw_iload_n X dX0_setArches_20 2 2 rfl rfl ?_
    refine aw_iconst X (1 : Int32) dX0_setArches_21 (by decide) ?_
    refine aw_aload_n X dX0_setArches_22 1 1 rfl rfl ?_
    refine aw_iload_n X dX0_setArches_23 3 3 rfl rfl ?_
    obtain ⟨x5, hx5, h⟩ := bind_some h
    refine aw_bald X dX0_setArches_24 hx5 ?_
    refine aw_ishl X dX0_setArches_25 ?_
    refine aw_ior X dX0_setArches_26 ?_
    refine aw_istore_n X dX0_setArches_27 2 rfl (by decide) [(2, .inl (v2 ||| ((1 : Int32) <<< (x5 &&& 31)))), (0, .inr (.inr (some this))), (1, .inr (.inr v1)), (3, .inl v3)] rfl ?_
    refine aw_iload_n X dX0_setArches_28 0 2 rfl rfl ?_
    refine aw_iconst X (1 : Int32) dX0_setArches_29 (by decide) ?_
    refine aw_aload_n X dX0_setArches_30 1 0 rfl rfl ?_
    obtain ⟨x6, hx6, h⟩ := bind_some h
    refine aw_gfI X fl_X0_30 dX0_setArches_31 hx6 ?_
    refine aw_ishl X dX0_setArches_34 ?_
    refine aw_iconst X (1 : Int32) dX0_setArches_35 (by decide) ?_
    refine aw_isub X dX0_setArches_36 ?_
    refine aw_icmp_ne X 59 dX0_setArches_37 rfl (fun c7 => ?_) (fun c7 => ?_)
    · rw [if_neg c7] at h
      refine aw_iinc X dX0_setArches_59 3 rfl (1 : Int32) rfl (by decide) [(3, .inl (v3 + (1 : Int32))), (2, .inl (v2 ||| ((1 : Int32) <<< (x5 &&& 31)))), (0, .inr (.inr (some this))), (1, .inr (.inr v1))] rfl ?_
      refine aw_goto X 14 dX0_setArches_62 rfl ?_
      cases h
      refine aw_sub [(0, .inr (.inr (some this))), (1, .inr (.inr v1)), (2, .inl (v2 ||| ((1 : Int32) <<< (x5 &&& 31)))), (3, .inl (v3 + (1 : Int32)))] [2, 3, 1, 0] rfl ?_
      exact kH ((v2 ||| ((1 : Int32) <<< (x5 &&& 31))), (v3 + (1 : Int32)), σ) rfl
    · rw [if_pos c7] at h
      refine aw_aload_n X dX0_setArches_40 1 0 rfl rfl ?_
      refine aw_dup X dX0_setArches_41 rfl ?_
      obtain ⟨x8, hx8, h⟩ := bind_some h
      refine aw_gfI X fl_X0_259 dX0_setArches_42 hx8 ?_
      refine aw_iconst X (1 : Int32) dX0_setArches_45 (by decide) ?_
      refine aw_iadd X dX0_setArches_46 ?_
      obtain ⟨s9, hs9, h⟩ := bind_some h
      refine aw_pfI X fl_X0_259 dX0_setArches_47 hs9 ?_
      refine aw_aload_n X dX0_setArches_50 1 0 rfl rfl ?_
      refine aw_iload_n X dX0_setArches_51 3 3 rfl rfl ?_
      refine aw_iconst X (1 : Int32) dX0_setArches_52 (by decide) ?_
      refine aw_iadd X dX0_setArches_53 ?_
      obtain ⟨s10, hs10, h⟩ := bind_some h
      refine aw_pfI X fl_X0_262 dX0_setArches_54 hs10 ?_
      refine aw_iconst X (0 : Int32) dX0_setArches_57 (by decide) ?_
      refine aw_istore_n X dX0_setArches_58 2 rfl (by decide) [(2, .inl (0 : Int32)), (0, .inr (.inr (some this))), (1, .inr (.inr v1)), (3, .inl v3)] rfl ?_
      refine aw_iinc X dX0_setArches_59 3 rfl (1 : Int32) rfl (by decide) [(3, .inl (v3 + (1 : Int32))), (2, .inl (0 : Int32)), (0, .inr (.inr (some this))), (1, .inr (.inr v1))] rfl ?_
      refine aw_goto X 14 dX0_setArches_62 rfl ?_
      cases h
      refine aw_sub [(0, .inr (.inr (some this))), (1, .inr (.inr v1)), (2, .inl (0 : Int32)), (3, .inl (v3 + (1 : Int32)))] [2, 3, 1, 0] rfl ?_
      exact kH ((0 : Int32), (v3 + (1 : Int32)), s10) rfl
theorem wX0_setArches {C : CT} {d : Nat} (X : Cx C cX0_setArches RX0 none 4 d) (φ : Nat) (this : Nat) (v1 : Option Nat) (σ : St) (y : St) (h : fX0_setArches φ this v1 σ = some y) : AW C 0 [(0, .inr (.inr (some this))), (1, .inr (.inr v1))] [] σ (AQ C none y) := by
  unfold fX0_setArches at h
  refine aw_aload_n X dX0_setArches_0 0 0 rfl rfl ?_
  refine aw_iconst X (0 : Int32) dX0_setArches_1 (by decide) ?_
  obtain ⟨s1, hs1, h⟩ := bind_some h
  refine aw_pfI X fl_X0_259 dX0_setArches_2 hs1 ?_
  refine aw_aload_n X dX0_setArches_5 0 0 rfl rfl ?_
  refine aw_iconst X (0 : Int32) dX0_setArches_6 (by decide) ?_
  obtain ⟨s2, hs2, h⟩ := bind_some h
  refine aw_pfI X fl_X0_262 dX0_setArches_7 hs2 ?_
  refine aw_iconst X (0 : Int32) dX0_setArches_10 (by decide) ?_
  refine aw_istore_n X dX0_setArches_11 2 rfl (by decide) [(2, .inl (0 : Int32)), (0, .inr (.inr (some this))), (1, .inr (.inr v1))] rfl ?_
  refine aw_iconst X (0 : Int32) dX0_setArches_12 (by decide) ?_
  refine aw_istore_n X dX0_setArches_13 3 rfl (by decide) [(3, .inl (0 : Int32)), (2, .inl (0 : Int32)), (0, .inr (.inr (some this))), (1, .inr (.inr v1))] rfl ?_
  obtain ⟨e11, h12, h⟩ := bind_some h
  refine aw_sub [(0, .inr (.inr (some this))), (1, .inr (.inr v1)), (2, .inl (0 : Int32)), (3, .inl (0 : Int32))] [2, 3, 1, 0] rfl ?_
  refine aw_it (fun s => AW C 14 [(0, .inr (.inr (some this))), (1, .inr (.inr v1)), (2, .inl s.1), (3, .inl s.2.1)] [] s.2.2 (AQ C none y)) (fun e => AW C 65 [] [] e (AQ C none y)) (fun s r hr kH kE => wX0_setArches_l14 X φ this v1 s.1 s.2.1 s.2.2 r hr kH kE) φ _ e11 h12 ?_
  cases h
  exact aw_vret X dX0_setArches_65
theorem AX0_setArches {E : AE} {l : Launch} (hE : EOK E l) (φ d : Nat) (this : Nat) (v1 : Option Nat) (σ : St) (y : St) (h : fX0_setArches φ this v1 σ = some y) : AMet E l yX0_setArches (ws_ yX0_setArches cX0_setArches 4 none) d [.inr (.inr (some this)), .inr (.inr v1)] σ none y := by
  refine amet_of hE (by decide +kernel) (Nat.le_of_ble_eq_true rfl) fun C e1 e2 X XI => ?_
  subst e1
  exact wX0_setArches X φ this v1 σ y h
theorem wX0_arches {C : CT} {d : Nat} (X : Cx C cX0_arches RX0 (some .int) 3 (d + 3)) (φ : Nat) (this : Nat) (v1 : Int32) (σ : St) (y : Int32 × St) (h : fX0_arches φ this v1 σ = some y) : AW C 0 [(0, .inr (.inr (some this))), (1, .inl v1)] [] σ (AQ C (some (.inl y.1)) y.2) := by
  unfold fX0_arches at h
  refine aw_aload_n X dX0_arches_0 0 0 rfl rfl ?_
  refine aw_iload_n X dX0_arches_1 1 1 rfl rfl ?_
  obtain ⟨y1, hy1, h⟩ := bind_some h
  refine aw_cV X (st := []) hy1 [.inl v1] rfl rfl ml_X0_195 (fun o h => AX0_askedWord (Cx.ok X) φ d _ _ _ _ h) dX0_arches_2 (Nat.le_of_ble_eq_true rfl) ?_
  refine aw_istore_n X dX0_arches_5 2 rfl (by decide) [(2, .inl y1.1), (0, .inr (.inr (some this))), (1, .inl v1)] rfl ?_
  refine aw_iload_n X dX0_arches_6 0 2 rfl rfl ?_
  refine aw_if_ge X 12 dX0_arches_7 rfl (fun c2 => ?_) (fun c2 => ?_)
  · rw [if_pos c2] at h
    refine aw_aload_n X dX0_arches_12 1 0 rfl rfl ?_
    refine aw_aload_n X dX0_arches_13 1 0 rfl rfl ?_
    refine aw_iload_n X dX0_arches_14 2 1 rfl rfl ?_
    obtain ⟨y3, hy3, h⟩ := bind_some h
    refine aw_cV X (st := [.inr (.inr (some this))]) hy3 [.inl v1] rfl rfl ml_X0_188 (fun o h => AX0_of (Cx.ok X) φ (d + 2) _ _ _ _ h) dX0_arches_15 (Nat.le_of_ble_eq_true rfl) ?_
    obtain ⟨y4, hy4, h⟩ := bind_some h
    refine aw_cV X (st := []) hy4 [.inr (.inr y3)] rfl rfl ml_X0_265 (fun o h => AX0_setArches (Cx.ok X) φ (d + 2) _ _ _ _ h) dX0_arches_18 (Nat.le_of_ble_eq_true rfl) ?_
    refine aw_aload_n X dX0_arches_21 1 0 rfl rfl ?_
    refine aw_aload_n X dX0_arches_22 1 0 rfl rfl ?_
    refine aw_iload_n X dX0_arches_23 2 1 rfl rfl ?_
    obtain ⟨y5, hy5, h⟩ := bind_some h
    refine aw_cV X (st := [.inr (.inr (some this))]) hy5 [.inl v1] rfl rfl ml_X0_188 (fun o h => AX0_of (Cx.ok X) φ (d + 2) _ _ _ _ h) dX0_arches_24 (Nat.le_of_ble_eq_true rfl) ?_
    obtain ⟨x6, hx6, h⟩ := bind_some h
    refine aw_alen X dX0_arches_27 hx6 ?_
    refine aw_aload_n X dX0_arches_28 1 0 rfl rfl ?_
    obtain ⟨x7, hx7, h⟩ := bind_some h
    refine aw_gfI X fl_X0_262 dX0_arches_29 hx7 ?_
    refine aw_isub X dX0_arches_32 ?_
    refine aw_aload_n X dX0_arches_33 1 0 rfl rfl ?_
    obtain ⟨x8, hx8, h⟩ := bind_some h
    refine aw_gfI X fl_X0_259 dX0_arches_34 hx8 ?_
    obtain ⟨y9, hy9, h⟩ := bind_some h
    refine aw_cV X (st := []) hy9 [.inl (x6 - x7), .inl x8] rfl rfl ml_X0_111 (fun o h => AX0_ask (Cx.ok X) φ (d + 2) _ _ _ _ _ h) dX0_arches_37 (Nat.le_of_ble_eq_true rfl) ?_
    cases h
    exact aw_iret X dX0_arches_40
  · rw [if_neg c2] at h
    refine aw_iload_n X dX0_arches_10 0 2 rfl rfl ?_
    cases h
    exact aw_iret X dX0_arches_11
theorem AX0_arches {E : AE} {l : Launch} (hE : EOK E l) (φ d : Nat) (this : Nat) (v1 : Int32) (σ : St) (y : Int32 × St) (h : fX0_arches φ this v1 σ = some y) : AMet E l yX0_arches (ws_ yX0_arches cX0_arches 3 (some .int)) (d + 3) [.inr (.inr (some this)), .inl v1] σ (some (.inl y.1)) y.2 := by
  refine amet_of hE (by decide +kernel) (Nat.le_of_ble_eq_true rfl) fun C e1 e2 X XI => ?_
  subst e1
  exact wX0_arches X φ this v1 σ y h
theorem wX0_absent_b154 {C : CT} {d : Nat} {Z : State → Prop} (X : Cx C cX0_absent RX0 (some .int) 14 (d + 3)) (φ : Nat) (this : Nat) (v2 : Int32) (v5 : Option Nat) (v6 : Option Nat) (v7 : Option Nat) (v8 : Int32) (v9 : Int32) (v11 : Int32) (v12 : Int64) (σ : St) (y : (Int32 × St) ⊕ (St)) (h : fX0_absent_b154 φ this v2 v5 v6 v7 v8 v9 v11 v12 σ = some y) (kH : ∀ s : Int32 × St, y = .inl s → AW C 77 [(0, .inr (.inr (some this))), (2, .inl v2), (5, .inr (.inr v5)), (6, .inr (.inr v6)), (7, .inr (.inr v7)), (8, .inl v8), (9, .inl s.1)] [] s.2 Z) (kE0 : ∀ e : St, y = .inr e → AW C 204 [(0, .inr (.inr (some this))), (2, .inl v2), (5, .inr (.inr v5)), (6, .inr (.inr v6)), (7, .inr (.inr v7)), (8, .inl v8)] [] e Z) : AW C 154 [(0, .inr (.inr (some this))), (2, .inl v2), (5, .inr (.inr v5)), (6, .inr (.inr v6)), (7, .inr (.inr v7)), (8, .inl v8), (9, .inl v9), (11, .inl v11), (12, .inr (.inl v12))] [] σ Z := by
  unfold fX0_absent_b154 at h
  refine aw_aload X dX0_absent_154 2 rfl ?_
  refine aw_iload X dX0_absent_156 5 rfl ?_
  refine aw_iload X dX0_absent_158 7 rfl ?_
  obtain ⟨s23, hs23, h⟩ := bind_some h
  refine aw_iast X dX0_absent_160 hs23 ?_
  refine aw_aload X dX0_absent_161 3 rfl ?_
  refine aw_iload X dX0_absent_163 5 rfl ?_
  refine aw_lload X dX0_absent_165 8 rfl ?_
  obtain ⟨s24, hs24, h⟩ := bind_some h
  refine aw_last X dX0_absent_167 hs24 ?_
  refine aw_aload X dX0_absent_168 4 rfl ?_
  refine aw_iload X dX0_absent_170 5 rfl ?_
  refine aw_iload X dX0_absent_172 6 rfl ?_
  obtain ⟨s25, hs25, h⟩ := bind_some h
  refine aw_iast X dX0_absent_174 hs25 ?_
  refine aw_goto X 198 dX0_absent_175 rfl ?_
  refine aw_iinc X dX0_absent_198 6 rfl (1 : Int32) rfl (by decide) [(9, .inl (v9 + (1 : Int32))), (0, .inr (.inr (some this))), (2, .inl v2), (5, .inr (.inr v5)), (6, .inr (.inr v6)), (7, .inr (.inr v7)), (8, .inl v8), (11, .inl v11), (12, .inr (.inl v12))] rfl ?_
  refine aw_goto X 77 dX0_absent_201 rfl ?_
  cases h
  refine aw_sub [(0, .inr (.inr (some this))), (2, .inl v2), (5, .inr (.inr v5)), (6, .inr (.inr v6)), (7, .inr (.inr v7)), (8, .inl v8), (9, .inl (v9 + (1 : Int32)))] [1, 2, 3, 4, 5, 6, 0] rfl ?_
  exact kH ((v9 + (1 : Int32)), s25) rfl
theorem wX0_absent_b137 {C : CT} {d : Nat} {Z : State → Prop} (X : Cx C cX0_absent RX0 (some .int) 14 (d + 3)) (φ : Nat) (this : Nat) (v2 : Int32) (v5 : Option Nat) (v6 : Option Nat) (v7 : Option Nat) (v8 : Int32) (v9 : Int32) (v11 : Int32) (k0 : Int64) (σ : St) (y : (Int32 × St) ⊕ (St)) (h : fX0_absent_b137 φ this v2 v5 v6 v7 v8 v9 v11 k0 σ = some y) (kH : ∀ s : Int32 × St, y = .inl s → AW C 77 [(0, .inr (.inr (some this))), (2, .inl v2), (5, .inr (.inr v5)), (6, .inr (.inr v6)), (7, .inr (.inr v7)), (8, .inl v8), (9, .inl s.1)] [] s.2 Z) (kE0 : ∀ e : St, y = .inr e → AW C 204 [(0, .inr (.inr (some this))), (2, .inl v2), (5, .inr (.inr v5)), (6, .inr (.inr v6)), (7, .inr (.inr v7)), (8, .inl v8)] [] e Z) : AW C 137 [(0, .inr (.inr (some this))), (2, .inl v2), (5, .inr (.inr v5)), (6, .inr (.inr v6)), (7, .inr (.inr v7)), (8, .inl v8), (9, .inl v9), (11, .inl v11)] [.inr (.inl k0)] σ Z := by
  unfold fX0_absent_b137 at h
  refine aw_lstore X dX0_absent_137 (by decide) [(12, .inr (.inl k0)), (0, .inr (.inr (some this))), (2, .inl v2), (5, .inr (.inr v5)), (6, .inr (.inr v6)), (7, .inr (.inr v7)), (8, .inl v8), (9, .inl v9), (11, .inl v11)] rfl ?_
  refine aw_iload X dX0_absent_139 7 rfl ?_
  refine aw_if_eq X 154 dX0_absent_141 rfl (fun c22 => ?_) (fun c22 => ?_)
  · rw [if_pos c22] at h
    refine aw_sub [(0, .inr (.inr (some this))), (2, .inl v2), (5, .inr (.inr v5)), (6, .inr (.inr v6)), (7, .inr (.inr v7)), (8, .inl v8), (9, .inl v9), (11, .inl v11), (12, .inr (.inl k0))] [1, 2, 3, 4, 5, 6, 7, 8, 0] rfl ?_
    exact wX0_absent_b154 X φ this v2 v5 v6 v7 v8 v9 v11 k0 σ y h kH kE0
  · rw [if_neg c22] at h
    refine aw_iload X dX0_absent_144 8 rfl ?_
    refine aw_aload X dX0_absent_146 3 rfl ?_
    refine aw_iload X dX0_absent_148 6 rfl ?_
    obtain ⟨x26, hx26, h⟩ := bind_some h
    refine aw_iald X dX0_absent_150 hx26 ?_
    refine aw_icmp_ge X 178 dX0_absent_151 rfl (fun c27 => ?_) (fun c27 => ?_)
    · rw [if_pos c27] at h
      refine aw_iload X dX0_absent_178 8 rfl ?_
      refine aw_aload X dX0_absent_180 3 rfl ?_
      refine aw_iload X dX0_absent_182 6 rfl ?_
      obtain ⟨x28, hx28, h⟩ := bind_some h
      refine aw_iald X dX0_absent_184 hx28 ?_
      refine aw_icmp_ne X 198 dX0_absent_185 rfl (fun c29 => ?_) (fun c29 => ?_)
      · rw [if_neg c29] at h
        refine aw_iinc X dX0_absent_198 7 rfl (1 : Int32) rfl (by decide) [(9, .inl (v9 + (1 : Int32))), (12, .inr (.inl k0)), (0, .inr (.inr (some this))), (2, .inl v2), (5, .inr (.inr v5)), (6, .inr (.inr v6)), (7, .inr (.inr v7)), (8, .inl v8), (11, .inl v11)] rfl ?_
        refine aw_goto X 77 dX0_absent_201 rfl ?_
        cases h
        refine aw_sub [(0, .inr (.inr (some this))), (2, .inl v2), (5, .inr (.inr v5)), (6, .inr (.inr v6)), (7, .inr (.inr v7)), (8, .inl v8), (9, .inl (v9 + (1 : Int32)))] [2, 3, 4, 5, 6, 7, 0] rfl ?_
        exact kH ((v9 + (1 : Int32)), σ) rfl
      · rw [if_pos c29] at h
        refine aw_aload X dX0_absent_188 4 rfl ?_
        refine aw_iload X dX0_absent_190 6 rfl ?_
        refine aw_dup2 X dX0_absent_192 rfl rfl ?_
        obtain ⟨x30, hx30, h⟩ := bind_some h
        refine aw_lald X dX0_absent_193 hx30 ?_
        refine aw_lload X dX0_absent_194 0 rfl ?_
        refine aw_ladd X dX0_absent_196 ?_
        obtain ⟨s31, hs31, h⟩ := bind_some h
        refine aw_last X dX0_absent_197 hs31 ?_
        refine aw_iinc X dX0_absent_198 7 rfl (1 : Int32) rfl (by decide) [(9, .inl (v9 + (1 : Int32))), (12, .inr (.inl k0)), (0, .inr (.inr (some this))), (2, .inl v2), (5, .inr (.inr v5)), (6, .inr (.inr v6)), (7, .inr (.inr v7)), (8, .inl v8), (11, .inl v11)] rfl ?_
        refine aw_goto X 77 dX0_absent_201 rfl ?_
        cases h
        refine aw_sub [(0, .inr (.inr (some this))), (2, .inl v2), (5, .inr (.inr v5)), (6, .inr (.inr v6)), (7, .inr (.inr v7)), (8, .inl v8), (9, .inl (v9 + (1 : Int32)))] [2, 3, 4, 5, 6, 7, 0] rfl ?_
        exact kH ((v9 + (1 : Int32)), s31) rfl
    · rw [if_neg c27] at h
      refine aw_sub [(0, .inr (.inr (some this))), (2, .inl v2), (5, .inr (.inr v5)), (6, .inr (.inr v6)), (7, .inr (.inr v7)), (8, .inl v8), (9, .inl v9), (11, .inl v11), (12, .inr (.inl k0))] [1, 2, 3, 4, 5, 6, 7, 8, 0] rfl ?_
      exact wX0_absent_b154 X φ this v2 v5 v6 v7 v8 v9 v11 k0 σ y h kH kE0
theorem wX0_absent_b119 {C : CT} {d : Nat} {Z : State → Prop} (X : Cx C cX0_absent RX0 (some .int) 14 (d + 3)) (φ : Nat) (this : Nat) (v2 : Int32) (v5 : Option Nat) (v6 : Option Nat) (v7 : Option Nat) (v8 : Int32) (v9 : Int32) (v10 : Int32) (k0 : Int32) (σ : St) (y : (Int32 × St) ⊕ (St)) (h : fX0_absent_b119 φ this v2 v5 v6 v7 v8 v9 v10 k0 σ = some y) (kH : ∀ s : Int32 × St, y = .inl s → AW C 77 [(0, .inr (.inr (some this))), (2, .inl v2), (5, .inr (.inr v5)), (6, .inr (.inr v6)), (7, .inr (.inr v7)), (8, .inl v8), (9, .inl s.1)] [] s.2 Z) (kE0 : ∀ e : St, y = .inr e → AW C 204 [(0, .inr (.inr (some this))), (2, .inl v2), (5, .inr (.inr v5)), (6, .inr (.inr v6)), (7, .inr (.inr v7)), (8, .inl v8)] [] e Z) : AW C 119 [(0, .inr (.inr (some this))), (2, .inl v2), (5, .inr (.inr v5)), (6, .inr (.inr v6)), (7, .inr (.inr v7)), (8, .inl v8), (9, .inl v9), (10, .inl v10)] [.inl k0] σ Z := by
  unfold fX0_absent_b119 at h
  refine aw_istore X dX0_absent_119 (by decide) [(11, .inl k0), (0, .inr (.inr (some this))), (2, .inl v2), (5, .inr (.inr v5)), (6, .inr (.inr v6)), (7, .inr (.inr v7)), (8, .inl v8), (9, .inl v9), (10, .inl v10)] rfl ?_
  refine aw_iload X dX0_absent_121 8 rfl ?_
  refine aw_bipush X (-9 : Int32) dX0_absent_123 (by decide) ?_
  refine aw_icmp_ne X 132 dX0_absent_125 rfl (fun c20 => ?_) (fun c20 => ?_)
  · rw [if_neg c20] at h
    refine aw_aload X dX0_absent_132 4 rfl ?_
    refine aw_iload X dX0_absent_134 8 rfl ?_
    obtain ⟨x21, hx21, h⟩ := bind_some h
    refine aw_lald X dX0_absent_136 hx21 ?_
    refine aw_sub [(0, .inr (.inr (some this))), (2, .inl v2), (5, .inr (.inr v5)), (6, .inr (.inr v6)), (7, .inr (.inr v7)), (8, .inl v8), (9, .inl v9), (11, .inl k0)] [1, 2, 3, 4, 5, 6, 7, 0] rfl ?_
    exact wX0_absent_b137 X φ this v2 v5 v6 v7 v8 v9 k0 x21 σ y h kH kE0
  · rw [if_pos c20] at h
    refine aw_lconst X (1 : Int64) dX0_absent_128 rfl ?_
    refine aw_goto X 137 dX0_absent_129 rfl ?_
    refine aw_sub [(0, .inr (.inr (some this))), (2, .inl v2), (5, .inr (.inr v5)), (6, .inr (.inr v6)), (7, .inr (.inr v7)), (8, .inl v8), (9, .inl v9), (11, .inl k0)] [1, 2, 3, 4, 5, 6, 7, 0] rfl ?_
    exact wX0_absent_b137 X φ this v2 v5 v6 v7 v8 v9 k0 (1 : Int64) σ y h kH kE0
theorem wX0_absent_l77 {C : CT} {d : Nat} {Z : State → Prop} (X : Cx C cX0_absent RX0 (some .int) 14 (d + 3)) (φ : Nat) (this : Nat) (v2 : Int32) (v5 : Option Nat) (v6 : Option Nat) (v7 : Option Nat) (v8 : Int32) (v9 : Int32) (σ : St) (y : (Int32 × St) ⊕ (St)) (h : fX0_absent_l77 φ this v2 v5 v6 v7 v8 v9 σ = some y) (kH : ∀ s : Int32 × St, y = .inl s → AW C 77 [(0, .inr (.inr (some this))), (2, .inl v2), (5, .inr (.inr v5)), (6, .inr (.inr v6)), (7, .inr (.inr v7)), (8, .inl v8), (9, .inl s.1)] [] s.2 Z) (kE0 : ∀ e : St, y = .inr e → AW C 204 [(0, .inr (.inr (some this))), (2, .inl v2), (5, .inr (.inr v5)), (6, .inr (.inr v6)), (7, .inr (.inr v7)), (8, .inl v8)] [] e Z) : AW C 77 [(0, .inr (.inr (some this))), (2, .inl v2), (5, .inr (.inr v5)), (6, .inr (.inr v6)), (7, .inr (.inr v7)), (8, .inl v8), (9, .inl v9)] [] σ Z := by
  unfold fX0_absent_l77 at h
  refine aw_iload X dX0_absent_77 6 rfl ?_
  refine aw_aload_n X dX0_absent_79 0 0 rfl rfl ?_
  obtain ⟨x14, hx14, h⟩ := bind_some h
  refine aw_gfI X fl_X0_30 dX0_absent_80 hx14 ?_
  refine aw_icmp_ge X 204 dX0_absent_83 rfl (fun c15 => ?_) (fun c15 => ?_)
  · rw [if_pos c15] at h
    cases h
    refine aw_sub [(0, .inr (.inr (some this))), (2, .inl v2), (5, .inr (.inr v5)), (6, .inr (.inr v6)), (7, .inr (.inr v7)), (8, .inl v8)] [0, 1, 2, 3, 4, 5] rfl ?_
    exact kE0 σ rfl
  · rw [if_neg c15] at h
    refine aw_aload_n X dX0_absent_86 0 0 rfl rfl ?_
    obtain ⟨x16, hx16, h⟩ := bind_some h
    refine aw_gfR X fl_X0_53 dX0_absent_87 hx16 ?_
    refine aw_bipush X (6 : Int32) dX0_absent_90 (by decide) ?_
    refine aw_iload X dX0_absent_92 5 rfl ?_
    refine aw_imul X dX0_absent_94 ?_
    refine aw_iload X dX0_absent_95 6 rfl ?_
    refine aw_iadd X dX0_absent_97 ?_
    obtain ⟨x17, hx17, h⟩ := bind_some h
    refine aw_iald X dX0_absent_98 hx17 ?_
    refine aw_istore X dX0_absent_99 (by decide) [(10, .inl x17), (0, .inr (.inr (some this))), (2, .inl v2), (5, .inr (.inr v5)), (6, .inr (.inr v6)), (7, .inr (.inr v7)), (8, .inl v8), (9, .inl v9)] rfl ?_
    refine aw_iload X dX0_absent_101 0 rfl ?_
    refine aw_bipush X (-9 : Int32) dX0_absent_103 (by decide) ?_
    refine aw_icmp_ne X 112 dX0_absent_105 rfl (fun c18 => ?_) (fun c18 => ?_)
    · rw [if_neg c18] at h
      refine aw_aload X dX0_absent_112 3 rfl ?_
      refine aw_iload X dX0_absent_114 0 rfl ?_
      obtain ⟨x19, hx19, h⟩ := bind_some h
      refine aw_iald X dX0_absent_116 hx19 ?_
      refine aw_iconst X (1 : Int32) dX0_absent_117 (by decide) ?_
      refine aw_iadd X dX0_absent_118 ?_
      refine aw_sub [(0, .inr (.inr (some this))), (2, .inl v2), (5, .inr (.inr v5)), (6, .inr (.inr v6)), (7, .inr (.inr v7)), (8, .inl v8), (9, .inl v9), (10, .inl x17)] [1, 2, 3, 4, 5, 6, 7, 0] rfl ?_
      exact wX0_absent_b119 X φ this v2 v5 v6 v7 v8 v9 x17 (x19 + (1 : Int32)) σ y h kH kE0
    · rw [if_pos c18] at h
      refine aw_iconst X (1 : Int32) dX0_absent_108 (by decide) ?_
      refine aw_goto X 119 dX0_absent_109 rfl ?_
      refine aw_sub [(0, .inr (.inr (some this))), (2, .inl v2), (5, .inr (.inr v5)), (6, .inr (.inr v6)), (7, .inr (.inr v7)), (8, .inl v8), (9, .inl v9), (10, .inl x17)] [1, 2, 3, 4, 5, 6, 7, 0] rfl ?_
      exact wX0_absent_b119 X φ this v2 v5 v6 v7 v8 v9 x17 (1 : Int32) σ y h kH kE0
theorem wX0_absent_l69 {C : CT} {d : Nat} {Z : State → Prop} (X : Cx C cX0_absent RX0 (some .int) 14 (d + 3)) (φ : Nat) (this : Nat) (v2 : Int32) (v5 : Option Nat) (v6 : Option Nat) (v7 : Option Nat) (v8 : Int32) (σ : St) (y : (Int32 × St) ⊕ (St)) (h : fX0_absent_l69 φ this v2 v5 v6 v7 v8 σ = some y) (kH : ∀ s : Int32 × St, y = .inl s → AW C 69 [(0, .inr (.inr (some this))), (2, .inl v2), (5, .inr (.inr v5)), (6, .inr (.inr v6)), (7, .inr (.inr v7)), (8, .inl s.1)] [] s.2 Z) (kE0 : ∀ e : St, y = .inr e → AW C 210 [(0, .inr (.inr (some this))), (2, .inl v2), (5, .inr (.inr v5)), (6, .inr (.inr v6)), (7, .inr (.inr v7))] [] e Z) : AW C 69 [(0, .inr (.inr (some this))), (2, .inl v2), (5, .inr (.inr v5)), (6, .inr (.inr v6)), (7, .inr (.inr v7)), (8, .inl v8)] [] σ Z := by
  unfold fX0_absent_l69 at h
  refine aw_iload X dX0_absent_69 5 rfl ?_
  refine aw_if_lt X 210 dX0_absent_71 rfl (fun c13 => ?_) (fun c13 => ?_)
  · rw [if_pos c13] at h
    cases h
    refine aw_sub [(0, .inr (.inr (some this))), (2, .inl v2), (5, .inr (.inr v5)), (6, .inr (.inr v6)), (7, .inr (.inr v7))] [0, 1, 2, 3, 4] rfl ?_
    exact kE0 σ rfl
  · rw [if_neg c13] at h
    refine aw_iconst X (0 : Int32) dX0_absent_74 (by decide) ?_
    refine aw_istore X dX0_absent_75 (by decide) [(9, .inl (0 : Int32)), (0, .inr (.inr (some this))), (2, .inl v2), (5, .inr (.inr v5)), (6, .inr (.inr v6)), (7, .inr (.inr v7)), (8, .inl v8)] rfl ?_
    obtain ⟨e32, h33, h⟩ := bind_some h
    refine aw_sub [(0, .inr (.inr (some this))), (2, .inl v2), (5, .inr (.inr v5)), (6, .inr (.inr v6)), (7, .inr (.inr v7)), (8, .inl v8), (9, .inl (0 : Int32))] [1, 2, 3, 4, 5, 6, 0] rfl ?_
    refine aw_it (fun s => AW C 77 [(0, .inr (.inr (some this))), (2, .inl v2), (5, .inr (.inr v5)), (6, .inr (.inr v6)), (7, .inr (.inr v7)), (8, .inl v8), (9, .inl s.1)] [] s.2 Z) (fun e => AW C 204 [(0, .inr (.inr (some this))), (2, .inl v2), (5, .inr (.inr v5)), (6, .inr (.inr v6)), (7, .inr (.inr v7)), (8, .inl v8)] [] e Z) (fun s r hr kH kE => wX0_absent_l77 X φ this v2 v5 v6 v7 v8 s.1 s.2 r hr kH kE) φ _ e32 h33 ?_
    refine aw_iinc X dX0_absent_204 5 rfl (-1 : Int32) rfl (by decide) [(8, .inl (v8 + (-1 : Int32))), (0, .inr (.inr (some this))), (2, .inl v2), (5, .inr (.inr v5)), (6, .inr (.inr v6)), (7, .inr (.inr v7))] rfl ?_
    refine aw_goto X 69 dX0_absent_207 rfl ?_
    cases h
    refine aw_sub [(0, .inr (.inr (some this))), (2, .inl v2), (5, .inr (.inr v5)), (6, .inr (.inr v6)), (7, .inr (.inr v7)), (8, .inl (v8 + (-1 : Int32)))] [1, 2, 3, 4, 5, 0] rfl ?_
    exact kH ((v8 + (-1 : Int32)), e32) rfl
theorem wX0_absent_l224 {C : CT} {d : Nat} {Z : State → Prop} (X : Cx C cX0_absent RX0 (some .int) 14 (d + 3)) (φ : Nat) (this : Nat) (v2 : Int32) (v6 : Option Nat) (v7 : Option Nat) (v8 : Option Nat) (v9 : Int32) (v10 : Int32) (σ : St) (y : (Int32 × Int32 × St) ⊕ (St)) (h : fX0_absent_l224 φ this v2 v6 v7 v8 v9 v10 σ = some y) (kH : ∀ s : Int32 × Int32 × St, y = .inl s → AW C 224 [(0, .inr (.inr (some this))), (2, .inl v2), (6, .inr (.inr v6)), (7, .inr (.inr v7)), (8, .inr (.inr v8)), (9, .inl s.1), (10, .inl s.2.1)] [] s.2.2 Z) (kE0 : ∀ e : St, y = .inr e → AW C 266 [(0, .inr (.inr (some this))), (2, .inl v2), (6, .inr (.inr v6)), (8, .inr (.inr v8))] [] e Z) : AW C 224 [(0, .inr (.inr (some this))), (2, .inl v2), (6, .inr (.inr v6)), (7, .inr (.inr v7)), (8, .inr (.inr v8)), (9, .inl v9), (10, .inl v10)] [] σ Z := by
  unfold fX0_absent_l224 at h
  refine aw_iload X dX0_absent_224 6 rfl ?_
  refine aw_aload X dX0_absent_226 4 rfl ?_
  obtain ⟨x38, hx38, h⟩ := bind_some h
  refine aw_alen X dX0_absent_228 hx38 ?_
  refine aw_icmp_ge X 266 dX0_absent_229 rfl (fun c39 => ?_) (fun c39 => ?_)
  · rw [if_pos c39] at h
    cases h
    refine aw_sub [(0, .inr (.inr (some this))), (2, .inl v2), (6, .inr (.inr v6)), (8, .inr (.inr v8))] [0, 1, 2, 4] rfl ?_
    exact kE0 σ rfl
  · rw [if_neg c39] at h
    refine aw_aload X dX0_absent_232 4 rfl ?_
    refine aw_iload X dX0_absent_234 6 rfl ?_
    refine aw_aload X dX0_absent_236 3 rfl ?_
    refine aw_iload X dX0_absent_238 5 rfl ?_
    obtain ⟨x40, hx40, h⟩ := bind_some h
    refine aw_iald X dX0_absent_240 hx40 ?_
    obtain ⟨s41, hs41, h⟩ := bind_some h
    refine aw_iast X dX0_absent_241 hs41 ?_
    refine aw_aload_n X dX0_absent_242 0 0 rfl rfl ?_
    obtain ⟨x42, hx42, h⟩ := bind_some h
    refine aw_gfR X fl_X0_53 dX0_absent_243 hx42 ?_
    refine aw_bipush X (6 : Int32) dX0_absent_246 (by decide) ?_
    refine aw_iload X dX0_absent_248 5 rfl ?_
    refine aw_imul X dX0_absent_250 ?_
    refine aw_aload X dX0_absent_251 3 rfl ?_
    refine aw_iload X dX0_absent_253 5 rfl ?_
    obtain ⟨x43, hx43, h⟩ := bind_some h
    refine aw_iald X dX0_absent_255 hx43 ?_
    refine aw_iadd X dX0_absent_256 ?_
    obtain ⟨x44, hx44, h⟩ := bind_some h
    refine aw_iald X dX0_absent_257 hx44 ?_
    refine aw_istore X dX0_absent_258 (by decide) [(9, .inl x44), (0, .inr (.inr (some this))), (2, .inl v2), (6, .inr (.inr v6)), (7, .inr (.inr v7)), (8, .inr (.inr v8)), (10, .inl v10)] rfl ?_
    refine aw_iinc X dX0_absent_260 6 rfl (1 : Int32) rfl (by decide) [(10, .inl (v10 + (1 : Int32))), (9, .inl x44), (0, .inr (.inr (some this))), (2, .inl v2), (6, .inr (.inr v6)), (7, .inr (.inr v7)), (8, .inr (.inr v8))] rfl ?_
    refine aw_goto X 224 dX0_absent_263 rfl ?_
    cases h
    refine aw_sub [(0, .inr (.inr (some this))), (2, .inl v2), (6, .inr (.inr v6)), (7, .inr (.inr v7)), (8, .inr (.inr v8)), (9, .inl x44), (10, .inl (v10 + (1 : Int32)))] [2, 3, 4, 5, 6, 1, 0] rfl ?_
    exact kH (x44, (v10 + (1 : Int32)), s41) rfl
theorem wX0_absent_b294 {C : CT} {d : Nat} (X : Cx C cX0_absent RX0 (some .int) 14 (d + 3)) (φ : Nat) (this : Nat) (v6 : Option Nat) (v8 : Option Nat) (σ : St) (y : Int32 × St) (h : fX0_absent_b294 φ this v6 v8 σ = some y)  : AW C 294 [(0, .inr (.inr (some this))), (6, .inr (.inr v6)), (8, .inr (.inr v8))] [] σ (AQ C (some (.inl y.1)) y.2) := by
  unfold fX0_absent_b294 at h
  refine aw_aload_n X dX0_absent_294 0 0 rfl rfl ?_
  refine aw_aload X dX0_absent_295 1 rfl ?_
  refine aw_iconst X (0 : Int32) dX0_absent_297 (by decide) ?_
  obtain ⟨x51, hx51, h⟩ := bind_some h
  refine aw_lald X dX0_absent_298 hx51 ?_
  refine aw_aload X dX0_absent_299 2 rfl ?_
  obtain ⟨x52, hx52, h⟩ := bind_some h
  refine aw_alen X dX0_absent_301 hx52 ?_
  obtain ⟨y53, hy53, h⟩ := bind_some h
  refine aw_cV X (st := []) hy53 [.inr (.inl x51), .inl x52] rfl rfl ml_X0_231 (fun o h => AX0_tellMany (Cx.ok X) φ (d + 2) _ _ _ _ _ h) dX0_absent_302 (Nat.le_of_ble_eq_true rfl) ?_
  cases h
  exact aw_iret X dX0_absent_305
theorem wX0_absent {C : CT} {d : Nat} (X : Cx C cX0_absent RX0 (some .int) 14 (d + 3)) (φ : Nat) (this : Nat) (v1 : Int32) (v2 : Int32) (σ : St) (y : Int32 × St) (h : fX0_absent φ this v1 v2 σ = some y) : AW C 0 [(0, .inr (.inr (some this))), (1, .inl v1), (2, .inl v2)] [] σ (AQ C (some (.inl y.1)) y.2) := by
  unfold fX0_absent at h
  refine aw_iload_n X dX0_absent_0 2 2 rfl rfl ?_
  obtain ⟨y1, hy1, h⟩ := bind_some h
  refine aw_callS X (st := []) [.inl v2] rfl ml_X0_97 (AX0_isRow (Cx.ok X) φ (d + 1) _ _ _  hy1) dX0_absent_1 (Nat.le_of_ble_eq_true rfl) ?_
  refine aw_if_ne X 9 dX0_absent_4 rfl (fun c2 => ?_) (fun c2 => ?_)
  · rw [if_neg c2] at h
    refine aw_aload_n X dX0_absent_9 0 0 rfl rfl ?_
    refine aw_iload_n X dX0_absent_10 1 1 rfl rfl ?_
    obtain ⟨y3, hy3, h⟩ := bind_some h
    refine aw_cV X (st := []) hy3 [.inl v1] rfl rfl ml_X0_195 (fun o h => AX0_askedWord (Cx.ok X) φ d _ _ _ _ h) dX0_absent_11 (Nat.le_of_ble_eq_true rfl) ?_
    refine aw_istore_n X dX0_absent_14 3 rfl (by decide) [(3, .inl y3.1), (0, .inr (.inr (some this))), (1, .inl v1), (2, .inl v2)] rfl ?_
    refine aw_iload_n X dX0_absent_15 0 3 rfl rfl ?_
    refine aw_if_ge X 21 dX0_absent_16 rfl (fun c4 => ?_) (fun c4 => ?_)
    · rw [if_pos c4] at h
      refine aw_aload_n X dX0_absent_21 1 0 rfl rfl ?_
      refine aw_iload_n X dX0_absent_22 2 1 rfl rfl ?_
      obtain ⟨y5, hy5, h⟩ := bind_some h
      refine aw_cV X (st := []) hy5 [.inl v1] rfl rfl ml_X0_188 (fun o h => AX0_of (Cx.ok X) φ (d + 2) _ _ _ _ h) dX0_absent_23 (Nat.le_of_ble_eq_true rfl) ?_
      refine aw_aload_n X dX0_absent_26 1 0 rfl rfl ?_
      obtain ⟨x6, hx6, h⟩ := bind_some h
      refine aw_gfR X fl_X0_53 dX0_absent_27 hx6 ?_
      obtain ⟨y7, hy7, h⟩ := bind_some h
      refine aw_callS X (st := []) [.inr (.inr y5), .inr (.inr x6)] rfl ml_X0_249 (AX0_setNext (Cx.ok X) φ (d + 2) _ _ _ _  hy7) dX0_absent_30 (Nat.le_of_ble_eq_true rfl) ?_
      refine aw_aload_n X dX0_absent_33 1 0 rfl rfl ?_
      refine aw_iload_n X dX0_absent_34 2 1 rfl rfl ?_
      obtain ⟨y8, hy8, h⟩ := bind_some h
      refine aw_cV X (st := []) hy8 [.inl v1] rfl rfl ml_X0_188 (fun o h => AX0_of (Cx.ok X) φ (d + 2) _ _ _ _ h) dX0_absent_35 (Nat.le_of_ble_eq_true rfl) ?_
      obtain ⟨x9, hx9, h⟩ := bind_some h
      refine aw_alen X dX0_absent_38 hx9 ?_
      refine aw_istore X dX0_absent_39 (by decide) [(4, .inl x9), (3, .inl y3.1), (0, .inr (.inr (some this))), (1, .inl v1), (2, .inl v2)] rfl ?_
      refine aw_iload X dX0_absent_41 0 rfl ?_
      refine aw_iconst X (1 : Int32) dX0_absent_43 (by decide) ?_
      refine aw_iadd X dX0_absent_44 ?_
      obtain ⟨n10, hn10, h⟩ := bind_some h
      refine aw_newa X (kd := 1) dX0_absent_45 rfl (by decide) (by decide) q215 (r := n10.1) (σ' := n10.2) hn10 ?_
      refine aw_astore X dX0_absent_47 (by decide) [(5, .inr (.inr n10.1)), (4, .inl x9), (3, .inl y3.1), (0, .inr (.inr (some this))), (1, .inl v1), (2, .inl v2)] rfl ?_
      refine aw_iload X dX0_absent_49 1 rfl ?_
      refine aw_iconst X (1 : Int32) dX0_absent_51 (by decide) ?_
      refine aw_iadd X dX0_absent_52 ?_
      obtain ⟨n11, hn11, h⟩ := bind_some h
      refine aw_newa X (kd := 3) dX0_absent_53 rfl (by decide) (by decide) q217 (r := n11.1) (σ' := n11.2) hn11 ?_
      refine aw_astore X dX0_absent_55 (by decide) [(6, .inr (.inr n11.1)), (5, .inr (.inr n10.1)), (4, .inl x9), (3, .inl y3.1), (0, .inr (.inr (some this))), (1, .inl v1), (2, .inl v2)] rfl ?_
      refine aw_iload X dX0_absent_57 2 rfl ?_
      refine aw_iconst X (1 : Int32) dX0_absent_59 (by decide) ?_
      refine aw_iadd X dX0_absent_60 ?_
      obtain ⟨n12, hn12, h⟩ := bind_some h
      refine aw_newa X (kd := 1) dX0_absent_61 rfl (by decide) (by decide) q215 (r := n12.1) (σ' := n12.2) hn12 ?_
      refine aw_astore X dX0_absent_63 (by decide) [(7, .inr (.inr n12.1)), (6, .inr (.inr n11.1)), (5, .inr (.inr n10.1)), (4, .inl x9), (3, .inl y3.1), (0, .inr (.inr (some this))), (1, .inl v1), (2, .inl v2)] rfl ?_
      refine aw_iload X dX0_absent_65 3 rfl ?_
      refine aw_istore X dX0_absent_67 (by decide) [(8, .inl x9), (7, .inr (.inr n12.1)), (6, .inr (.inr n11.1)), (5, .inr (.inr n10.1)), (4, .inl x9), (3, .inl y3.1), (0, .inr (.inr (some this))), (1, .inl v1), (2, .inl v2)] rfl ?_
      obtain ⟨e34, h35, h⟩ := bind_some h
      refine aw_sub [(0, .inr (.inr (some this))), (2, .inl v2), (5, .inr (.inr n10.1)), (6, .inr (.inr n11.1)), (7, .inr (.inr n12.1)), (8, .inl x9)] [6, 8, 3, 2, 1, 0] rfl ?_
      refine aw_it (fun s => AW C 69 [(0, .inr (.inr (some this))), (2, .inl v2), (5, .inr (.inr n10.1)), (6, .inr (.inr n11.1)), (7, .inr (.inr n12.1)), (8, .inl s.1)] [] s.2 (AQ C (some (.inl y.1)) y.2)) (fun e => AW C 210 [(0, .inr (.inr (some this))), (2, .inl v2), (5, .inr (.inr n10.1)), (6, .inr (.inr n11.1)), (7, .inr (.inr n12.1))] [] e (AQ C (some (.inl y.1)) y.2)) (fun s r hr kH kE => wX0_absent_l69 X φ this v2 n10.1 n11.1 n12.1 s.1 s.2 r hr kH kE) φ _ e34 h35 ?_
      refine aw_aload X dX0_absent_210 2 rfl ?_
      refine aw_iconst X (0 : Int32) dX0_absent_212 (by decide) ?_
      obtain ⟨x36, hx36, h⟩ := bind_some h
      refine aw_iald X dX0_absent_213 hx36 ?_
      obtain ⟨n37, hn37, h⟩ := bind_some h
      refine aw_newa X (kd := 1) dX0_absent_214 rfl (by decide) (by decide) q215 (r := n37.1) (σ' := n37.2) hn37 ?_
      refine aw_astore X dX0_absent_216 (by decide) [(8, .inr (.inr n37.1)), (0, .inr (.inr (some this))), (2, .inl v2), (5, .inr (.inr n10.1)), (6, .inr (.inr n11.1)), (7, .inr (.inr n12.1))] rfl ?_
      refine aw_iconst X (0 : Int32) dX0_absent_218 (by decide) ?_
      refine aw_istore X dX0_absent_219 (by decide) [(9, .inl (0 : Int32)), (8, .inr (.inr n37.1)), (0, .inr (.inr (some this))), (2, .inl v2), (5, .inr (.inr n10.1)), (6, .inr (.inr n11.1)), (7, .inr (.inr n12.1))] rfl ?_
      refine aw_iconst X (0 : Int32) dX0_absent_221 (by decide) ?_
      refine aw_istore X dX0_absent_222 (by decide) [(10, .inl (0 : Int32)), (9, .inl (0 : Int32)), (8, .inr (.inr n37.1)), (0, .inr (.inr (some this))), (2, .inl v2), (5, .inr (.inr n10.1)), (6, .inr (.inr n11.1)), (7, .inr (.inr n12.1))] rfl ?_
      obtain ⟨e45, h46, h⟩ := bind_some h
      refine aw_sub [(0, .inr (.inr (some this))), (2, .inl v2), (6, .inr (.inr n11.1)), (7, .inr (.inr n12.1)), (8, .inr (.inr n37.1)), (9, .inl (0 : Int32)), (10, .inl (0 : Int32))] [3, 4, 6, 7, 2, 1, 0] rfl ?_
      refine aw_it (fun s => AW C 224 [(0, .inr (.inr (some this))), (2, .inl v2), (6, .inr (.inr n11.1)), (7, .inr (.inr n12.1)), (8, .inr (.inr n37.1)), (9, .inl s.1), (10, .inl s.2.1)] [] s.2.2 (AQ C (some (.inl y.1)) y.2)) (fun e => AW C 266 [(0, .inr (.inr (some this))), (2, .inl v2), (6, .inr (.inr n11.1)), (8, .inr (.inr n37.1))] [] e (AQ C (some (.inl y.1)) y.2)) (fun s r hr kH kE => wX0_absent_l224 X φ this v2 n11.1 n12.1 n37.1 s.1 s.2.1 s.2.2 r hr kH kE) φ _ e45 h46 ?_
      refine aw_aload X dX0_absent_266 3 rfl ?_
      obtain ⟨x47, hx47, h⟩ := bind_some h
      refine aw_alen X dX0_absent_268 hx47 ?_
      refine aw_bipush X (40 : Int32) dX0_absent_269 (by decide) ?_
      refine aw_icmp_le X 286 dX0_absent_271 rfl (fun c48 => ?_) (fun c48 => ?_)
      · rw [if_pos c48] at h
        refine aw_aload_n X dX0_absent_286 0 0 rfl rfl ?_
        obtain ⟨x49, hx49, h⟩ := bind_some h
        refine aw_gfR X fl_X0_34 dX0_absent_287 hx49 ?_
        refine aw_iload_n X dX0_absent_290 1 2 rfl rfl ?_
        refine aw_aload X dX0_absent_291 3 rfl ?_
        obtain ⟨s50, hs50, h⟩ := bind_some h
        refine aw_aast X (kd := 5) (lo := 1) (hi := 1) dX0_absent_293 (by decide) hs50 ?_
        refine aw_sub [(0, .inr (.inr (some this))), (6, .inr (.inr n11.1)), (8, .inr (.inr n37.1))] [0, 2, 3] rfl ?_
        exact wX0_absent_b294 X φ this n11.1 n37.1 s50 y h
      · rw [if_neg c48] at h
        refine aw_aload_n X dX0_absent_274 0 0 rfl rfl ?_
        refine aw_iload_n X dX0_absent_275 1 2 rfl rfl ?_
        refine aw_aload X dX0_absent_276 3 rfl ?_
        refine aw_bipush X (40 : Int32) dX0_absent_278 (by decide) ?_
        obtain ⟨y54, hy54, h⟩ := bind_some h
        refine aw_cV X (st := []) hy54 [.inl v2, .inr (.inr n37.1), .inl (40 : Int32)] rfl rfl ml_X0_239 (fun o h => AX0_come (Cx.ok X) φ (d + 2) _ _ _ _ _ _ h) dX0_absent_280 (Nat.le_of_ble_eq_true rfl) ?_
        refine aw_goto X 294 dX0_absent_283 rfl ?_
        refine aw_sub [(0, .inr (.inr (some this))), (6, .inr (.inr n11.1)), (8, .inr (.inr n37.1))] [0, 2, 3] rfl ?_
        exact wX0_absent_b294 X φ this n11.1 n37.1 y54 y h
    · rw [if_neg c4] at h
      refine aw_iload_n X dX0_absent_19 0 3 rfl rfl ?_
      cases h
      exact aw_iret X dX0_absent_20
  · rw [if_pos c2] at h
    refine aw_iconst X (-1 : Int32) dX0_absent_7 (by decide) ?_
    cases h
    exact aw_iret X dX0_absent_8
theorem AX0_absent {E : AE} {l : Launch} (hE : EOK E l) (φ d : Nat) (this : Nat) (v1 : Int32) (v2 : Int32) (σ : St) (y : Int32 × St) (h : fX0_absent φ this v1 v2 σ = some y) : AMet E l yX0_absent (ws_ yX0_absent cX0_absent 14 (some .int)) (d + 3) [.inr (.inr (some this)), .inl v1, .inl v2] σ (some (.inl y.1)) y.2 := by
  refine amet_of hE (by decide +kernel) (Nat.le_of_ble_eq_true rfl) fun C e1 e2 X XI => ?_
  subst e1
  exact wX0_absent X φ this v1 v2 σ y h
theorem wJ12_bitCount {C : CT} {d : Nat} (X : Cx C cJ12_bitCount RJ12 (some .int) 1 d) (φ : Nat) (v0 : Int32) (σ : St) (y : Int32) (h : fJ12_bitCount φ v0 σ = some y) : AW C 0 [(0, .inl v0)] [] σ (AQ C (some (.inl y)) σ) := by
  unfold fJ12_bitCount at h
  refine aw_iload_n X dJ12_bitCount_0 0 0 rfl rfl ?_
  refine aw_iload_n X dJ12_bitCount_1 0 0 rfl rfl ?_
  refine aw_iconst X (1 : Int32) dJ12_bitCount_2 (by decide) ?_
  refine aw_iushr X dJ12_bitCount_3 ?_
  refine aw_ldcw X q694 dJ12_bitCount_4 ?_
  refine aw_iand X dJ12_bitCount_7 ?_
  refine aw_isub X dJ12_bitCount_8 ?_
  refine aw_istore_n X dJ12_bitCount_9 0 rfl (by decide) [(0, .inl (v0 - (((v0.toUInt32 >>> ((1 : Int32).toUInt32 &&& Int32.toUInt32 31)).toInt32) &&& (1431655765 : Int32))))] rfl ?_
  refine aw_iload_n X dJ12_bitCount_10 0 0 rfl rfl ?_
  refine aw_ldcw X q695 dJ12_bitCount_11 ?_
  refine aw_iand X dJ12_bitCount_14 ?_
  refine aw_iload_n X dJ12_bitCount_15 0 0 rfl rfl ?_
  refine aw_iconst X (2 : Int32) dJ12_bitCount_16 (by decide) ?_
  refine aw_iushr X dJ12_bitCount_17 ?_
  refine aw_ldcw X q695 dJ12_bitCount_18 ?_
  refine aw_iand X dJ12_bitCount_21 ?_
  refine aw_iadd X dJ12_bitCount_22 ?_
  refine aw_istore_n X dJ12_bitCount_23 0 rfl (by decide) [(0, .inl (((v0 - (((v0.toUInt32 >>> ((1 : Int32).toUInt32 &&& Int32.toUInt32 31)).toInt32) &&& (1431655765 : Int32))) &&& (858993459 : Int32)) + ((((v0 - (((v0.toUInt32 >>> ((1 : Int32).toUInt32 &&& Int32.toUInt32 31)).toInt32) &&& (1431655765 : Int32))).toUInt32 >>> ((2 : Int32).toUInt32 &&& Int32.toUInt32 31)).toInt32) &&& (858993459 : Int32))))] rfl ?_
  refine aw_iload_n X dJ12_bitCount_24 0 0 rfl rfl ?_
  refine aw_iload_n X dJ12_bitCount_25 0 0 rfl rfl ?_
  refine aw_iconst X (4 : Int32) dJ12_bitCount_26 (by decide) ?_
  refine aw_iushr X dJ12_bitCount_27 ?_
  refine aw_iadd X dJ12_bitCount_28 ?_
  refine aw_ldcw X q696 dJ12_bitCount_29 ?_
  refine aw_iand X dJ12_bitCount_32 ?_
  refine aw_istore_n X dJ12_bitCount_33 0 rfl (by decide) [(0, .inl (((((v0 - (((v0.toUInt32 >>> ((1 : Int32).toUInt32 &&& Int32.toUInt32 31)).toInt32) &&& (1431655765 : Int32))) &&& (858993459 : Int32)) + ((((v0 - (((v0.toUInt32 >>> ((1 : Int32).toUInt32 &&& Int32.toUInt32 31)).toInt32) &&& (1431655765 : Int32))).toUInt32 >>> ((2 : Int32).toUInt32 &&& Int32.toUInt32 31)).toInt32) &&& (858993459 : Int32))) + (((((v0 - (((v0.toUInt32 >>> ((1 : Int32).toUInt32 &&& Int32.toUInt32 31)).toInt32) &&& (1431655765 : Int32))) &&& (858993459 : Int32)) + ((((v0 - (((v0.toUInt32 >>> ((1 : Int32).toUInt32 &&& Int32.toUInt32 31)).toInt32) &&& (1431655765 : Int32))).toUInt32 >>> ((2 : Int32).toUInt32 &&& Int32.toUInt32 31)).toInt32) &&& (858993459 : Int32))).toUInt32 >>> ((4 : Int32).toUInt32 &&& Int32.toUInt32 31)).toInt32)) &&& (252645135 : Int32)))] rfl ?_
  refine aw_iload_n X dJ12_bitCount_34 0 0 rfl rfl ?_
  refine aw_iload_n X dJ12_bitCount_35 0 0 rfl rfl ?_
  refine aw_bipush X (8 : Int32) dJ12_bitCount_36 (by decide) ?_
  refine aw_iushr X dJ12_bitCount_38 ?_
  refine aw_iadd X dJ12_bitCount_39 ?_
  refine aw_istore_n X dJ12_bitCount_40 0 rfl (by decide) [(0, .inl ((((((v0 - (((v0.toUInt32 >>> ((1 : Int32).toUInt32 &&& Int32.toUInt32 31)).toInt32) &&& (1431655765 : Int32))) &&& (858993459 : Int32)) + ((((v0 - (((v0.toUInt32 >>> ((1 : Int32).toUInt32 &&& Int32.toUInt32 31)).toInt32) &&& (1431655765 : Int32))).toUInt32 >>> ((2 : Int32).toUInt32 &&& Int32.toUInt32 31)).toInt32) &&& (858993459 : Int32))) + (((((v0 - (((v0.toUInt32 >>> ((1 : Int32).toUInt32 &&& Int32.toUInt32 31)).toInt32) &&& (1431655765 : Int32))) &&& (858993459 : Int32)) + ((((v0 - (((v0.toUInt32 >>> ((1 : Int32).toUInt32 &&& Int32.toUInt32 31)).toInt32) &&& (1431655765 : Int32))).toUInt32 >>> ((2 : Int32).toUInt32 &&& Int32.toUInt32 31)).toInt32) &&& (858993459 : Int32))).toUInt32 >>> ((4 : Int32).toUInt32 &&& Int32.toUInt32 31)).toInt32)) &&& (252645135 : Int32)) + (((((((v0 - (((v0.toUInt32 >>> ((1 : Int32).toUInt32 &&& Int32.toUInt32 31)).toInt32) &&& (1431655765 : Int32))) &&& (858993459 : Int32)) + ((((v0 - (((v0.toUInt32 >>> ((1 : Int32).toUInt32 &&& Int32.toUInt32 31)).toInt32) &&& (1431655765 : Int32))).toUInt32 >>> ((2 : Int32).toUInt32 &&& Int32.toUInt32 31)).toInt32) &&& (858993459 : Int32))) + (((((v0 - (((v0.toUInt32 >>> ((1 : Int32).toUInt32 &&& Int32.toUInt32 31)).toInt32) &&& (1431655765 : Int32))) &&& (858993459 : Int32)) + ((((v0 - (((v0.toUInt32 >>> ((1 : Int32).toUInt32 &&& Int32.toUInt32 31)).toInt32) &&& (1431655765 : Int32))).toUInt32 >>> ((2 : Int32).toUInt32 &&& Int32.toUInt32 31)).toInt32) &&& (858993459 : Int32))).toUInt32 >>> ((4 : Int32).toUInt32 &&& Int32.toUInt32 31)).toInt32)) &&& (252645135 : Int32)).toUInt32 >>> ((8 : Int32).toUInt32 &&& Int32.toUInt32 31)).toInt32)))] rfl ?_
  refine aw_iload_n X dJ12_bitCount_41 0 0 rfl rfl ?_
  refine aw_iload_n X dJ12_bitCount_42 0 0 rfl rfl ?_
  refine aw_bipush X (16 : Int32) dJ12_bitCount_43 (by decide) ?_
  refine aw_iushr X dJ12_bitCount_45 ?_
  refine aw_iadd X dJ12_bitCount_46 ?_
  refine aw_istore_n X dJ12_bitCount_47 0 rfl (by decide) [(0, .inl (((((((v0 - (((v0.toUInt32 >>> ((1 : Int32).toUInt32 &&& Int32.toUInt32 31)).toInt32) &&& (1431655765 : Int32))) &&& (858993459 : Int32)) + ((((v0 - (((v0.toUInt32 >>> ((1 : Int32).toUInt32 &&& Int32.toUInt32 31)).toInt32) &&& (1431655765 : Int32))).toUInt32 >>> ((2 : Int32).toUInt32 &&& Int32.toUInt32 31)).toInt32) &&& (858993459 : Int32))) + (((((v0 - (((v0.toUInt32 >>> ((1 : Int32).toUInt32 &&& Int32.toUInt32 31)).toInt32) &&& (1431655765 : Int32))) &&& (858993459 : Int32)) + ((((v0 - (((v0.toUInt32 >>> ((1 : Int32).toUInt32 &&& Int32.toUInt32 31)).toInt32) &&& (1431655765 : Int32))).toUInt32 >>> ((2 : Int32).toUInt32 &&& Int32.toUInt32 31)).toInt32) &&& (858993459 : Int32))).toUInt32 >>> ((4 : Int32).toUInt32 &&& Int32.toUInt32 31)).toInt32)) &&& (252645135 : Int32)) + (((((((v0 - (((v0.toUInt32 >>> ((1 : Int32).toUInt32 &&& Int32.toUInt32 31)).toInt32) &&& (1431655765 : Int32))) &&& (858993459 : Int32)) + ((((v0 - (((v0.toUInt32 >>> ((1 : Int32).toUInt32 &&& Int32.toUInt32 31)).toInt32) &&& (1431655765 : Int32))).toUInt32 >>> ((2 : Int32).toUInt32 &&& Int32.toUInt32 31)).toInt32) &&& (858993459 : Int32))) + (((((v0 - (((v0.toUInt32 >>> ((1 : Int32).toUInt32 &&& Int32.toUInt32 31)).toInt32) &&& (1431655765 : Int32))) &&& (858993459 : Int32)) + ((((v0 - (((v0.toUInt32 >>> ((1 : Int32).toUInt32 &&& Int32.toUInt32 31)).toInt32) &&& (1431655765 : Int32))).toUInt32 >>> ((2 : Int32).toUInt32 &&& Int32.toUInt32 31)).toInt32) &&& (858993459 : Int32))).toUInt32 >>> ((4 : Int32).toUInt32 &&& Int32.toUInt32 31)).toInt32)) &&& (252645135 : Int32)).toUInt32 >>> ((8 : Int32).toUInt32 &&& Int32.toUInt32 31)).toInt32)) + ((((((((v0 - (((v0.toUInt32 >>> ((1 : Int32).toUInt32 &&& Int32.toUInt32 31)).toInt32) &&& (1431655765 : Int32))) &&& (858993459 : Int32)) + ((((v0 - (((v0.toUInt32 >>> ((1 : Int32).toUInt32 &&& Int32.toUInt32 31)).toInt32) &&& (1431655765 : Int32))).toUInt32 >>> ((2 : Int32).toUInt32 &&& Int32.toUInt32 31)).toInt32) &&& (858993459 : Int32))) + (((((v0 - (((v0.toUInt32 >>> ((1 : Int32).toUInt32 &&& Int32.toUInt32 31)).toInt32) &&& (1431655765 : Int32))) &&& (858993459 : Int32)) + ((((v0 - (((v0.toUInt32 >>> ((1 : Int32).toUInt32 &&& Int32.toUInt32 31)).toInt32) &&& (1431655765 : Int32))).toUInt32 >>> ((2 : Int32).toUInt32 &&& Int32.toUInt32 31)).toInt32) &&& (858993459 : Int32))).toUInt32 >>> ((4 : Int32).toUInt32 &&& Int32.toUInt32 31)).toInt32)) &&& (252645135 : Int32)) + (((((((v0 - (((v0.toUInt32 >>> ((1 : Int32).toUInt32 &&& Int32.toUInt32 31)).toInt32) &&& (1431655765 : Int32))) &&& (858993459 : Int32)) + ((((v0 - (((v0.toUInt32 >>> ((1 : Int32).toUInt32 &&& Int32.toUInt32 31)).toInt32) &&& (1431655765 : Int32))).toUInt32 >>> ((2 : Int32).toUInt32 &&& Int32.toUInt32 31)).toInt32) &&& (858993459 : Int32))) + (((((v0 - (((v0.toUInt32 >>> ((1 : Int32).toUInt32 &&& Int32.toUInt32 31)).toInt32) &&& (1431655765 : Int32))) &&& (858993459 : Int32)) + ((((v0 - (((v0.toUInt32 >>> ((1 : Int32).toUInt32 &&& Int32.toUInt32 31)).toInt32) &&& (1431655765 : Int32))).toUInt32 >>> ((2 : Int32).toUInt32 &&& Int32.toUInt32 31)).toInt32) &&& (858993459 : Int32))).toUInt32 >>> ((4 : Int32).toUInt32 &&& Int32.toUInt32 31)).toInt32)) &&& (252645135 : Int32)).toUInt32 >>> ((8 : Int32).toUInt32 &&& Int32.toUInt32 31)).toInt32)).toUInt32 >>> ((16 : Int32).toUInt32 &&& Int32.toUInt32 31)).toInt32)))] rfl ?_
  refine aw_iload_n X dJ12_bitCount_48 0 0 rfl rfl ?_
  refine aw_bipush X (63 : Int32) dJ12_bitCount_49 (by decide) ?_
  refine aw_iand X dJ12_bitCount_51 ?_
  cases h
  exact aw_iret X dJ12_bitCount_52
theorem AJ12_bitCount {E : AE} {l : Launch} (hE : EOK E l) (φ d : Nat) (v0 : Int32) (σ : St) (y : Int32) (h : fJ12_bitCount φ v0 σ = some y) : AMet E l yJ12_bitCount (ws_ yJ12_bitCount cJ12_bitCount 1 (some .int)) d [.inl v0] σ (some (.inl y)) σ := by
  refine amet_of hE (by decide +kernel) (Nat.le_of_ble_eq_true rfl) fun C e1 e2 X XI => ?_
  subst e1
  exact wJ12_bitCount X φ v0 σ y h
theorem wX0_added_l52 {C : CT} {d : Nat} {Z : State → Prop} (X : Cx C cX0_added RX0 (some .int) 6 (d + 3)) (φ : Nat) (this : Nat) (v1 : Int32) (v2 : Int32) (σ : St) (v4 : Int32) (v5 : Int32) (y : (Int32 × Int32) ⊕ (Int32)) (h : fX0_added_l52 φ this v1 v2 σ v4 v5 = some y) (kH : ∀ s : Int32 × Int32, y = .inl s → AW C 52 [(0, .inr (.inr (some this))), (1, .inl v1), (2, .inl v2), (4, .inl s.1), (5, .inl s.2)] [] σ Z) (kE0 : ∀ e : Int32, y = .inr e → AW C 84 [(0, .inr (.inr (some this))), (2, .inl v2), (4, .inl e)] [] σ Z) : AW C 52 [(0, .inr (.inr (some this))), (1, .inl v1), (2, .inl v2), (4, .inl v4), (5, .inl v5)] [] σ Z := by
  unfold fX0_added_l52 at h
  refine aw_iload X dX0_added_52 4 rfl ?_
  refine aw_aload_n X dX0_added_54 0 0 rfl rfl ?_
  refine aw_iload_n X dX0_added_55 1 1 rfl rfl ?_
  obtain ⟨y10, hy10, h⟩ := bind_some h
  refine aw_cV X (st := [.inl v5]) hy10 [.inl v1] rfl rfl ml_X0_188 (fun o h => AX0_of (Cx.ok X) φ (d + 2) _ _ _ _ h) dX0_added_56 (Nat.le_of_ble_eq_true rfl) ?_
  obtain ⟨x11, hx11, h⟩ := bind_some h
  refine aw_alen X dX0_added_59 hx11 ?_
  refine aw_icmp_ge X 84 dX0_added_60 rfl (fun c12 => ?_) (fun c12 => ?_)
  · rw [if_pos c12] at h
    cases h
    refine aw_sub [(0, .inr (.inr (some this))), (2, .inl v2), (4, .inl v4)] [0, 2, 3] rfl ?_
    exact kE0 v4 rfl
  · rw [if_neg c12] at h
    refine aw_iload X dX0_added_63 3 rfl ?_
    refine aw_iconst X (1 : Int32) dX0_added_65 (by decide) ?_
    refine aw_aload_n X dX0_added_66 0 0 rfl rfl ?_
    refine aw_iload_n X dX0_added_67 1 1 rfl rfl ?_
    obtain ⟨y13, hy13, h⟩ := bind_some h
    refine aw_cV X (st := [.inl (1 : Int32), .inl v4]) hy13 [.inl v1] rfl rfl ml_X0_188 (fun o h => AX0_of (Cx.ok X) φ (d + 2) _ _ _ _ h) dX0_added_68 (Nat.le_of_ble_eq_true rfl) ?_
    refine aw_iload X dX0_added_71 4 rfl ?_
    obtain ⟨x14, hx14, h⟩ := bind_some h
    refine aw_bald X dX0_added_73 hx14 ?_
    refine aw_ishl X dX0_added_74 ?_
    refine aw_ior X dX0_added_75 ?_
    refine aw_istore X dX0_added_76 (by decide) [(4, .inl (v4 ||| ((1 : Int32) <<< (x14 &&& 31)))), (0, .inr (.inr (some this))), (1, .inl v1), (2, .inl v2), (5, .inl v5)] rfl ?_
    refine aw_iinc X dX0_added_78 4 rfl (1 : Int32) rfl (by decide) [(5, .inl (v5 + (1 : Int32))), (4, .inl (v4 ||| ((1 : Int32) <<< (x14 &&& 31)))), (0, .inr (.inr (some this))), (1, .inl v1), (2, .inl v2)] rfl ?_
    refine aw_goto X 52 dX0_added_81 rfl ?_
    cases h
    refine aw_sub [(0, .inr (.inr (some this))), (1, .inl v1), (2, .inl v2), (4, .inl (v4 ||| ((1 : Int32) <<< (x14 &&& 31)))), (5, .inl (v5 + (1 : Int32)))] [2, 3, 4, 1, 0] rfl ?_
    exact kH ((v4 ||| ((1 : Int32) <<< (x14 &&& 31))), (v5 + (1 : Int32))) rfl
theorem wX0_added {C : CT} {d : Nat} (X : Cx C cX0_added RX0 (some .int) 6 (d + 3)) (φ : Nat) (this : Nat) (v1 : Int32) (v2 : Int32) (σ : St) (y : Int32 × St) (h : fX0_added φ this v1 v2 σ = some y) : AW C 0 [(0, .inr (.inr (some this))), (1, .inl v1), (2, .inl v2)] [] σ (AQ C (some (.inl y.1)) y.2) := by
  unfold fX0_added at h
  refine aw_iload_n X dX0_added_0 2 2 rfl rfl ?_
  refine aw_iconst X (0 : Int32) dX0_added_1 (by decide) ?_
  refine aw_bipush X (40 : Int32) dX0_added_2 (by decide) ?_
  obtain ⟨y1, hy1, h⟩ := bind_some h
  refine aw_callS X (st := []) [.inl v2, .inl (0 : Int32), .inl (40 : Int32)] rfl ml_X0_93 (AX0_isIn (Cx.ok X) φ (d + 2) _ _ _ _ _  hy1) dX0_added_4 (Nat.le_of_ble_eq_true rfl) ?_
  refine aw_if_ne X 12 dX0_added_7 rfl (fun c2 => ?_) (fun c2 => ?_)
  · rw [if_neg c2] at h
    refine aw_aload_n X dX0_added_12 0 0 rfl rfl ?_
    refine aw_iload_n X dX0_added_13 1 1 rfl rfl ?_
    obtain ⟨y3, hy3, h⟩ := bind_some h
    refine aw_cV X (st := []) hy3 [.inl v1] rfl rfl ml_X0_195 (fun o h => AX0_askedWord (Cx.ok X) φ d _ _ _ _ h) dX0_added_14 (Nat.le_of_ble_eq_true rfl) ?_
    refine aw_istore_n X dX0_added_17 3 rfl (by decide) [(3, .inl y3.1), (0, .inr (.inr (some this))), (1, .inl v1), (2, .inl v2)] rfl ?_
    refine aw_iload_n X dX0_added_18 0 3 rfl rfl ?_
    refine aw_if_ge X 24 dX0_added_19 rfl (fun c4 => ?_) (fun c4 => ?_)
    · rw [if_pos c4] at h
      refine aw_aload_n X dX0_added_24 1 0 rfl rfl ?_
      refine aw_aload_n X dX0_added_25 1 0 rfl rfl ?_
      refine aw_iload_n X dX0_added_26 2 1 rfl rfl ?_
      obtain ⟨y5, hy5, h⟩ := bind_some h
      refine aw_cV X (st := [.inr (.inr (some this))]) hy5 [.inl v1] rfl rfl ml_X0_188 (fun o h => AX0_of (Cx.ok X) φ (d + 2) _ _ _ _ h) dX0_added_27 (Nat.le_of_ble_eq_true rfl) ?_
      obtain ⟨y6, hy6, h⟩ := bind_some h
      refine aw_cV X (st := []) hy6 [.inr (.inr y5)] rfl rfl ml_X0_265 (fun o h => AX0_setArches (Cx.ok X) φ (d + 2) _ _ _ _ h) dX0_added_30 (Nat.le_of_ble_eq_true rfl) ?_
      refine aw_iload_n X dX0_added_33 3 2 rfl rfl ?_
      refine aw_aload_n X dX0_added_34 1 0 rfl rfl ?_
      obtain ⟨x7, hx7, h⟩ := bind_some h
      refine aw_gfI X fl_X0_259 dX0_added_35 hx7 ?_
      refine aw_icmp_gt X 43 dX0_added_38 rfl (fun c8 => ?_) (fun c8 => ?_)
      · rw [if_pos c8] at h
        refine aw_iconst X (0 : Int32) dX0_added_43 (by decide) ?_
        refine aw_istore X dX0_added_44 (by decide) [(4, .inl (0 : Int32)), (3, .inl y3.1), (0, .inr (.inr (some this))), (1, .inl v1), (2, .inl v2)] rfl ?_
        refine aw_aload_n X dX0_added_46 2 0 rfl rfl ?_
        obtain ⟨x9, hx9, h⟩ := bind_some h
        refine aw_gfI X fl_X0_262 dX0_added_47 hx9 ?_
        refine aw_istore X dX0_added_50 (by decide) [(5, .inl x9), (4, .inl (0 : Int32)), (3, .inl y3.1), (0, .inr (.inr (some this))), (1, .inl v1), (2, .inl v2)] rfl ?_
        obtain ⟨e15, h16, h⟩ := bind_some h
        refine aw_sub [(0, .inr (.inr (some this))), (1, .inl v1), (2, .inl v2), (4, .inl (0 : Int32)), (5, .inl x9)] [3, 4, 5, 1, 0] rfl ?_
        refine aw_it (fun s => AW C 52 [(0, .inr (.inr (some this))), (1, .inl v1), (2, .inl v2), (4, .inl s.1), (5, .inl s.2)] [] y6 (AQ C (some (.inl y.1)) y.2)) (fun e => AW C 84 [(0, .inr (.inr (some this))), (2, .inl v2), (4, .inl e)] [] y6 (AQ C (some (.inl y.1)) y.2)) (fun s r hr kH kE => wX0_added_l52 X φ this v1 v2 y6 s.1 s.2 r hr kH kE) φ _ e15 h16 ?_
        refine aw_aload_n X dX0_added_84 0 0 rfl rfl ?_
        obtain ⟨x17, hx17, h⟩ := bind_some h
        refine aw_gfI X fl_X0_30 dX0_added_85 hx17 ?_
        refine aw_iload X dX0_added_88 2 rfl ?_
        obtain ⟨y18, hy18, h⟩ := bind_some h
        refine aw_callS X (st := [.inl x17]) [.inl e15] rfl ml_X0_268 (AJ12_bitCount (Cx.ok X) φ (d + 2) _ _ _  hy18) dX0_added_90 (Nat.le_of_ble_eq_true rfl) ?_
        refine aw_isub X dX0_added_93 ?_
        refine aw_iload_n X dX0_added_94 1 2 rfl rfl ?_
        refine aw_aload_n X dX0_added_95 0 0 rfl rfl ?_
        obtain ⟨x19, hx19, h⟩ := bind_some h
        refine aw_gfI X fl_X0_259 dX0_added_96 hx19 ?_
        refine aw_isub X dX0_added_99 ?_
        refine aw_iconst X (1 : Int32) dX0_added_100 (by decide) ?_
        refine aw_isub X dX0_added_101 ?_
        refine aw_aload_n X dX0_added_102 0 0 rfl rfl ?_
        obtain ⟨x20, hx20, h⟩ := bind_some h
        refine aw_gfI X fl_X0_30 dX0_added_103 hx20 ?_
        refine aw_imul X dX0_added_106 ?_
        refine aw_iadd X dX0_added_107 ?_
        cases h
        exact aw_iret X dX0_added_108
      · rw [if_neg c8] at h
        refine aw_iconst X (0 : Int32) dX0_added_41 (by decide) ?_
        cases h
        exact aw_iret X dX0_added_42
    · rw [if_neg c4] at h
      refine aw_iload_n X dX0_added_22 0 3 rfl rfl ?_
      cases h
      exact aw_iret X dX0_added_23
  · rw [if_pos c2] at h
    refine aw_iconst X (-1 : Int32) dX0_added_10 (by decide) ?_
    cases h
    exact aw_iret X dX0_added_11
theorem AX0_added {E : AE} {l : Launch} (hE : EOK E l) (φ d : Nat) (this : Nat) (v1 : Int32) (v2 : Int32) (σ : St) (y : Int32 × St) (h : fX0_added φ this v1 v2 σ = some y) : AMet E l yX0_added (ws_ yX0_added cX0_added 6 (some .int)) (d + 3) [.inr (.inr (some this)), .inl v1, .inl v2] σ (some (.inl y.1)) y.2 := by
  refine amet_of hE (by decide +kernel) (Nat.le_of_ble_eq_true rfl) fun C e1 e2 X XI => ?_
  subst e1
  exact wX0_added X φ this v1 v2 σ y h
theorem wX0_alike {C : CT} {d : Nat} (X : Cx C cX0_alike RX0 (some .int) 5 (d + 3)) (φ : Nat) (this : Nat) (v1 : Int32) (v2 : Int32) (v3 : Int32) (σ : St) (y : Int32 × St) (h : fX0_alike φ this v1 v2 v3 σ = some y) : AW C 0 [(0, .inr (.inr (some this))), (1, .inl v1), (2, .inl v2), (3, .inl v3)] [] σ (AQ C (some (.inl y.1)) y.2) := by
  unfold fX0_alike at h
  refine aw_iload_n X dX0_alike_0 3 3 rfl rfl ?_
  refine aw_iconst X (0 : Int32) dX0_alike_1 (by decide) ?_
  refine aw_bipush X (40 : Int32) dX0_alike_2 (by decide) ?_
  obtain ⟨y1, hy1, h⟩ := bind_some h
  refine aw_callS X (st := []) [.inl v3, .inl (0 : Int32), .inl (40 : Int32)] rfl ml_X0_93 (AX0_isIn (Cx.ok X) φ (d + 2) _ _ _ _ _  hy1) dX0_alike_4 (Nat.le_of_ble_eq_true rfl) ?_
  refine aw_if_ne X 12 dX0_alike_7 rfl (fun c2 => ?_) (fun c2 => ?_)
  · rw [if_neg c2] at h
    refine aw_aload_n X dX0_alike_12 0 0 rfl rfl ?_
    refine aw_iload_n X dX0_alike_13 1 1 rfl rfl ?_
    refine aw_iload_n X dX0_alike_14 2 2 rfl rfl ?_
    obtain ⟨y3, hy3, h⟩ := bind_some h
    refine aw_cV X (st := []) hy3 [.inl v1, .inl v2] rfl rfl ml_X0_185 (fun o h => AX0_askedTwo (Cx.ok X) φ d _ _ _ _ _ h) dX0_alike_15 (Nat.le_of_ble_eq_true rfl) ?_
    refine aw_istore X dX0_alike_18 (by decide) [(4, .inl y3.1), (0, .inr (.inr (some this))), (1, .inl v1), (2, .inl v2), (3, .inl v3)] rfl ?_
    refine aw_iload X dX0_alike_20 0 rfl ?_
    refine aw_if_ge X 30 dX0_alike_22 rfl (fun c4 => ?_) (fun c4 => ?_)
    · rw [if_pos c4] at h
      refine aw_aload_n X dX0_alike_30 1 0 rfl rfl ?_
      refine aw_aload_n X dX0_alike_31 1 0 rfl rfl ?_
      refine aw_iload_n X dX0_alike_32 2 1 rfl rfl ?_
      obtain ⟨y5, hy5, h⟩ := bind_some h
      refine aw_cV X (st := [.inr (.inr (some this))]) hy5 [.inl v1] rfl rfl ml_X0_188 (fun o h => AX0_of (Cx.ok X) φ (d + 2) _ _ _ _ h) dX0_alike_33 (Nat.le_of_ble_eq_true rfl) ?_
      refine aw_aload_n X dX0_alike_36 1 0 rfl rfl ?_
      refine aw_iload_n X dX0_alike_37 3 2 rfl rfl ?_
      obtain ⟨y6, hy6, h⟩ := bind_some h
      refine aw_cV X (st := [.inr (.inr y5), .inr (.inr (some this))]) hy6 [.inl v2] rfl rfl ml_X0_188 (fun o h => AX0_of (Cx.ok X) φ (d + 2) _ _ _ _ h) dX0_alike_38 (Nat.le_of_ble_eq_true rfl) ?_
      obtain ⟨y7, hy7, h⟩ := bind_some h
      refine aw_cV X (st := []) hy7 [.inr (.inr y5), .inr (.inr y6)] rfl rfl ml_X0_203 (fun o h => AX0_parted (Cx.ok X) φ (d + 1) _ _ _ _ _ h) dX0_alike_41 (Nat.le_of_ble_eq_true rfl) ?_
      refine aw_iload_n X dX0_alike_44 4 3 rfl rfl ?_
      refine aw_icmp_le X 52 dX0_alike_45 rfl (fun c8 => ?_) (fun c8 => ?_)
      · rw [if_pos c8] at h
        refine aw_iconst X (0 : Int32) dX0_alike_52 (by decide) ?_
        cases h
        exact aw_iret X dX0_alike_53
      · rw [if_neg c8] at h
        refine aw_iconst X (1 : Int32) dX0_alike_48 (by decide) ?_
        refine aw_goto X 53 dX0_alike_49 rfl ?_
        cases h
        exact aw_iret X dX0_alike_53
    · rw [if_neg c4] at h
      refine aw_iload X dX0_alike_25 0 rfl ?_
      refine aw_goto X 53 dX0_alike_27 rfl ?_
      cases h
      exact aw_iret X dX0_alike_53
  · rw [if_pos c2] at h
    refine aw_iconst X (-1 : Int32) dX0_alike_10 (by decide) ?_
    cases h
    exact aw_iret X dX0_alike_11
theorem AX0_alike {E : AE} {l : Launch} (hE : EOK E l) (φ d : Nat) (this : Nat) (v1 : Int32) (v2 : Int32) (v3 : Int32) (σ : St) (y : Int32 × St) (h : fX0_alike φ this v1 v2 v3 σ = some y) : AMet E l yX0_alike (ws_ yX0_alike cX0_alike 5 (some .int)) (d + 3) [.inr (.inr (some this)), .inl v1, .inl v2, .inl v3] σ (some (.inl y.1)) y.2 := by
  refine amet_of hE (by decide +kernel) (Nat.le_of_ble_eq_true rfl) fun C e1 e2 X XI => ?_
  subst e1
  exact wX0_alike X φ this v1 v2 v3 σ y h
theorem wX0_parting_l81 {C : CT} {d : Nat} {Z : State → Prop} (X : Cx C cX0_parting RX0 (some .int) 9 (d + 3)) (φ : Nat) (this : Nat) (v3 : Int32) (v5 : Int32) (v6 : Option Nat) (v7 : Int32) (v8 : Int32) (σ : St) (y : (Int32 × Int32 × St) ⊕ (St)) (h : fX0_parting_l81 φ this v3 v5 v6 v7 v8 σ = some y) (kH : ∀ s : Int32 × Int32 × St, y = .inl s → AW C 81 [(0, .inr (.inr (some this))), (3, .inl v3), (5, .inl v5), (6, .inr (.inr v6)), (7, .inl s.1), (8, .inl s.2.1)] [] s.2.2 Z) (kE0 : ∀ e : St, y = .inr e → AW C 113 [(0, .inr (.inr (some this))), (3, .inl v3), (5, .inl v5), (6, .inr (.inr v6))] [] e Z) : AW C 81 [(0, .inr (.inr (some this))), (3, .inl v3), (5, .inl v5), (6, .inr (.inr v6)), (7, .inl v7), (8, .inl v8)] [] σ Z := by
  unfold fX0_parting_l81 at h
  refine aw_iload X dX0_parting_81 5 rfl ?_
  refine aw_if_eq X 113 dX0_parting_83 rfl (fun c13 => ?_) (fun c13 => ?_)
  · rw [if_pos c13] at h
    cases h
    refine aw_sub [(0, .inr (.inr (some this))), (3, .inl v3), (5, .inl v5), (6, .inr (.inr v6))] [0, 1, 2, 3] rfl ?_
    exact kE0 σ rfl
  · rw [if_neg c13] at h
    refine aw_aload X dX0_parting_86 3 rfl ?_
    refine aw_iload X dX0_parting_88 4 rfl ?_
    refine aw_aload_n X dX0_parting_90 0 0 rfl rfl ?_
    obtain ⟨x14, hx14, h⟩ := bind_some h
    refine aw_gfR X fl_X0_75 dX0_parting_91 hx14 ?_
    refine aw_iload X dX0_parting_94 5 rfl ?_
    obtain ⟨x15, hx15, h⟩ := bind_some h
    refine aw_iald X dX0_parting_96 hx15 ?_
    obtain ⟨s16, hs16, h⟩ := bind_some h
    refine aw_iast X dX0_parting_97 hs16 ?_
    refine aw_iinc X dX0_parting_98 4 rfl (-1 : Int32) rfl (by decide) [(7, .inl (v7 + (-1 : Int32))), (0, .inr (.inr (some this))), (3, .inl v3), (5, .inl v5), (6, .inr (.inr v6)), (8, .inl v8)] rfl ?_
    refine aw_aload_n X dX0_parting_101 1 0 rfl rfl ?_
    obtain ⟨x17, hx17, h⟩ := bind_some h
    refine aw_gfR X fl_X0_72 dX0_parting_102 hx17 ?_
    refine aw_iload X dX0_parting_105 5 rfl ?_
    obtain ⟨x18, hx18, h⟩ := bind_some h
    refine aw_iald X dX0_parting_107 hx18 ?_
    refine aw_istore X dX0_parting_108 (by decide) [(8, .inl x18), (7, .inl (v7 + (-1 : Int32))), (0, .inr (.inr (some this))), (3, .inl v3), (5, .inl v5), (6, .inr (.inr v6))] rfl ?_
    refine aw_goto X 81 dX0_parting_110 rfl ?_
    cases h
    refine aw_sub [(0, .inr (.inr (some this))), (3, .inl v3), (5, .inl v5), (6, .inr (.inr v6)), (7, .inl (v7 + (-1 : Int32))), (8, .inl x18)] [2, 3, 4, 5, 1, 0] rfl ?_
    exact kH ((v7 + (-1 : Int32)), x18, s16) rfl
theorem wX0_parting {C : CT} {d : Nat} (X : Cx C cX0_parting RX0 (some .int) 9 (d + 3)) (φ : Nat) (this : Nat) (v1 : Int32) (v2 : Int32) (v3 : Int32) (σ : St) (y : Int32 × St) (h : fX0_parting φ this v1 v2 v3 σ = some y) : AW C 0 [(0, .inr (.inr (some this))), (1, .inl v1), (2, .inl v2), (3, .inl v3)] [] σ (AQ C (some (.inl y.1)) y.2) := by
  unfold fX0_parting at h
  refine aw_iload_n X dX0_parting_0 3 3 rfl rfl ?_
  obtain ⟨y1, hy1, h⟩ := bind_some h
  refine aw_callS X (st := []) [.inl v3] rfl ml_X0_97 (AX0_isRow (Cx.ok X) φ (d + 1) _ _ _  hy1) dX0_parting_1 (Nat.le_of_ble_eq_true rfl) ?_
  refine aw_if_ne X 9 dX0_parting_4 rfl (fun c2 => ?_) (fun c2 => ?_)
  · rw [if_neg c2] at h
    refine aw_aload_n X dX0_parting_9 0 0 rfl rfl ?_
    refine aw_iload_n X dX0_parting_10 1 1 rfl rfl ?_
    refine aw_iload_n X dX0_parting_11 2 2 rfl rfl ?_
    obtain ⟨y3, hy3, h⟩ := bind_some h
    refine aw_cV X (st := []) hy3 [.inl v1, .inl v2] rfl rfl ml_X0_185 (fun o h => AX0_askedTwo (Cx.ok X) φ d _ _ _ _ _ h) dX0_parting_12 (Nat.le_of_ble_eq_true rfl) ?_
    refine aw_istore X dX0_parting_15 (by decide) [(4, .inl y3.1), (0, .inr (.inr (some this))), (1, .inl v1), (2, .inl v2), (3, .inl v3)] rfl ?_
    refine aw_iload X dX0_parting_17 0 rfl ?_
    refine aw_if_ge X 25 dX0_parting_19 rfl (fun c4 => ?_) (fun c4 => ?_)
    · rw [if_pos c4] at h
      refine aw_aload_n X dX0_parting_25 1 0 rfl rfl ?_
      refine aw_aload_n X dX0_parting_26 1 0 rfl rfl ?_
      refine aw_iload_n X dX0_parting_27 2 1 rfl rfl ?_
      obtain ⟨y5, hy5, h⟩ := bind_some h
      refine aw_cV X (st := [.inr (.inr (some this))]) hy5 [.inl v1] rfl rfl ml_X0_188 (fun o h => AX0_of (Cx.ok X) φ (d + 2) _ _ _ _ h) dX0_parting_28 (Nat.le_of_ble_eq_true rfl) ?_
      refine aw_aload_n X dX0_parting_31 1 0 rfl rfl ?_
      refine aw_iload_n X dX0_parting_32 3 2 rfl rfl ?_
      obtain ⟨y6, hy6, h⟩ := bind_some h
      refine aw_cV X (st := [.inr (.inr y5), .inr (.inr (some this))]) hy6 [.inl v2] rfl rfl ml_X0_188 (fun o h => AX0_of (Cx.ok X) φ (d + 2) _ _ _ _ h) dX0_parting_33 (Nat.le_of_ble_eq_true rfl) ?_
      obtain ⟨y7, hy7, h⟩ := bind_some h
      refine aw_cV X (st := []) hy7 [.inr (.inr y5), .inr (.inr y6)] rfl rfl ml_X0_203 (fun o h => AX0_parted (Cx.ok X) φ (d + 1) _ _ _ _ _ h) dX0_parting_36 (Nat.le_of_ble_eq_true rfl) ?_
      refine aw_istore X dX0_parting_39 (by decide) [(5, .inl y7.1), (4, .inl y3.1), (0, .inr (.inr (some this))), (1, .inl v1), (2, .inl v2), (3, .inl v3)] rfl ?_
      refine aw_iload X dX0_parting_41 0 rfl ?_
      refine aw_sipush X (1000 : Int32) dX0_parting_43 (by decide) ?_
      refine aw_icmp_ne X 52 dX0_parting_46 rfl (fun c8 => ?_) (fun c8 => ?_)
      · rw [if_neg c8] at h
        refine aw_iload X dX0_parting_52 0 rfl ?_
        obtain ⟨n9, hn9, h⟩ := bind_some h
        refine aw_newa X (kd := 1) dX0_parting_54 rfl (by decide) (by decide) q215 (r := n9.1) (σ' := n9.2) hn9 ?_
        refine aw_astore X dX0_parting_56 (by decide) [(6, .inr (.inr n9.1)), (5, .inl y7.1), (4, .inl y3.1), (0, .inr (.inr (some this))), (1, .inl v1), (2, .inl v2), (3, .inl v3)] rfl ?_
        refine aw_aload X dX0_parting_58 0 rfl ?_
        refine aw_iload X dX0_parting_60 1 rfl ?_
        refine aw_iconst X (1 : Int32) dX0_parting_62 (by decide) ?_
        refine aw_isub X dX0_parting_63 ?_
        refine aw_aload_n X dX0_parting_64 3 0 rfl rfl ?_
        obtain ⟨x10, hx10, h⟩ := bind_some h
        refine aw_gfI X fl_X0_275 dX0_parting_65 hx10 ?_
        obtain ⟨s11, hs11, h⟩ := bind_some h
        refine aw_iast X dX0_parting_68 hs11 ?_
        refine aw_iload X dX0_parting_69 1 rfl ?_
        refine aw_iconst X (2 : Int32) dX0_parting_71 (by decide) ?_
        refine aw_isub X dX0_parting_72 ?_
        refine aw_istore X dX0_parting_73 (by decide) [(7, .inl (y7.1 - (2 : Int32))), (6, .inr (.inr n9.1)), (5, .inl y7.1), (4, .inl y3.1), (0, .inr (.inr (some this))), (1, .inl v1), (2, .inl v2), (3, .inl v3)] rfl ?_
        refine aw_aload_n X dX0_parting_75 4 0 rfl rfl ?_
        obtain ⟨x12, hx12, h⟩ := bind_some h
        refine aw_gfI X fl_X0_272 dX0_parting_76 hx12 ?_
        refine aw_istore X dX0_parting_79 (by decide) [(8, .inl x12), (7, .inl (y7.1 - (2 : Int32))), (6, .inr (.inr n9.1)), (5, .inl y7.1), (4, .inl y3.1), (0, .inr (.inr (some this))), (1, .inl v1), (2, .inl v2), (3, .inl v3)] rfl ?_
        obtain ⟨e19, h20, h⟩ := bind_some h
        refine aw_sub [(0, .inr (.inr (some this))), (3, .inl v3), (5, .inl y7.1), (6, .inr (.inr n9.1)), (7, .inl (y7.1 - (2 : Int32))), (8, .inl x12)] [5, 8, 3, 2, 1, 0] rfl ?_
        refine aw_it (fun s => AW C 81 [(0, .inr (.inr (some this))), (3, .inl v3), (5, .inl y7.1), (6, .inr (.inr n9.1)), (7, .inl s.1), (8, .inl s.2.1)] [] s.2.2 (AQ C (some (.inl y.1)) y.2)) (fun e => AW C 113 [(0, .inr (.inr (some this))), (3, .inl v3), (5, .inl y7.1), (6, .inr (.inr n9.1))] [] e (AQ C (some (.inl y.1)) y.2)) (fun s r hr kH kE => wX0_parting_l81 X φ this v3 y7.1 n9.1 s.1 s.2.1 s.2.2 r hr kH kE) φ _ e19 h20 ?_
        refine aw_aload_n X dX0_parting_113 0 0 rfl rfl ?_
        obtain ⟨x21, hx21, h⟩ := bind_some h
        refine aw_gfR X fl_X0_34 dX0_parting_114 hx21 ?_
        refine aw_iload_n X dX0_parting_117 1 3 rfl rfl ?_
        refine aw_aload X dX0_parting_118 3 rfl ?_
        obtain ⟨s22, hs22, h⟩ := bind_some h
        refine aw_aast X (kd := 5) (lo := 1) (hi := 1) dX0_parting_120 (by decide) hs22 ?_
        refine aw_iload X dX0_parting_121 2 rfl ?_
        cases h
        exact aw_iret X dX0_parting_123
      · rw [if_pos c8] at h
        refine aw_bipush X (-9 : Int32) dX0_parting_49 (by decide) ?_
        cases h
        exact aw_iret X dX0_parting_51
    · rw [if_neg c4] at h
      refine aw_iload X dX0_parting_22 0 rfl ?_
      cases h
      exact aw_iret X dX0_parting_24
  · rw [if_pos c2] at h
    refine aw_iconst X (-1 : Int32) dX0_parting_7 (by decide) ?_
    cases h
    exact aw_iret X dX0_parting_8
theorem AX0_parting {E : AE} {l : Launch} (hE : EOK E l) (φ d : Nat) (this : Nat) (v1 : Int32) (v2 : Int32) (v3 : Int32) (σ : St) (y : Int32 × St) (h : fX0_parting φ this v1 v2 v3 σ = some y) : AMet E l yX0_parting (ws_ yX0_parting cX0_parting 9 (some .int)) (d + 3) [.inr (.inr (some this)), .inl v1, .inl v2, .inl v3] σ (some (.inl y.1)) y.2 := by
  refine amet_of hE (by decide +kernel) (Nat.le_of_ble_eq_true rfl) fun C e1 e2 X XI => ?_
  subst e1
  exact wX0_parting X φ this v1 v2 v3 σ y h
theorem wX0_askedSome_b60 {C : CT} {d : Nat} {Z : State → Prop} (X : Cx C cX0_askedSome RX0 (some .int) 5 (d + 1)) (φ : Nat) (this : Nat) (v1 : Int32) (v3 : Int32) (k0 : Int32) (k1 : Int32) (σ : St) (y : (Int32 × Int32 × St) ⊕ (Int32 × St)) (h : fX0_askedSome_b60 φ this v1 v3 k0 k1 σ = some y) (kH : ∀ s : Int32 × Int32 × St, y = .inl s → AW C 30 [(0, .inr (.inr (some this))), (1, .inl v1), (2, .inl s.1), (3, .inl s.2.1)] [] s.2.2 Z) (kE0 : ∀ e : Int32 × St, y = .inr e → AW C 88 [(0, .inr (.inr (some this))), (2, .inl e.1)] [] e.2 Z) : AW C 60 [(0, .inr (.inr (some this))), (1, .inl v1), (3, .inl v3)] [.inl k1, .inl k0] σ Z := by
  unfold fX0_askedSome_b60 at h
  refine aw_iand X dX0_askedSome_60 ?_
  refine aw_istore_n X dX0_askedSome_61 2 rfl (by decide) [(2, .inl (k0 &&& k1)), (0, .inr (.inr (some this))), (1, .inl v1), (3, .inl v3)] rfl ?_
  refine aw_aload_n X dX0_askedSome_62 1 0 rfl rfl ?_
  obtain ⟨x11, hx11, h⟩ := bind_some h
  refine aw_gfR X fl_X0_78 dX0_askedSome_63 hx11 ?_
  refine aw_aload_n X dX0_askedSome_66 1 0 rfl rfl ?_
  obtain ⟨x12, hx12, h⟩ := bind_some h
  refine aw_gfI X fl_X0_281 dX0_askedSome_67 hx12 ?_
  refine aw_iload_n X dX0_askedSome_70 3 3 rfl rfl ?_
  obtain ⟨s13, hs13, h⟩ := bind_some h
  refine aw_iast X dX0_askedSome_71 hs13 ?_
  refine aw_aload_n X dX0_askedSome_72 1 0 rfl rfl ?_
  refine aw_dup X dX0_askedSome_73 rfl ?_
  obtain ⟨x14, hx14, h⟩ := bind_some h
  refine aw_gfI X fl_X0_281 dX0_askedSome_74 hx14 ?_
  refine aw_iconst X (1 : Int32) dX0_askedSome_77 (by decide) ?_
  refine aw_iadd X dX0_askedSome_78 ?_
  obtain ⟨s15, hs15, h⟩ := bind_some h
  refine aw_pfI X fl_X0_281 dX0_askedSome_79 hs15 ?_
  refine aw_iinc X dX0_askedSome_82 3 rfl (1 : Int32) rfl (by decide) [(3, .inl (v3 + (1 : Int32))), (2, .inl (k0 &&& k1)), (0, .inr (.inr (some this))), (1, .inl v1)] rfl ?_
  refine aw_goto X 30 dX0_askedSome_85 rfl ?_
  cases h
  refine aw_sub [(0, .inr (.inr (some this))), (1, .inl v1), (2, .inl (k0 &&& k1)), (3, .inl (v3 + (1 : Int32)))] [2, 3, 1, 0] rfl ?_
  exact kH ((k0 &&& k1), (v3 + (1 : Int32)), s15) rfl
theorem wX0_askedSome_l30 {C : CT} {d : Nat} {Z : State → Prop} (X : Cx C cX0_askedSome RX0 (some .int) 5 (d + 1)) (φ : Nat) (this : Nat) (v1 : Int32) (v2 : Int32) (v3 : Int32) (σ : St) (y : (Int32 × Int32 × St) ⊕ (Int32 × St)) (h : fX0_askedSome_l30 φ this v1 v2 v3 σ = some y) (kH : ∀ s : Int32 × Int32 × St, y = .inl s → AW C 30 [(0, .inr (.inr (some this))), (1, .inl v1), (2, .inl s.1), (3, .inl s.2.1)] [] s.2.2 Z) (kE0 : ∀ e : Int32 × St, y = .inr e → AW C 88 [(0, .inr (.inr (some this))), (2, .inl e.1)] [] e.2 Z) : AW C 30 [(0, .inr (.inr (some this))), (1, .inl v1), (2, .inl v2), (3, .inl v3)] [] σ Z := by
  unfold fX0_askedSome_l30 at h
  refine aw_iload_n X dX0_askedSome_30 3 3 rfl rfl ?_
  refine aw_bipush X (8 : Int32) dX0_askedSome_31 (by decide) ?_
  refine aw_icmp_ge X 88 dX0_askedSome_33 rfl (fun c6 => ?_) (fun c6 => ?_)
  · rw [if_pos c6] at h
    cases h
    refine aw_sub [(0, .inr (.inr (some this))), (2, .inl v2)] [0, 2] rfl ?_
    exact kE0 (v2, σ) rfl
  · rw [if_neg c6] at h
    refine aw_iload_n X dX0_askedSome_36 1 1 rfl rfl ?_
    refine aw_iload_n X dX0_askedSome_37 3 3 rfl rfl ?_
    refine aw_ishr X dX0_askedSome_38 ?_
    refine aw_iconst X (1 : Int32) dX0_askedSome_39 (by decide) ?_
    refine aw_iand X dX0_askedSome_40 ?_
    refine aw_iconst X (1 : Int32) dX0_askedSome_41 (by decide) ?_
    refine aw_icmp_ne X 82 dX0_askedSome_42 rfl (fun c7 => ?_) (fun c7 => ?_)
    · rw [if_neg c7] at h
      refine aw_iinc X dX0_askedSome_82 3 rfl (1 : Int32) rfl (by decide) [(3, .inl (v3 + (1 : Int32))), (0, .inr (.inr (some this))), (1, .inl v1), (2, .inl v2)] rfl ?_
      refine aw_goto X 30 dX0_askedSome_85 rfl ?_
      cases h
      refine aw_sub [(0, .inr (.inr (some this))), (1, .inl v1), (2, .inl v2), (3, .inl (v3 + (1 : Int32)))] [1, 2, 3, 0] rfl ?_
      exact kH (v2, (v3 + (1 : Int32)), σ) rfl
    · rw [if_pos c7] at h
      refine aw_iload_n X dX0_askedSome_45 2 2 rfl rfl ?_
      refine aw_aload_n X dX0_askedSome_46 0 0 rfl rfl ?_
      obtain ⟨x8, hx8, h⟩ := bind_some h
      refine aw_gfR X fl_X0_46 dX0_askedSome_47 hx8 ?_
      refine aw_iload_n X dX0_askedSome_50 3 3 rfl rfl ?_
      obtain ⟨x9, hx9, h⟩ := bind_some h
      refine aw_aald X (kd := 7) dX0_askedSome_51 (by decide) (by decide) hx9 ?_
      refine aw_ifnull X 59 dX0_askedSome_52 rfl (fun c10 => ?_) (fun c10 => ?_)
      · rw [if_pos c10] at h
        refine aw_iconst X (0 : Int32) dX0_askedSome_59 (by decide) ?_
        refine aw_sub [(0, .inr (.inr (some this))), (1, .inl v1), (3, .inl v3)] [0, 1, 3] rfl ?_
        exact wX0_askedSome_b60 X φ this v1 v3 v2 (0 : Int32) σ y h kH kE0
      · rw [if_neg c10] at h
        refine aw_iconst X (1 : Int32) dX0_askedSome_55 (by decide) ?_
        refine aw_goto X 60 dX0_askedSome_56 rfl ?_
        refine aw_sub [(0, .inr (.inr (some this))), (1, .inl v1), (3, .inl v3)] [0, 1, 3] rfl ?_
        exact wX0_askedSome_b60 X φ this v1 v3 v2 (1 : Int32) σ y h kH kE0
theorem wX0_askedSome_l103 {C : CT} {d : Nat} {Z : State → Prop} (X : Cx C cX0_askedSome RX0 (some .int) 5 (d + 1)) (φ : Nat) (this : Nat) (v3 : Int32) (v4 : Int32) (σ : St) (y : (Int32 × Int32 × St) ⊕ (Int32 × St)) (h : fX0_askedSome_l103 φ this v3 v4 σ = some y) (kH : ∀ s : Int32 × Int32 × St, y = .inl s → AW C 103 [(0, .inr (.inr (some this))), (3, .inl s.1), (4, .inl s.2.1)] [] s.2.2 Z) (kE0 : ∀ e : Int32 × St, y = .inr e → AW C 182 [(3, .inl e.1)] [] e.2 Z) : AW C 103 [(0, .inr (.inr (some this))), (3, .inl v3), (4, .inl v4)] [] σ Z := by
  unfold fX0_askedSome_l103 at h
  refine aw_iload X dX0_askedSome_103 2 rfl ?_
  refine aw_aload_n X dX0_askedSome_105 0 0 rfl rfl ?_
  obtain ⟨x19, hx19, h⟩ := bind_some h
  refine aw_gfI X fl_X0_281 dX0_askedSome_106 hx19 ?_
  refine aw_icmp_ge X 182 dX0_askedSome_109 rfl (fun c20 => ?_) (fun c20 => ?_)
  · rw [if_pos c20] at h
    cases h
    refine aw_sub [(3, .inl v3)] [1] rfl ?_
    exact kE0 (v3, σ) rfl
  · rw [if_neg c20] at h
    refine aw_aload_n X dX0_askedSome_112 0 0 rfl rfl ?_
    obtain ⟨x21, hx21, h⟩ := bind_some h
    refine aw_gfR X fl_X0_81 dX0_askedSome_113 hx21 ?_
    refine aw_iload X dX0_askedSome_116 2 rfl ?_
    refine aw_iload_n X dX0_askedSome_118 1 3 rfl rfl ?_
    obtain ⟨s22, hs22, h⟩ := bind_some h
    refine aw_iast X dX0_askedSome_119 hs22 ?_
    refine aw_iload_n X dX0_askedSome_120 1 3 rfl rfl ?_
    refine aw_aload_n X dX0_askedSome_121 0 0 rfl rfl ?_
    refine aw_aload_n X dX0_askedSome_122 0 0 rfl rfl ?_
    obtain ⟨x23, hx23, h⟩ := bind_some h
    refine aw_gfR X fl_X0_78 dX0_askedSome_123 hx23 ?_
    refine aw_iload X dX0_askedSome_126 2 rfl ?_
    obtain ⟨x24, hx24, h⟩ := bind_some h
    refine aw_iald X dX0_askedSome_128 hx24 ?_
    obtain ⟨y25, hy25, h⟩ := bind_some h
    refine aw_cV X (st := [.inl v3]) hy25 [.inl x24] rfl rfl ml_X0_188 (fun o h => AX0_of (Cx.ok X) φ d _ _ _ _ h) dX0_askedSome_129 (Nat.le_of_ble_eq_true rfl) ?_
    obtain ⟨x26, hx26, h⟩ := bind_some h
    refine aw_alen X dX0_askedSome_132 hx26 ?_
    refine aw_iconst X (1 : Int32) dX0_askedSome_133 (by decide) ?_
    refine aw_iadd X dX0_askedSome_134 ?_
    refine aw_imul X dX0_askedSome_135 ?_
    refine aw_istore_n X dX0_askedSome_136 3 rfl (by decide) [(3, .inl (v3 * (x26 + (1 : Int32)))), (0, .inr (.inr (some this))), (4, .inl v4)] rfl ?_
    refine aw_aload_n X dX0_askedSome_137 1 0 rfl rfl ?_
    refine aw_aload_n X dX0_askedSome_138 1 0 rfl rfl ?_
    obtain ⟨x27, hx27, h⟩ := bind_some h
    refine aw_gfR X fl_X0_78 dX0_askedSome_139 hx27 ?_
    refine aw_iload X dX0_askedSome_142 2 rfl ?_
    obtain ⟨x28, hx28, h⟩ := bind_some h
    refine aw_iald X dX0_askedSome_144 hx28 ?_
    obtain ⟨y29, hy29, h⟩ := bind_some h
    refine aw_cV X (st := []) hy29 [.inl x28] rfl rfl ml_X0_188 (fun o h => AX0_of (Cx.ok X) φ d _ _ _ _ h) dX0_askedSome_145 (Nat.le_of_ble_eq_true rfl) ?_
    refine aw_aload_n X dX0_askedSome_148 1 0 rfl rfl ?_
    obtain ⟨x30, hx30, h⟩ := bind_some h
    refine aw_gfR X fl_X0_53 dX0_askedSome_149 hx30 ?_
    obtain ⟨y31, hy31, h⟩ := bind_some h
    refine aw_callS X (st := []) [.inr (.inr y29), .inr (.inr x30)] rfl ml_X0_249 (AX0_setNext (Cx.ok X) φ d _ _ _ _  hy31) dX0_askedSome_152 (Nat.le_of_ble_eq_true rfl) ?_
    refine aw_aload_n X dX0_askedSome_155 1 0 rfl rfl ?_
    obtain ⟨x32, hx32, h⟩ := bind_some h
    refine aw_gfR X fl_X0_53 dX0_askedSome_156 hx32 ?_
    refine aw_iconst X (0 : Int32) dX0_askedSome_159 (by decide) ?_
    refine aw_aload_n X dX0_askedSome_160 1 0 rfl rfl ?_
    obtain ⟨x33, hx33, h⟩ := bind_some h
    refine aw_gfR X fl_X0_84 dX0_askedSome_161 hx33 ?_
    refine aw_sipush X (246 : Int32) dX0_askedSome_164 (by decide) ?_
    refine aw_iload X dX0_askedSome_167 2 rfl ?_
    refine aw_imul X dX0_askedSome_169 ?_
    refine aw_sipush X (246 : Int32) dX0_askedSome_170 (by decide) ?_
    obtain ⟨s34, hs34, h⟩ := bind_some h
    refine aw_acopy X q383 dX0_askedSome_173 (Nat.le_of_ble_eq_true rfl) hs34 ?_
    refine aw_iinc X dX0_askedSome_176 2 rfl (1 : Int32) rfl (by decide) [(4, .inl (v4 + (1 : Int32))), (3, .inl (v3 * (x26 + (1 : Int32)))), (0, .inr (.inr (some this)))] rfl ?_
    refine aw_goto X 103 dX0_askedSome_179 rfl ?_
    cases h
    refine aw_sub [(0, .inr (.inr (some this))), (3, .inl (v3 * (x26 + (1 : Int32)))), (4, .inl (v4 + (1 : Int32)))] [2, 1, 0] rfl ?_
    exact kH ((v3 * (x26 + (1 : Int32))), (v4 + (1 : Int32)), s34) rfl
theorem wX0_askedSome {C : CT} {d : Nat} (X : Cx C cX0_askedSome RX0 (some .int) 5 (d + 1)) (φ : Nat) (this : Nat) (v1 : Int32) (σ : St) (y : Int32 × St) (h : fX0_askedSome φ this v1 σ = some y) : AW C 0 [(0, .inr (.inr (some this))), (1, .inl v1)] [] σ (AQ C (some (.inl y.1)) y.2) := by
  unfold fX0_askedSome at h
  refine aw_iload_n X dX0_askedSome_0 1 1 rfl rfl ?_
  refine aw_iconst X (1 : Int32) dX0_askedSome_1 (by decide) ?_
  refine aw_sipush X (255 : Int32) dX0_askedSome_2 (by decide) ?_
  obtain ⟨y1, hy1, h⟩ := bind_some h
  refine aw_callS X (st := []) [.inl v1, .inl (1 : Int32), .inl (255 : Int32)] rfl ml_X0_93 (AX0_isIn (Cx.ok X) φ d _ _ _ _ _  hy1) dX0_askedSome_5 (Nat.le_of_ble_eq_true rfl) ?_
  refine aw_if_eq X 19 dX0_askedSome_8 rfl (fun c2 => ?_) (fun c2 => ?_)
  · rw [if_pos c2] at h
    refine aw_iconst X (-1 : Int32) dX0_askedSome_19 (by decide) ?_
    cases h
    exact aw_iret X dX0_askedSome_20
  · rw [if_neg c2] at h
    refine aw_iload_n X dX0_askedSome_11 1 1 rfl rfl ?_
    obtain ⟨y3, hy3, h⟩ := bind_some h
    refine aw_callS X (st := []) [.inl v1] rfl ml_X0_268 (AJ12_bitCount (Cx.ok X) φ d _ _ _  hy3) dX0_askedSome_12 (Nat.le_of_ble_eq_true rfl) ?_
    refine aw_iconst X (4 : Int32) dX0_askedSome_15 (by decide) ?_
    refine aw_icmp_le X 21 dX0_askedSome_16 rfl (fun c4 => ?_) (fun c4 => ?_)
    · rw [if_pos c4] at h
      refine aw_aload_n X dX0_askedSome_21 0 0 rfl rfl ?_
      refine aw_iconst X (0 : Int32) dX0_askedSome_22 (by decide) ?_
      obtain ⟨s5, hs5, h⟩ := bind_some h
      refine aw_pfI X fl_X0_281 dX0_askedSome_23 hs5 ?_
      refine aw_iconst X (1 : Int32) dX0_askedSome_26 (by decide) ?_
      refine aw_istore_n X dX0_askedSome_27 2 rfl (by decide) [(2, .inl (1 : Int32)), (0, .inr (.inr (some this))), (1, .inl v1)] rfl ?_
      refine aw_iconst X (0 : Int32) dX0_askedSome_28 (by decide) ?_
      refine aw_istore_n X dX0_askedSome_29 3 rfl (by decide) [(3, .inl (0 : Int32)), (2, .inl (1 : Int32)), (0, .inr (.inr (some this))), (1, .inl v1)] rfl ?_
      obtain ⟨e16, h17, h⟩ := bind_some h
      refine aw_sub [(0, .inr (.inr (some this))), (1, .inl v1), (2, .inl (1 : Int32)), (3, .inl (0 : Int32))] [2, 3, 1, 0] rfl ?_
      refine aw_it (fun s => AW C 30 [(0, .inr (.inr (some this))), (1, .inl v1), (2, .inl s.1), (3, .inl s.2.1)] [] s.2.2 (AQ C (some (.inl y.1)) y.2)) (fun e => AW C 88 [(0, .inr (.inr (some this))), (2, .inl e.1)] [] e.2 (AQ C (some (.inl y.1)) y.2)) (fun s r hr kH kE => wX0_askedSome_l30 X φ this v1 s.1 s.2.1 s.2.2 r hr kH kE) φ _ e16 h17 ?_
      refine aw_iload_n X dX0_askedSome_88 1 2 rfl rfl ?_
      refine aw_if_ne X 98 dX0_askedSome_89 rfl (fun c18 => ?_) (fun c18 => ?_)
      · rw [if_neg c18] at h
        refine aw_iconst X (1 : Int32) dX0_askedSome_98 (by decide) ?_
        refine aw_istore_n X dX0_askedSome_99 3 rfl (by decide) [(3, .inl (1 : Int32)), (0, .inr (.inr (some this))), (2, .inl e16.1)] rfl ?_
        refine aw_iconst X (0 : Int32) dX0_askedSome_100 (by decide) ?_
        refine aw_istore X dX0_askedSome_101 (by decide) [(4, .inl (0 : Int32)), (3, .inl (1 : Int32)), (0, .inr (.inr (some this))), (2, .inl e16.1)] rfl ?_
        obtain ⟨e35, h36, h⟩ := bind_some h
        refine aw_sub [(0, .inr (.inr (some this))), (3, .inl (1 : Int32)), (4, .inl (0 : Int32))] [2, 1, 0] rfl ?_
        refine aw_it (fun s => AW C 103 [(0, .inr (.inr (some this))), (3, .inl s.1), (4, .inl s.2.1)] [] s.2.2 (AQ C (some (.inl y.1)) y.2)) (fun e => AW C 182 [(3, .inl e.1)] [] e.2 (AQ C (some (.inl y.1)) y.2)) (fun s r hr kH kE => wX0_askedSome_l103 X φ this s.1 s.2.1 s.2.2 r hr kH kE) φ _ e35 h36 ?_
        refine aw_iload_n X dX0_askedSome_182 0 3 rfl rfl ?_
        refine aw_sipush X (20000 : Int32) dX0_askedSome_183 (by decide) ?_
        refine aw_icmp_le X 194 dX0_askedSome_186 rfl (fun c37 => ?_) (fun c37 => ?_)
        · rw [if_pos c37] at h
          refine aw_iload_n X dX0_askedSome_194 0 3 rfl rfl ?_
          cases h
          exact aw_iret X dX0_askedSome_195
        · rw [if_neg c37] at h
          refine aw_bipush X (-6 : Int32) dX0_askedSome_189 (by decide) ?_
          refine aw_goto X 195 dX0_askedSome_191 rfl ?_
          cases h
          exact aw_iret X dX0_askedSome_195
      · rw [if_pos c18] at h
        refine aw_aload_n X dX0_askedSome_92 0 0 rfl rfl ?_
        refine aw_iconst X (1 : Int32) dX0_askedSome_93 (by decide) ?_
        obtain ⟨y38, hy38, h⟩ := bind_some h
        refine aw_cV X (st := []) hy38 [.inl (1 : Int32)] rfl rfl ml_X0_103 (fun o h => AX0_met (Cx.ok X) φ d _ _ _ _ h) dX0_askedSome_94 (Nat.le_of_ble_eq_true rfl) ?_
        cases h
        exact aw_iret X dX0_askedSome_97
    · rw [if_neg c4] at h
      refine aw_iconst X (-1 : Int32) dX0_askedSome_19 (by decide) ?_
      cases h
      exact aw_iret X dX0_askedSome_20
theorem AX0_askedSome {E : AE} {l : Launch} (hE : EOK E l) (φ d : Nat) (this : Nat) (v1 : Int32) (σ : St) (y : Int32 × St) (h : fX0_askedSome φ this v1 σ = some y) : AMet E l yX0_askedSome (ws_ yX0_askedSome cX0_askedSome 5 (some .int)) (d + 1) [.inr (.inr (some this)), .inl v1] σ (some (.inl y.1)) y.2 := by
  refine amet_of hE (by decide +kernel) (Nat.le_of_ble_eq_true rfl) fun C e1 e2 X XI => ?_
  subst e1
  exact wX0_askedSome X φ this v1 σ y h
theorem wX0_placeIn {C : CT} {d : Nat} (X : Cx C cX0_placeIn RX0 (some .int) 3 (d + 1)) (φ : Nat) (this : Nat) (v1 : Int32) (v2 : Int32) (σ : St) (y : Int32) (h : fX0_placeIn φ this v1 v2 σ = some y) : AW C 0 [(0, .inr (.inr (some this))), (1, .inl v1), (2, .inl v2)] [] σ (AQ C (some (.inl y)) σ) := by
  unfold fX0_placeIn at h
  refine aw_iload_n X dX0_placeIn_0 1 1 rfl rfl ?_
  refine aw_aload_n X dX0_placeIn_1 0 0 rfl rfl ?_
  obtain ⟨x1, hx1, h⟩ := bind_some h
  refine aw_gfR X fl_X0_81 dX0_placeIn_2 hx1 ?_
  refine aw_iload_n X dX0_placeIn_5 2 2 rfl rfl ?_
  obtain ⟨x2, hx2, h⟩ := bind_some h
  refine aw_iald X dX0_placeIn_6 hx2 ?_
  obtain ⟨hn3, h⟩ := chk_some h
  refine aw_idiv X dX0_placeIn_7 hn3 ?_
  refine aw_aload_n X dX0_placeIn_8 0 0 rfl rfl ?_
  refine aw_aload_n X dX0_placeIn_9 0 0 rfl rfl ?_
  obtain ⟨x4, hx4, h⟩ := bind_some h
  refine aw_gfR X fl_X0_78 dX0_placeIn_10 hx4 ?_
  refine aw_iload_n X dX0_placeIn_13 2 2 rfl rfl ?_
  obtain ⟨x5, hx5, h⟩ := bind_some h
  refine aw_iald X dX0_placeIn_14 hx5 ?_
  obtain ⟨y6, hy6, h⟩ := bind_some h
  refine aw_cV X (st := [.inl (v1 / x2)]) hy6 [.inl x5] rfl rfl ml_X0_188 (fun o h => AX0_of (Cx.ok X) φ d _ _ _ _ h) dX0_placeIn_15 (Nat.le_of_ble_eq_true rfl) ?_
  obtain ⟨x7, hx7, h⟩ := bind_some h
  refine aw_alen X dX0_placeIn_18 hx7 ?_
  refine aw_iconst X (1 : Int32) dX0_placeIn_19 (by decide) ?_
  refine aw_iadd X dX0_placeIn_20 ?_
  obtain ⟨hn8, h⟩ := chk_some h
  refine aw_irem X dX0_placeIn_21 hn8 ?_
  cases h
  exact aw_iret X dX0_placeIn_22
theorem AX0_placeIn {E : AE} {l : Launch} (hE : EOK E l) (φ d : Nat) (this : Nat) (v1 : Int32) (v2 : Int32) (σ : St) (y : Int32) (h : fX0_placeIn φ this v1 v2 σ = some y) : AMet E l yX0_placeIn (ws_ yX0_placeIn cX0_placeIn 3 (some .int)) (d + 1) [.inr (.inr (some this)), .inl v1, .inl v2] σ (some (.inl y)) σ := by
  refine amet_of hE (by decide +kernel) (Nat.le_of_ble_eq_true rfl) fun C e1 e2 X XI => ?_
  subst e1
  exact wX0_placeIn X φ this v1 v2 σ y h
theorem wX0_allGo_l5 {C : CT} {d : Nat} {Z : State → Prop} (X : Cx C cX0_allGo RX0 (some .int) 6 (d + 2)) (φ : Nat) (this : Nat) (v1 : Int32) (v2 : Int32) (σ : St) (v3 : Int32) (v4 : Int32) (y : (Int32 × Int32) ⊕ ((Int32) ⊕ (Unit))) (h : fX0_allGo_l5 φ this v1 v2 σ v3 v4 = some y) (kH : ∀ s : Int32 × Int32, y = .inl s → AW C 5 [(0, .inr (.inr (some this))), (1, .inl v1), (2, .inl v2), (3, .inl s.1), (4, .inl s.2)] [] σ Z) (kE0 : ∀ e : Int32, y = .inr (.inl e) → AW C 68 [(3, .inl e)] [] σ Z) (kE1 : ∀ e : Unit, y = .inr (.inr e) → AW C 46 [] [] σ Z) : AW C 5 [(0, .inr (.inr (some this))), (1, .inl v1), (2, .inl v2), (3, .inl v3), (4, .inl v4)] [] σ Z := by
  unfold fX0_allGo_l5 at h
  refine aw_iload X dX0_allGo_5 4 rfl ?_
  refine aw_aload_n X dX0_allGo_7 0 0 rfl rfl ?_
  obtain ⟨x1, hx1, h⟩ := bind_some h
  refine aw_gfI X fl_X0_281 dX0_allGo_8 hx1 ?_
  refine aw_icmp_ge X 68 dX0_allGo_11 rfl (fun c2 => ?_) (fun c2 => ?_)
  · rw [if_pos c2] at h
    cases h
    refine aw_sub [(3, .inl v3)] [3] rfl ?_
    exact kE0 v3 rfl
  · rw [if_neg c2] at h
    refine aw_aload_n X dX0_allGo_14 0 0 rfl rfl ?_
    obtain ⟨x3, hx3, h⟩ := bind_some h
    refine aw_gfR X fl_X0_84 dX0_allGo_15 hx3 ?_
    refine aw_bipush X (6 : Int32) dX0_allGo_18 (by decide) ?_
    refine aw_bipush X (41 : Int32) dX0_allGo_20 (by decide) ?_
    refine aw_iload X dX0_allGo_22 4 rfl ?_
    refine aw_imul X dX0_allGo_24 ?_
    refine aw_aload_n X dX0_allGo_25 0 0 rfl rfl ?_
    refine aw_iload_n X dX0_allGo_26 1 1 rfl rfl ?_
    refine aw_iload X dX0_allGo_27 4 rfl ?_
    obtain ⟨y4, hy4, h⟩ := bind_some h
    refine aw_cV X (st := [.inl ((41 : Int32) * v4), .inl (6 : Int32), .inr (.inr x3)]) hy4 [.inl v1, .inl v4] rfl rfl ml_X0_284 (fun o h => AX0_placeIn (Cx.ok X) φ d _ _ _ _ _ h) dX0_allGo_29 (Nat.le_of_ble_eq_true rfl) ?_
    refine aw_iadd X dX0_allGo_32 ?_
    refine aw_imul X dX0_allGo_33 ?_
    refine aw_iload_n X dX0_allGo_34 2 2 rfl rfl ?_
    refine aw_iadd X dX0_allGo_35 ?_
    obtain ⟨x5, hx5, h⟩ := bind_some h
    refine aw_iald X dX0_allGo_36 hx5 ?_
    refine aw_istore X dX0_allGo_37 (by decide) [(5, .inl x5), (0, .inr (.inr (some this))), (1, .inl v1), (2, .inl v2), (3, .inl v3), (4, .inl v4)] rfl ?_
    refine aw_iload X dX0_allGo_39 0 rfl ?_
    refine aw_bipush X (-9 : Int32) dX0_allGo_41 (by decide) ?_
    refine aw_icmp_ne X 49 dX0_allGo_43 rfl (fun c6 => ?_) (fun c6 => ?_)
    · rw [if_neg c6] at h
      refine aw_iload_n X dX0_allGo_49 4 3 rfl rfl ?_
      refine aw_aload_n X dX0_allGo_50 1 0 rfl rfl ?_
      obtain ⟨x7, hx7, h⟩ := bind_some h
      refine aw_gfR X fl_X0_81 dX0_allGo_51 hx7 ?_
      refine aw_iload X dX0_allGo_54 5 rfl ?_
      obtain ⟨x8, hx8, h⟩ := bind_some h
      refine aw_iald X dX0_allGo_56 hx8 ?_
      refine aw_iload X dX0_allGo_57 0 rfl ?_
      refine aw_imul X dX0_allGo_59 ?_
      refine aw_iadd X dX0_allGo_60 ?_
      refine aw_istore_n X dX0_allGo_61 3 rfl (by decide) [(3, .inl (v3 + (x8 * x5))), (5, .inl x5), (0, .inr (.inr (some this))), (1, .inl v1), (2, .inl v2), (4, .inl v4)] rfl ?_
      refine aw_iinc X dX0_allGo_62 5 rfl (1 : Int32) rfl (by decide) [(4, .inl (v4 + (1 : Int32))), (3, .inl (v3 + (x8 * x5))), (5, .inl x5), (0, .inr (.inr (some this))), (1, .inl v1), (2, .inl v2)] rfl ?_
      refine aw_goto X 5 dX0_allGo_65 rfl ?_
      cases h
      refine aw_sub [(0, .inr (.inr (some this))), (1, .inl v1), (2, .inl v2), (3, .inl (v3 + (x8 * x5))), (4, .inl (v4 + (1 : Int32)))] [3, 4, 5, 1, 0] rfl ?_
      exact kH ((v3 + (x8 * x5)), (v4 + (1 : Int32))) rfl
    · rw [if_pos c6] at h
      cases h
      refine aw_sub [] [] rfl ?_
      exact kE1 () rfl
theorem wX0_allGo {C : CT} {d : Nat} (X : Cx C cX0_allGo RX0 (some .int) 6 (d + 2)) (φ : Nat) (this : Nat) (v1 : Int32) (v2 : Int32) (σ : St) (y : Int32) (h : fX0_allGo φ this v1 v2 σ = some y) : AW C 0 [(0, .inr (.inr (some this))), (1, .inl v1), (2, .inl v2)] [] σ (AQ C (some (.inl y)) σ) := by
  unfold fX0_allGo at h
  refine aw_iconst X (0 : Int32) dX0_allGo_0 (by decide) ?_
  refine aw_istore_n X dX0_allGo_1 3 rfl (by decide) [(3, .inl (0 : Int32)), (0, .inr (.inr (some this))), (1, .inl v1), (2, .inl v2)] rfl ?_
  refine aw_iconst X (0 : Int32) dX0_allGo_2 (by decide) ?_
  refine aw_istore X dX0_allGo_3 (by decide) [(4, .inl (0 : Int32)), (3, .inl (0 : Int32)), (0, .inr (.inr (some this))), (1, .inl v1), (2, .inl v2)] rfl ?_
  obtain ⟨e9, h10, h⟩ := bind_some h
  refine aw_sub [(0, .inr (.inr (some this))), (1, .inl v1), (2, .inl v2), (3, .inl (0 : Int32)), (4, .inl (0 : Int32))] [2, 3, 4, 1, 0] rfl ?_
  refine aw_it (fun s => AW C 5 [(0, .inr (.inr (some this))), (1, .inl v1), (2, .inl v2), (3, .inl s.1), (4, .inl s.2)] [] σ (AQ C (some (.inl y)) σ)) (fun e => match e with | (.inl e) => AW C 68 [(3, .inl e)] [] σ (AQ C (some (.inl y)) σ) | (.inr e) => AW C 46 [] [] σ (AQ C (some (.inl y)) σ)) (fun s r hr kH kE => wX0_allGo_l5 X φ this v1 v2 σ s.1 s.2 r hr kH (fun e he => kE (.inl e) he) (fun e he => kE (.inr e) he)) φ _ e9 h10 ?_
  rcases e9 with e11 | e12
  · refine aw_iload_n X dX0_allGo_68 0 3 rfl rfl ?_
    cases h
    exact aw_iret X dX0_allGo_69
  · refine aw_bipush X (-9 : Int32) dX0_allGo_46 (by decide) ?_
    cases h
    exact aw_iret X dX0_allGo_48
theorem AX0_allGo {E : AE} {l : Launch} (hE : EOK E l) (φ d : Nat) (this : Nat) (v1 : Int32) (v2 : Int32) (σ : St) (y : Int32) (h : fX0_allGo φ this v1 v2 σ = some y) : AMet E l yX0_allGo (ws_ yX0_allGo cX0_allGo 6 (some .int)) (d + 2) [.inr (.inr (some this)), .inl v1, .inl v2] σ (some (.inl y)) σ := by
  refine amet_of hE (by decide +kernel) (Nat.le_of_ble_eq_true rfl) fun C e1 e2 X XI => ?_
  subst e1
  exact wX0_allGo X φ this v1 v2 σ y h
theorem wX0_common_l51 {C : CT} {d : Nat} {Z : State → Prop} (X : Cx C cX0_common RX0 (some .int) 7 (d + 3)) (φ : Nat) (this : Nat) (v2 : Int32) (v4 : Int32) (v5 : Int32) (σ : St) (y : (Int32 × St) ⊕ (St)) (h : fX0_common_l51 φ this v2 v4 v5 σ = some y) (kH : ∀ s : Int32 × St, y = .inl s → AW C 51 [(0, .inr (.inr (some this))), (2, .inl v2), (4, .inl v4), (5, .inl s.1)] [] s.2 Z) (kE0 : ∀ e : St, y = .inr e → AW C 127 [(0, .inr (.inr (some this))), (2, .inl v2), (4, .inl v4)] [] e Z) : AW C 51 [(0, .inr (.inr (some this))), (2, .inl v2), (4, .inl v4), (5, .inl v5)] [] σ Z := by
  unfold fX0_common_l51 at h
  refine aw_iload X dX0_common_51 3 rfl ?_
  refine aw_aload_n X dX0_common_53 0 0 rfl rfl ?_
  obtain ⟨x10, hx10, h⟩ := bind_some h
  refine aw_gfI X fl_X0_30 dX0_common_54 hx10 ?_
  refine aw_icmp_ge X 127 dX0_common_57 rfl (fun c11 => ?_) (fun c11 => ?_)
  · rw [if_pos c11] at h
    cases h
    refine aw_sub [(0, .inr (.inr (some this))), (2, .inl v2), (4, .inl v4)] [0, 1, 2] rfl ?_
    exact kE0 σ rfl
  · rw [if_neg c11] at h
    refine aw_aload_n X dX0_common_60 0 0 rfl rfl ?_
    refine aw_iload X dX0_common_61 2 rfl ?_
    refine aw_iload X dX0_common_63 3 rfl ?_
    obtain ⟨y12, hy12, h⟩ := bind_some h
    refine aw_cV X (st := []) hy12 [.inl v4, .inl v5] rfl rfl ml_X0_290 (fun o h => AX0_allGo (Cx.ok X) φ d _ _ _ _ _ h) dX0_common_65 (Nat.le_of_ble_eq_true rfl) ?_
    refine aw_istore X dX0_common_68 (by decide) [(6, .inl y12), (0, .inr (.inr (some this))), (2, .inl v2), (4, .inl v4), (5, .inl v5)] rfl ?_
    refine aw_iload X dX0_common_70 0 rfl ?_
    refine aw_bipush X (-9 : Int32) dX0_common_72 (by decide) ?_
    refine aw_icmp_eq X 121 dX0_common_74 rfl (fun c13 => ?_) (fun c13 => ?_)
    · rw [if_pos c13] at h
      refine aw_iinc X dX0_common_121 4 rfl (1 : Int32) rfl (by decide) [(5, .inl (v5 + (1 : Int32))), (6, .inl y12), (0, .inr (.inr (some this))), (2, .inl v2), (4, .inl v4)] rfl ?_
      refine aw_goto X 51 dX0_common_124 rfl ?_
      cases h
      refine aw_sub [(0, .inr (.inr (some this))), (2, .inl v2), (4, .inl v4), (5, .inl (v5 + (1 : Int32)))] [2, 3, 4, 0] rfl ?_
      exact kH ((v5 + (1 : Int32)), σ) rfl
    · rw [if_neg c13] at h
      refine aw_aload_n X dX0_common_77 1 0 rfl rfl ?_
      obtain ⟨x14, hx14, h⟩ := bind_some h
      refine aw_gfR X fl_X0_87 dX0_common_78 hx14 ?_
      refine aw_iload X dX0_common_81 0 rfl ?_
      obtain ⟨x15, hx15, h⟩ := bind_some h
      refine aw_iald X dX0_common_83 hx15 ?_
      refine aw_iconst X (1 : Int32) dX0_common_84 (by decide) ?_
      refine aw_iadd X dX0_common_85 ?_
      refine aw_aload_n X dX0_common_86 1 0 rfl rfl ?_
      obtain ⟨x16, hx16, h⟩ := bind_some h
      refine aw_gfR X fl_X0_87 dX0_common_87 hx16 ?_
      refine aw_iload X dX0_common_90 3 rfl ?_
      obtain ⟨x17, hx17, h⟩ := bind_some h
      refine aw_iald X dX0_common_92 hx17 ?_
      refine aw_icmp_le X 121 dX0_common_93 rfl (fun c18 => ?_) (fun c18 => ?_)
      · rw [if_pos c18] at h
        refine aw_iinc X dX0_common_121 4 rfl (1 : Int32) rfl (by decide) [(5, .inl (v5 + (1 : Int32))), (6, .inl y12), (0, .inr (.inr (some this))), (2, .inl v2), (4, .inl v4)] rfl ?_
        refine aw_goto X 51 dX0_common_124 rfl ?_
        cases h
        refine aw_sub [(0, .inr (.inr (some this))), (2, .inl v2), (4, .inl v4), (5, .inl (v5 + (1 : Int32)))] [2, 3, 4, 0] rfl ?_
        exact kH ((v5 + (1 : Int32)), σ) rfl
      · rw [if_neg c18] at h
        refine aw_aload_n X dX0_common_96 1 0 rfl rfl ?_
        obtain ⟨x19, hx19, h⟩ := bind_some h
        refine aw_gfR X fl_X0_87 dX0_common_97 hx19 ?_
        refine aw_iload X dX0_common_100 3 rfl ?_
        refine aw_aload_n X dX0_common_102 1 0 rfl rfl ?_
        obtain ⟨x20, hx20, h⟩ := bind_some h
        refine aw_gfR X fl_X0_87 dX0_common_103 hx20 ?_
        refine aw_iload X dX0_common_106 0 rfl ?_
        obtain ⟨x21, hx21, h⟩ := bind_some h
        refine aw_iald X dX0_common_108 hx21 ?_
        refine aw_iconst X (1 : Int32) dX0_common_109 (by decide) ?_
        refine aw_iadd X dX0_common_110 ?_
        obtain ⟨s22, hs22, h⟩ := bind_some h
        refine aw_iast X dX0_common_111 hs22 ?_
        refine aw_aload_n X dX0_common_112 1 0 rfl rfl ?_
        obtain ⟨x23, hx23, h⟩ := bind_some h
        refine aw_gfR X fl_X0_90 dX0_common_113 hx23 ?_
        refine aw_iload X dX0_common_116 3 rfl ?_
        refine aw_iload X dX0_common_118 4 rfl ?_
        obtain ⟨s24, hs24, h⟩ := bind_some h
        refine aw_iast X dX0_common_120 hs24 ?_
        refine aw_iinc X dX0_common_121 4 rfl (1 : Int32) rfl (by decide) [(5, .inl (v5 + (1 : Int32))), (6, .inl y12), (0, .inr (.inr (some this))), (2, .inl v2), (4, .inl v4)] rfl ?_
        refine aw_goto X 51 dX0_common_124 rfl ?_
        cases h
        refine aw_sub [(0, .inr (.inr (some this))), (2, .inl v2), (4, .inl v4), (5, .inl (v5 + (1 : Int32)))] [2, 3, 4, 0] rfl ?_
        exact kH ((v5 + (1 : Int32)), s24) rfl
theorem wX0_common_l26 {C : CT} {d : Nat} {Z : State → Prop} (X : Cx C cX0_common RX0 (some .int) 7 (d + 3)) (φ : Nat) (this : Nat) (v2 : Int32) (v4 : Int32) (σ : St) (y : (Int32 × St) ⊕ (St)) (h : fX0_common_l26 φ this v2 v4 σ = some y) (kH : ∀ s : Int32 × St, y = .inl s → AW C 26 [(0, .inr (.inr (some this))), (2, .inl v2), (4, .inl s.1)] [] s.2 Z) (kE0 : ∀ e : St, y = .inr e → AW C 133 [(0, .inr (.inr (some this))), (2, .inl v2)] [] e Z) : AW C 26 [(0, .inr (.inr (some this))), (2, .inl v2), (4, .inl v4)] [] σ Z := by
  unfold fX0_common_l26 at h
  refine aw_iload X dX0_common_26 2 rfl ?_
  refine aw_if_lt X 133 dX0_common_28 rfl (fun c5 => ?_) (fun c5 => ?_)
  · rw [if_pos c5] at h
    cases h
    refine aw_sub [(0, .inr (.inr (some this))), (2, .inl v2)] [0, 1] rfl ?_
    exact kE0 σ rfl
  · rw [if_neg c5] at h
    refine aw_aload_n X dX0_common_31 0 0 rfl rfl ?_
    obtain ⟨x6, hx6, h⟩ := bind_some h
    refine aw_gfR X fl_X0_87 dX0_common_32 hx6 ?_
    refine aw_iload X dX0_common_35 2 rfl ?_
    refine aw_iconst X (0 : Int32) dX0_common_37 (by decide) ?_
    obtain ⟨s7, hs7, h⟩ := bind_some h
    refine aw_iast X dX0_common_38 hs7 ?_
    refine aw_aload_n X dX0_common_39 0 0 rfl rfl ?_
    obtain ⟨x8, hx8, h⟩ := bind_some h
    refine aw_gfR X fl_X0_90 dX0_common_40 hx8 ?_
    refine aw_iload X dX0_common_43 2 rfl ?_
    refine aw_bipush X (-9 : Int32) dX0_common_45 (by decide) ?_
    obtain ⟨s9, hs9, h⟩ := bind_some h
    refine aw_iast X dX0_common_47 hs9 ?_
    refine aw_iconst X (0 : Int32) dX0_common_48 (by decide) ?_
    refine aw_istore X dX0_common_49 (by decide) [(5, .inl (0 : Int32)), (0, .inr (.inr (some this))), (2, .inl v2), (4, .inl v4)] rfl ?_
    obtain ⟨e25, h26, h⟩ := bind_some h
    refine aw_sub [(0, .inr (.inr (some this))), (2, .inl v2), (4, .inl v4), (5, .inl (0 : Int32))] [1, 2, 3, 0] rfl ?_
    refine aw_it (fun s => AW C 51 [(0, .inr (.inr (some this))), (2, .inl v2), (4, .inl v4), (5, .inl s.1)] [] s.2 Z) (fun e => AW C 127 [(0, .inr (.inr (some this))), (2, .inl v2), (4, .inl v4)] [] e Z) (fun s r hr kH kE => wX0_common_l51 X φ this v2 v4 s.1 s.2 r hr kH kE) φ _ e25 h26 ?_
    refine aw_iinc X dX0_common_127 2 rfl (-1 : Int32) rfl (by decide) [(4, .inl (v4 + (-1 : Int32))), (0, .inr (.inr (some this))), (2, .inl v2)] rfl ?_
    refine aw_goto X 26 dX0_common_130 rfl ?_
    cases h
    refine aw_sub [(0, .inr (.inr (some this))), (2, .inl v2), (4, .inl (v4 + (-1 : Int32)))] [1, 2, 0] rfl ?_
    exact kH ((v4 + (-1 : Int32)), e25) rfl
theorem wX0_common_l149 {C : CT} {d : Nat} {Z : State → Prop} (X : Cx C cX0_common RX0 (some .int) 7 (d + 3)) (φ : Nat) (this : Nat) (v2 : Int32) (v4 : Option Nat) (v5 : Int32) (v6 : Int32) (σ : St) (y : (Int32 × Int32 × St) ⊕ (St)) (h : fX0_common_l149 φ this v2 v4 v5 v6 σ = some y) (kH : ∀ s : Int32 × Int32 × St, y = .inl s → AW C 149 [(0, .inr (.inr (some this))), (2, .inl v2), (4, .inr (.inr v4)), (5, .inl s.1), (6, .inl s.2.1)] [] s.2.2 Z) (kE0 : ∀ e : St, y = .inr e → AW C 190 [(0, .inr (.inr (some this))), (2, .inl v2), (4, .inr (.inr v4))] [] e Z) : AW C 149 [(0, .inr (.inr (some this))), (2, .inl v2), (4, .inr (.inr v4)), (5, .inl v5), (6, .inl v6)] [] σ Z := by
  unfold fX0_common_l149 at h
  refine aw_iload X dX0_common_149 4 rfl ?_
  refine aw_aload X dX0_common_151 2 rfl ?_
  obtain ⟨x32, hx32, h⟩ := bind_some h
  refine aw_alen X dX0_common_153 hx32 ?_
  refine aw_icmp_ge X 190 dX0_common_154 rfl (fun c33 => ?_) (fun c33 => ?_)
  · rw [if_pos c33] at h
    cases h
    refine aw_sub [(0, .inr (.inr (some this))), (2, .inl v2), (4, .inr (.inr v4))] [0, 1, 2] rfl ?_
    exact kE0 σ rfl
  · rw [if_neg c33] at h
    refine aw_aload X dX0_common_157 2 rfl ?_
    refine aw_iload X dX0_common_159 4 rfl ?_
    refine aw_aload_n X dX0_common_161 0 0 rfl rfl ?_
    obtain ⟨x34, hx34, h⟩ := bind_some h
    refine aw_gfR X fl_X0_90 dX0_common_162 hx34 ?_
    refine aw_iload X dX0_common_165 3 rfl ?_
    obtain ⟨x35, hx35, h⟩ := bind_some h
    refine aw_iald X dX0_common_167 hx35 ?_
    obtain ⟨s36, hs36, h⟩ := bind_some h
    refine aw_iast X dX0_common_168 hs36 ?_
    refine aw_aload_n X dX0_common_169 0 0 rfl rfl ?_
    refine aw_iload X dX0_common_170 3 rfl ?_
    refine aw_aload_n X dX0_common_172 0 0 rfl rfl ?_
    obtain ⟨x37, hx37, h⟩ := bind_some h
    refine aw_gfR X fl_X0_90 dX0_common_173 hx37 ?_
    refine aw_iload X dX0_common_176 3 rfl ?_
    obtain ⟨x38, hx38, h⟩ := bind_some h
    refine aw_iald X dX0_common_178 hx38 ?_
    obtain ⟨y39, hy39, h⟩ := bind_some h
    refine aw_cV X (st := []) hy39 [.inl v5, .inl x38] rfl rfl ml_X0_290 (fun o h => AX0_allGo (Cx.ok X) φ d _ _ _ _ _ h) dX0_common_179 (Nat.le_of_ble_eq_true rfl) ?_
    refine aw_istore X dX0_common_182 (by decide) [(5, .inl y39), (0, .inr (.inr (some this))), (2, .inl v2), (4, .inr (.inr v4)), (6, .inl v6)] rfl ?_
    refine aw_iinc X dX0_common_184 4 rfl (1 : Int32) rfl (by decide) [(6, .inl (v6 + (1 : Int32))), (5, .inl y39), (0, .inr (.inr (some this))), (2, .inl v2), (4, .inr (.inr v4))] rfl ?_
    refine aw_goto X 149 dX0_common_187 rfl ?_
    cases h
    refine aw_sub [(0, .inr (.inr (some this))), (2, .inl v2), (4, .inr (.inr v4)), (5, .inl y39), (6, .inl (v6 + (1 : Int32)))] [2, 3, 4, 1, 0] rfl ?_
    exact kH (y39, (v6 + (1 : Int32)), s36) rfl
theorem wX0_common {C : CT} {d : Nat} (X : Cx C cX0_common RX0 (some .int) 7 (d + 3)) (φ : Nat) (this : Nat) (v1 : Int32) (v2 : Int32) (σ : St) (y : Int32 × St) (h : fX0_common φ this v1 v2 σ = some y) : AW C 0 [(0, .inr (.inr (some this))), (1, .inl v1), (2, .inl v2)] [] σ (AQ C (some (.inl y.1)) y.2) := by
  unfold fX0_common at h
  refine aw_iload_n X dX0_common_0 2 2 rfl rfl ?_
  obtain ⟨y1, hy1, h⟩ := bind_some h
  refine aw_callS X (st := []) [.inl v2] rfl ml_X0_97 (AX0_isRow (Cx.ok X) φ (d + 1) _ _ _  hy1) dX0_common_1 (Nat.le_of_ble_eq_true rfl) ?_
  refine aw_if_ne X 9 dX0_common_4 rfl (fun c2 => ?_) (fun c2 => ?_)
  · rw [if_neg c2] at h
    refine aw_aload_n X dX0_common_9 0 0 rfl rfl ?_
    refine aw_iload_n X dX0_common_10 1 1 rfl rfl ?_
    obtain ⟨y3, hy3, h⟩ := bind_some h
    refine aw_cV X (st := []) hy3 [.inl v1] rfl rfl ml_X0_287 (fun o h => AX0_askedSome (Cx.ok X) φ (d + 1) _ _ _ _ h) dX0_common_11 (Nat.le_of_ble_eq_true rfl) ?_
    refine aw_istore_n X dX0_common_14 3 rfl (by decide) [(3, .inl y3.1), (0, .inr (.inr (some this))), (1, .inl v1), (2, .inl v2)] rfl ?_
    refine aw_iload_n X dX0_common_15 0 3 rfl rfl ?_
    refine aw_if_ge X 21 dX0_common_16 rfl (fun c4 => ?_) (fun c4 => ?_)
    · rw [if_pos c4] at h
      refine aw_iload_n X dX0_common_21 0 3 rfl rfl ?_
      refine aw_iconst X (1 : Int32) dX0_common_22 (by decide) ?_
      refine aw_isub X dX0_common_23 ?_
      refine aw_istore X dX0_common_24 (by decide) [(4, .inl (y3.1 - (1 : Int32))), (3, .inl y3.1), (0, .inr (.inr (some this))), (1, .inl v1), (2, .inl v2)] rfl ?_
      obtain ⟨e27, h28, h⟩ := bind_some h
      refine aw_sub [(0, .inr (.inr (some this))), (2, .inl v2), (4, .inl (y3.1 - (1 : Int32)))] [2, 4, 0] rfl ?_
      refine aw_it (fun s => AW C 26 [(0, .inr (.inr (some this))), (2, .inl v2), (4, .inl s.1)] [] s.2 (AQ C (some (.inl y.1)) y.2)) (fun e => AW C 133 [(0, .inr (.inr (some this))), (2, .inl v2)] [] e (AQ C (some (.inl y.1)) y.2)) (fun s r hr kH kE => wX0_common_l26 X φ this v2 s.1 s.2 r hr kH kE) φ _ e27 h28 ?_
      refine aw_aload_n X dX0_common_133 0 0 rfl rfl ?_
      obtain ⟨x29, hx29, h⟩ := bind_some h
      refine aw_gfR X fl_X0_87 dX0_common_134 hx29 ?_
      refine aw_iconst X (0 : Int32) dX0_common_137 (by decide) ?_
      obtain ⟨x30, hx30, h⟩ := bind_some h
      refine aw_iald X dX0_common_138 hx30 ?_
      obtain ⟨n31, hn31, h⟩ := bind_some h
      refine aw_newa X (kd := 1) dX0_common_139 rfl (by decide) (by decide) q215 (r := n31.1) (σ' := n31.2) hn31 ?_
      refine aw_astore X dX0_common_141 (by decide) [(4, .inr (.inr n31.1)), (0, .inr (.inr (some this))), (2, .inl v2)] rfl ?_
      refine aw_iconst X (0 : Int32) dX0_common_143 (by decide) ?_
      refine aw_istore X dX0_common_144 (by decide) [(5, .inl (0 : Int32)), (4, .inr (.inr n31.1)), (0, .inr (.inr (some this))), (2, .inl v2)] rfl ?_
      refine aw_iconst X (0 : Int32) dX0_common_146 (by decide) ?_
      refine aw_istore X dX0_common_147 (by decide) [(6, .inl (0 : Int32)), (5, .inl (0 : Int32)), (4, .inr (.inr n31.1)), (0, .inr (.inr (some this))), (2, .inl v2)] rfl ?_
      obtain ⟨e40, h41, h⟩ := bind_some h
      refine aw_sub [(0, .inr (.inr (some this))), (2, .inl v2), (4, .inr (.inr n31.1)), (5, .inl (0 : Int32)), (6, .inl (0 : Int32))] [3, 4, 2, 1, 0] rfl ?_
      refine aw_it (fun s => AW C 149 [(0, .inr (.inr (some this))), (2, .inl v2), (4, .inr (.inr n31.1)), (5, .inl s.1), (6, .inl s.2.1)] [] s.2.2 (AQ C (some (.inl y.1)) y.2)) (fun e => AW C 190 [(0, .inr (.inr (some this))), (2, .inl v2), (4, .inr (.inr n31.1))] [] e (AQ C (some (.inl y.1)) y.2)) (fun s r hr kH kE => wX0_common_l149 X φ this v2 n31.1 s.1 s.2.1 s.2.2 r hr kH kE) φ _ e40 h41 ?_
      refine aw_aload_n X dX0_common_190 0 0 rfl rfl ?_
      obtain ⟨x42, hx42, h⟩ := bind_some h
      refine aw_gfR X fl_X0_34 dX0_common_191 hx42 ?_
      refine aw_iload_n X dX0_common_194 1 2 rfl rfl ?_
      refine aw_aload X dX0_common_195 2 rfl ?_
      obtain ⟨s43, hs43, h⟩ := bind_some h
      refine aw_aast X (kd := 5) (lo := 1) (hi := 1) dX0_common_197 (by decide) hs43 ?_
      refine aw_aload X dX0_common_198 2 rfl ?_
      obtain ⟨x44, hx44, h⟩ := bind_some h
      refine aw_alen X dX0_common_200 hx44 ?_
      cases h
      exact aw_iret X dX0_common_201
    · rw [if_neg c4] at h
      refine aw_iload_n X dX0_common_19 0 3 rfl rfl ?_
      cases h
      exact aw_iret X dX0_common_20
  · rw [if_pos c2] at h
    refine aw_iconst X (-1 : Int32) dX0_common_7 (by decide) ?_
    cases h
    exact aw_iret X dX0_common_8
theorem AX0_common {E : AE} {l : Launch} (hE : EOK E l) (φ d : Nat) (this : Nat) (v1 : Int32) (v2 : Int32) (σ : St) (y : Int32 × St) (h : fX0_common φ this v1 v2 σ = some y) : AMet E l yX0_common (ws_ yX0_common cX0_common 7 (some .int)) (d + 3) [.inr (.inr (some this)), .inl v1, .inl v2] σ (some (.inl y.1)) y.2 := by
  refine amet_of hE (by decide +kernel) (Nat.le_of_ble_eq_true rfl) fun C e1 e2 X XI => ?_
  subst e1
  exact wX0_common X φ this v1 v2 σ y h
theorem wX0_someGo_l5 {C : CT} {d : Nat} {Z : State → Prop} (X : Cx C cX0_someGo RX0 (some .int) 6 (d + 2)) (φ : Nat) (this : Nat) (v1 : Int32) (v2 : Int32) (σ : St) (v3 : Int32) (v4 : Int32) (y : (Int32 × Int32) ⊕ (Int32)) (h : fX0_someGo_l5 φ this v1 v2 σ v3 v4 = some y) (kH : ∀ s : Int32 × Int32, y = .inl s → AW C 5 [(0, .inr (.inr (some this))), (1, .inl v1), (2, .inl v2), (3, .inl s.1), (4, .inl s.2)] [] σ Z) (kE0 : ∀ e : Int32, y = .inr e → AW C 78 [(3, .inl e)] [] σ Z) : AW C 5 [(0, .inr (.inr (some this))), (1, .inl v1), (2, .inl v2), (3, .inl v3), (4, .inl v4)] [] σ Z := by
  unfold fX0_someGo_l5 at h
  refine aw_iload X dX0_someGo_5 4 rfl ?_
  refine aw_aload_n X dX0_someGo_7 0 0 rfl rfl ?_
  obtain ⟨x1, hx1, h⟩ := bind_some h
  refine aw_gfI X fl_X0_281 dX0_someGo_8 hx1 ?_
  refine aw_icmp_ge X 78 dX0_someGo_11 rfl (fun c2 => ?_) (fun c2 => ?_)
  · rw [if_pos c2] at h
    cases h
    refine aw_sub [(3, .inl v3)] [3] rfl ?_
    exact kE0 v3 rfl
  · rw [if_neg c2] at h
    refine aw_aload_n X dX0_someGo_14 0 0 rfl rfl ?_
    refine aw_iload_n X dX0_someGo_15 1 1 rfl rfl ?_
    refine aw_iload X dX0_someGo_16 4 rfl ?_
    obtain ⟨y3, hy3, h⟩ := bind_some h
    refine aw_cV X (st := []) hy3 [.inl v1, .inl v4] rfl rfl ml_X0_284 (fun o h => AX0_placeIn (Cx.ok X) φ d _ _ _ _ _ h) dX0_someGo_18 (Nat.le_of_ble_eq_true rfl) ?_
    refine aw_istore X dX0_someGo_21 (by decide) [(5, .inl y3), (0, .inr (.inr (some this))), (1, .inl v1), (2, .inl v2), (3, .inl v3), (4, .inl v4)] rfl ?_
    refine aw_iload_n X dX0_someGo_23 4 3 rfl rfl ?_
    refine aw_iload X dX0_someGo_24 0 rfl ?_
    refine aw_aload_n X dX0_someGo_26 1 0 rfl rfl ?_
    refine aw_aload_n X dX0_someGo_27 1 0 rfl rfl ?_
    obtain ⟨x4, hx4, h⟩ := bind_some h
    refine aw_gfR X fl_X0_78 dX0_someGo_28 hx4 ?_
    refine aw_iload X dX0_someGo_31 5 rfl ?_
    obtain ⟨x5, hx5, h⟩ := bind_some h
    refine aw_iald X dX0_someGo_33 hx5 ?_
    obtain ⟨y6, hy6, h⟩ := bind_some h
    refine aw_cV X (st := [.inl y3, .inl v3]) hy6 [.inl x5] rfl rfl ml_X0_188 (fun o h => AX0_of (Cx.ok X) φ (d + 1) _ _ _ _ h) dX0_someGo_34 (Nat.le_of_ble_eq_true rfl) ?_
    obtain ⟨x7, hx7, h⟩ := bind_some h
    refine aw_alen X dX0_someGo_37 hx7 ?_
    refine aw_icmp_ge X 69 dX0_someGo_38 rfl (fun c8 => ?_) (fun c8 => ?_)
    · rw [if_pos c8] at h
      refine aw_iconst X (0 : Int32) dX0_someGo_69 (by decide) ?_
      refine aw_iadd X dX0_someGo_70 ?_
      refine aw_istore_n X dX0_someGo_71 3 rfl (by decide) [(3, .inl (v3 + (0 : Int32))), (5, .inl y3), (0, .inr (.inr (some this))), (1, .inl v1), (2, .inl v2), (4, .inl v4)] rfl ?_
      refine aw_iinc X dX0_someGo_72 5 rfl (1 : Int32) rfl (by decide) [(4, .inl (v4 + (1 : Int32))), (3, .inl (v3 + (0 : Int32))), (5, .inl y3), (0, .inr (.inr (some this))), (1, .inl v1), (2, .inl v2)] rfl ?_
      refine aw_goto X 5 dX0_someGo_75 rfl ?_
      cases h
      refine aw_sub [(0, .inr (.inr (some this))), (1, .inl v1), (2, .inl v2), (3, .inl (v3 + (0 : Int32))), (4, .inl (v4 + (1 : Int32)))] [3, 4, 5, 1, 0] rfl ?_
      exact kH ((v3 + (0 : Int32)), (v4 + (1 : Int32))) rfl
    · rw [if_neg c8] at h
      refine aw_aload_n X dX0_someGo_41 1 0 rfl rfl ?_
      refine aw_aload_n X dX0_someGo_42 1 0 rfl rfl ?_
      obtain ⟨x9, hx9, h⟩ := bind_some h
      refine aw_gfR X fl_X0_78 dX0_someGo_43 hx9 ?_
      refine aw_iload X dX0_someGo_46 5 rfl ?_
      obtain ⟨x10, hx10, h⟩ := bind_some h
      refine aw_iald X dX0_someGo_48 hx10 ?_
      obtain ⟨y11, hy11, h⟩ := bind_some h
      refine aw_cV X (st := [.inl v3]) hy11 [.inl x10] rfl rfl ml_X0_188 (fun o h => AX0_of (Cx.ok X) φ (d + 1) _ _ _ _ h) dX0_someGo_49 (Nat.le_of_ble_eq_true rfl) ?_
      refine aw_iload X dX0_someGo_52 0 rfl ?_
      obtain ⟨x12, hx12, h⟩ := bind_some h
      refine aw_bald X dX0_someGo_54 hx12 ?_
      refine aw_iload_n X dX0_someGo_55 3 2 rfl rfl ?_
      refine aw_icmp_ne X 69 dX0_someGo_56 rfl (fun c13 => ?_) (fun c13 => ?_)
      · rw [if_neg c13] at h
        refine aw_iconst X (0 : Int32) dX0_someGo_69 (by decide) ?_
        refine aw_iadd X dX0_someGo_70 ?_
        refine aw_istore_n X dX0_someGo_71 3 rfl (by decide) [(3, .inl (v3 + (0 : Int32))), (5, .inl y3), (0, .inr (.inr (some this))), (1, .inl v1), (2, .inl v2), (4, .inl v4)] rfl ?_
        refine aw_iinc X dX0_someGo_72 5 rfl (1 : Int32) rfl (by decide) [(4, .inl (v4 + (1 : Int32))), (3, .inl (v3 + (0 : Int32))), (5, .inl y3), (0, .inr (.inr (some this))), (1, .inl v1), (2, .inl v2)] rfl ?_
        refine aw_goto X 5 dX0_someGo_75 rfl ?_
        cases h
        refine aw_sub [(0, .inr (.inr (some this))), (1, .inl v1), (2, .inl v2), (3, .inl (v3 + (0 : Int32))), (4, .inl (v4 + (1 : Int32)))] [3, 4, 5, 1, 0] rfl ?_
        exact kH ((v3 + (0 : Int32)), (v4 + (1 : Int32))) rfl
      · rw [if_pos c13] at h
        refine aw_aload_n X dX0_someGo_59 1 0 rfl rfl ?_
        obtain ⟨x14, hx14, h⟩ := bind_some h
        refine aw_gfR X fl_X0_81 dX0_someGo_60 hx14 ?_
        refine aw_iload X dX0_someGo_63 5 rfl ?_
        obtain ⟨x15, hx15, h⟩ := bind_some h
        refine aw_iald X dX0_someGo_65 hx15 ?_
        refine aw_goto X 70 dX0_someGo_66 rfl ?_
        refine aw_iadd X dX0_someGo_70 ?_
        refine aw_istore_n X dX0_someGo_71 3 rfl (by decide) [(3, .inl (v3 + x15)), (5, .inl y3), (0, .inr (.inr (some this))), (1, .inl v1), (2, .inl v2), (4, .inl v4)] rfl ?_
        refine aw_iinc X dX0_someGo_72 5 rfl (1 : Int32) rfl (by decide) [(4, .inl (v4 + (1 : Int32))), (3, .inl (v3 + x15)), (5, .inl y3), (0, .inr (.inr (some this))), (1, .inl v1), (2, .inl v2)] rfl ?_
        refine aw_goto X 5 dX0_someGo_75 rfl ?_
        cases h
        refine aw_sub [(0, .inr (.inr (some this))), (1, .inl v1), (2, .inl v2), (3, .inl (v3 + x15)), (4, .inl (v4 + (1 : Int32)))] [3, 4, 5, 1, 0] rfl ?_
        exact kH ((v3 + x15), (v4 + (1 : Int32))) rfl
theorem wX0_someGo {C : CT} {d : Nat} (X : Cx C cX0_someGo RX0 (some .int) 6 (d + 2)) (φ : Nat) (this : Nat) (v1 : Int32) (v2 : Int32) (σ : St) (y : Int32) (h : fX0_someGo φ this v1 v2 σ = some y) : AW C 0 [(0, .inr (.inr (some this))), (1, .inl v1), (2, .inl v2)] [] σ (AQ C (some (.inl y)) σ) := by
  unfold fX0_someGo at h
  refine aw_iload_n X dX0_someGo_0 1 1 rfl rfl ?_
  refine aw_istore_n X dX0_someGo_1 3 rfl (by decide) [(3, .inl v1), (0, .inr (.inr (some this))), (1, .inl v1), (2, .inl v2)] rfl ?_
  refine aw_iconst X (0 : Int32) dX0_someGo_2 (by decide) ?_
  refine aw_istore X dX0_someGo_3 (by decide) [(4, .inl (0 : Int32)), (3, .inl v1), (0, .inr (.inr (some this))), (1, .inl v1), (2, .inl v2)] rfl ?_
  obtain ⟨e16, h17, h⟩ := bind_some h
  refine aw_sub [(0, .inr (.inr (some this))), (1, .inl v1), (2, .inl v2), (3, .inl v1), (4, .inl (0 : Int32))] [2, 3, 4, 1, 0] rfl ?_
  refine aw_it (fun s => AW C 5 [(0, .inr (.inr (some this))), (1, .inl v1), (2, .inl v2), (3, .inl s.1), (4, .inl s.2)] [] σ (AQ C (some (.inl y)) σ)) (fun e => AW C 78 [(3, .inl e)] [] σ (AQ C (some (.inl y)) σ)) (fun s r hr kH kE => wX0_someGo_l5 X φ this v1 v2 σ s.1 s.2 r hr kH kE) φ _ e16 h17 ?_
  refine aw_iload_n X dX0_someGo_78 0 3 rfl rfl ?_
  cases h
  exact aw_iret X dX0_someGo_79
theorem AX0_someGo {E : AE} {l : Launch} (hE : EOK E l) (φ d : Nat) (this : Nat) (v1 : Int32) (v2 : Int32) (σ : St) (y : Int32) (h : fX0_someGo φ this v1 v2 σ = some y) : AMet E l yX0_someGo (ws_ yX0_someGo cX0_someGo 6 (some .int)) (d + 2) [.inr (.inr (some this)), .inl v1, .inl v2] σ (some (.inl y)) σ := by
  refine amet_of hE (by decide +kernel) (Nat.le_of_ble_eq_true rfl) fun C e1 e2 X XI => ?_
  subst e1
  exact wX0_someGo X φ this v1 v2 σ y h
theorem wX0_cover_b109 {C : CT} {d : Nat} {Z : State → Prop} (X : Cx C cX0_cover RX0 (some .int) 8 (d + 3)) (φ : Nat) (this : Nat) (v2 : Int32) (v4 : Int32) (v5 : Int32) (v6 : Int32) (σ : St) (y : (Int32 × St) ⊕ (St)) (h : fX0_cover_b109 φ this v2 v4 v5 v6 σ = some y) (kH : ∀ s : Int32 × St, y = .inl s → AW C 52 [(0, .inr (.inr (some this))), (2, .inl v2), (4, .inl v4), (5, .inl s.1)] [] s.2 Z) (kE0 : ∀ e : St, y = .inr e → AW C 140 [(0, .inr (.inr (some this))), (2, .inl v2), (4, .inl v4)] [] e Z) : AW C 109 [(0, .inr (.inr (some this))), (2, .inl v2), (4, .inl v4), (5, .inl v5), (6, .inl v6)] [] σ Z := by
  unfold fX0_cover_b109 at h
  refine aw_aload_n X dX0_cover_109 0 0 rfl rfl ?_
  obtain ⟨x17, hx17, h⟩ := bind_some h
  refine aw_gfR X fl_X0_87 dX0_cover_110 hx17 ?_
  refine aw_iload X dX0_cover_113 2 rfl ?_
  refine aw_aload_n X dX0_cover_115 0 0 rfl rfl ?_
  obtain ⟨x18, hx18, h⟩ := bind_some h
  refine aw_gfR X fl_X0_87 dX0_cover_116 hx18 ?_
  refine aw_iload X dX0_cover_119 4 rfl ?_
  obtain ⟨x19, hx19, h⟩ := bind_some h
  refine aw_iald X dX0_cover_121 hx19 ?_
  refine aw_iconst X (1 : Int32) dX0_cover_122 (by decide) ?_
  refine aw_iadd X dX0_cover_123 ?_
  obtain ⟨s20, hs20, h⟩ := bind_some h
  refine aw_iast X dX0_cover_124 hs20 ?_
  refine aw_aload_n X dX0_cover_125 0 0 rfl rfl ?_
  obtain ⟨x21, hx21, h⟩ := bind_some h
  refine aw_gfR X fl_X0_90 dX0_cover_126 hx21 ?_
  refine aw_iload X dX0_cover_129 2 rfl ?_
  refine aw_iload X dX0_cover_131 3 rfl ?_
  obtain ⟨s22, hs22, h⟩ := bind_some h
  refine aw_iast X dX0_cover_133 hs22 ?_
  refine aw_iinc X dX0_cover_134 3 rfl (1 : Int32) rfl (by decide) [(5, .inl (v5 + (1 : Int32))), (0, .inr (.inr (some this))), (2, .inl v2), (4, .inl v4), (6, .inl v6)] rfl ?_
  refine aw_goto X 52 dX0_cover_137 rfl ?_
  cases h
  refine aw_sub [(0, .inr (.inr (some this))), (2, .inl v2), (4, .inl v4), (5, .inl (v5 + (1 : Int32)))] [1, 2, 3, 0] rfl ?_
  exact kH ((v5 + (1 : Int32)), s22) rfl
theorem wX0_cover_l52 {C : CT} {d : Nat} {Z : State → Prop} (X : Cx C cX0_cover RX0 (some .int) 8 (d + 3)) (φ : Nat) (this : Nat) (v2 : Int32) (v4 : Int32) (v5 : Int32) (σ : St) (y : (Int32 × St) ⊕ (St)) (h : fX0_cover_l52 φ this v2 v4 v5 σ = some y) (kH : ∀ s : Int32 × St, y = .inl s → AW C 52 [(0, .inr (.inr (some this))), (2, .inl v2), (4, .inl v4), (5, .inl s.1)] [] s.2 Z) (kE0 : ∀ e : St, y = .inr e → AW C 140 [(0, .inr (.inr (some this))), (2, .inl v2), (4, .inl v4)] [] e Z) : AW C 52 [(0, .inr (.inr (some this))), (2, .inl v2), (4, .inl v4), (5, .inl v5)] [] σ Z := by
  unfold fX0_cover_l52 at h
  refine aw_iload X dX0_cover_52 3 rfl ?_
  refine aw_aload_n X dX0_cover_54 0 0 rfl rfl ?_
  obtain ⟨x10, hx10, h⟩ := bind_some h
  refine aw_gfI X fl_X0_30 dX0_cover_55 hx10 ?_
  refine aw_icmp_ge X 140 dX0_cover_58 rfl (fun c11 => ?_) (fun c11 => ?_)
  · rw [if_pos c11] at h
    cases h
    refine aw_sub [(0, .inr (.inr (some this))), (2, .inl v2), (4, .inl v4)] [0, 1, 2] rfl ?_
    exact kE0 σ rfl
  · rw [if_neg c11] at h
    refine aw_aload_n X dX0_cover_61 0 0 rfl rfl ?_
    refine aw_iload X dX0_cover_62 2 rfl ?_
    refine aw_iload X dX0_cover_64 3 rfl ?_
    obtain ⟨y12, hy12, h⟩ := bind_some h
    refine aw_cV X (st := []) hy12 [.inl v4, .inl v5] rfl rfl ml_X0_293 (fun o h => AX0_someGo (Cx.ok X) φ d _ _ _ _ _ h) dX0_cover_66 (Nat.le_of_ble_eq_true rfl) ?_
    refine aw_istore X dX0_cover_69 (by decide) [(6, .inl y12), (0, .inr (.inr (some this))), (2, .inl v2), (4, .inl v4), (5, .inl v5)] rfl ?_
    refine aw_iload X dX0_cover_71 0 rfl ?_
    refine aw_iload X dX0_cover_73 3 rfl ?_
    refine aw_icmp_eq X 134 dX0_cover_75 rfl (fun c13 => ?_) (fun c13 => ?_)
    · rw [if_pos c13] at h
      refine aw_iinc X dX0_cover_134 4 rfl (1 : Int32) rfl (by decide) [(5, .inl (v5 + (1 : Int32))), (6, .inl y12), (0, .inr (.inr (some this))), (2, .inl v2), (4, .inl v4)] rfl ?_
      refine aw_goto X 52 dX0_cover_137 rfl ?_
      cases h
      refine aw_sub [(0, .inr (.inr (some this))), (2, .inl v2), (4, .inl v4), (5, .inl (v5 + (1 : Int32)))] [2, 3, 4, 0] rfl ?_
      exact kH ((v5 + (1 : Int32)), σ) rfl
    · rw [if_neg c13] at h
      refine aw_aload_n X dX0_cover_78 1 0 rfl rfl ?_
      obtain ⟨x14, hx14, h⟩ := bind_some h
      refine aw_gfR X fl_X0_90 dX0_cover_79 hx14 ?_
      refine aw_iload X dX0_cover_82 3 rfl ?_
      obtain ⟨x15, hx15, h⟩ := bind_some h
      refine aw_iald X dX0_cover_84 hx15 ?_
      refine aw_bipush X (-9 : Int32) dX0_cover_85 (by decide) ?_
      refine aw_icmp_eq X 109 dX0_cover_87 rfl (fun c16 => ?_) (fun c16 => ?_)
      · rw [if_pos c16] at h
        refine aw_sub [(0, .inr (.inr (some this))), (2, .inl v2), (4, .inl v4), (5, .inl v5), (6, .inl y12)] [1, 2, 3, 4, 0] rfl ?_
        exact wX0_cover_b109 X φ this v2 v4 v5 y12 σ y h kH kE0
      · rw [if_neg c16] at h
        refine aw_aload_n X dX0_cover_90 1 0 rfl rfl ?_
        obtain ⟨x23, hx23, h⟩ := bind_some h
        refine aw_gfR X fl_X0_87 dX0_cover_91 hx23 ?_
        refine aw_iload X dX0_cover_94 0 rfl ?_
        obtain ⟨x24, hx24, h⟩ := bind_some h
        refine aw_iald X dX0_cover_96 hx24 ?_
        refine aw_iconst X (1 : Int32) dX0_cover_97 (by decide) ?_
        refine aw_iadd X dX0_cover_98 ?_
        refine aw_aload_n X dX0_cover_99 1 0 rfl rfl ?_
        obtain ⟨x25, hx25, h⟩ := bind_some h
        refine aw_gfR X fl_X0_87 dX0_cover_100 hx25 ?_
        refine aw_iload X dX0_cover_103 3 rfl ?_
        obtain ⟨x26, hx26, h⟩ := bind_some h
        refine aw_iald X dX0_cover_105 hx26 ?_
        refine aw_icmp_ge X 134 dX0_cover_106 rfl (fun c27 => ?_) (fun c27 => ?_)
        · rw [if_pos c27] at h
          refine aw_iinc X dX0_cover_134 4 rfl (1 : Int32) rfl (by decide) [(5, .inl (v5 + (1 : Int32))), (6, .inl y12), (0, .inr (.inr (some this))), (2, .inl v2), (4, .inl v4)] rfl ?_
          refine aw_goto X 52 dX0_cover_137 rfl ?_
          cases h
          refine aw_sub [(0, .inr (.inr (some this))), (2, .inl v2), (4, .inl v4), (5, .inl (v5 + (1 : Int32)))] [2, 3, 4, 0] rfl ?_
          exact kH ((v5 + (1 : Int32)), σ) rfl
        · rw [if_neg c27] at h
          refine aw_sub [(0, .inr (.inr (some this))), (2, .inl v2), (4, .inl v4), (5, .inl v5), (6, .inl y12)] [1, 2, 3, 4, 0] rfl ?_
          exact wX0_cover_b109 X φ this v2 v4 v5 y12 σ y h kH kE0
theorem wX0_cover_l35 {C : CT} {d : Nat} {Z : State → Prop} (X : Cx C cX0_cover RX0 (some .int) 8 (d + 3)) (φ : Nat) (this : Nat) (v2 : Int32) (v4 : Int32) (σ : St) (y : (Int32 × St) ⊕ (St)) (h : fX0_cover_l35 φ this v2 v4 σ = some y) (kH : ∀ s : Int32 × St, y = .inl s → AW C 35 [(0, .inr (.inr (some this))), (2, .inl v2), (4, .inl s.1)] [] s.2 Z) (kE0 : ∀ e : St, y = .inr e → AW C 146 [(0, .inr (.inr (some this))), (2, .inl v2)] [] e Z) : AW C 35 [(0, .inr (.inr (some this))), (2, .inl v2), (4, .inl v4)] [] σ Z := by
  unfold fX0_cover_l35 at h
  refine aw_iload X dX0_cover_35 2 rfl ?_
  refine aw_if_lt X 146 dX0_cover_37 rfl (fun c7 => ?_) (fun c7 => ?_)
  · rw [if_pos c7] at h
    cases h
    refine aw_sub [(0, .inr (.inr (some this))), (2, .inl v2)] [0, 1] rfl ?_
    exact kE0 σ rfl
  · rw [if_neg c7] at h
    refine aw_aload_n X dX0_cover_40 0 0 rfl rfl ?_
    obtain ⟨x8, hx8, h⟩ := bind_some h
    refine aw_gfR X fl_X0_90 dX0_cover_41 hx8 ?_
    refine aw_iload X dX0_cover_44 2 rfl ?_
    refine aw_bipush X (-9 : Int32) dX0_cover_46 (by decide) ?_
    obtain ⟨s9, hs9, h⟩ := bind_some h
    refine aw_iast X dX0_cover_48 hs9 ?_
    refine aw_iconst X (0 : Int32) dX0_cover_49 (by decide) ?_
    refine aw_istore X dX0_cover_50 (by decide) [(5, .inl (0 : Int32)), (0, .inr (.inr (some this))), (2, .inl v2), (4, .inl v4)] rfl ?_
    obtain ⟨e28, h29, h⟩ := bind_some h
    refine aw_sub [(0, .inr (.inr (some this))), (2, .inl v2), (4, .inl v4), (5, .inl (0 : Int32))] [1, 2, 3, 0] rfl ?_
    refine aw_it (fun s => AW C 52 [(0, .inr (.inr (some this))), (2, .inl v2), (4, .inl v4), (5, .inl s.1)] [] s.2 Z) (fun e => AW C 140 [(0, .inr (.inr (some this))), (2, .inl v2), (4, .inl v4)] [] e Z) (fun s r hr kH kE => wX0_cover_l52 X φ this v2 v4 s.1 s.2 r hr kH kE) φ _ e28 h29 ?_
    refine aw_iinc X dX0_cover_140 2 rfl (-1 : Int32) rfl (by decide) [(4, .inl (v4 + (-1 : Int32))), (0, .inr (.inr (some this))), (2, .inl v2)] rfl ?_
    refine aw_goto X 35 dX0_cover_143 rfl ?_
    cases h
    refine aw_sub [(0, .inr (.inr (some this))), (2, .inl v2), (4, .inl (v4 + (-1 : Int32)))] [1, 2, 0] rfl ?_
    exact kH ((v4 + (-1 : Int32)), e28) rfl
theorem wX0_cover_l171 {C : CT} {d : Nat} {Z : State → Prop} (X : Cx C cX0_cover RX0 (some .int) 8 (d + 3)) (φ : Nat) (this : Nat) (v2 : Int32) (v4 : Int32) (v5 : Option Nat) (v6 : Int32) (v7 : Int32) (σ : St) (y : (Int32 × Int32 × St) ⊕ (St)) (h : fX0_cover_l171 φ this v2 v4 v5 v6 v7 σ = some y) (kH : ∀ s : Int32 × Int32 × St, y = .inl s → AW C 171 [(0, .inr (.inr (some this))), (2, .inl v2), (4, .inl v4), (5, .inr (.inr v5)), (6, .inl s.1), (7, .inl s.2.1)] [] s.2.2 Z) (kE0 : ∀ e : St, y = .inr e → AW C 212 [(0, .inr (.inr (some this))), (2, .inl v2), (4, .inl v4), (5, .inr (.inr v5))] [] e Z) : AW C 171 [(0, .inr (.inr (some this))), (2, .inl v2), (4, .inl v4), (5, .inr (.inr v5)), (6, .inl v6), (7, .inl v7)] [] σ Z := by
  unfold fX0_cover_l171 at h
  refine aw_iload X dX0_cover_171 5 rfl ?_
  refine aw_aload X dX0_cover_173 3 rfl ?_
  obtain ⟨x35, hx35, h⟩ := bind_some h
  refine aw_alen X dX0_cover_175 hx35 ?_
  refine aw_icmp_ge X 212 dX0_cover_176 rfl (fun c36 => ?_) (fun c36 => ?_)
  · rw [if_pos c36] at h
    cases h
    refine aw_sub [(0, .inr (.inr (some this))), (2, .inl v2), (4, .inl v4), (5, .inr (.inr v5))] [0, 1, 2, 3] rfl ?_
    exact kE0 σ rfl
  · rw [if_neg c36] at h
    refine aw_aload X dX0_cover_179 3 rfl ?_
    refine aw_iload X dX0_cover_181 5 rfl ?_
    refine aw_aload_n X dX0_cover_183 0 0 rfl rfl ?_
    obtain ⟨x37, hx37, h⟩ := bind_some h
    refine aw_gfR X fl_X0_90 dX0_cover_184 hx37 ?_
    refine aw_iload X dX0_cover_187 4 rfl ?_
    obtain ⟨x38, hx38, h⟩ := bind_some h
    refine aw_iald X dX0_cover_189 hx38 ?_
    obtain ⟨s39, hs39, h⟩ := bind_some h
    refine aw_iast X dX0_cover_190 hs39 ?_
    refine aw_aload_n X dX0_cover_191 0 0 rfl rfl ?_
    refine aw_iload X dX0_cover_192 4 rfl ?_
    refine aw_aload_n X dX0_cover_194 0 0 rfl rfl ?_
    obtain ⟨x40, hx40, h⟩ := bind_some h
    refine aw_gfR X fl_X0_90 dX0_cover_195 hx40 ?_
    refine aw_iload X dX0_cover_198 4 rfl ?_
    obtain ⟨x41, hx41, h⟩ := bind_some h
    refine aw_iald X dX0_cover_200 hx41 ?_
    obtain ⟨y42, hy42, h⟩ := bind_some h
    refine aw_cV X (st := []) hy42 [.inl v6, .inl x41] rfl rfl ml_X0_293 (fun o h => AX0_someGo (Cx.ok X) φ d _ _ _ _ _ h) dX0_cover_201 (Nat.le_of_ble_eq_true rfl) ?_
    refine aw_istore X dX0_cover_204 (by decide) [(6, .inl y42), (0, .inr (.inr (some this))), (2, .inl v2), (4, .inl v4), (5, .inr (.inr v5)), (7, .inl v7)] rfl ?_
    refine aw_iinc X dX0_cover_206 5 rfl (1 : Int32) rfl (by decide) [(7, .inl (v7 + (1 : Int32))), (6, .inl y42), (0, .inr (.inr (some this))), (2, .inl v2), (4, .inl v4), (5, .inr (.inr v5))] rfl ?_
    refine aw_goto X 171 dX0_cover_209 rfl ?_
    cases h
    refine aw_sub [(0, .inr (.inr (some this))), (2, .inl v2), (4, .inl v4), (5, .inr (.inr v5)), (6, .inl y42), (7, .inl (v7 + (1 : Int32)))] [2, 3, 4, 5, 1, 0] rfl ?_
    exact kH (y42, (v7 + (1 : Int32)), s39) rfl
theorem wX0_cover {C : CT} {d : Nat} (X : Cx C cX0_cover RX0 (some .int) 8 (d + 3)) (φ : Nat) (this : Nat) (v1 : Int32) (v2 : Int32) (σ : St) (y : Int32 × St) (h : fX0_cover φ this v1 v2 σ = some y) : AW C 0 [(0, .inr (.inr (some this))), (1, .inl v1), (2, .inl v2)] [] σ (AQ C (some (.inl y.1)) y.2) := by
  unfold fX0_cover at h
  refine aw_iload_n X dX0_cover_0 2 2 rfl rfl ?_
  obtain ⟨y1, hy1, h⟩ := bind_some h
  refine aw_callS X (st := []) [.inl v2] rfl ml_X0_97 (AX0_isRow (Cx.ok X) φ (d + 1) _ _ _  hy1) dX0_cover_1 (Nat.le_of_ble_eq_true rfl) ?_
  refine aw_if_ne X 9 dX0_cover_4 rfl (fun c2 => ?_) (fun c2 => ?_)
  · rw [if_neg c2] at h
    refine aw_aload_n X dX0_cover_9 0 0 rfl rfl ?_
    refine aw_iload_n X dX0_cover_10 1 1 rfl rfl ?_
    obtain ⟨y3, hy3, h⟩ := bind_some h
    refine aw_cV X (st := []) hy3 [.inl v1] rfl rfl ml_X0_287 (fun o h => AX0_askedSome (Cx.ok X) φ (d + 1) _ _ _ _ h) dX0_cover_11 (Nat.le_of_ble_eq_true rfl) ?_
    refine aw_istore_n X dX0_cover_14 3 rfl (by decide) [(3, .inl y3.1), (0, .inr (.inr (some this))), (1, .inl v1), (2, .inl v2)] rfl ?_
    refine aw_iload_n X dX0_cover_15 0 3 rfl rfl ?_
    refine aw_if_ge X 21 dX0_cover_16 rfl (fun c4 => ?_) (fun c4 => ?_)
    · rw [if_pos c4] at h
      refine aw_aload_n X dX0_cover_21 1 0 rfl rfl ?_
      obtain ⟨x5, hx5, h⟩ := bind_some h
      refine aw_gfR X fl_X0_87 dX0_cover_22 hx5 ?_
      refine aw_iload_n X dX0_cover_25 0 3 rfl rfl ?_
      refine aw_iconst X (1 : Int32) dX0_cover_26 (by decide) ?_
      refine aw_isub X dX0_cover_27 ?_
      refine aw_iconst X (0 : Int32) dX0_cover_28 (by decide) ?_
      obtain ⟨s6, hs6, h⟩ := bind_some h
      refine aw_iast X dX0_cover_29 hs6 ?_
      refine aw_iload_n X dX0_cover_30 0 3 rfl rfl ?_
      refine aw_iconst X (2 : Int32) dX0_cover_31 (by decide) ?_
      refine aw_isub X dX0_cover_32 ?_
      refine aw_istore X dX0_cover_33 (by decide) [(4, .inl (y3.1 - (2 : Int32))), (3, .inl y3.1), (0, .inr (.inr (some this))), (1, .inl v1), (2, .inl v2)] rfl ?_
      obtain ⟨e30, h31, h⟩ := bind_some h
      refine aw_sub [(0, .inr (.inr (some this))), (2, .inl v2), (4, .inl (y3.1 - (2 : Int32)))] [2, 4, 0] rfl ?_
      refine aw_it (fun s => AW C 35 [(0, .inr (.inr (some this))), (2, .inl v2), (4, .inl s.1)] [] s.2 (AQ C (some (.inl y.1)) y.2)) (fun e => AW C 146 [(0, .inr (.inr (some this))), (2, .inl v2)] [] e (AQ C (some (.inl y.1)) y.2)) (fun s r hr kH kE => wX0_cover_l35 X φ this v2 s.1 s.2 r hr kH kE) φ _ e30 h31 ?_
      refine aw_aload_n X dX0_cover_146 0 0 rfl rfl ?_
      obtain ⟨x32, hx32, h⟩ := bind_some h
      refine aw_gfR X fl_X0_87 dX0_cover_147 hx32 ?_
      refine aw_iconst X (0 : Int32) dX0_cover_150 (by decide) ?_
      obtain ⟨x33, hx33, h⟩ := bind_some h
      refine aw_iald X dX0_cover_151 hx33 ?_
      refine aw_istore X dX0_cover_152 (by decide) [(4, .inl x33), (0, .inr (.inr (some this))), (2, .inl v2)] rfl ?_
      refine aw_iload X dX0_cover_154 0 rfl ?_
      refine aw_bipush X (40 : Int32) dX0_cover_156 (by decide) ?_
      refine aw_mmin X q460 dX0_cover_158 (Nat.le_of_ble_eq_true rfl) ?_
      obtain ⟨n34, hn34, h⟩ := bind_some h
      refine aw_newa X (kd := 1) dX0_cover_161 rfl (by decide) (by decide) q215 (r := n34.1) (σ' := n34.2) hn34 ?_
      refine aw_astore X dX0_cover_163 (by decide) [(5, .inr (.inr n34.1)), (4, .inl x33), (0, .inr (.inr (some this))), (2, .inl v2)] rfl ?_
      refine aw_iconst X (0 : Int32) dX0_cover_165 (by decide) ?_
      refine aw_istore X dX0_cover_166 (by decide) [(6, .inl (0 : Int32)), (5, .inr (.inr n34.1)), (4, .inl x33), (0, .inr (.inr (some this))), (2, .inl v2)] rfl ?_
      refine aw_iconst X (0 : Int32) dX0_cover_168 (by decide) ?_
      refine aw_istore X dX0_cover_169 (by decide) [(7, .inl (0 : Int32)), (6, .inl (0 : Int32)), (5, .inr (.inr n34.1)), (4, .inl x33), (0, .inr (.inr (some this))), (2, .inl v2)] rfl ?_
      obtain ⟨e43, h44, h⟩ := bind_some h
      refine aw_sub [(0, .inr (.inr (some this))), (2, .inl v2), (4, .inl x33), (5, .inr (.inr n34.1)), (6, .inl (0 : Int32)), (7, .inl (0 : Int32))] [4, 5, 3, 2, 1, 0] rfl ?_
      refine aw_it (fun s => AW C 171 [(0, .inr (.inr (some this))), (2, .inl v2), (4, .inl x33), (5, .inr (.inr n34.1)), (6, .inl s.1), (7, .inl s.2.1)] [] s.2.2 (AQ C (some (.inl y.1)) y.2)) (fun e => AW C 212 [(0, .inr (.inr (some this))), (2, .inl v2), (4, .inl x33), (5, .inr (.inr n34.1))] [] e (AQ C (some (.inl y.1)) y.2)) (fun s r hr kH kE => wX0_cover_l171 X φ this v2 x33 n34.1 s.1 s.2.1 s.2.2 r hr kH kE) φ _ e43 h44 ?_
      refine aw_aload_n X dX0_cover_212 0 0 rfl rfl ?_
      obtain ⟨x45, hx45, h⟩ := bind_some h
      refine aw_gfR X fl_X0_34 dX0_cover_213 hx45 ?_
      refine aw_iload_n X dX0_cover_216 1 2 rfl rfl ?_
      refine aw_aload X dX0_cover_217 3 rfl ?_
      obtain ⟨s46, hs46, h⟩ := bind_some h
      refine aw_aast X (kd := 5) (lo := 1) (hi := 1) dX0_cover_219 (by decide) hs46 ?_
      refine aw_iload X dX0_cover_220 2 rfl ?_
      cases h
      exact aw_iret X dX0_cover_222
    · rw [if_neg c4] at h
      refine aw_iload_n X dX0_cover_19 0 3 rfl rfl ?_
      cases h
      exact aw_iret X dX0_cover_20
  · rw [if_pos c2] at h
    refine aw_iconst X (-1 : Int32) dX0_cover_7 (by decide) ?_
    cases h
    exact aw_iret X dX0_cover_8
theorem AX0_cover {E : AE} {l : Launch} (hE : EOK E l) (φ d : Nat) (this : Nat) (v1 : Int32) (v2 : Int32) (σ : St) (y : Int32 × St) (h : fX0_cover φ this v1 v2 σ = some y) : AMet E l yX0_cover (ws_ yX0_cover cX0_cover 8 (some .int)) (d + 3) [.inr (.inr (some this)), .inl v1, .inl v2] σ (some (.inl y.1)) y.2 := by
  refine amet_of hE (by decide +kernel) (Nat.le_of_ble_eq_true rfl) fun C e1 e2 X XI => ?_
  subst e1
  exact wX0_cover X φ this v1 v2 σ y h
theorem wX0_both_l94 {C : CT} {d : Nat} {Z : State → Prop} (X : Cx C cX0_both RX0 (some .int) 13 (d + 3)) (φ : Nat) (this : Nat) (v2 : Int32) (v4 : Int32) (v5 : Option Nat) (v6 : Int32) (v7 : Int32) (σ : St) (v8 : Int64) (v10 : Int32) (y : (Int64 × Int32) ⊕ (Int64)) (h : fX0_both_l94 φ this v2 v4 v5 v6 v7 σ v8 v10 = some y) (kH : ∀ s : Int64 × Int32, y = .inl s → AW C 94 [(0, .inr (.inr (some this))), (2, .inl v2), (4, .inl v4), (5, .inr (.inr v5)), (6, .inl v6), (7, .inl v7), (8, .inr (.inl s.1)), (10, .inl s.2)] [] σ Z) (kE0 : ∀ e : Int64, y = .inr e → AW C 173 [(0, .inr (.inr (some this))), (2, .inl v2), (4, .inl v4), (5, .inr (.inr v5)), (6, .inl v6), (7, .inl v7), (8, .inr (.inl e))] [] σ Z) : AW C 94 [(0, .inr (.inr (some this))), (2, .inl v2), (4, .inl v4), (5, .inr (.inr v5)), (6, .inl v6), (7, .inl v7), (8, .inr (.inl v8)), (10, .inl v10)] [] σ Z := by
  unfold fX0_both_l94 at h
  refine aw_iload X dX0_both_94 7 rfl ?_
  refine aw_aload_n X dX0_both_96 0 0 rfl rfl ?_
  obtain ⟨x20, hx20, h⟩ := bind_some h
  refine aw_gfI X fl_X0_30 dX0_both_97 hx20 ?_
  refine aw_icmp_ge X 173 dX0_both_100 rfl (fun c21 => ?_) (fun c21 => ?_)
  · rw [if_pos c21] at h
    cases h
    refine aw_sub [(0, .inr (.inr (some this))), (2, .inl v2), (4, .inl v4), (5, .inr (.inr v5)), (6, .inl v6), (7, .inl v7), (8, .inr (.inl v8))] [0, 1, 2, 3, 4, 5, 6] rfl ?_
    exact kE0 v8 rfl
  · rw [if_neg c21] at h
    refine aw_aload_n X dX0_both_103 0 0 rfl rfl ?_
    obtain ⟨x22, hx22, h⟩ := bind_some h
    refine aw_gfR X fl_X0_53 dX0_both_104 hx22 ?_
    refine aw_bipush X (6 : Int32) dX0_both_107 (by decide) ?_
    refine aw_iload X dX0_both_109 4 rfl ?_
    refine aw_imul X dX0_both_111 ?_
    refine aw_iload X dX0_both_112 7 rfl ?_
    refine aw_iadd X dX0_both_114 ?_
    obtain ⟨x23, hx23, h⟩ := bind_some h
    refine aw_iald X dX0_both_115 hx23 ?_
    refine aw_istore X dX0_both_116 (by decide) [(11, .inl x23), (0, .inr (.inr (some this))), (2, .inl v2), (4, .inl v4), (5, .inr (.inr v5)), (6, .inl v6), (7, .inl v7), (8, .inr (.inl v8)), (10, .inl v10)] rfl ?_
    refine aw_aload_n X dX0_both_118 1 0 rfl rfl ?_
    obtain ⟨x24, hx24, h⟩ := bind_some h
    refine aw_gfR X fl_X0_56 dX0_both_119 hx24 ?_
    refine aw_bipush X (6 : Int32) dX0_both_122 (by decide) ?_
    refine aw_iload X dX0_both_124 6 rfl ?_
    refine aw_imul X dX0_both_126 ?_
    refine aw_iload X dX0_both_127 8 rfl ?_
    refine aw_iadd X dX0_both_129 ?_
    obtain ⟨x25, hx25, h⟩ := bind_some h
    refine aw_iald X dX0_both_130 hx25 ?_
    refine aw_istore X dX0_both_131 (by decide) [(12, .inl x25), (11, .inl x23), (0, .inr (.inr (some this))), (2, .inl v2), (4, .inl v4), (5, .inr (.inr v5)), (6, .inl v6), (7, .inl v7), (8, .inr (.inl v8)), (10, .inl v10)] rfl ?_
    refine aw_lload X dX0_both_133 8 rfl ?_
    refine aw_iload X dX0_both_135 1 rfl ?_
    refine aw_bipush X (-9 : Int32) dX0_both_137 (by decide) ?_
    refine aw_icmp_eq X 149 dX0_both_139 rfl (fun c26 => ?_) (fun c26 => ?_)
    · rw [if_pos c26] at h
      refine aw_lconst X (0 : Int64) dX0_both_149 rfl ?_
      refine aw_goto X 164 dX0_both_150 rfl ?_
      refine aw_ladd X dX0_both_164 ?_
      refine aw_lstore X dX0_both_165 (by decide) [(8, .inr (.inl (v8 + (0 : Int64)))), (12, .inl x25), (11, .inl x23), (0, .inr (.inr (some this))), (2, .inl v2), (4, .inl v4), (5, .inr (.inr v5)), (6, .inl v6), (7, .inl v7), (10, .inl v10)] rfl ?_
      refine aw_iinc X dX0_both_167 9 rfl (1 : Int32) rfl (by decide) [(10, .inl (v10 + (1 : Int32))), (8, .inr (.inl (v8 + (0 : Int64)))), (12, .inl x25), (11, .inl x23), (0, .inr (.inr (some this))), (2, .inl v2), (4, .inl v4), (5, .inr (.inr v5)), (6, .inl v6), (7, .inl v7)] rfl ?_
      refine aw_goto X 94 dX0_both_170 rfl ?_
      cases h
      refine aw_sub [(0, .inr (.inr (some this))), (2, .inl v2), (4, .inl v4), (5, .inr (.inr v5)), (6, .inl v6), (7, .inl v7), (8, .inr (.inl (v8 + (0 : Int64)))), (10, .inl (v10 + (1 : Int32)))] [4, 5, 6, 7, 8, 9, 1, 0] rfl ?_
      exact kH ((v8 + (0 : Int64)), (v10 + (1 : Int32))) rfl
    · rw [if_neg c26] at h
      refine aw_iload X dX0_both_142 0 rfl ?_
      refine aw_bipush X (-9 : Int32) dX0_both_144 (by decide) ?_
      refine aw_icmp_ne X 153 dX0_both_146 rfl (fun c27 => ?_) (fun c27 => ?_)
      · rw [if_neg c27] at h
        refine aw_aload X dX0_both_153 5 rfl ?_
        refine aw_iload X dX0_both_155 4 rfl ?_
        refine aw_iload X dX0_both_157 1 rfl ?_
        refine aw_imul X dX0_both_159 ?_
        refine aw_iload X dX0_both_160 0 rfl ?_
        refine aw_iadd X dX0_both_162 ?_
        obtain ⟨x28, hx28, h⟩ := bind_some h
        refine aw_lald X dX0_both_163 hx28 ?_
        refine aw_ladd X dX0_both_164 ?_
        refine aw_lstore X dX0_both_165 (by decide) [(8, .inr (.inl (v8 + x28))), (12, .inl x25), (11, .inl x23), (0, .inr (.inr (some this))), (2, .inl v2), (4, .inl v4), (5, .inr (.inr v5)), (6, .inl v6), (7, .inl v7), (10, .inl v10)] rfl ?_
        refine aw_iinc X dX0_both_167 9 rfl (1 : Int32) rfl (by decide) [(10, .inl (v10 + (1 : Int32))), (8, .inr (.inl (v8 + x28))), (12, .inl x25), (11, .inl x23), (0, .inr (.inr (some this))), (2, .inl v2), (4, .inl v4), (5, .inr (.inr v5)), (6, .inl v6), (7, .inl v7)] rfl ?_
        refine aw_goto X 94 dX0_both_170 rfl ?_
        cases h
        refine aw_sub [(0, .inr (.inr (some this))), (2, .inl v2), (4, .inl v4), (5, .inr (.inr v5)), (6, .inl v6), (7, .inl v7), (8, .inr (.inl (v8 + x28))), (10, .inl (v10 + (1 : Int32)))] [4, 5, 6, 7, 8, 9, 1, 0] rfl ?_
        exact kH ((v8 + x28), (v10 + (1 : Int32))) rfl
      · rw [if_pos c27] at h
        refine aw_lconst X (0 : Int64) dX0_both_149 rfl ?_
        refine aw_goto X 164 dX0_both_150 rfl ?_
        refine aw_ladd X dX0_both_164 ?_
        refine aw_lstore X dX0_both_165 (by decide) [(8, .inr (.inl (v8 + (0 : Int64)))), (12, .inl x25), (11, .inl x23), (0, .inr (.inr (some this))), (2, .inl v2), (4, .inl v4), (5, .inr (.inr v5)), (6, .inl v6), (7, .inl v7), (10, .inl v10)] rfl ?_
        refine aw_iinc X dX0_both_167 9 rfl (1 : Int32) rfl (by decide) [(10, .inl (v10 + (1 : Int32))), (8, .inr (.inl (v8 + (0 : Int64)))), (12, .inl x25), (11, .inl x23), (0, .inr (.inr (some this))), (2, .inl v2), (4, .inl v4), (5, .inr (.inr v5)), (6, .inl v6), (7, .inl v7)] rfl ?_
        refine aw_goto X 94 dX0_both_170 rfl ?_
        cases h
        refine aw_sub [(0, .inr (.inr (some this))), (2, .inl v2), (4, .inl v4), (5, .inr (.inr v5)), (6, .inl v6), (7, .inl v7), (8, .inr (.inl (v8 + (0 : Int64)))), (10, .inl (v10 + (1 : Int32)))] [4, 5, 6, 7, 8, 9, 1, 0] rfl ?_
        exact kH ((v8 + (0 : Int64)), (v10 + (1 : Int32))) rfl
theorem wX0_both_l83 {C : CT} {d : Nat} {Z : State → Prop} (X : Cx C cX0_both RX0 (some .int) 13 (d + 3)) (φ : Nat) (this : Nat) (v2 : Int32) (v4 : Int32) (v5 : Option Nat) (v6 : Int32) (v7 : Int32) (σ : St) (y : (Int32 × St) ⊕ (St)) (h : fX0_both_l83 φ this v2 v4 v5 v6 v7 σ = some y) (kH : ∀ s : Int32 × St, y = .inl s → AW C 83 [(0, .inr (.inr (some this))), (2, .inl v2), (4, .inl v4), (5, .inr (.inr v5)), (6, .inl v6), (7, .inl s.1)] [] s.2 Z) (kE0 : ∀ e : St, y = .inr e → AW C 192 [(0, .inr (.inr (some this))), (2, .inl v2), (4, .inl v4), (5, .inr (.inr v5)), (6, .inl v6)] [] e Z) : AW C 83 [(0, .inr (.inr (some this))), (2, .inl v2), (4, .inl v4), (5, .inr (.inr v5)), (6, .inl v6), (7, .inl v7)] [] σ Z := by
  unfold fX0_both_l83 at h
  refine aw_iload X dX0_both_83 5 rfl ?_
  refine aw_if_lt X 192 dX0_both_85 rfl (fun c19 => ?_) (fun c19 => ?_)
  · rw [if_pos c19] at h
    cases h
    refine aw_sub [(0, .inr (.inr (some this))), (2, .inl v2), (4, .inl v4), (5, .inr (.inr v5)), (6, .inl v6)] [0, 1, 2, 3, 4] rfl ?_
    exact kE0 σ rfl
  · rw [if_neg c19] at h
    refine aw_lconst X (1 : Int64) dX0_both_88 rfl ?_
    refine aw_lstore X dX0_both_89 (by decide) [(8, .inr (.inl (1 : Int64))), (0, .inr (.inr (some this))), (2, .inl v2), (4, .inl v4), (5, .inr (.inr v5)), (6, .inl v6), (7, .inl v7)] rfl ?_
    refine aw_iconst X (0 : Int32) dX0_both_91 (by decide) ?_
    refine aw_istore X dX0_both_92 (by decide) [(10, .inl (0 : Int32)), (8, .inr (.inl (1 : Int64))), (0, .inr (.inr (some this))), (2, .inl v2), (4, .inl v4), (5, .inr (.inr v5)), (6, .inl v6), (7, .inl v7)] rfl ?_
    obtain ⟨e29, h30, h⟩ := bind_some h
    refine aw_sub [(0, .inr (.inr (some this))), (2, .inl v2), (4, .inl v4), (5, .inr (.inr v5)), (6, .inl v6), (7, .inl v7), (8, .inr (.inl (1 : Int64))), (10, .inl (0 : Int32))] [2, 3, 4, 5, 6, 7, 1, 0] rfl ?_
    refine aw_it (fun s => AW C 94 [(0, .inr (.inr (some this))), (2, .inl v2), (4, .inl v4), (5, .inr (.inr v5)), (6, .inl v6), (7, .inl v7), (8, .inr (.inl s.1)), (10, .inl s.2)] [] σ Z) (fun e => AW C 173 [(0, .inr (.inr (some this))), (2, .inl v2), (4, .inl v4), (5, .inr (.inr v5)), (6, .inl v6), (7, .inl v7), (8, .inr (.inl e))] [] σ Z) (fun s r hr kH kE => wX0_both_l94 X φ this v2 v4 v5 v6 v7 σ s.1 s.2 r hr kH kE) φ _ e29 h30 ?_
    refine aw_aload X dX0_both_173 3 rfl ?_
    refine aw_iload X dX0_both_175 2 rfl ?_
    refine aw_iload X dX0_both_177 4 rfl ?_
    refine aw_imul X dX0_both_179 ?_
    refine aw_iload X dX0_both_180 5 rfl ?_
    refine aw_iadd X dX0_both_182 ?_
    refine aw_lload X dX0_both_183 6 rfl ?_
    obtain ⟨s31, hs31, h⟩ := bind_some h
    refine aw_last X dX0_both_185 hs31 ?_
    refine aw_iinc X dX0_both_186 5 rfl (-1 : Int32) rfl (by decide) [(7, .inl (v7 + (-1 : Int32))), (0, .inr (.inr (some this))), (2, .inl v2), (4, .inl v4), (5, .inr (.inr v5)), (6, .inl v6), (8, .inr (.inl e29))] rfl ?_
    refine aw_goto X 83 dX0_both_189 rfl ?_
    cases h
    refine aw_sub [(0, .inr (.inr (some this))), (2, .inl v2), (4, .inl v4), (5, .inr (.inr v5)), (6, .inl v6), (7, .inl (v7 + (-1 : Int32)))] [1, 2, 3, 4, 5, 0] rfl ?_
    exact kH ((v7 + (-1 : Int32)), s31) rfl
theorem wX0_both_l70 {C : CT} {d : Nat} {Z : State → Prop} (X : Cx C cX0_both RX0 (some .int) 13 (d + 3)) (φ : Nat) (this : Nat) (v2 : Int32) (v4 : Int32) (v5 : Option Nat) (v6 : Int32) (σ : St) (y : (Int32 × St) ⊕ (St)) (h : fX0_both_l70 φ this v2 v4 v5 v6 σ = some y) (kH : ∀ s : Int32 × St, y = .inl s → AW C 70 [(0, .inr (.inr (some this))), (2, .inl v2), (4, .inl v4), (5, .inr (.inr v5)), (6, .inl s.1)] [] s.2 Z) (kE0 : ∀ e : St, y = .inr e → AW C 198 [(0, .inr (.inr (some this))), (5, .inr (.inr v5))] [] e Z) : AW C 70 [(0, .inr (.inr (some this))), (2, .inl v2), (4, .inl v4), (5, .inr (.inr v5)), (6, .inl v6)] [] σ Z := by
  unfold fX0_both_l70 at h
  refine aw_iload X dX0_both_70 4 rfl ?_
  refine aw_if_lt X 198 dX0_both_72 rfl (fun c16 => ?_) (fun c16 => ?_)
  · rw [if_pos c16] at h
    cases h
    refine aw_sub [(0, .inr (.inr (some this))), (5, .inr (.inr v5))] [0, 3] rfl ?_
    exact kE0 σ rfl
  · rw [if_neg c16] at h
    refine aw_aload_n X dX0_both_75 0 0 rfl rfl ?_
    refine aw_iload_n X dX0_both_76 1 2 rfl rfl ?_
    obtain ⟨y17, hy17, h⟩ := bind_some h
    refine aw_cV X (st := []) hy17 [.inl v2] rfl rfl ml_X0_188 (fun o h => AX0_of (Cx.ok X) φ (d + 2) _ _ _ _ h) dX0_both_77 (Nat.le_of_ble_eq_true rfl) ?_
    obtain ⟨x18, hx18, h⟩ := bind_some h
    refine aw_alen X dX0_both_80 hx18 ?_
    refine aw_istore X dX0_both_81 (by decide) [(7, .inl x18), (0, .inr (.inr (some this))), (2, .inl v2), (4, .inl v4), (5, .inr (.inr v5)), (6, .inl v6)] rfl ?_
    obtain ⟨e32, h33, h⟩ := bind_some h
    refine aw_sub [(0, .inr (.inr (some this))), (2, .inl v2), (4, .inl v4), (5, .inr (.inr v5)), (6, .inl v6), (7, .inl x18)] [1, 2, 3, 4, 5, 0] rfl ?_
    refine aw_it (fun s => AW C 83 [(0, .inr (.inr (some this))), (2, .inl v2), (4, .inl v4), (5, .inr (.inr v5)), (6, .inl v6), (7, .inl s.1)] [] s.2 Z) (fun e => AW C 192 [(0, .inr (.inr (some this))), (2, .inl v2), (4, .inl v4), (5, .inr (.inr v5)), (6, .inl v6)] [] e Z) (fun s r hr kH kE => wX0_both_l83 X φ this v2 v4 v5 v6 s.1 s.2 r hr kH kE) φ _ e32 h33 ?_
    refine aw_iinc X dX0_both_192 4 rfl (-1 : Int32) rfl (by decide) [(6, .inl (v6 + (-1 : Int32))), (0, .inr (.inr (some this))), (2, .inl v2), (4, .inl v4), (5, .inr (.inr v5))] rfl ?_
    refine aw_goto X 70 dX0_both_195 rfl ?_
    cases h
    refine aw_sub [(0, .inr (.inr (some this))), (2, .inl v2), (4, .inl v4), (5, .inr (.inr v5)), (6, .inl (v6 + (-1 : Int32)))] [1, 2, 3, 4, 0] rfl ?_
    exact kH ((v6 + (-1 : Int32)), e32) rfl
theorem wX0_both {C : CT} {d : Nat} (X : Cx C cX0_both RX0 (some .int) 13 (d + 3)) (φ : Nat) (this : Nat) (v1 : Int32) (v2 : Int32) (σ : St) (y : Int32 × St) (h : fX0_both φ this v1 v2 σ = some y) : AW C 0 [(0, .inr (.inr (some this))), (1, .inl v1), (2, .inl v2)] [] σ (AQ C (some (.inl y.1)) y.2) := by
  unfold fX0_both at h
  refine aw_aload_n X dX0_both_0 0 0 rfl rfl ?_
  refine aw_iload_n X dX0_both_1 1 1 rfl rfl ?_
  refine aw_iload_n X dX0_both_2 2 2 rfl rfl ?_
  obtain ⟨y1, hy1, h⟩ := bind_some h
  refine aw_cV X (st := []) hy1 [.inl v1, .inl v2] rfl rfl ml_X0_185 (fun o h => AX0_askedTwo (Cx.ok X) φ d _ _ _ _ _ h) dX0_both_3 (Nat.le_of_ble_eq_true rfl) ?_
  refine aw_istore_n X dX0_both_6 3 rfl (by decide) [(3, .inl y1.1), (0, .inr (.inr (some this))), (1, .inl v1), (2, .inl v2)] rfl ?_
  refine aw_iload_n X dX0_both_7 0 3 rfl rfl ?_
  refine aw_if_ge X 13 dX0_both_8 rfl (fun c2 => ?_) (fun c2 => ?_)
  · rw [if_pos c2] at h
    refine aw_aload_n X dX0_both_13 1 0 rfl rfl ?_
    refine aw_iload_n X dX0_both_14 2 1 rfl rfl ?_
    obtain ⟨y3, hy3, h⟩ := bind_some h
    refine aw_cV X (st := []) hy3 [.inl v1] rfl rfl ml_X0_188 (fun o h => AX0_of (Cx.ok X) φ (d + 2) _ _ _ _ h) dX0_both_15 (Nat.le_of_ble_eq_true rfl) ?_
    refine aw_aload_n X dX0_both_18 1 0 rfl rfl ?_
    obtain ⟨x4, hx4, h⟩ := bind_some h
    refine aw_gfR X fl_X0_53 dX0_both_19 hx4 ?_
    obtain ⟨y5, hy5, h⟩ := bind_some h
    refine aw_callS X (st := []) [.inr (.inr y3), .inr (.inr x4)] rfl ml_X0_249 (AX0_setNext (Cx.ok X) φ (d + 2) _ _ _ _  hy5) dX0_both_22 (Nat.le_of_ble_eq_true rfl) ?_
    refine aw_aload_n X dX0_both_25 1 0 rfl rfl ?_
    refine aw_iload_n X dX0_both_26 3 2 rfl rfl ?_
    obtain ⟨y6, hy6, h⟩ := bind_some h
    refine aw_cV X (st := []) hy6 [.inl v2] rfl rfl ml_X0_188 (fun o h => AX0_of (Cx.ok X) φ (d + 2) _ _ _ _ h) dX0_both_27 (Nat.le_of_ble_eq_true rfl) ?_
    refine aw_aload_n X dX0_both_30 1 0 rfl rfl ?_
    obtain ⟨x7, hx7, h⟩ := bind_some h
    refine aw_gfR X fl_X0_56 dX0_both_31 hx7 ?_
    obtain ⟨y8, hy8, h⟩ := bind_some h
    refine aw_callS X (st := []) [.inr (.inr y6), .inr (.inr x7)] rfl ml_X0_249 (AX0_setNext (Cx.ok X) φ (d + 2) _ _ _ _  hy8) dX0_both_34 (Nat.le_of_ble_eq_true rfl) ?_
    refine aw_aload_n X dX0_both_37 1 0 rfl rfl ?_
    refine aw_iload_n X dX0_both_38 3 2 rfl rfl ?_
    obtain ⟨y9, hy9, h⟩ := bind_some h
    refine aw_cV X (st := []) hy9 [.inl v2] rfl rfl ml_X0_188 (fun o h => AX0_of (Cx.ok X) φ (d + 2) _ _ _ _ h) dX0_both_39 (Nat.le_of_ble_eq_true rfl) ?_
    obtain ⟨x10, hx10, h⟩ := bind_some h
    refine aw_alen X dX0_both_42 hx10 ?_
    refine aw_iconst X (1 : Int32) dX0_both_43 (by decide) ?_
    refine aw_iadd X dX0_both_44 ?_
    refine aw_istore X dX0_both_45 (by decide) [(4, .inl (x10 + (1 : Int32))), (3, .inl y1.1), (0, .inr (.inr (some this))), (1, .inl v1), (2, .inl v2)] rfl ?_
    refine aw_aload_n X dX0_both_47 2 0 rfl rfl ?_
    refine aw_iload_n X dX0_both_48 3 1 rfl rfl ?_
    obtain ⟨y11, hy11, h⟩ := bind_some h
    refine aw_cV X (st := []) hy11 [.inl v1] rfl rfl ml_X0_188 (fun o h => AX0_of (Cx.ok X) φ (d + 2) _ _ _ _ h) dX0_both_49 (Nat.le_of_ble_eq_true rfl) ?_
    obtain ⟨x12, hx12, h⟩ := bind_some h
    refine aw_alen X dX0_both_52 hx12 ?_
    refine aw_iconst X (1 : Int32) dX0_both_53 (by decide) ?_
    refine aw_iadd X dX0_both_54 ?_
    refine aw_iload X dX0_both_55 0 rfl ?_
    refine aw_imul X dX0_both_57 ?_
    obtain ⟨n13, hn13, h⟩ := bind_some h
    refine aw_newa X (kd := 3) dX0_both_58 rfl (by decide) (by decide) q217 (r := n13.1) (σ' := n13.2) hn13 ?_
    refine aw_astore X dX0_both_60 (by decide) [(5, .inr (.inr n13.1)), (4, .inl (x10 + (1 : Int32))), (3, .inl y1.1), (0, .inr (.inr (some this))), (1, .inl v1), (2, .inl v2)] rfl ?_
    refine aw_aload_n X dX0_both_62 3 0 rfl rfl ?_
    refine aw_iload_n X dX0_both_63 4 1 rfl rfl ?_
    obtain ⟨y14, hy14, h⟩ := bind_some h
    refine aw_cV X (st := []) hy14 [.inl v1] rfl rfl ml_X0_188 (fun o h => AX0_of (Cx.ok X) φ (d + 2) _ _ _ _ h) dX0_both_64 (Nat.le_of_ble_eq_true rfl) ?_
    obtain ⟨x15, hx15, h⟩ := bind_some h
    refine aw_alen X dX0_both_67 hx15 ?_
    refine aw_istore X dX0_both_68 (by decide) [(6, .inl x15), (5, .inr (.inr n13.1)), (4, .inl (x10 + (1 : Int32))), (3, .inl y1.1), (0, .inr (.inr (some this))), (1, .inl v1), (2, .inl v2)] rfl ?_
    obtain ⟨e34, h35, h⟩ := bind_some h
    refine aw_sub [(0, .inr (.inr (some this))), (2, .inl v2), (4, .inl (x10 + (1 : Int32))), (5, .inr (.inr n13.1)), (6, .inl x15)] [4, 6, 2, 1, 0] rfl ?_
    refine aw_it (fun s => AW C 70 [(0, .inr (.inr (some this))), (2, .inl v2), (4, .inl (x10 + (1 : Int32))), (5, .inr (.inr n13.1)), (6, .inl s.1)] [] s.2 (AQ C (some (.inl y.1)) y.2)) (fun e => AW C 198 [(0, .inr (.inr (some this))), (5, .inr (.inr n13.1))] [] e (AQ C (some (.inl y.1)) y.2)) (fun s r hr kH kE => wX0_both_l70 X φ this v2 (x10 + (1 : Int32)) n13.1 s.1 s.2 r hr kH kE) φ _ e34 h35 ?_
    refine aw_aload_n X dX0_both_198 0 0 rfl rfl ?_
    refine aw_aload X dX0_both_199 1 rfl ?_
    refine aw_iconst X (0 : Int32) dX0_both_201 (by decide) ?_
    obtain ⟨x36, hx36, h⟩ := bind_some h
    refine aw_lald X dX0_both_202 hx36 ?_
    refine aw_iconst X (1 : Int32) dX0_both_203 (by decide) ?_
    obtain ⟨y37, hy37, h⟩ := bind_some h
    refine aw_cV X (st := []) hy37 [.inr (.inl x36), .inl (1 : Int32)] rfl rfl ml_X0_231 (fun o h => AX0_tellMany (Cx.ok X) φ (d + 2) _ _ _ _ _ h) dX0_both_204 (Nat.le_of_ble_eq_true rfl) ?_
    cases h
    exact aw_iret X dX0_both_207
  · rw [if_neg c2] at h
    refine aw_iload_n X dX0_both_11 0 3 rfl rfl ?_
    cases h
    exact aw_iret X dX0_both_12
theorem AX0_both {E : AE} {l : Launch} (hE : EOK E l) (φ d : Nat) (this : Nat) (v1 : Int32) (v2 : Int32) (σ : St) (y : Int32 × St) (h : fX0_both φ this v1 v2 σ = some y) : AMet E l yX0_both (ws_ yX0_both cX0_both 13 (some .int)) (d + 3) [.inr (.inr (some this)), .inl v1, .inl v2] σ (some (.inl y.1)) y.2 := by
  refine amet_of hE (by decide +kernel) (Nat.le_of_ble_eq_true rfl) fun C e1 e2 X XI => ?_
  subst e1
  exact wX0_both X φ this v1 v2 σ y h
theorem wX0_power_l4 {C : CT} {d : Nat} {Z : State → Prop} (X : Cx C cX0_power RX0 (some .int) 4 d) (φ : Nat) (this : Nat) (v1 : Int32) (σ : St) (v2 : Int32) (v3 : Int32) (y : (Int32 × Int32) ⊕ (Int32)) (h : fX0_power_l4 φ this v1 σ v2 v3 = some y) (kH : ∀ s : Int32 × Int32, y = .inl s → AW C 4 [(0, .inr (.inr (some this))), (1, .inl v1), (2, .inl s.1), (3, .inl s.2)] [] σ Z) (kE0 : ∀ e : Int32, y = .inr e → AW C 29 [(2, .inl e)] [] σ Z) : AW C 4 [(0, .inr (.inr (some this))), (1, .inl v1), (2, .inl v2), (3, .inl v3)] [] σ Z := by
  unfold fX0_power_l4 at h
  refine aw_iload_n X dX0_power_4 3 3 rfl rfl ?_
  refine aw_iload_n X dX0_power_5 1 1 rfl rfl ?_
  refine aw_icmp_ge X 29 dX0_power_6 rfl (fun c1 => ?_) (fun c1 => ?_)
  · rw [if_pos c1] at h
    cases h
    refine aw_sub [(2, .inl v2)] [2] rfl ?_
    exact kE0 v2 rfl
  · rw [if_neg c1] at h
    refine aw_iload_n X dX0_power_9 2 2 rfl rfl ?_
    refine aw_sipush X (10000 : Int32) dX0_power_10 (by decide) ?_
    refine aw_icmp_gt X 29 dX0_power_13 rfl (fun c2 => ?_) (fun c2 => ?_)
    · rw [if_pos c2] at h
      cases h
      refine aw_sub [(2, .inl v2)] [2] rfl ?_
      exact kE0 v2 rfl
    · rw [if_neg c2] at h
      refine aw_iload_n X dX0_power_16 2 2 rfl rfl ?_
      refine aw_aload_n X dX0_power_17 0 0 rfl rfl ?_
      obtain ⟨x3, hx3, h⟩ := bind_some h
      refine aw_gfI X fl_X0_30 dX0_power_18 hx3 ?_
      refine aw_imul X dX0_power_21 ?_
      refine aw_istore_n X dX0_power_22 2 rfl (by decide) [(2, .inl (v2 * x3)), (0, .inr (.inr (some this))), (1, .inl v1), (3, .inl v3)] rfl ?_
      refine aw_iinc X dX0_power_23 3 rfl (1 : Int32) rfl (by decide) [(3, .inl (v3 + (1 : Int32))), (2, .inl (v2 * x3)), (0, .inr (.inr (some this))), (1, .inl v1)] rfl ?_
      refine aw_goto X 4 dX0_power_26 rfl ?_
      cases h
      refine aw_sub [(0, .inr (.inr (some this))), (1, .inl v1), (2, .inl (v2 * x3)), (3, .inl (v3 + (1 : Int32)))] [2, 3, 1, 0] rfl ?_
      exact kH ((v2 * x3), (v3 + (1 : Int32))) rfl
theorem wX0_power {C : CT} {d : Nat} (X : Cx C cX0_power RX0 (some .int) 4 d) (φ : Nat) (this : Nat) (v1 : Int32) (σ : St) (y : Int32) (h : fX0_power φ this v1 σ = some y) : AW C 0 [(0, .inr (.inr (some this))), (1, .inl v1)] [] σ (AQ C (some (.inl y)) σ) := by
  unfold fX0_power at h
  refine aw_iconst X (1 : Int32) dX0_power_0 (by decide) ?_
  refine aw_istore_n X dX0_power_1 2 rfl (by decide) [(2, .inl (1 : Int32)), (0, .inr (.inr (some this))), (1, .inl v1)] rfl ?_
  refine aw_iconst X (0 : Int32) dX0_power_2 (by decide) ?_
  refine aw_istore_n X dX0_power_3 3 rfl (by decide) [(3, .inl (0 : Int32)), (2, .inl (1 : Int32)), (0, .inr (.inr (some this))), (1, .inl v1)] rfl ?_
  obtain ⟨e4, h5, h⟩ := bind_some h
  refine aw_sub [(0, .inr (.inr (some this))), (1, .inl v1), (2, .inl (1 : Int32)), (3, .inl (0 : Int32))] [2, 3, 1, 0] rfl ?_
  refine aw_it (fun s => AW C 4 [(0, .inr (.inr (some this))), (1, .inl v1), (2, .inl s.1), (3, .inl s.2)] [] σ (AQ C (some (.inl y)) σ)) (fun e => AW C 29 [(2, .inl e)] [] σ (AQ C (some (.inl y)) σ)) (fun s r hr kH kE => wX0_power_l4 X φ this v1 σ s.1 s.2 r hr kH kE) φ _ e4 h5 ?_
  refine aw_iload_n X dX0_power_29 0 2 rfl rfl ?_
  cases h
  exact aw_iret X dX0_power_30
theorem AX0_power {E : AE} {l : Launch} (hE : EOK E l) (φ d : Nat) (this : Nat) (v1 : Int32) (σ : St) (y : Int32) (h : fX0_power φ this v1 σ = some y) : AMet E l yX0_power (ws_ yX0_power cX0_power 4 (some .int)) d [.inr (.inr (some this)), .inl v1] σ (some (.inl y)) σ := by
  refine amet_of hE (by decide +kernel) (Nat.le_of_ble_eq_true rfl) fun C e1 e2 X XI => ?_
  subst e1
  exact wX0_power X φ this v1 σ y h
theorem wX0_spell_l8 {C : CT} {d : Nat} {Z : State → Prop} (X : Cx C cX0_spell RX0 none 5 d) (φ : Nat) (this : Nat) (v2 : Option Nat) (v3 : Int32) (v4 : Int32) (σ : St) (y : (Int32 × Int32 × St) ⊕ (St)) (h : fX0_spell_l8 φ this v2 v3 v4 σ = some y) (kH : ∀ s : Int32 × Int32 × St, y = .inl s → AW C 8 [(0, .inr (.inr (some this))), (2, .inr (.inr v2)), (3, .inl s.1), (4, .inl s.2.1)] [] s.2.2 Z) (kE0 : ∀ e : St, y = .inr e → AW C 37 [] [] e Z) : AW C 8 [(0, .inr (.inr (some this))), (2, .inr (.inr v2)), (3, .inl v3), (4, .inl v4)] [] σ Z := by
  unfold fX0_spell_l8 at h
  refine aw_iload X dX0_spell_8 3 rfl ?_
  refine aw_if_lt X 37 dX0_spell_10 rfl (fun c2 => ?_) (fun c2 => ?_)
  · rw [if_pos c2] at h
    cases h
    refine aw_sub [] [] rfl ?_
    exact kE0 σ rfl
  · rw [if_neg c2] at h
    refine aw_aload_n X dX0_spell_13 1 2 rfl rfl ?_
    refine aw_iload X dX0_spell_14 3 rfl ?_
    refine aw_iload_n X dX0_spell_16 2 3 rfl rfl ?_
    refine aw_aload_n X dX0_spell_17 0 0 rfl rfl ?_
    obtain ⟨x3, hx3, h⟩ := bind_some h
    refine aw_gfI X fl_X0_30 dX0_spell_18 hx3 ?_
    obtain ⟨hn4, h⟩ := chk_some h
    refine aw_irem X dX0_spell_21 hn4 ?_
    refine aw_i2b X dX0_spell_22 ?_
    obtain ⟨s5, hs5, h⟩ := bind_some h
    refine aw_bast X dX0_spell_23 hs5 ?_
    refine aw_iload_n X dX0_spell_24 2 3 rfl rfl ?_
    refine aw_aload_n X dX0_spell_25 0 0 rfl rfl ?_
    obtain ⟨x6, hx6, h⟩ := bind_some h
    refine aw_gfI X fl_X0_30 dX0_spell_26 hx6 ?_
    obtain ⟨hn7, h⟩ := chk_some h
    refine aw_idiv X dX0_spell_29 hn7 ?_
    refine aw_istore_n X dX0_spell_30 3 rfl (by decide) [(3, .inl (v3 / x6)), (0, .inr (.inr (some this))), (2, .inr (.inr v2)), (4, .inl v4)] rfl ?_
    refine aw_iinc X dX0_spell_31 3 rfl (-1 : Int32) rfl (by decide) [(4, .inl (v4 + (-1 : Int32))), (3, .inl (v3 / x6)), (0, .inr (.inr (some this))), (2, .inr (.inr v2))] rfl ?_
    refine aw_goto X 8 dX0_spell_34 rfl ?_
    cases h
    refine aw_sub [(0, .inr (.inr (some this))), (2, .inr (.inr v2)), (3, .inl (v3 / x6)), (4, .inl (v4 + (-1 : Int32)))] [2, 3, 1, 0] rfl ?_
    exact kH ((v3 / x6), (v4 + (-1 : Int32)), s5) rfl
theorem wX0_spell {C : CT} {d : Nat} (X : Cx C cX0_spell RX0 none 5 d) (φ : Nat) (this : Nat) (v1 : Int32) (v2 : Option Nat) (σ : St) (y : St) (h : fX0_spell φ this v1 v2 σ = some y) : AW C 0 [(0, .inr (.inr (some this))), (1, .inl v1), (2, .inr (.inr v2))] [] σ (AQ C none y) := by
  unfold fX0_spell at h
  refine aw_iload_n X dX0_spell_0 1 1 rfl rfl ?_
  refine aw_istore_n X dX0_spell_1 3 rfl (by decide) [(3, .inl v1), (0, .inr (.inr (some this))), (1, .inl v1), (2, .inr (.inr v2))] rfl ?_
  refine aw_aload_n X dX0_spell_2 3 2 rfl rfl ?_
  obtain ⟨x1, hx1, h⟩ := bind_some h
  refine aw_alen X dX0_spell_3 hx1 ?_
  refine aw_iconst X (1 : Int32) dX0_spell_4 (by decide) ?_
  refine aw_isub X dX0_spell_5 ?_
  refine aw_istore X dX0_spell_6 (by decide) [(4, .inl (x1 - (1 : Int32))), (3, .inl v1), (0, .inr (.inr (some this))), (1, .inl v1), (2, .inr (.inr v2))] rfl ?_
  obtain ⟨e8, h9, h⟩ := bind_some h
  refine aw_sub [(0, .inr (.inr (some this))), (2, .inr (.inr v2)), (3, .inl v1), (4, .inl (x1 - (1 : Int32)))] [2, 4, 1, 0] rfl ?_
  refine aw_it (fun s => AW C 8 [(0, .inr (.inr (some this))), (2, .inr (.inr v2)), (3, .inl s.1), (4, .inl s.2.1)] [] s.2.2 (AQ C none y)) (fun e => AW C 37 [] [] e (AQ C none y)) (fun s r hr kH kE => wX0_spell_l8 X φ this v2 s.1 s.2.1 s.2.2 r hr kH kE) φ _ e8 h9 ?_
  cases h
  exact aw_vret X dX0_spell_37
theorem AX0_spell {E : AE} {l : Launch} (hE : EOK E l) (φ d : Nat) (this : Nat) (v1 : Int32) (v2 : Option Nat) (σ : St) (y : St) (h : fX0_spell φ this v1 v2 σ = some y) : AMet E l yX0_spell (ws_ yX0_spell cX0_spell 5 none) d [.inr (.inr (some this)), .inl v1, .inr (.inr v2)] σ none y := by
  refine amet_of hE (by decide +kernel) (Nat.le_of_ble_eq_true rfl) fun C e1 e2 X XI => ?_
  subst e1
  exact wX0_spell X φ this v1 v2 σ y h
theorem wX0_few_b79 {C : CT} {d : Nat} {Z : State → Prop} (X : Cx C cX0_few RX0 (some .long) 12 d) (φ : Nat) (v1 : Option Nat) (v2 : Int64) (v6 : Int64) (v8 : Option Nat) (v9 : Int32) (v10 : Int32) (v11 : Int32) (k0 : Int64) (k1 : Int64) (σ : St) (y : (Int64 × Int64 × Int64 × Int32) ⊕ (Int64 × Int64 × Int64)) (h : fX0_few_b79 φ v1 v2 v6 v8 v9 v10 v11 k0 k1 σ = some y) (kH : ∀ s : Int64 × Int64 × Int64 × Int32, y = .inl s → AW C 19 [(1, .inr (.inr v1)), (2, .inr (.inl s.1)), (4, .inr (.inl s.2.1)), (6, .inr (.inl s.2.2.1)), (8, .inr (.inr v8)), (9, .inl v9), (10, .inl s.2.2.2)] [] σ Z) (kE0 : ∀ e : Int64 × Int64 × Int64, y = .inr e → AW C 104 [(1, .inr (.inr v1)), (2, .inr (.inl e.1)), (4, .inr (.inl e.2.1)), (6, .inr (.inl e.2.2))] [] σ Z) : AW C 79 [(1, .inr (.inr v1)), (2, .inr (.inl v2)), (6, .inr (.inl v6)), (8, .inr (.inr v8)), (9, .inl v9), (10, .inl v10), (11, .inl v11)] [.inr (.inl k1), .inr (.inl k0)] σ Z := by
  unfold fX0_few_b79 at h
  refine aw_ladd X dX0_few_79 ?_
  refine aw_lstore X dX0_few_80 (by decide) [(4, .inr (.inl (k0 + k1))), (1, .inr (.inr v1)), (2, .inr (.inl v2)), (6, .inr (.inl v6)), (8, .inr (.inr v8)), (9, .inl v9), (10, .inl v10), (11, .inl v11)] rfl ?_
  refine aw_lload_n X dX0_few_82 2 2 rfl rfl ?_
  refine aw_aload_n X dX0_few_83 1 1 rfl rfl ?_
  refine aw_iconst X (0 : Int32) dX0_few_84 (by decide) ?_
  obtain ⟨x8, hx8, h⟩ := bind_some h
  refine aw_bald X dX0_few_85 hx8 ?_
  refine aw_iload X dX0_few_86 7 rfl ?_
  refine aw_icmp_ne X 95 dX0_few_88 rfl (fun c9 => ?_) (fun c9 => ?_)
  · rw [if_neg c9] at h
    refine aw_lconst X (0 : Int64) dX0_few_95 rfl ?_
    refine aw_ladd X dX0_few_96 ?_
    refine aw_lstore_n X dX0_few_97 2 rfl (by decide) [(2, .inr (.inl (v2 + (0 : Int64)))), (4, .inr (.inl (k0 + k1))), (1, .inr (.inr v1)), (6, .inr (.inl v6)), (8, .inr (.inr v8)), (9, .inl v9), (10, .inl v10), (11, .inl v11)] rfl ?_
    refine aw_iinc X dX0_few_98 6 rfl (1 : Int32) rfl (by decide) [(10, .inl (v10 + (1 : Int32))), (2, .inr (.inl (v2 + (0 : Int64)))), (4, .inr (.inl (k0 + k1))), (1, .inr (.inr v1)), (6, .inr (.inl v6)), (8, .inr (.inr v8)), (9, .inl v9), (11, .inl v11)] rfl ?_
    refine aw_goto X 19 dX0_few_101 rfl ?_
    cases h
    refine aw_sub [(1, .inr (.inr v1)), (2, .inr (.inl (v2 + (0 : Int64)))), (4, .inr (.inl (k0 + k1))), (6, .inr (.inl v6)), (8, .inr (.inr v8)), (9, .inl v9), (10, .inl (v10 + (1 : Int32)))] [3, 1, 2, 4, 5, 6, 0] rfl ?_
    exact kH ((v2 + (0 : Int64)), (k0 + k1), v6, (v10 + (1 : Int32))) rfl
  · rw [if_pos c9] at h
    refine aw_lconst X (1 : Int64) dX0_few_91 rfl ?_
    refine aw_goto X 96 dX0_few_92 rfl ?_
    refine aw_ladd X dX0_few_96 ?_
    refine aw_lstore_n X dX0_few_97 2 rfl (by decide) [(2, .inr (.inl (v2 + (1 : Int64)))), (4, .inr (.inl (k0 + k1))), (1, .inr (.inr v1)), (6, .inr (.inl v6)), (8, .inr (.inr v8)), (9, .inl v9), (10, .inl v10), (11, .inl v11)] rfl ?_
    refine aw_iinc X dX0_few_98 6 rfl (1 : Int32) rfl (by decide) [(10, .inl (v10 + (1 : Int32))), (2, .inr (.inl (v2 + (1 : Int64)))), (4, .inr (.inl (k0 + k1))), (1, .inr (.inr v1)), (6, .inr (.inl v6)), (8, .inr (.inr v8)), (9, .inl v9), (11, .inl v11)] rfl ?_
    refine aw_goto X 19 dX0_few_101 rfl ?_
    cases h
    refine aw_sub [(1, .inr (.inr v1)), (2, .inr (.inl (v2 + (1 : Int64)))), (4, .inr (.inl (k0 + k1))), (6, .inr (.inl v6)), (8, .inr (.inr v8)), (9, .inl v9), (10, .inl (v10 + (1 : Int32)))] [3, 1, 2, 4, 5, 6, 0] rfl ?_
    exact kH ((v2 + (1 : Int64)), (k0 + k1), v6, (v10 + (1 : Int32))) rfl
theorem wX0_few_b78 {C : CT} {d : Nat} {Z : State → Prop} (X : Cx C cX0_few RX0 (some .long) 12 d) (φ : Nat) (v1 : Option Nat) (v2 : Int64) (v6 : Int64) (v8 : Option Nat) (v9 : Int32) (v10 : Int32) (v11 : Int32) (k0 : Int64) (σ : St) (y : (Int64 × Int64 × Int64 × Int32) ⊕ (Int64 × Int64 × Int64)) (h : fX0_few_b78 φ v1 v2 v6 v8 v9 v10 v11 k0 σ = some y) (kH : ∀ s : Int64 × Int64 × Int64 × Int32, y = .inl s → AW C 19 [(1, .inr (.inr v1)), (2, .inr (.inl s.1)), (4, .inr (.inl s.2.1)), (6, .inr (.inl s.2.2.1)), (8, .inr (.inr v8)), (9, .inl v9), (10, .inl s.2.2.2)] [] σ Z) (kE0 : ∀ e : Int64 × Int64 × Int64, y = .inr e → AW C 104 [(1, .inr (.inr v1)), (2, .inr (.inl e.1)), (4, .inr (.inl e.2.1)), (6, .inr (.inl e.2.2))] [] σ Z) : AW C 78 [(1, .inr (.inr v1)), (2, .inr (.inl v2)), (6, .inr (.inl v6)), (8, .inr (.inr v8)), (9, .inl v9), (10, .inl v10), (11, .inl v11)] [.inr (.inl k0)] σ Z := by
  unfold fX0_few_b78 at h
  refine aw_lconst X (0 : Int64) dX0_few_78 rfl ?_
  exact wX0_few_b79 X φ v1 v2 v6 v8 v9 v10 v11 k0 (0 : Int64) σ y h kH kE0
theorem wX0_few_b55 {C : CT} {d : Nat} {Z : State → Prop} (X : Cx C cX0_few RX0 (some .long) 12 d) (φ : Nat) (v1 : Option Nat) (v2 : Int64) (v4 : Int64) (v8 : Option Nat) (v9 : Int32) (v10 : Int32) (v11 : Int32) (k0 : Int64) (k1 : Int64) (σ : St) (y : (Int64 × Int64 × Int64 × Int32) ⊕ (Int64 × Int64 × Int64)) (h : fX0_few_b55 φ v1 v2 v4 v8 v9 v10 v11 k0 k1 σ = some y) (kH : ∀ s : Int64 × Int64 × Int64 × Int32, y = .inl s → AW C 19 [(1, .inr (.inr v1)), (2, .inr (.inl s.1)), (4, .inr (.inl s.2.1)), (6, .inr (.inl s.2.2.1)), (8, .inr (.inr v8)), (9, .inl v9), (10, .inl s.2.2.2)] [] σ Z) (kE0 : ∀ e : Int64 × Int64 × Int64, y = .inr e → AW C 104 [(1, .inr (.inr v1)), (2, .inr (.inl e.1)), (4, .inr (.inl e.2.1)), (6, .inr (.inl e.2.2))] [] σ Z) : AW C 55 [(1, .inr (.inr v1)), (2, .inr (.inl v2)), (4, .inr (.inl v4)), (8, .inr (.inr v8)), (9, .inl v9), (10, .inl v10), (11, .inl v11)] [.inr (.inl k1), .inr (.inl k0)] σ Z := by
  unfold fX0_few_b55 at h
  refine aw_ladd X dX0_few_55 ?_
  refine aw_lstore X dX0_few_56 (by decide) [(6, .inr (.inl (k0 + k1))), (1, .inr (.inr v1)), (2, .inr (.inl v2)), (4, .inr (.inl v4)), (8, .inr (.inr v8)), (9, .inl v9), (10, .inl v10), (11, .inl v11)] rfl ?_
  refine aw_lload X dX0_few_58 3 rfl ?_
  refine aw_aload_n X dX0_few_60 1 1 rfl rfl ?_
  obtain ⟨x6, hx6, h⟩ := bind_some h
  refine aw_alen X dX0_few_61 hx6 ?_
  refine aw_iconst X (1 : Int32) dX0_few_62 (by decide) ?_
  refine aw_icmp_le X 78 dX0_few_63 rfl (fun c7 => ?_) (fun c7 => ?_)
  · rw [if_pos c7] at h
    refine aw_sub [(1, .inr (.inr v1)), (2, .inr (.inl v2)), (6, .inr (.inl (k0 + k1))), (8, .inr (.inr v8)), (9, .inl v9), (10, .inl v10), (11, .inl v11)] [1, 2, 0, 4, 5, 6, 7] rfl ?_
    exact wX0_few_b78 X φ v1 v2 (k0 + k1) v8 v9 v10 v11 v4 σ y h kH kE0
  · rw [if_neg c7] at h
    refine aw_aload_n X dX0_few_66 1 1 rfl rfl ?_
    refine aw_iconst X (1 : Int32) dX0_few_67 (by decide) ?_
    obtain ⟨x10, hx10, h⟩ := bind_some h
    refine aw_bald X dX0_few_68 hx10 ?_
    refine aw_iload X dX0_few_69 7 rfl ?_
    refine aw_icmp_ne X 78 dX0_few_71 rfl (fun c11 => ?_) (fun c11 => ?_)
    · rw [if_neg c11] at h
      refine aw_sub [(1, .inr (.inr v1)), (2, .inr (.inl v2)), (6, .inr (.inl (k0 + k1))), (8, .inr (.inr v8)), (9, .inl v9), (10, .inl v10), (11, .inl v11)] [1, 2, 0, 4, 5, 6, 7] rfl ?_
      exact wX0_few_b78 X φ v1 v2 (k0 + k1) v8 v9 v10 v11 v4 σ y h kH kE0
    · rw [if_pos c11] at h
      refine aw_lload_n X dX0_few_74 2 2 rfl rfl ?_
      refine aw_goto X 79 dX0_few_75 rfl ?_
      refine aw_sub [(1, .inr (.inr v1)), (2, .inr (.inl v2)), (6, .inr (.inl (k0 + k1))), (8, .inr (.inr v8)), (9, .inl v9), (10, .inl v10), (11, .inl v11)] [1, 2, 0, 4, 5, 6, 7] rfl ?_
      exact wX0_few_b79 X φ v1 v2 (k0 + k1) v8 v9 v10 v11 v4 v2 σ y h kH kE0
theorem wX0_few_b54 {C : CT} {d : Nat} {Z : State → Prop} (X : Cx C cX0_few RX0 (some .long) 12 d) (φ : Nat) (v1 : Option Nat) (v2 : Int64) (v4 : Int64) (v8 : Option Nat) (v9 : Int32) (v10 : Int32) (v11 : Int32) (k0 : Int64) (σ : St) (y : (Int64 × Int64 × Int64 × Int32) ⊕ (Int64 × Int64 × Int64)) (h : fX0_few_b54 φ v1 v2 v4 v8 v9 v10 v11 k0 σ = some y) (kH : ∀ s : Int64 × Int64 × Int64 × Int32, y = .inl s → AW C 19 [(1, .inr (.inr v1)), (2, .inr (.inl s.1)), (4, .inr (.inl s.2.1)), (6, .inr (.inl s.2.2.1)), (8, .inr (.inr v8)), (9, .inl v9), (10, .inl s.2.2.2)] [] σ Z) (kE0 : ∀ e : Int64 × Int64 × Int64, y = .inr e → AW C 104 [(1, .inr (.inr v1)), (2, .inr (.inl e.1)), (4, .inr (.inl e.2.1)), (6, .inr (.inl e.2.2))] [] σ Z) : AW C 54 [(1, .inr (.inr v1)), (2, .inr (.inl v2)), (4, .inr (.inl v4)), (8, .inr (.inr v8)), (9, .inl v9), (10, .inl v10), (11, .inl v11)] [.inr (.inl k0)] σ Z := by
  unfold fX0_few_b54 at h
  refine aw_lconst X (0 : Int64) dX0_few_54 rfl ?_
  exact wX0_few_b55 X φ v1 v2 v4 v8 v9 v10 v11 k0 (0 : Int64) σ y h kH kE0
theorem wX0_few_l19 {C : CT} {d : Nat} {Z : State → Prop} (X : Cx C cX0_few RX0 (some .long) 12 d) (φ : Nat) (v1 : Option Nat) (v8 : Option Nat) (v9 : Int32) (σ : St) (v2 : Int64) (v4 : Int64) (v6 : Int64) (v10 : Int32) (y : (Int64 × Int64 × Int64 × Int32) ⊕ (Int64 × Int64 × Int64)) (h : fX0_few_l19 φ v1 v8 v9 σ v2 v4 v6 v10 = some y) (kH : ∀ s : Int64 × Int64 × Int64 × Int32, y = .inl s → AW C 19 [(1, .inr (.inr v1)), (2, .inr (.inl s.1)), (4, .inr (.inl s.2.1)), (6, .inr (.inl s.2.2.1)), (8, .inr (.inr v8)), (9, .inl v9), (10, .inl s.2.2.2)] [] σ Z) (kE0 : ∀ e : Int64 × Int64 × Int64, y = .inr e → AW C 104 [(1, .inr (.inr v1)), (2, .inr (.inl e.1)), (4, .inr (.inl e.2.1)), (6, .inr (.inl e.2.2))] [] σ Z) : AW C 19 [(1, .inr (.inr v1)), (2, .inr (.inl v2)), (4, .inr (.inl v4)), (6, .inr (.inl v6)), (8, .inr (.inr v8)), (9, .inl v9), (10, .inl v10)] [] σ Z := by
  unfold fX0_few_l19 at h
  refine aw_iload X dX0_few_19 6 rfl ?_
  refine aw_iload X dX0_few_21 5 rfl ?_
  refine aw_icmp_ge X 104 dX0_few_23 rfl (fun c2 => ?_) (fun c2 => ?_)
  · rw [if_pos c2] at h
    cases h
    refine aw_sub [(1, .inr (.inr v1)), (2, .inr (.inl v2)), (4, .inr (.inl v4)), (6, .inr (.inl v6))] [0, 1, 2, 3] rfl ?_
    exact kE0 (v2, v4, v6) rfl
  · rw [if_neg c2] at h
    refine aw_aload X dX0_few_26 4 rfl ?_
    refine aw_iload X dX0_few_28 6 rfl ?_
    obtain ⟨x3, hx3, h⟩ := bind_some h
    refine aw_bald X dX0_few_30 hx3 ?_
    refine aw_istore X dX0_few_31 (by decide) [(11, .inl x3), (1, .inr (.inr v1)), (2, .inr (.inl v2)), (4, .inr (.inl v4)), (6, .inr (.inl v6)), (8, .inr (.inr v8)), (9, .inl v9), (10, .inl v10)] rfl ?_
    refine aw_lload X dX0_few_33 4 rfl ?_
    refine aw_aload_n X dX0_few_35 1 1 rfl rfl ?_
    obtain ⟨x4, hx4, h⟩ := bind_some h
    refine aw_alen X dX0_few_36 hx4 ?_
    refine aw_iconst X (2 : Int32) dX0_few_37 (by decide) ?_
    refine aw_icmp_le X 54 dX0_few_38 rfl (fun c5 => ?_) (fun c5 => ?_)
    · rw [if_pos c5] at h
      refine aw_sub [(1, .inr (.inr v1)), (2, .inr (.inl v2)), (4, .inr (.inl v4)), (8, .inr (.inr v8)), (9, .inl v9), (10, .inl v10), (11, .inl x3)] [1, 2, 3, 5, 6, 7, 0] rfl ?_
      exact wX0_few_b54 X φ v1 v2 v4 v8 v9 v10 x3 v6 σ y h kH kE0
    · rw [if_neg c5] at h
      refine aw_aload_n X dX0_few_41 1 1 rfl rfl ?_
      refine aw_iconst X (2 : Int32) dX0_few_42 (by decide) ?_
      obtain ⟨x12, hx12, h⟩ := bind_some h
      refine aw_bald X dX0_few_43 hx12 ?_
      refine aw_iload X dX0_few_44 0 rfl ?_
      refine aw_icmp_ne X 54 dX0_few_46 rfl (fun c13 => ?_) (fun c13 => ?_)
      · rw [if_neg c13] at h
        refine aw_sub [(1, .inr (.inr v1)), (2, .inr (.inl v2)), (4, .inr (.inl v4)), (8, .inr (.inr v8)), (9, .inl v9), (10, .inl v10), (11, .inl x3)] [1, 2, 3, 5, 6, 7, 0] rfl ?_
        exact wX0_few_b54 X φ v1 v2 v4 v8 v9 v10 x3 v6 σ y h kH kE0
      · rw [if_pos c13] at h
        refine aw_lload X dX0_few_49 3 rfl ?_
        refine aw_goto X 55 dX0_few_51 rfl ?_
        refine aw_sub [(1, .inr (.inr v1)), (2, .inr (.inl v2)), (4, .inr (.inl v4)), (8, .inr (.inr v8)), (9, .inl v9), (10, .inl v10), (11, .inl x3)] [1, 2, 3, 5, 6, 7, 0] rfl ?_
        exact wX0_few_b55 X φ v1 v2 v4 v8 v9 v10 x3 v6 v4 σ y h kH kE0
theorem wX0_few {C : CT} {d : Nat} (X : Cx C cX0_few RX0 (some .long) 12 d) (φ : Nat) (v0 : Option Nat) (v1 : Option Nat) (σ : St) (y : Int64) (h : fX0_few φ v0 v1 σ = some y) : AW C 0 [(0, .inr (.inr v0)), (1, .inr (.inr v1))] [] σ (AQ C (some (.inr (.inl y))) σ) := by
  unfold fX0_few at h
  refine aw_lconst X (0 : Int64) dX0_few_0 rfl ?_
  refine aw_lstore_n X dX0_few_1 2 rfl (by decide) [(2, .inr (.inl (0 : Int64))), (0, .inr (.inr v0)), (1, .inr (.inr v1))] rfl ?_
  refine aw_lconst X (0 : Int64) dX0_few_2 rfl ?_
  refine aw_lstore X dX0_few_3 (by decide) [(4, .inr (.inl (0 : Int64))), (2, .inr (.inl (0 : Int64))), (0, .inr (.inr v0)), (1, .inr (.inr v1))] rfl ?_
  refine aw_lconst X (0 : Int64) dX0_few_5 rfl ?_
  refine aw_lstore X dX0_few_6 (by decide) [(6, .inr (.inl (0 : Int64))), (4, .inr (.inl (0 : Int64))), (2, .inr (.inl (0 : Int64))), (0, .inr (.inr v0)), (1, .inr (.inr v1))] rfl ?_
  refine aw_aload_n X dX0_few_8 3 0 rfl rfl ?_
  refine aw_astore X dX0_few_9 (by decide) [(8, .inr (.inr v0)), (6, .inr (.inl (0 : Int64))), (4, .inr (.inl (0 : Int64))), (2, .inr (.inl (0 : Int64))), (0, .inr (.inr v0)), (1, .inr (.inr v1))] rfl ?_
  refine aw_aload X dX0_few_11 0 rfl ?_
  obtain ⟨x1, hx1, h⟩ := bind_some h
  refine aw_alen X dX0_few_13 hx1 ?_
  refine aw_istore X dX0_few_14 (by decide) [(9, .inl x1), (8, .inr (.inr v0)), (6, .inr (.inl (0 : Int64))), (4, .inr (.inl (0 : Int64))), (2, .inr (.inl (0 : Int64))), (0, .inr (.inr v0)), (1, .inr (.inr v1))] rfl ?_
  refine aw_iconst X (0 : Int32) dX0_few_16 (by decide) ?_
  refine aw_istore X dX0_few_17 (by decide) [(10, .inl (0 : Int32)), (9, .inl x1), (8, .inr (.inr v0)), (6, .inr (.inl (0 : Int64))), (4, .inr (.inl (0 : Int64))), (2, .inr (.inl (0 : Int64))), (0, .inr (.inr v0)), (1, .inr (.inr v1))] rfl ?_
  obtain ⟨e14, h15, h⟩ := bind_some h
  refine aw_sub [(1, .inr (.inr v1)), (2, .inr (.inl (0 : Int64))), (4, .inr (.inl (0 : Int64))), (6, .inr (.inl (0 : Int64))), (8, .inr (.inr v0)), (9, .inl x1), (10, .inl (0 : Int32))] [7, 5, 4, 3, 2, 1, 0] rfl ?_
  refine aw_it (fun s => AW C 19 [(1, .inr (.inr v1)), (2, .inr (.inl s.1)), (4, .inr (.inl s.2.1)), (6, .inr (.inl s.2.2.1)), (8, .inr (.inr v0)), (9, .inl x1), (10, .inl s.2.2.2)] [] σ (AQ C (some (.inr (.inl y))) σ)) (fun e => AW C 104 [(1, .inr (.inr v1)), (2, .inr (.inl e.1)), (4, .inr (.inl e.2.1)), (6, .inr (.inl e.2.2))] [] σ (AQ C (some (.inr (.inl y))) σ)) (fun s r hr kH kE => wX0_few_l19 X φ v1 v0 x1 σ s.1 s.2.1 s.2.2.1 s.2.2.2 r hr kH kE) φ _ e14 h15 ?_
  refine aw_aload_n X dX0_few_104 0 1 rfl rfl ?_
  obtain ⟨x16, hx16, h⟩ := bind_some h
  refine aw_alen X dX0_few_105 hx16 ?_
  refine aw_iconst X (1 : Int32) dX0_few_106 (by decide) ?_
  refine aw_icmp_ne X 114 dX0_few_107 rfl (fun c17 => ?_) (fun c17 => ?_)
  · rw [if_neg c17] at h
    refine aw_aload_n X dX0_few_114 0 1 rfl rfl ?_
    obtain ⟨x18, hx18, h⟩ := bind_some h
    refine aw_alen X dX0_few_115 hx18 ?_
    refine aw_iconst X (2 : Int32) dX0_few_116 (by decide) ?_
    refine aw_icmp_ne X 125 dX0_few_117 rfl (fun c19 => ?_) (fun c19 => ?_)
    · rw [if_neg c19] at h
      refine aw_lload X dX0_few_125 3 rfl ?_
      cases h
      exact aw_lret X dX0_few_127
    · rw [if_pos c19] at h
      refine aw_lload X dX0_few_120 2 rfl ?_
      refine aw_goto X 127 dX0_few_122 rfl ?_
      cases h
      exact aw_lret X dX0_few_127
  · rw [if_pos c17] at h
    refine aw_lload_n X dX0_few_110 1 2 rfl rfl ?_
    refine aw_goto X 127 dX0_few_111 rfl ?_
    cases h
    exact aw_lret X dX0_few_127
theorem AX0_few {E : AE} {l : Launch} (hE : EOK E l) (φ d : Nat) (v0 : Option Nat) (v1 : Option Nat) (σ : St) (y : Int64) (h : fX0_few φ v0 v1 σ = some y) : AMet E l yX0_few (ws_ yX0_few cX0_few 12 (some .long)) d [.inr (.inr v0), .inr (.inr v1)] σ (some (.inr (.inl y))) σ := by
  refine amet_of hE (by decide +kernel) (Nat.le_of_ble_eq_true rfl) fun C e1 e2 X XI => ?_
  subst e1
  exact wX0_few X φ v0 v1 σ y h
