/-! walks (written by gen2.py): X0_twins X0_choose X0_share X0_odds X0_byChance X0_asked X0_many X0_upper X0_lower X0_rowCount X0_textCount X0_wordCount X0_letterCount X0_countsOf X0_count X0_finding X0_findings X0_mix X0_mixWords X0_digest X1_init X1_finding X1_in X1_findings X1_asked X1_many X1_upper X1_lower X1_isRow X1_meets X1_row X1_rowAt X1_tells X1_lay X1_at X1_tear X1_copy X1_mean X1_isText X1_text X1_put X1_at0 X1_letters X1_isWord X1_isLetter X1_comes X1_word X1_byteAt X1_comesOn X1_figureAt X1_comesAgain X1_faultOf -/
set_option maxRecDepth 100000
theorem wX0_twins_l81 {C : CT} {d : Nat} {Z : State → Prop} (X : Cx C cX0_twins RX0 (some .int) 16 (d + 3)) (φ : Nat) (this : Nat) (v1 : Int32) (v3 : Int32) (v5 : Int32) (v6 : Int32) (v7 : Int32) (v8 : Option Nat) (v9 : Option Nat) (v10 : Int32) (σ : St) (y : (Int32 × St) ⊕ (St)) (h : fX0_twins_l81 φ this v1 v3 v5 v6 v7 v8 v9 v10 σ = some y) (kH : ∀ s : Int32 × St, y = .inl s → AW C 81 [(0, .inr (.inr (some this))), (1, .inl v1), (3, .inl v3), (5, .inl v5), (6, .inl v6), (7, .inl v7), (8, .inr (.inr v8)), (9, .inr (.inr v9)), (10, .inl s.1)] [] s.2 Z) (kE0 : ∀ e : St, y = .inr e → AW C 117 [(0, .inr (.inr (some this))), (3, .inl v3), (5, .inl v5), (6, .inl v6), (7, .inl v7), (8, .inr (.inr v8)), (9, .inr (.inr v9))] [] e Z) : AW C 81 [(0, .inr (.inr (some this))), (1, .inl v1), (3, .inl v3), (5, .inl v5), (6, .inl v6), (7, .inl v7), (8, .inr (.inr v8)), (9, .inr (.inr v9)), (10, .inl v10)] [] σ Z := by
  unfold fX0_twins_l81 at h
  refine aw_iload X dX0_twins_81 8 rfl ?_
  refine aw_iload X dX0_twins_83 5 rfl ?_
  refine aw_icmp_ge X 117 dX0_twins_85 rfl (fun c14 => ?_) (fun c14 => ?_)
  · rw [if_pos c14] at h
    cases h
    refine aw_sub [(0, .inr (.inr (some this))), (3, .inl v3), (5, .inl v5), (6, .inl v6), (7, .inl v7), (8, .inr (.inr v8)), (9, .inr (.inr v9))] [0, 2, 3, 4, 5, 6, 7] rfl ?_
    exact kE0 σ rfl
  · rw [if_neg c14] at h
    refine aw_aload_n X dX0_twins_88 0 0 rfl rfl ?_
    refine aw_iload X dX0_twins_89 8 rfl ?_
    refine aw_aload X dX0_twins_91 7 rfl ?_
    obtain ⟨y15, hy15, h⟩ := bind_some h
    refine aw_cV X (st := []) hy15 [.inl v10, .inr (.inr v9)] rfl rfl ml_X0_299 (fun o h => AX0_spell (Cx.ok X) φ (d + 2) _ _ _ _ _ h) dX0_twins_93 (Nat.le_of_ble_eq_true rfl) ?_
    refine aw_aload X dX0_twins_96 6 rfl ?_
    refine aw_iload X dX0_twins_98 8 rfl ?_
    refine aw_aload_n X dX0_twins_100 0 0 rfl rfl ?_
    refine aw_iload_n X dX0_twins_101 1 1 rfl rfl ?_
    obtain ⟨y16, hy16, h⟩ := bind_some h
    refine aw_cV X (st := [.inl v10, .inr (.inr v8)]) hy16 [.inl v1] rfl rfl ml_X0_188 (fun o h => AX0_of (Cx.ok X) φ (d + 2) _ _ _ _ h) dX0_twins_102 (Nat.le_of_ble_eq_true rfl) ?_
    refine aw_aload X dX0_twins_105 7 rfl ?_
    obtain ⟨y17, hy17, h⟩ := bind_some h
    refine aw_callS X (st := [.inl v10, .inr (.inr v8)]) [.inr (.inr y16), .inr (.inr v9)] rfl ml_X0_227 (AX0_waysOf (Cx.ok X) φ (d + 2) _ _ _ _  hy17) dX0_twins_107 (Nat.le_of_ble_eq_true rfl) ?_
    obtain ⟨s18, hs18, h⟩ := bind_some h
    refine aw_last X dX0_twins_110 hs18 ?_
    refine aw_iinc X dX0_twins_111 8 rfl (1 : Int32) rfl (by decide) [(10, .inl (v10 + (1 : Int32))), (0, .inr (.inr (some this))), (1, .inl v1), (3, .inl v3), (5, .inl v5), (6, .inl v6), (7, .inl v7), (8, .inr (.inr v8)), (9, .inr (.inr v9))] rfl ?_
    refine aw_goto X 81 dX0_twins_114 rfl ?_
    cases h
    refine aw_sub [(0, .inr (.inr (some this))), (1, .inl v1), (3, .inl v3), (5, .inl v5), (6, .inl v6), (7, .inl v7), (8, .inr (.inr v8)), (9, .inr (.inr v9)), (10, .inl (v10 + (1 : Int32)))] [1, 2, 3, 4, 5, 6, 7, 8, 0] rfl ?_
    exact kH ((v10 + (1 : Int32)), s18) rfl
theorem wX0_twins_l153 {C : CT} {d : Nat} {Z : State → Prop} (X : Cx C cX0_twins RX0 (some .int) 16 (d + 3)) (φ : Nat) (this : Nat) (v3 : Int32) (v5 : Int32) (v6 : Int32) (v7 : Int32) (v8 : Option Nat) (v9 : Option Nat) (v10 : Option Nat) (v11 : Int32) (v12 : Int32) (v13 : Int32) (v14 : Int32) (v15 : Int32) (σ : St) (y : (Int32 × Int32 × St) ⊕ (Int32 × St)) (h : fX0_twins_l153 φ this v3 v5 v6 v7 v8 v9 v10 v11 v12 v13 v14 v15 σ = some y) (kH : ∀ s : Int32 × Int32 × St, y = .inl s → AW C 153 [(0, .inr (.inr (some this))), (3, .inl v3), (5, .inl v5), (6, .inl v6), (7, .inl v7), (8, .inr (.inr v8)), (9, .inr (.inr v9)), (10, .inr (.inr v10)), (11, .inl v11), (12, .inl v12), (13, .inl v13), (14, .inl s.1), (15, .inl s.2.1)] [] s.2.2 Z) (kE0 : ∀ e : Int32 × St, y = .inr e → AW C 202 [(0, .inr (.inr (some this))), (3, .inl v3), (5, .inl v5), (6, .inl v6), (7, .inl v7), (8, .inr (.inr v8)), (9, .inr (.inr v9)), (10, .inr (.inr v10)), (11, .inl v11), (12, .inl v12), (13, .inl v13), (14, .inl e.1)] [] e.2 Z) : AW C 153 [(0, .inr (.inr (some this))), (3, .inl v3), (5, .inl v5), (6, .inl v6), (7, .inl v7), (8, .inr (.inr v8)), (9, .inr (.inr v9)), (10, .inr (.inr v10)), (11, .inl v11), (12, .inl v12), (13, .inl v13), (14, .inl v14), (15, .inl v15)] [] σ Z := by
  unfold fX0_twins_l153 at h
  refine aw_iload X dX0_twins_153 12 rfl ?_
  refine aw_iload X dX0_twins_155 4 rfl ?_
  refine aw_icmp_ge X 202 dX0_twins_157 rfl (fun c24 => ?_) (fun c24 => ?_)
  · rw [if_pos c24] at h
    cases h
    refine aw_sub [(0, .inr (.inr (some this))), (3, .inl v3), (5, .inl v5), (6, .inl v6), (7, .inl v7), (8, .inr (.inr v8)), (9, .inr (.inr v9)), (10, .inr (.inr v10)), (11, .inl v11), (12, .inl v12), (13, .inl v13), (14, .inl v14)] [0, 1, 2, 3, 4, 5, 6, 7, 8, 9, 10, 11] rfl ?_
    exact kE0 (v14, σ) rfl
  · rw [if_neg c24] at h
    refine aw_iload X dX0_twins_160 11 rfl ?_
    refine aw_if_eq X 202 dX0_twins_162 rfl (fun c25 => ?_) (fun c25 => ?_)
    · rw [if_pos c25] at h
      cases h
      refine aw_sub [(0, .inr (.inr (some this))), (3, .inl v3), (5, .inl v5), (6, .inl v6), (7, .inl v7), (8, .inr (.inr v8)), (9, .inr (.inr v9)), (10, .inr (.inr v10)), (11, .inl v11), (12, .inl v12), (13, .inl v13), (14, .inl v14)] [0, 1, 2, 3, 4, 5, 6, 7, 8, 9, 10, 11] rfl ?_
      exact kE0 (v14, σ) rfl
    · rw [if_neg c25] at h
      refine aw_aload_n X dX0_twins_165 0 0 rfl rfl ?_
      refine aw_iload X dX0_twins_166 12 rfl ?_
      refine aw_aload X dX0_twins_168 6 rfl ?_
      obtain ⟨y26, hy26, h⟩ := bind_some h
      refine aw_cV X (st := []) hy26 [.inl v15, .inr (.inr v9)] rfl rfl ml_X0_299 (fun o h => AX0_spell (Cx.ok X) φ (d + 2) _ _ _ _ _ h) dX0_twins_170 (Nat.le_of_ble_eq_true rfl) ?_
      refine aw_aload X dX0_twins_173 7 rfl ?_
      refine aw_aload X dX0_twins_175 6 rfl ?_
      obtain ⟨y27, hy27, h⟩ := bind_some h
      refine aw_callS X (st := []) [.inr (.inr v10), .inr (.inr v9)] rfl ml_X0_303 (AX0_few (Cx.ok X) φ (d + 2) _ _ _ _  hy27) dX0_twins_177 (Nat.le_of_ble_eq_true rfl) ?_
      refine aw_aload X dX0_twins_180 5 rfl ?_
      refine aw_iload X dX0_twins_182 12 rfl ?_
      obtain ⟨x28, hx28, h⟩ := bind_some h
      refine aw_lald X dX0_twins_184 hx28 ?_
      refine aw_lcmp_ne X 193 dX0_twins_185 dX0_twins_186 rfl (fun c29 => ?_) (fun c29 => ?_)
      · rw [if_neg c29] at h
        refine aw_iconst X (0 : Int32) dX0_twins_193 (by decide) ?_
        refine aw_istore X dX0_twins_194 (by decide) [(14, .inl (0 : Int32)), (0, .inr (.inr (some this))), (3, .inl v3), (5, .inl v5), (6, .inl v6), (7, .inl v7), (8, .inr (.inr v8)), (9, .inr (.inr v9)), (10, .inr (.inr v10)), (11, .inl v11), (12, .inl v12), (13, .inl v13), (15, .inl v15)] rfl ?_
        refine aw_iinc X dX0_twins_196 12 rfl (1 : Int32) rfl (by decide) [(15, .inl (v15 + (1 : Int32))), (14, .inl (0 : Int32)), (0, .inr (.inr (some this))), (3, .inl v3), (5, .inl v5), (6, .inl v6), (7, .inl v7), (8, .inr (.inr v8)), (9, .inr (.inr v9)), (10, .inr (.inr v10)), (11, .inl v11), (12, .inl v12), (13, .inl v13)] rfl ?_
        refine aw_goto X 153 dX0_twins_199 rfl ?_
        cases h
        refine aw_sub [(0, .inr (.inr (some this))), (3, .inl v3), (5, .inl v5), (6, .inl v6), (7, .inl v7), (8, .inr (.inr v8)), (9, .inr (.inr v9)), (10, .inr (.inr v10)), (11, .inl v11), (12, .inl v12), (13, .inl v13), (14, .inl (0 : Int32)), (15, .inl (v15 + (1 : Int32)))] [2, 3, 4, 5, 6, 7, 8, 9, 10, 11, 12, 1, 0] rfl ?_
        exact kH ((0 : Int32), (v15 + (1 : Int32)), y26) rfl
      · rw [if_pos c29] at h
        refine aw_iconst X (1 : Int32) dX0_twins_189 (by decide) ?_
        refine aw_goto X 194 dX0_twins_190 rfl ?_
        refine aw_istore X dX0_twins_194 (by decide) [(14, .inl (1 : Int32)), (0, .inr (.inr (some this))), (3, .inl v3), (5, .inl v5), (6, .inl v6), (7, .inl v7), (8, .inr (.inr v8)), (9, .inr (.inr v9)), (10, .inr (.inr v10)), (11, .inl v11), (12, .inl v12), (13, .inl v13), (15, .inl v15)] rfl ?_
        refine aw_iinc X dX0_twins_196 12 rfl (1 : Int32) rfl (by decide) [(15, .inl (v15 + (1 : Int32))), (14, .inl (1 : Int32)), (0, .inr (.inr (some this))), (3, .inl v3), (5, .inl v5), (6, .inl v6), (7, .inl v7), (8, .inr (.inr v8)), (9, .inr (.inr v9)), (10, .inr (.inr v10)), (11, .inl v11), (12, .inl v12), (13, .inl v13)] rfl ?_
        refine aw_goto X 153 dX0_twins_199 rfl ?_
        cases h
        refine aw_sub [(0, .inr (.inr (some this))), (3, .inl v3), (5, .inl v5), (6, .inl v6), (7, .inl v7), (8, .inr (.inr v8)), (9, .inr (.inr v9)), (10, .inr (.inr v10)), (11, .inl v11), (12, .inl v12), (13, .inl v13), (14, .inl (1 : Int32)), (15, .inl (v15 + (1 : Int32)))] [2, 3, 4, 5, 6, 7, 8, 9, 10, 11, 12, 1, 0] rfl ?_
        exact kH ((1 : Int32), (v15 + (1 : Int32)), y26) rfl
theorem wX0_twins_l132 {C : CT} {d : Nat} {Z : State → Prop} (X : Cx C cX0_twins RX0 (some .int) 16 (d + 3)) (φ : Nat) (this : Nat) (v3 : Int32) (v5 : Int32) (v6 : Int32) (v7 : Int32) (v8 : Option Nat) (v9 : Option Nat) (v10 : Option Nat) (v11 : Int32) (v12 : Int32) (v13 : Int32) (σ : St) (y : (Int32 × Int32 × Int32 × St) ⊕ (Int32 × Int32 × St)) (h : fX0_twins_l132 φ this v3 v5 v6 v7 v8 v9 v10 v11 v12 v13 σ = some y) (kH : ∀ s : Int32 × Int32 × Int32 × St, y = .inl s → AW C 132 [(0, .inr (.inr (some this))), (3, .inl v3), (5, .inl v5), (6, .inl v6), (7, .inl v7), (8, .inr (.inr v8)), (9, .inr (.inr v9)), (10, .inr (.inr v10)), (11, .inl s.1), (12, .inl s.2.1), (13, .inl s.2.2.1)] [] s.2.2.2 Z) (kE0 : ∀ e : Int32 × Int32 × St, y = .inr e → AW C 230 [(0, .inr (.inr (some this))), (3, .inl v3), (5, .inl v5), (10, .inr (.inr v10)), (11, .inl e.1), (12, .inl e.2.1)] [] e.2.2 Z) : AW C 132 [(0, .inr (.inr (some this))), (3, .inl v3), (5, .inl v5), (6, .inl v6), (7, .inl v7), (8, .inr (.inr v8)), (9, .inr (.inr v9)), (10, .inr (.inr v10)), (11, .inl v11), (12, .inl v12), (13, .inl v13)] [] σ Z := by
  unfold fX0_twins_l132 at h
  refine aw_iload X dX0_twins_132 10 rfl ?_
  refine aw_iload X dX0_twins_134 3 rfl ?_
  refine aw_icmp_ge X 230 dX0_twins_136 rfl (fun c22 => ?_) (fun c22 => ?_)
  · rw [if_pos c22] at h
    cases h
    refine aw_sub [(0, .inr (.inr (some this))), (3, .inl v3), (5, .inl v5), (10, .inr (.inr v10)), (11, .inl v11), (12, .inl v12)] [0, 1, 2, 7, 8, 9] rfl ?_
    exact kE0 (v11, v12, σ) rfl
  · rw [if_neg c22] at h
    refine aw_aload_n X dX0_twins_139 0 0 rfl rfl ?_
    refine aw_iload X dX0_twins_140 10 rfl ?_
    refine aw_aload X dX0_twins_142 7 rfl ?_
    obtain ⟨y23, hy23, h⟩ := bind_some h
    refine aw_cV X (st := []) hy23 [.inl v13, .inr (.inr v10)] rfl rfl ml_X0_299 (fun o h => AX0_spell (Cx.ok X) φ (d + 2) _ _ _ _ _ h) dX0_twins_144 (Nat.le_of_ble_eq_true rfl) ?_
    refine aw_iconst X (1 : Int32) dX0_twins_147 (by decide) ?_
    refine aw_istore X dX0_twins_148 (by decide) [(14, .inl (1 : Int32)), (0, .inr (.inr (some this))), (3, .inl v3), (5, .inl v5), (6, .inl v6), (7, .inl v7), (8, .inr (.inr v8)), (9, .inr (.inr v9)), (10, .inr (.inr v10)), (11, .inl v11), (12, .inl v12), (13, .inl v13)] rfl ?_
    refine aw_iconst X (0 : Int32) dX0_twins_150 (by decide) ?_
    refine aw_istore X dX0_twins_151 (by decide) [(15, .inl (0 : Int32)), (14, .inl (1 : Int32)), (0, .inr (.inr (some this))), (3, .inl v3), (5, .inl v5), (6, .inl v6), (7, .inl v7), (8, .inr (.inr v8)), (9, .inr (.inr v9)), (10, .inr (.inr v10)), (11, .inl v11), (12, .inl v12), (13, .inl v13)] rfl ?_
    obtain ⟨e30, h31, h⟩ := bind_some h
    refine aw_sub [(0, .inr (.inr (some this))), (3, .inl v3), (5, .inl v5), (6, .inl v6), (7, .inl v7), (8, .inr (.inr v8)), (9, .inr (.inr v9)), (10, .inr (.inr v10)), (11, .inl v11), (12, .inl v12), (13, .inl v13), (14, .inl (1 : Int32)), (15, .inl (0 : Int32))] [2, 3, 4, 5, 6, 7, 8, 9, 10, 11, 12, 1, 0] rfl ?_
    refine aw_it (fun s => AW C 153 [(0, .inr (.inr (some this))), (3, .inl v3), (5, .inl v5), (6, .inl v6), (7, .inl v7), (8, .inr (.inr v8)), (9, .inr (.inr v9)), (10, .inr (.inr v10)), (11, .inl v11), (12, .inl v12), (13, .inl v13), (14, .inl s.1), (15, .inl s.2.1)] [] s.2.2 Z) (fun e => AW C 202 [(0, .inr (.inr (some this))), (3, .inl v3), (5, .inl v5), (6, .inl v6), (7, .inl v7), (8, .inr (.inr v8)), (9, .inr (.inr v9)), (10, .inr (.inr v10)), (11, .inl v11), (12, .inl v12), (13, .inl v13), (14, .inl e.1)] [] e.2 Z) (fun s r hr kH kE => wX0_twins_l153 X φ this v3 v5 v6 v7 v8 v9 v10 v11 v12 v13 s.1 s.2.1 s.2.2 r hr kH kE) φ _ e30 h31 ?_
    refine aw_iload X dX0_twins_202 11 rfl ?_
    refine aw_if_eq X 224 dX0_twins_204 rfl (fun c32 => ?_) (fun c32 => ?_)
    · rw [if_pos c32] at h
      refine aw_iinc X dX0_twins_224 10 rfl (1 : Int32) rfl (by decide) [(13, .inl (v13 + (1 : Int32))), (0, .inr (.inr (some this))), (3, .inl v3), (5, .inl v5), (6, .inl v6), (7, .inl v7), (8, .inr (.inr v8)), (9, .inr (.inr v9)), (10, .inr (.inr v10)), (11, .inl v11), (12, .inl v12), (14, .inl e30.1)] rfl ?_
      refine aw_goto X 132 dX0_twins_227 rfl ?_
      cases h
      refine aw_sub [(0, .inr (.inr (some this))), (3, .inl v3), (5, .inl v5), (6, .inl v6), (7, .inl v7), (8, .inr (.inr v8)), (9, .inr (.inr v9)), (10, .inr (.inr v10)), (11, .inl v11), (12, .inl v12), (13, .inl (v13 + (1 : Int32)))] [1, 2, 3, 4, 5, 6, 7, 8, 9, 10, 0] rfl ?_
      exact kH (v11, v12, (v13 + (1 : Int32)), e30.2) rfl
    · rw [if_neg c32] at h
      refine aw_iload X dX0_twins_207 8 rfl ?_
      refine aw_if_ne X 217 dX0_twins_209 rfl (fun c33 => ?_) (fun c33 => ?_)
      · rw [if_neg c33] at h
        refine aw_iload X dX0_twins_217 9 rfl ?_
        refine aw_istore X dX0_twins_219 (by decide) [(12, .inl v12), (0, .inr (.inr (some this))), (3, .inl v3), (5, .inl v5), (6, .inl v6), (7, .inl v7), (8, .inr (.inr v8)), (9, .inr (.inr v9)), (10, .inr (.inr v10)), (11, .inl v11), (13, .inl v13), (14, .inl e30.1)] rfl ?_
        refine aw_iinc X dX0_twins_221 9 rfl (1 : Int32) rfl (by decide) [(11, .inl (v11 + (1 : Int32))), (12, .inl v12), (0, .inr (.inr (some this))), (3, .inl v3), (5, .inl v5), (6, .inl v6), (7, .inl v7), (8, .inr (.inr v8)), (9, .inr (.inr v9)), (10, .inr (.inr v10)), (13, .inl v13), (14, .inl e30.1)] rfl ?_
        refine aw_iinc X dX0_twins_224 10 rfl (1 : Int32) rfl (by decide) [(13, .inl (v13 + (1 : Int32))), (11, .inl (v11 + (1 : Int32))), (12, .inl v12), (0, .inr (.inr (some this))), (3, .inl v3), (5, .inl v5), (6, .inl v6), (7, .inl v7), (8, .inr (.inr v8)), (9, .inr (.inr v9)), (10, .inr (.inr v10)), (14, .inl e30.1)] rfl ?_
        refine aw_goto X 132 dX0_twins_227 rfl ?_
        cases h
        refine aw_sub [(0, .inr (.inr (some this))), (3, .inl v3), (5, .inl v5), (6, .inl v6), (7, .inl v7), (8, .inr (.inr v8)), (9, .inr (.inr v9)), (10, .inr (.inr v10)), (11, .inl (v11 + (1 : Int32))), (12, .inl v12), (13, .inl (v13 + (1 : Int32)))] [3, 4, 5, 6, 7, 8, 9, 10, 1, 2, 0] rfl ?_
        exact kH ((v11 + (1 : Int32)), v12, (v13 + (1 : Int32)), e30.2) rfl
      · rw [if_pos c33] at h
        refine aw_iload X dX0_twins_212 10 rfl ?_
        refine aw_goto X 219 dX0_twins_214 rfl ?_
        refine aw_istore X dX0_twins_219 (by decide) [(12, .inl v13), (0, .inr (.inr (some this))), (3, .inl v3), (5, .inl v5), (6, .inl v6), (7, .inl v7), (8, .inr (.inr v8)), (9, .inr (.inr v9)), (10, .inr (.inr v10)), (11, .inl v11), (13, .inl v13), (14, .inl e30.1)] rfl ?_
        refine aw_iinc X dX0_twins_221 9 rfl (1 : Int32) rfl (by decide) [(11, .inl (v11 + (1 : Int32))), (12, .inl v13), (0, .inr (.inr (some this))), (3, .inl v3), (5, .inl v5), (6, .inl v6), (7, .inl v7), (8, .inr (.inr v8)), (9, .inr (.inr v9)), (10, .inr (.inr v10)), (13, .inl v13), (14, .inl e30.1)] rfl ?_
        refine aw_iinc X dX0_twins_224 10 rfl (1 : Int32) rfl (by decide) [(13, .inl (v13 + (1 : Int32))), (11, .inl (v11 + (1 : Int32))), (12, .inl v13), (0, .inr (.inr (some this))), (3, .inl v3), (5, .inl v5), (6, .inl v6), (7, .inl v7), (8, .inr (.inr v8)), (9, .inr (.inr v9)), (10, .inr (.inr v10)), (14, .inl e30.1)] rfl ?_
        refine aw_goto X 132 dX0_twins_227 rfl ?_
        cases h
        refine aw_sub [(0, .inr (.inr (some this))), (3, .inl v3), (5, .inl v5), (6, .inl v6), (7, .inl v7), (8, .inr (.inr v8)), (9, .inr (.inr v9)), (10, .inr (.inr v10)), (11, .inl (v11 + (1 : Int32))), (12, .inl v13), (13, .inl (v13 + (1 : Int32)))] [3, 4, 5, 6, 7, 8, 9, 10, 1, 2, 0] rfl ?_
        exact kH ((v11 + (1 : Int32)), v13, (v13 + (1 : Int32)), e30.2) rfl
theorem wX0_twins_l251 {C : CT} {d : Nat} {Z : State → Prop} (X : Cx C cX0_twins RX0 (some .int) 16 (d + 3)) (φ : Nat) (this : Nat) (v3 : Int32) (v5 : Int32) (v10 : Option Nat) (v11 : Int32) (v13 : Int32) (σ : St) (y : (Int32 × St) ⊕ (St)) (h : fX0_twins_l251 φ this v3 v5 v10 v11 v13 σ = some y) (kH : ∀ s : Int32 × St, y = .inl s → AW C 251 [(0, .inr (.inr (some this))), (3, .inl v3), (5, .inl v5), (10, .inr (.inr v10)), (11, .inl v11), (13, .inl s.1)] [] s.2 Z) (kE0 : ∀ e : St, y = .inr e → AW C 278 [(11, .inl v11)] [] e Z) : AW C 251 [(0, .inr (.inr (some this))), (3, .inl v3), (5, .inl v5), (10, .inr (.inr v10)), (11, .inl v11), (13, .inl v13)] [] σ Z := by
  unfold fX0_twins_l251 at h
  refine aw_iload X dX0_twins_251 5 rfl ?_
  refine aw_iload X dX0_twins_253 2 rfl ?_
  refine aw_icmp_ge X 278 dX0_twins_255 rfl (fun c40 => ?_) (fun c40 => ?_)
  · rw [if_pos c40] at h
    cases h
    refine aw_sub [(11, .inl v11)] [4] rfl ?_
    exact kE0 σ rfl
  · rw [if_neg c40] at h
    refine aw_aload_n X dX0_twins_258 0 0 rfl rfl ?_
    obtain ⟨x41, hx41, h⟩ := bind_some h
    refine aw_gfR X fl_X0_34 dX0_twins_259 hx41 ?_
    refine aw_iload_n X dX0_twins_262 1 3 rfl rfl ?_
    obtain ⟨x42, hx42, h⟩ := bind_some h
    refine aw_aald X (kd := 5) dX0_twins_263 (by decide) (by decide) hx42 ?_
    refine aw_iload X dX0_twins_264 5 rfl ?_
    refine aw_aload X dX0_twins_266 3 rfl ?_
    refine aw_iload X dX0_twins_268 5 rfl ?_
    obtain ⟨x43, hx43, h⟩ := bind_some h
    refine aw_bald X dX0_twins_270 hx43 ?_
    obtain ⟨s44, hs44, h⟩ := bind_some h
    refine aw_iast X dX0_twins_271 hs44 ?_
    refine aw_iinc X dX0_twins_272 5 rfl (1 : Int32) rfl (by decide) [(13, .inl (v13 + (1 : Int32))), (0, .inr (.inr (some this))), (3, .inl v3), (5, .inl v5), (10, .inr (.inr v10)), (11, .inl v11)] rfl ?_
    refine aw_goto X 251 dX0_twins_275 rfl ?_
    cases h
    refine aw_sub [(0, .inr (.inr (some this))), (3, .inl v3), (5, .inl v5), (10, .inr (.inr v10)), (11, .inl v11), (13, .inl (v13 + (1 : Int32)))] [1, 2, 3, 4, 5, 0] rfl ?_
    exact kH ((v13 + (1 : Int32)), s44) rfl
theorem wX0_twins {C : CT} {d : Nat} (X : Cx C cX0_twins RX0 (some .int) 16 (d + 3)) (φ : Nat) (this : Nat) (v1 : Int32) (v2 : Int32) (v3 : Int32) (σ : St) (y : Int32 × St) (h : fX0_twins φ this v1 v2 v3 σ = some y) : AW C 0 [(0, .inr (.inr (some this))), (1, .inl v1), (2, .inl v2), (3, .inl v3)] [] σ (AQ C (some (.inl y.1)) y.2) := by
  unfold fX0_twins at h
  refine aw_iload_n X dX0_twins_0 2 2 rfl rfl ?_
  refine aw_iconst X (1 : Int32) dX0_twins_1 (by decide) ?_
  refine aw_iconst X (3 : Int32) dX0_twins_2 (by decide) ?_
  obtain ⟨y1, hy1, h⟩ := bind_some h
  refine aw_callS X (st := []) [.inl v2, .inl (1 : Int32), .inl (3 : Int32)] rfl ml_X0_93 (AX0_isIn (Cx.ok X) φ (d + 2) _ _ _ _ _  hy1) dX0_twins_3 (Nat.le_of_ble_eq_true rfl) ?_
  refine aw_if_eq X 16 dX0_twins_6 rfl (fun c2 => ?_) (fun c2 => ?_)
  · rw [if_pos c2] at h
    refine aw_iconst X (-1 : Int32) dX0_twins_16 (by decide) ?_
    cases h
    exact aw_iret X dX0_twins_17
  · rw [if_neg c2] at h
    refine aw_iload_n X dX0_twins_9 3 3 rfl rfl ?_
    obtain ⟨y3, hy3, h⟩ := bind_some h
    refine aw_callS X (st := []) [.inl v3] rfl ml_X0_97 (AX0_isRow (Cx.ok X) φ (d + 1) _ _ _  hy3) dX0_twins_10 (Nat.le_of_ble_eq_true rfl) ?_
    refine aw_if_ne X 18 dX0_twins_13 rfl (fun c4 => ?_) (fun c4 => ?_)
    · rw [if_neg c4] at h
      refine aw_aload_n X dX0_twins_18 0 0 rfl rfl ?_
      refine aw_iload_n X dX0_twins_19 1 1 rfl rfl ?_
      obtain ⟨y5, hy5, h⟩ := bind_some h
      refine aw_cV X (st := []) hy5 [.inl v1] rfl rfl ml_X0_195 (fun o h => AX0_askedWord (Cx.ok X) φ d _ _ _ _ h) dX0_twins_20 (Nat.le_of_ble_eq_true rfl) ?_
      refine aw_istore X dX0_twins_23 (by decide) [(4, .inl y5.1), (0, .inr (.inr (some this))), (1, .inl v1), (2, .inl v2), (3, .inl v3)] rfl ?_
      refine aw_iload X dX0_twins_25 0 rfl ?_
      refine aw_if_ge X 33 dX0_twins_27 rfl (fun c6 => ?_) (fun c6 => ?_)
      · rw [if_pos c6] at h
        refine aw_aload_n X dX0_twins_33 1 0 rfl rfl ?_
        refine aw_iload_n X dX0_twins_34 2 1 rfl rfl ?_
        obtain ⟨y7, hy7, h⟩ := bind_some h
        refine aw_cV X (st := []) hy7 [.inl v1] rfl rfl ml_X0_188 (fun o h => AX0_of (Cx.ok X) φ (d + 2) _ _ _ _ h) dX0_twins_35 (Nat.le_of_ble_eq_true rfl) ?_
        obtain ⟨x8, hx8, h⟩ := bind_some h
        refine aw_alen X dX0_twins_38 hx8 ?_
        refine aw_istore X dX0_twins_39 (by decide) [(5, .inl x8), (4, .inl y5.1), (0, .inr (.inr (some this))), (1, .inl v1), (2, .inl v2), (3, .inl v3)] rfl ?_
        refine aw_aload_n X dX0_twins_41 2 0 rfl rfl ?_
        refine aw_iload X dX0_twins_42 0 rfl ?_
        obtain ⟨y9, hy9, h⟩ := bind_some h
        refine aw_cV X (st := []) hy9 [.inl x8] rfl rfl ml_X0_296 (fun o h => AX0_power (Cx.ok X) φ (d + 2) _ _ _ _ h) dX0_twins_44 (Nat.le_of_ble_eq_true rfl) ?_
        refine aw_istore X dX0_twins_47 (by decide) [(6, .inl y9), (5, .inl x8), (4, .inl y5.1), (0, .inr (.inr (some this))), (1, .inl v1), (2, .inl v2), (3, .inl v3)] rfl ?_
        refine aw_iload X dX0_twins_49 0 rfl ?_
        refine aw_sipush X (10000 : Int32) dX0_twins_51 (by decide) ?_
        refine aw_icmp_le X 60 dX0_twins_54 rfl (fun c10 => ?_) (fun c10 => ?_)
        · rw [if_pos c10] at h
          refine aw_aload_n X dX0_twins_60 3 0 rfl rfl ?_
          refine aw_iload_n X dX0_twins_61 5 2 rfl rfl ?_
          obtain ⟨y11, hy11, h⟩ := bind_some h
          refine aw_cV X (st := []) hy11 [.inl v2] rfl rfl ml_X0_296 (fun o h => AX0_power (Cx.ok X) φ (d + 2) _ _ _ _ h) dX0_twins_62 (Nat.le_of_ble_eq_true rfl) ?_
          refine aw_istore X dX0_twins_65 (by decide) [(7, .inl y11), (6, .inl y9), (5, .inl x8), (4, .inl y5.1), (0, .inr (.inr (some this))), (1, .inl v1), (2, .inl v2), (3, .inl v3)] rfl ?_
          refine aw_iload X dX0_twins_67 0 rfl ?_
          obtain ⟨n12, hn12, h⟩ := bind_some h
          refine aw_newa X (kd := 3) dX0_twins_69 rfl (by decide) (by decide) q217 (r := n12.1) (σ' := n12.2) hn12 ?_
          refine aw_astore X dX0_twins_71 (by decide) [(8, .inr (.inr n12.1)), (7, .inl y11), (6, .inl y9), (5, .inl x8), (4, .inl y5.1), (0, .inr (.inr (some this))), (1, .inl v1), (2, .inl v2), (3, .inl v3)] rfl ?_
          refine aw_iload_n X dX0_twins_73 7 2 rfl rfl ?_
          obtain ⟨n13, hn13, h⟩ := bind_some h
          refine aw_newa X (kd := 2) dX0_twins_74 rfl (by decide) (by decide) q216 (r := n13.1) (σ' := n13.2) hn13 ?_
          refine aw_astore X dX0_twins_76 (by decide) [(9, .inr (.inr n13.1)), (8, .inr (.inr n12.1)), (7, .inl y11), (6, .inl y9), (5, .inl x8), (4, .inl y5.1), (0, .inr (.inr (some this))), (1, .inl v1), (2, .inl v2), (3, .inl v3)] rfl ?_
          refine aw_iconst X (0 : Int32) dX0_twins_78 (by decide) ?_
          refine aw_istore X dX0_twins_79 (by decide) [(10, .inl (0 : Int32)), (9, .inr (.inr n13.1)), (8, .inr (.inr n12.1)), (7, .inl y11), (6, .inl y9), (5, .inl x8), (4, .inl y5.1), (0, .inr (.inr (some this))), (1, .inl v1), (2, .inl v2), (3, .inl v3)] rfl ?_
          obtain ⟨e19, h20, h⟩ := bind_some h
          refine aw_sub [(0, .inr (.inr (some this))), (1, .inl v1), (3, .inl v3), (5, .inl x8), (6, .inl y9), (7, .inl y11), (8, .inr (.inr n12.1)), (9, .inr (.inr n13.1)), (10, .inl (0 : Int32))] [7, 8, 10, 5, 4, 3, 2, 1, 0] rfl ?_
          refine aw_it (fun s => AW C 81 [(0, .inr (.inr (some this))), (1, .inl v1), (3, .inl v3), (5, .inl x8), (6, .inl y9), (7, .inl y11), (8, .inr (.inr n12.1)), (9, .inr (.inr n13.1)), (10, .inl s.1)] [] s.2 (AQ C (some (.inl y.1)) y.2)) (fun e => AW C 117 [(0, .inr (.inr (some this))), (3, .inl v3), (5, .inl x8), (6, .inl y9), (7, .inl y11), (8, .inr (.inr n12.1)), (9, .inr (.inr n13.1))] [] e (AQ C (some (.inl y.1)) y.2)) (fun s r hr kH kE => wX0_twins_l81 X φ this v1 v3 x8 y9 y11 n12.1 n13.1 s.1 s.2 r hr kH kE) φ _ e19 h20 ?_
          refine aw_iload X dX0_twins_117 2 rfl ?_
          obtain ⟨n21, hn21, h⟩ := bind_some h
          refine aw_newa X (kd := 2) dX0_twins_119 rfl (by decide) (by decide) q216 (r := n21.1) (σ' := n21.2) hn21 ?_
          refine aw_astore X dX0_twins_121 (by decide) [(10, .inr (.inr n21.1)), (0, .inr (.inr (some this))), (3, .inl v3), (5, .inl x8), (6, .inl y9), (7, .inl y11), (8, .inr (.inr n12.1)), (9, .inr (.inr n13.1))] rfl ?_
          refine aw_iconst X (0 : Int32) dX0_twins_123 (by decide) ?_
          refine aw_istore X dX0_twins_124 (by decide) [(11, .inl (0 : Int32)), (10, .inr (.inr n21.1)), (0, .inr (.inr (some this))), (3, .inl v3), (5, .inl x8), (6, .inl y9), (7, .inl y11), (8, .inr (.inr n12.1)), (9, .inr (.inr n13.1))] rfl ?_
          refine aw_iconst X (0 : Int32) dX0_twins_126 (by decide) ?_
          refine aw_istore X dX0_twins_127 (by decide) [(12, .inl (0 : Int32)), (11, .inl (0 : Int32)), (10, .inr (.inr n21.1)), (0, .inr (.inr (some this))), (3, .inl v3), (5, .inl x8), (6, .inl y9), (7, .inl y11), (8, .inr (.inr n12.1)), (9, .inr (.inr n13.1))] rfl ?_
          refine aw_iconst X (0 : Int32) dX0_twins_129 (by decide) ?_
          refine aw_istore X dX0_twins_130 (by decide) [(13, .inl (0 : Int32)), (12, .inl (0 : Int32)), (11, .inl (0 : Int32)), (10, .inr (.inr n21.1)), (0, .inr (.inr (some this))), (3, .inl v3), (5, .inl x8), (6, .inl y9), (7, .inl y11), (8, .inr (.inr n12.1)), (9, .inr (.inr n13.1))] rfl ?_
          obtain ⟨e34, h35, h⟩ := bind_some h
          refine aw_sub [(0, .inr (.inr (some this))), (3, .inl v3), (5, .inl x8), (6, .inl y9), (7, .inl y11), (8, .inr (.inr n12.1)), (9, .inr (.inr n13.1)), (10, .inr (.inr n21.1)), (11, .inl (0 : Int32)), (12, .inl (0 : Int32)), (13, .inl (0 : Int32))] [4, 5, 6, 7, 8, 9, 10, 3, 2, 1, 0] rfl ?_
          refine aw_it (fun s => AW C 132 [(0, .inr (.inr (some this))), (3, .inl v3), (5, .inl x8), (6, .inl y9), (7, .inl y11), (8, .inr (.inr n12.1)), (9, .inr (.inr n13.1)), (10, .inr (.inr n21.1)), (11, .inl s.1), (12, .inl s.2.1), (13, .inl s.2.2.1)] [] s.2.2.2 (AQ C (some (.inl y.1)) y.2)) (fun e => AW C 230 [(0, .inr (.inr (some this))), (3, .inl v3), (5, .inl x8), (10, .inr (.inr n21.1)), (11, .inl e.1), (12, .inl e.2.1)] [] e.2.2 (AQ C (some (.inl y.1)) y.2)) (fun s r hr kH kE => wX0_twins_l132 X φ this v3 x8 y9 y11 n12.1 n13.1 n21.1 s.1 s.2.1 s.2.2.1 s.2.2.2 r hr kH kE) φ _ e34 h35 ?_
          refine aw_aload_n X dX0_twins_230 0 0 rfl rfl ?_
          refine aw_iload X dX0_twins_231 5 rfl ?_
          refine aw_aload X dX0_twins_233 3 rfl ?_
          obtain ⟨y36, hy36, h⟩ := bind_some h
          refine aw_cV X (st := []) hy36 [.inl e34.2.1, .inr (.inr n21.1)] rfl rfl ml_X0_299 (fun o h => AX0_spell (Cx.ok X) φ (d + 2) _ _ _ _ _ h) dX0_twins_235 (Nat.le_of_ble_eq_true rfl) ?_
          refine aw_aload_n X dX0_twins_238 0 0 rfl rfl ?_
          obtain ⟨x37, hx37, h⟩ := bind_some h
          refine aw_gfR X fl_X0_34 dX0_twins_239 hx37 ?_
          refine aw_iload_n X dX0_twins_242 1 3 rfl rfl ?_
          refine aw_iload X dX0_twins_243 2 rfl ?_
          obtain ⟨n38, hn38, h⟩ := bind_some h
          refine aw_newa X (kd := 1) dX0_twins_245 rfl (by decide) (by decide) q215 (r := n38.1) (σ' := n38.2) hn38 ?_
          obtain ⟨s39, hs39, h⟩ := bind_some h
          refine aw_aast X (kd := 5) (lo := 1) (hi := 1) dX0_twins_247 (by decide) hs39 ?_
          refine aw_iconst X (0 : Int32) dX0_twins_248 (by decide) ?_
          refine aw_istore X dX0_twins_249 (by decide) [(13, .inl (0 : Int32)), (0, .inr (.inr (some this))), (3, .inl v3), (5, .inl x8), (10, .inr (.inr n21.1)), (11, .inl e34.1), (12, .inl e34.2.1)] rfl ?_
          obtain ⟨e45, h46, h⟩ := bind_some h
          refine aw_sub [(0, .inr (.inr (some this))), (3, .inl v3), (5, .inl x8), (10, .inr (.inr n21.1)), (11, .inl e34.1), (13, .inl (0 : Int32))] [1, 2, 3, 4, 5, 0] rfl ?_
          refine aw_it (fun s => AW C 251 [(0, .inr (.inr (some this))), (3, .inl v3), (5, .inl x8), (10, .inr (.inr n21.1)), (11, .inl e34.1), (13, .inl s.1)] [] s.2 (AQ C (some (.inl y.1)) y.2)) (fun e => AW C 278 [(11, .inl e34.1)] [] e (AQ C (some (.inl y.1)) y.2)) (fun s r hr kH kE => wX0_twins_l251 X φ this v3 x8 n21.1 e34.1 s.1 s.2 r hr kH kE) φ _ e45 h46 ?_
          refine aw_iload X dX0_twins_278 0 rfl ?_
          cases h
          exact aw_iret X dX0_twins_280
        · rw [if_neg c10] at h
          refine aw_bipush X (-6 : Int32) dX0_twins_57 (by decide) ?_
          cases h
          exact aw_iret X dX0_twins_59
      · rw [if_neg c6] at h
        refine aw_iload X dX0_twins_30 0 rfl ?_
        cases h
        exact aw_iret X dX0_twins_32
    · rw [if_pos c4] at h
      refine aw_iconst X (-1 : Int32) dX0_twins_16 (by decide) ?_
      cases h
      exact aw_iret X dX0_twins_17
theorem AX0_twins {E : AE} {l : Launch} (hE : EOK E l) (φ d : Nat) (this : Nat) (v1 : Int32) (v2 : Int32) (v3 : Int32) (σ : St) (y : Int32 × St) (h : fX0_twins φ this v1 v2 v3 σ = some y) : AMet E l yX0_twins (ws_ yX0_twins cX0_twins 16 (some .int)) (d + 3) [.inr (.inr (some this)), .inl v1, .inl v2, .inl v3] σ (some (.inl y.1)) y.2 := by
  refine amet_of hE (by decide +kernel) (Nat.le_of_ble_eq_true rfl) fun C e1 e2 X XI => ?_
  subst e1
  exact wX0_twins X φ this v1 v2 v3 σ y h
theorem wX0_choose_l5 {C : CT} {d : Nat} {Z : State → Prop} (X : Cx C cX0_choose RX0 (some .long) 5 d) (φ : Nat) (v0 : Int32) (v1 : Int32) (σ : St) (v2 : Int64) (v4 : Int32) (y : (Int64 × Int32) ⊕ (Int64)) (h : fX0_choose_l5 φ v0 v1 σ v2 v4 = some y) (kH : ∀ s : Int64 × Int32, y = .inl s → AW C 5 [(0, .inl v0), (1, .inl v1), (2, .inr (.inl s.1)), (4, .inl s.2)] [] σ Z) (kE0 : ∀ e : Int64, y = .inr e → AW C 31 [(2, .inr (.inl e))] [] σ Z) : AW C 5 [(0, .inl v0), (1, .inl v1), (2, .inr (.inl v2)), (4, .inl v4)] [] σ Z := by
  unfold fX0_choose_l5 at h
  refine aw_iload X dX0_choose_5 3 rfl ?_
  refine aw_iload_n X dX0_choose_7 1 1 rfl rfl ?_
  refine aw_icmp_gt X 31 dX0_choose_8 rfl (fun c1 => ?_) (fun c1 => ?_)
  · rw [if_pos c1] at h
    cases h
    refine aw_sub [(2, .inr (.inl v2))] [2] rfl ?_
    exact kE0 v2 rfl
  · rw [if_neg c1] at h
    refine aw_lload_n X dX0_choose_11 2 2 rfl rfl ?_
    refine aw_iload_n X dX0_choose_12 0 0 rfl rfl ?_
    refine aw_iload X dX0_choose_13 3 rfl ?_
    refine aw_isub X dX0_choose_15 ?_
    refine aw_iconst X (1 : Int32) dX0_choose_16 (by decide) ?_
    refine aw_iadd X dX0_choose_17 ?_
    refine aw_i2l X dX0_choose_18 ?_
    refine aw_lmul X dX0_choose_19 ?_
    refine aw_iload X dX0_choose_20 3 rfl ?_
    refine aw_i2l X dX0_choose_22 ?_
    obtain ⟨hn2, h⟩ := chk_some h
    refine aw_ldiv X dX0_choose_23 hn2 ?_
    refine aw_lstore_n X dX0_choose_24 2 rfl (by decide) [(2, .inr (.inl ((v2 * (((v0 - v4) + (1 : Int32)).toInt64)) / (v4.toInt64)))), (0, .inl v0), (1, .inl v1), (4, .inl v4)] rfl ?_
    refine aw_iinc X dX0_choose_25 3 rfl (1 : Int32) rfl (by decide) [(4, .inl (v4 + (1 : Int32))), (2, .inr (.inl ((v2 * (((v0 - v4) + (1 : Int32)).toInt64)) / (v4.toInt64)))), (0, .inl v0), (1, .inl v1)] rfl ?_
    refine aw_goto X 5 dX0_choose_28 rfl ?_
    cases h
    refine aw_sub [(0, .inl v0), (1, .inl v1), (2, .inr (.inl ((v2 * (((v0 - v4) + (1 : Int32)).toInt64)) / (v4.toInt64)))), (4, .inl (v4 + (1 : Int32)))] [2, 3, 1, 0] rfl ?_
    exact kH (((v2 * (((v0 - v4) + (1 : Int32)).toInt64)) / (v4.toInt64)), (v4 + (1 : Int32))) rfl
theorem wX0_choose {C : CT} {d : Nat} (X : Cx C cX0_choose RX0 (some .long) 5 d) (φ : Nat) (v0 : Int32) (v1 : Int32) (σ : St) (y : Int64) (h : fX0_choose φ v0 v1 σ = some y) : AW C 0 [(0, .inl v0), (1, .inl v1)] [] σ (AQ C (some (.inr (.inl y))) σ) := by
  unfold fX0_choose at h
  refine aw_lconst X (1 : Int64) dX0_choose_0 rfl ?_
  refine aw_lstore_n X dX0_choose_1 2 rfl (by decide) [(2, .inr (.inl (1 : Int64))), (0, .inl v0), (1, .inl v1)] rfl ?_
  refine aw_iconst X (1 : Int32) dX0_choose_2 (by decide) ?_
  refine aw_istore X dX0_choose_3 (by decide) [(4, .inl (1 : Int32)), (2, .inr (.inl (1 : Int64))), (0, .inl v0), (1, .inl v1)] rfl ?_
  obtain ⟨e3, h4, h⟩ := bind_some h
  refine aw_sub [(0, .inl v0), (1, .inl v1), (2, .inr (.inl (1 : Int64))), (4, .inl (1 : Int32))] [2, 3, 1, 0] rfl ?_
  refine aw_it (fun s => AW C 5 [(0, .inl v0), (1, .inl v1), (2, .inr (.inl s.1)), (4, .inl s.2)] [] σ (AQ C (some (.inr (.inl y))) σ)) (fun e => AW C 31 [(2, .inr (.inl e))] [] σ (AQ C (some (.inr (.inl y))) σ)) (fun s r hr kH kE => wX0_choose_l5 X φ v0 v1 σ s.1 s.2 r hr kH kE) φ _ e3 h4 ?_
  refine aw_lload_n X dX0_choose_31 0 2 rfl rfl ?_
  cases h
  exact aw_lret X dX0_choose_32
theorem AX0_choose {E : AE} {l : Launch} (hE : EOK E l) (φ d : Nat) (v0 : Int32) (v1 : Int32) (σ : St) (y : Int64) (h : fX0_choose φ v0 v1 σ = some y) : AMet E l yX0_choose (ws_ yX0_choose cX0_choose 5 (some .long)) d [.inl v0, .inl v1] σ (some (.inr (.inl y))) σ := by
  refine amet_of hE (by decide +kernel) (Nat.le_of_ble_eq_true rfl) fun C e1 e2 X XI => ?_
  subst e1
  exact wX0_choose X φ v0 v1 σ y h
theorem wX0_share_l6 {C : CT} {d : Nat} {Z : State → Prop} (X : Cx C cX0_share RX0 (some .int) 12 d) (φ : Nat) (this : Nat) (v1 : Int64) (v3 : Int64) (v5 : Int32) (σ : St) (v6 : Int64) (v8 : Int64) (y : (Int64 × Int64) ⊕ (Int64)) (h : fX0_share_l6 φ this v1 v3 v5 σ v6 v8 = some y) (kH : ∀ s : Int64 × Int64, y = .inl s → AW C 6 [(0, .inr (.inr (some this))), (1, .inr (.inl v1)), (3, .inr (.inl v3)), (5, .inl v5), (6, .inr (.inl s.1)), (8, .inr (.inl s.2))] [] σ Z) (kE0 : ∀ e : Int64, y = .inr e → AW C 31 [(0, .inr (.inr (some this))), (1, .inr (.inl v1)), (3, .inr (.inl v3)), (5, .inl v5), (6, .inr (.inl e))] [] σ Z) : AW C 6 [(0, .inr (.inr (some this))), (1, .inr (.inl v1)), (3, .inr (.inl v3)), (5, .inl v5), (6, .inr (.inl v6)), (8, .inr (.inl v8))] [] σ Z := by
  unfold fX0_share_l6 at h
  refine aw_lload X dX0_share_6 5 rfl ?_
  refine aw_lconst X (0 : Int64) dX0_share_8 rfl ?_
  refine aw_lcmp_eq X 31 dX0_share_9 dX0_share_10 rfl (fun c1 => ?_) (fun c1 => ?_)
  · rw [if_pos c1] at h
    cases h
    refine aw_sub [(0, .inr (.inr (some this))), (1, .inr (.inl v1)), (3, .inr (.inl v3)), (5, .inl v5), (6, .inr (.inl v6))] [0, 1, 2, 3, 4] rfl ?_
    exact kE0 v6 rfl
  · rw [if_neg c1] at h
    refine aw_lload X dX0_share_13 4 rfl ?_
    refine aw_lload X dX0_share_15 5 rfl ?_
    obtain ⟨hn2, h⟩ := chk_some h
    refine aw_lrem X dX0_share_17 hn2 ?_
    refine aw_lstore X dX0_share_18 (by decide) [(10, .inr (.inl (v6 - v6 / v8 * v8))), (0, .inr (.inr (some this))), (1, .inr (.inl v1)), (3, .inr (.inl v3)), (5, .inl v5), (6, .inr (.inl v6)), (8, .inr (.inl v8))] rfl ?_
    refine aw_lload X dX0_share_20 6 rfl ?_
    refine aw_lstore X dX0_share_22 (by decide) [(6, .inr (.inl v8)), (10, .inr (.inl (v6 - v6 / v8 * v8))), (0, .inr (.inr (some this))), (1, .inr (.inl v1)), (3, .inr (.inl v3)), (5, .inl v5), (8, .inr (.inl v8))] rfl ?_
    refine aw_lload X dX0_share_24 1 rfl ?_
    refine aw_lstore X dX0_share_26 (by decide) [(8, .inr (.inl (v6 - v6 / v8 * v8))), (6, .inr (.inl v8)), (10, .inr (.inl (v6 - v6 / v8 * v8))), (0, .inr (.inr (some this))), (1, .inr (.inl v1)), (3, .inr (.inl v3)), (5, .inl v5)] rfl ?_
    refine aw_goto X 6 dX0_share_28 rfl ?_
    cases h
    refine aw_sub [(0, .inr (.inr (some this))), (1, .inr (.inl v1)), (3, .inr (.inl v3)), (5, .inl v5), (6, .inr (.inl v8)), (8, .inr (.inl (v6 - v6 / v8 * v8)))] [3, 4, 5, 6, 1, 0] rfl ?_
    exact kH (v8, (v6 - v6 / v8 * v8)) rfl
theorem wX0_share {C : CT} {d : Nat} (X : Cx C cX0_share RX0 (some .int) 12 d) (φ : Nat) (this : Nat) (v1 : Int64) (v3 : Int64) (v5 : Int32) (σ : St) (y : Int32 × St) (h : fX0_share φ this v1 v3 v5 σ = some y) : AW C 0 [(0, .inr (.inr (some this))), (1, .inr (.inl v1)), (3, .inr (.inl v3)), (5, .inl v5)] [] σ (AQ C (some (.inl y.1)) y.2) := by
  unfold fX0_share at h
  refine aw_lload_n X dX0_share_0 1 1 rfl rfl ?_
  refine aw_lstore X dX0_share_1 (by decide) [(6, .inr (.inl v1)), (0, .inr (.inr (some this))), (1, .inr (.inl v1)), (3, .inr (.inl v3)), (5, .inl v5)] rfl ?_
  refine aw_lload_n X dX0_share_3 3 3 rfl rfl ?_
  refine aw_lstore X dX0_share_4 (by decide) [(8, .inr (.inl v3)), (6, .inr (.inl v1)), (0, .inr (.inr (some this))), (1, .inr (.inl v1)), (3, .inr (.inl v3)), (5, .inl v5)] rfl ?_
  obtain ⟨e3, h4, h⟩ := bind_some h
  refine aw_sub [(0, .inr (.inr (some this))), (1, .inr (.inl v1)), (3, .inr (.inl v3)), (5, .inl v5), (6, .inr (.inl v1)), (8, .inr (.inl v3))] [2, 3, 4, 5, 1, 0] rfl ?_
  refine aw_it (fun s => AW C 6 [(0, .inr (.inr (some this))), (1, .inr (.inl v1)), (3, .inr (.inl v3)), (5, .inl v5), (6, .inr (.inl s.1)), (8, .inr (.inl s.2))] [] σ (AQ C (some (.inl y.1)) y.2)) (fun e => AW C 31 [(0, .inr (.inr (some this))), (1, .inr (.inl v1)), (3, .inr (.inl v3)), (5, .inl v5), (6, .inr (.inl e))] [] σ (AQ C (some (.inl y.1)) y.2)) (fun s r hr kH kE => wX0_share_l6 X φ this v1 v3 v5 σ s.1 s.2 r hr kH kE) φ _ e3 h4 ?_
  refine aw_aload_n X dX0_share_31 0 0 rfl rfl ?_
  refine aw_lload_n X dX0_share_32 1 1 rfl rfl ?_
  refine aw_lload X dX0_share_33 4 rfl ?_
  obtain ⟨hn5, h⟩ := chk_some h
  refine aw_ldiv X dX0_share_35 hn5 ?_
  obtain ⟨s6, hs6, h⟩ := bind_some h
  refine aw_pfL X fl_X0_18 dX0_share_36 hs6 ?_
  refine aw_aload_n X dX0_share_39 0 0 rfl rfl ?_
  refine aw_lload_n X dX0_share_40 2 3 rfl rfl ?_
  refine aw_lload X dX0_share_41 4 rfl ?_
  obtain ⟨hn7, h⟩ := chk_some h
  refine aw_ldiv X dX0_share_43 hn7 ?_
  obtain ⟨s8, hs8, h⟩ := bind_some h
  refine aw_pfL X fl_X0_21 dX0_share_44 hs8 ?_
  refine aw_iload X dX0_share_47 3 rfl ?_
  cases h
  exact aw_iret X dX0_share_49
theorem AX0_share {E : AE} {l : Launch} (hE : EOK E l) (φ d : Nat) (this : Nat) (v1 : Int64) (v3 : Int64) (v5 : Int32) (σ : St) (y : Int32 × St) (h : fX0_share φ this v1 v3 v5 σ = some y) : AMet E l yX0_share (ws_ yX0_share cX0_share 12 (some .int)) d [.inr (.inr (some this)), .inr (.inl v1), .inr (.inl v3), .inl v5] σ (some (.inl y.1)) y.2 := by
  refine amet_of hE (by decide +kernel) (Nat.le_of_ble_eq_true rfl) fun C e1 e2 X XI => ?_
  subst e1
  exact wX0_share X φ this v1 v3 v5 σ y h
theorem wX0_odds {C : CT} {d : Nat} (X : Cx C cX0_odds RX0 (some .int) 4 (d + 3)) (φ : Nat) (this : Nat) (v1 : Int32) (v2 : Int32) (σ : St) (y : Int32 × St) (h : fX0_odds φ this v1 v2 σ = some y) : AW C 0 [(0, .inr (.inr (some this))), (1, .inl v1), (2, .inl v2)] [] σ (AQ C (some (.inl y.1)) y.2) := by
  unfold fX0_odds at h
  refine aw_aload_n X dX0_odds_0 0 0 rfl rfl ?_
  refine aw_iload_n X dX0_odds_1 1 1 rfl rfl ?_
  refine aw_iload_n X dX0_odds_2 2 2 rfl rfl ?_
  obtain ⟨y1, hy1, h⟩ := bind_some h
  refine aw_cV X (st := []) hy1 [.inl v1, .inl v2] rfl rfl ml_X0_185 (fun o h => AX0_askedTwo (Cx.ok X) φ d _ _ _ _ _ h) dX0_odds_3 (Nat.le_of_ble_eq_true rfl) ?_
  refine aw_istore_n X dX0_odds_6 3 rfl (by decide) [(3, .inl y1.1), (0, .inr (.inr (some this))), (1, .inl v1), (2, .inl v2)] rfl ?_
  refine aw_iload_n X dX0_odds_7 0 3 rfl rfl ?_
  refine aw_if_ge X 13 dX0_odds_8 rfl (fun c2 => ?_) (fun c2 => ?_)
  · rw [if_pos c2] at h
    refine aw_aload_n X dX0_odds_13 1 0 rfl rfl ?_
    refine aw_iload_n X dX0_odds_14 3 2 rfl rfl ?_
    obtain ⟨y3, hy3, h⟩ := bind_some h
    refine aw_cV X (st := []) hy3 [.inl v2] rfl rfl ml_X0_188 (fun o h => AX0_of (Cx.ok X) φ (d + 2) _ _ _ _ h) dX0_odds_15 (Nat.le_of_ble_eq_true rfl) ?_
    obtain ⟨x4, hx4, h⟩ := bind_some h
    refine aw_alen X dX0_odds_18 hx4 ?_
    refine aw_aload_n X dX0_odds_19 1 0 rfl rfl ?_
    refine aw_iload_n X dX0_odds_20 2 1 rfl rfl ?_
    obtain ⟨y5, hy5, h⟩ := bind_some h
    refine aw_cV X (st := [.inl x4]) hy5 [.inl v1] rfl rfl ml_X0_188 (fun o h => AX0_of (Cx.ok X) φ (d + 2) _ _ _ _ h) dX0_odds_21 (Nat.le_of_ble_eq_true rfl) ?_
    obtain ⟨x6, hx6, h⟩ := bind_some h
    refine aw_alen X dX0_odds_24 hx6 ?_
    refine aw_icmp_le X 34 dX0_odds_25 rfl (fun c7 => ?_) (fun c7 => ?_)
    · rw [if_pos c7] at h
      refine aw_aload_n X dX0_odds_34 1 0 rfl rfl ?_
      refine aw_aload_n X dX0_odds_35 1 0 rfl rfl ?_
      refine aw_iload_n X dX0_odds_36 2 1 rfl rfl ?_
      obtain ⟨y8, hy8, h⟩ := bind_some h
      refine aw_cV X (st := [.inr (.inr (some this))]) hy8 [.inl v1] rfl rfl ml_X0_188 (fun o h => AX0_of (Cx.ok X) φ (d + 2) _ _ _ _ h) dX0_odds_37 (Nat.le_of_ble_eq_true rfl) ?_
      refine aw_aload_n X dX0_odds_40 1 0 rfl rfl ?_
      refine aw_iload_n X dX0_odds_41 3 2 rfl rfl ?_
      obtain ⟨y9, hy9, h⟩ := bind_some h
      refine aw_cV X (st := [.inr (.inr y8), .inr (.inr (some this))]) hy9 [.inl v2] rfl rfl ml_X0_188 (fun o h => AX0_of (Cx.ok X) φ (d + 2) _ _ _ _ h) dX0_odds_42 (Nat.le_of_ble_eq_true rfl) ?_
      obtain ⟨y10, hy10, h⟩ := bind_some h
      refine aw_callS X (st := [.inr (.inr (some this))]) [.inr (.inr y8), .inr (.inr y9)] rfl ml_X0_227 (AX0_waysOf (Cx.ok X) φ (d + 2) _ _ _ _  hy10) dX0_odds_45 (Nat.le_of_ble_eq_true rfl) ?_
      refine aw_aload_n X dX0_odds_48 1 0 rfl rfl ?_
      refine aw_iload_n X dX0_odds_49 2 1 rfl rfl ?_
      obtain ⟨y11, hy11, h⟩ := bind_some h
      refine aw_cV X (st := [.inr (.inl y10.1), .inr (.inr (some this))]) hy11 [.inl v1] rfl rfl ml_X0_188 (fun o h => AX0_of (Cx.ok X) φ (d + 2) _ _ _ _ h) dX0_odds_50 (Nat.le_of_ble_eq_true rfl) ?_
      obtain ⟨x12, hx12, h⟩ := bind_some h
      refine aw_alen X dX0_odds_53 hx12 ?_
      refine aw_aload_n X dX0_odds_54 1 0 rfl rfl ?_
      refine aw_iload_n X dX0_odds_55 3 2 rfl rfl ?_
      obtain ⟨y13, hy13, h⟩ := bind_some h
      refine aw_cV X (st := [.inl x12, .inr (.inl y10.1), .inr (.inr (some this))]) hy13 [.inl v2] rfl rfl ml_X0_188 (fun o h => AX0_of (Cx.ok X) φ (d + 2) _ _ _ _ h) dX0_odds_56 (Nat.le_of_ble_eq_true rfl) ?_
      obtain ⟨x14, hx14, h⟩ := bind_some h
      refine aw_alen X dX0_odds_59 hx14 ?_
      obtain ⟨y15, hy15, h⟩ := bind_some h
      refine aw_callS X (st := [.inr (.inl y10.1), .inr (.inr (some this))]) [.inl x12, .inl x14] rfl ml_X0_306 (AX0_choose (Cx.ok X) φ (d + 2) _ _ _ _  hy15) dX0_odds_60 (Nat.le_of_ble_eq_true rfl) ?_
      refine aw_iconst X (1 : Int32) dX0_odds_63 (by decide) ?_
      obtain ⟨y16, hy16, h⟩ := bind_some h
      refine aw_cV X (st := []) hy16 [.inr (.inl y10.1), .inr (.inl y15), .inl (1 : Int32)] rfl rfl ml_X0_310 (fun o h => AX0_share (Cx.ok X) φ (d + 2) _ _ _ _ _ _ h) dX0_odds_64 (Nat.le_of_ble_eq_true rfl) ?_
      cases h
      exact aw_iret X dX0_odds_67
    · rw [if_neg c7] at h
      refine aw_aload_n X dX0_odds_28 1 0 rfl rfl ?_
      refine aw_iconst X (4 : Int32) dX0_odds_29 (by decide) ?_
      obtain ⟨y17, hy17, h⟩ := bind_some h
      refine aw_cV X (st := []) hy17 [.inl (4 : Int32)] rfl rfl ml_X0_103 (fun o h => AX0_met (Cx.ok X) φ (d + 2) _ _ _ _ h) dX0_odds_30 (Nat.le_of_ble_eq_true rfl) ?_
      cases h
      exact aw_iret X dX0_odds_33
  · rw [if_neg c2] at h
    refine aw_iload_n X dX0_odds_11 0 3 rfl rfl ?_
    cases h
    exact aw_iret X dX0_odds_12
theorem AX0_odds {E : AE} {l : Launch} (hE : EOK E l) (φ d : Nat) (this : Nat) (v1 : Int32) (v2 : Int32) (σ : St) (y : Int32 × St) (h : fX0_odds φ this v1 v2 σ = some y) : AMet E l yX0_odds (ws_ yX0_odds cX0_odds 4 (some .int)) (d + 3) [.inr (.inr (some this)), .inl v1, .inl v2] σ (some (.inl y.1)) y.2 := by
  refine amet_of hE (by decide +kernel) (Nat.le_of_ble_eq_true rfl) fun C e1 e2 X XI => ?_
  subst e1
  exact wX0_odds X φ this v1 v2 σ y h
theorem wX0_byChance_l76 {C : CT} {d : Nat} {Z : State → Prop} (X : Cx C cX0_byChance RX0 (some .int) 10 (d + 3)) (φ : Nat) (this : Nat) (v2 : Int32) (v4 : Int32) (v5 : Int64) (v7 : Option Nat) (v8 : Int32) (v9 : Int32) (σ : St) (y : (Int32 × St) ⊕ (St)) (h : fX0_byChance_l76 φ this v2 v4 v5 v7 v8 v9 σ = some y) (kH : ∀ s : Int32 × St, y = .inl s → AW C 76 [(0, .inr (.inr (some this))), (2, .inl v2), (4, .inl v4), (5, .inr (.inl v5)), (7, .inr (.inr v7)), (8, .inl v8), (9, .inl s.1)] [] s.2 Z) (kE0 : ∀ e : St, y = .inr e → AW C 117 [(0, .inr (.inr (some this))), (2, .inl v2), (4, .inl v4), (5, .inr (.inl v5)), (7, .inr (.inr v7)), (8, .inl v8)] [] e Z) : AW C 76 [(0, .inr (.inr (some this))), (2, .inl v2), (4, .inl v4), (5, .inr (.inl v5)), (7, .inr (.inr v7)), (8, .inl v8), (9, .inl v9)] [] σ Z := by
  unfold fX0_byChance_l76 at h
  refine aw_iload X dX0_byChance_76 6 rfl ?_
  refine aw_if_lt X 117 dX0_byChance_78 rfl (fun c13 => ?_) (fun c13 => ?_)
  · rw [if_pos c13] at h
    cases h
    refine aw_sub [(0, .inr (.inr (some this))), (2, .inl v2), (4, .inl v4), (5, .inr (.inl v5)), (7, .inr (.inr v7)), (8, .inl v8)] [0, 1, 2, 3, 4, 5] rfl ?_
    exact kE0 σ rfl
  · rw [if_neg c13] at h
    refine aw_aload X dX0_byChance_81 4 rfl ?_
    refine aw_iload X dX0_byChance_83 6 rfl ?_
    refine aw_iconst X (1 : Int32) dX0_byChance_85 (by decide) ?_
    refine aw_iadd X dX0_byChance_86 ?_
    refine aw_dup2 X dX0_byChance_87 rfl rfl ?_
    obtain ⟨x14, hx14, h⟩ := bind_some h
    refine aw_lald X dX0_byChance_88 hx14 ?_
    refine aw_aload X dX0_byChance_89 4 rfl ?_
    refine aw_iload X dX0_byChance_91 6 rfl ?_
    obtain ⟨x15, hx15, h⟩ := bind_some h
    refine aw_lald X dX0_byChance_93 hx15 ?_
    refine aw_ladd X dX0_byChance_94 ?_
    obtain ⟨s16, hs16, h⟩ := bind_some h
    refine aw_last X dX0_byChance_95 hs16 ?_
    refine aw_aload X dX0_byChance_96 4 rfl ?_
    refine aw_iload X dX0_byChance_98 6 rfl ?_
    refine aw_dup2 X dX0_byChance_100 rfl rfl ?_
    obtain ⟨x17, hx17, h⟩ := bind_some h
    refine aw_lald X dX0_byChance_101 hx17 ?_
    refine aw_aload_n X dX0_byChance_102 0 0 rfl rfl ?_
    obtain ⟨x18, hx18, h⟩ := bind_some h
    refine aw_gfI X fl_X0_30 dX0_byChance_103 hx18 ?_
    refine aw_iconst X (1 : Int32) dX0_byChance_106 (by decide) ?_
    refine aw_isub X dX0_byChance_107 ?_
    refine aw_i2l X dX0_byChance_108 ?_
    refine aw_lmul X dX0_byChance_109 ?_
    obtain ⟨s19, hs19, h⟩ := bind_some h
    refine aw_last X dX0_byChance_110 hs19 ?_
    refine aw_iinc X dX0_byChance_111 6 rfl (-1 : Int32) rfl (by decide) [(9, .inl (v9 + (-1 : Int32))), (0, .inr (.inr (some this))), (2, .inl v2), (4, .inl v4), (5, .inr (.inl v5)), (7, .inr (.inr v7)), (8, .inl v8)] rfl ?_
    refine aw_goto X 76 dX0_byChance_114 rfl ?_
    cases h
    refine aw_sub [(0, .inr (.inr (some this))), (2, .inl v2), (4, .inl v4), (5, .inr (.inl v5)), (7, .inr (.inr v7)), (8, .inl v8), (9, .inl (v9 + (-1 : Int32)))] [1, 2, 3, 4, 5, 6, 0] rfl ?_
    exact kH ((v9 + (-1 : Int32)), s19) rfl
theorem wX0_byChance_l51 {C : CT} {d : Nat} {Z : State → Prop} (X : Cx C cX0_byChance RX0 (some .int) 10 (d + 3)) (φ : Nat) (this : Nat) (v2 : Int32) (v4 : Int32) (v7 : Option Nat) (v5 : Int64) (v8 : Int32) (σ : St) (y : (Int64 × Int32 × St) ⊕ (Int64 × St)) (h : fX0_byChance_l51 φ this v2 v4 v7 v5 v8 σ = some y) (kH : ∀ s : Int64 × Int32 × St, y = .inl s → AW C 51 [(0, .inr (.inr (some this))), (2, .inl v2), (4, .inl v4), (5, .inr (.inl s.1)), (7, .inr (.inr v7)), (8, .inl s.2.1)] [] s.2.2 Z) (kE0 : ∀ e : Int64 × St, y = .inr e → AW C 133 [(0, .inr (.inr (some this))), (4, .inl v4), (5, .inr (.inl e.1)), (7, .inr (.inr v7))] [] e.2 Z) : AW C 51 [(0, .inr (.inr (some this))), (2, .inl v2), (4, .inl v4), (5, .inr (.inl v5)), (7, .inr (.inr v7)), (8, .inl v8)] [] σ Z := by
  unfold fX0_byChance_l51 at h
  refine aw_iload X dX0_byChance_51 5 rfl ?_
  refine aw_iload_n X dX0_byChance_53 1 2 rfl rfl ?_
  refine aw_icmp_ge X 133 dX0_byChance_54 rfl (fun c9 => ?_) (fun c9 => ?_)
  · rw [if_pos c9] at h
    cases h
    refine aw_sub [(0, .inr (.inr (some this))), (4, .inl v4), (5, .inr (.inl v5)), (7, .inr (.inr v7))] [0, 2, 3, 4] rfl ?_
    exact kE0 (v5, σ) rfl
  · rw [if_neg c9] at h
    refine aw_aload X dX0_byChance_57 4 rfl ?_
    refine aw_iload X dX0_byChance_59 2 rfl ?_
    refine aw_dup2 X dX0_byChance_61 rfl rfl ?_
    obtain ⟨x10, hx10, h⟩ := bind_some h
    refine aw_lald X dX0_byChance_62 hx10 ?_
    refine aw_aload_n X dX0_byChance_63 0 0 rfl rfl ?_
    obtain ⟨x11, hx11, h⟩ := bind_some h
    refine aw_gfI X fl_X0_30 dX0_byChance_64 hx11 ?_
    refine aw_i2l X dX0_byChance_67 ?_
    refine aw_lmul X dX0_byChance_68 ?_
    obtain ⟨s12, hs12, h⟩ := bind_some h
    refine aw_last X dX0_byChance_69 hs12 ?_
    refine aw_iload X dX0_byChance_70 2 rfl ?_
    refine aw_iconst X (1 : Int32) dX0_byChance_72 (by decide) ?_
    refine aw_isub X dX0_byChance_73 ?_
    refine aw_istore X dX0_byChance_74 (by decide) [(9, .inl (v4 - (1 : Int32))), (0, .inr (.inr (some this))), (2, .inl v2), (4, .inl v4), (5, .inr (.inl v5)), (7, .inr (.inr v7)), (8, .inl v8)] rfl ?_
    obtain ⟨e20, h21, h⟩ := bind_some h
    refine aw_sub [(0, .inr (.inr (some this))), (2, .inl v2), (4, .inl v4), (5, .inr (.inl v5)), (7, .inr (.inr v7)), (8, .inl v8), (9, .inl (v4 - (1 : Int32)))] [1, 2, 3, 4, 5, 6, 0] rfl ?_
    refine aw_it (fun s => AW C 76 [(0, .inr (.inr (some this))), (2, .inl v2), (4, .inl v4), (5, .inr (.inl v5)), (7, .inr (.inr v7)), (8, .inl v8), (9, .inl s.1)] [] s.2 Z) (fun e => AW C 117 [(0, .inr (.inr (some this))), (2, .inl v2), (4, .inl v4), (5, .inr (.inl v5)), (7, .inr (.inr v7)), (8, .inl v8)] [] e Z) (fun s r hr kH kE => wX0_byChance_l76 X φ this v2 v4 v5 v7 v8 s.1 s.2 r hr kH kE) φ _ e20 h21 ?_
    refine aw_lload X dX0_byChance_117 3 rfl ?_
    refine aw_aload_n X dX0_byChance_119 0 0 rfl rfl ?_
    obtain ⟨x22, hx22, h⟩ := bind_some h
    refine aw_gfI X fl_X0_30 dX0_byChance_120 hx22 ?_
    refine aw_i2l X dX0_byChance_123 ?_
    refine aw_lmul X dX0_byChance_124 ?_
    refine aw_lstore X dX0_byChance_125 (by decide) [(5, .inr (.inl (v5 * (x22.toInt64)))), (0, .inr (.inr (some this))), (2, .inl v2), (4, .inl v4), (7, .inr (.inr v7)), (8, .inl v8)] rfl ?_
    refine aw_iinc X dX0_byChance_127 5 rfl (1 : Int32) rfl (by decide) [(8, .inl (v8 + (1 : Int32))), (5, .inr (.inl (v5 * (x22.toInt64)))), (0, .inr (.inr (some this))), (2, .inl v2), (4, .inl v4), (7, .inr (.inr v7))] rfl ?_
    refine aw_goto X 51 dX0_byChance_130 rfl ?_
    cases h
    refine aw_sub [(0, .inr (.inr (some this))), (2, .inl v2), (4, .inl v4), (5, .inr (.inl (v5 * (x22.toInt64)))), (7, .inr (.inr v7)), (8, .inl (v8 + (1 : Int32)))] [2, 3, 4, 1, 5, 0] rfl ?_
    exact kH ((v5 * (x22.toInt64)), (v8 + (1 : Int32)), e20) rfl
theorem wX0_byChance {C : CT} {d : Nat} (X : Cx C cX0_byChance RX0 (some .int) 10 (d + 3)) (φ : Nat) (this : Nat) (v1 : Int32) (v2 : Int32) (σ : St) (y : Int32 × St) (h : fX0_byChance φ this v1 v2 σ = some y) : AW C 0 [(0, .inr (.inr (some this))), (1, .inl v1), (2, .inl v2)] [] σ (AQ C (some (.inl y.1)) y.2) := by
  unfold fX0_byChance at h
  refine aw_iload_n X dX0_byChance_0 2 2 rfl rfl ?_
  refine aw_iconst X (0 : Int32) dX0_byChance_1 (by decide) ?_
  refine aw_bipush X (20 : Int32) dX0_byChance_2 (by decide) ?_
  obtain ⟨y1, hy1, h⟩ := bind_some h
  refine aw_callS X (st := []) [.inl v2, .inl (0 : Int32), .inl (20 : Int32)] rfl ml_X0_93 (AX0_isIn (Cx.ok X) φ (d + 2) _ _ _ _ _  hy1) dX0_byChance_4 (Nat.le_of_ble_eq_true rfl) ?_
  refine aw_if_ne X 12 dX0_byChance_7 rfl (fun c2 => ?_) (fun c2 => ?_)
  · rw [if_neg c2] at h
    refine aw_aload_n X dX0_byChance_12 0 0 rfl rfl ?_
    refine aw_iload_n X dX0_byChance_13 1 1 rfl rfl ?_
    obtain ⟨y3, hy3, h⟩ := bind_some h
    refine aw_cV X (st := []) hy3 [.inl v1] rfl rfl ml_X0_195 (fun o h => AX0_askedWord (Cx.ok X) φ d _ _ _ _ h) dX0_byChance_14 (Nat.le_of_ble_eq_true rfl) ?_
    refine aw_istore_n X dX0_byChance_17 3 rfl (by decide) [(3, .inl y3.1), (0, .inr (.inr (some this))), (1, .inl v1), (2, .inl v2)] rfl ?_
    refine aw_iload_n X dX0_byChance_18 0 3 rfl rfl ?_
    refine aw_if_ge X 24 dX0_byChance_19 rfl (fun c4 => ?_) (fun c4 => ?_)
    · rw [if_pos c4] at h
      refine aw_aload_n X dX0_byChance_24 1 0 rfl rfl ?_
      refine aw_iload_n X dX0_byChance_25 2 1 rfl rfl ?_
      obtain ⟨y5, hy5, h⟩ := bind_some h
      refine aw_cV X (st := []) hy5 [.inl v1] rfl rfl ml_X0_188 (fun o h => AX0_of (Cx.ok X) φ (d + 2) _ _ _ _ h) dX0_byChance_26 (Nat.le_of_ble_eq_true rfl) ?_
      obtain ⟨x6, hx6, h⟩ := bind_some h
      refine aw_alen X dX0_byChance_29 hx6 ?_
      refine aw_istore X dX0_byChance_30 (by decide) [(4, .inl x6), (3, .inl y3.1), (0, .inr (.inr (some this))), (1, .inl v1), (2, .inl v2)] rfl ?_
      refine aw_lconst X (1 : Int64) dX0_byChance_32 rfl ?_
      refine aw_lstore X dX0_byChance_33 (by decide) [(5, .inr (.inl (1 : Int64))), (4, .inl x6), (3, .inl y3.1), (0, .inr (.inr (some this))), (1, .inl v1), (2, .inl v2)] rfl ?_
      refine aw_iload X dX0_byChance_35 1 rfl ?_
      refine aw_iconst X (1 : Int32) dX0_byChance_37 (by decide) ?_
      refine aw_iadd X dX0_byChance_38 ?_
      obtain ⟨n7, hn7, h⟩ := bind_some h
      refine aw_newa X (kd := 3) dX0_byChance_39 rfl (by decide) (by decide) q217 (r := n7.1) (σ' := n7.2) hn7 ?_
      refine aw_astore X dX0_byChance_41 (by decide) [(7, .inr (.inr n7.1)), (5, .inr (.inl (1 : Int64))), (4, .inl x6), (3, .inl y3.1), (0, .inr (.inr (some this))), (1, .inl v1), (2, .inl v2)] rfl ?_
      refine aw_aload X dX0_byChance_43 0 rfl ?_
      refine aw_iconst X (0 : Int32) dX0_byChance_45 (by decide) ?_
      refine aw_lconst X (1 : Int64) dX0_byChance_46 rfl ?_
      obtain ⟨s8, hs8, h⟩ := bind_some h
      refine aw_last X dX0_byChance_47 hs8 ?_
      refine aw_iconst X (0 : Int32) dX0_byChance_48 (by decide) ?_
      refine aw_istore X dX0_byChance_49 (by decide) [(8, .inl (0 : Int32)), (7, .inr (.inr n7.1)), (5, .inr (.inl (1 : Int64))), (4, .inl x6), (3, .inl y3.1), (0, .inr (.inr (some this))), (1, .inl v1), (2, .inl v2)] rfl ?_
      obtain ⟨e23, h24, h⟩ := bind_some h
      refine aw_sub [(0, .inr (.inr (some this))), (2, .inl v2), (4, .inl x6), (5, .inr (.inl (1 : Int64))), (7, .inr (.inr n7.1)), (8, .inl (0 : Int32))] [5, 7, 3, 2, 1, 0] rfl ?_
      refine aw_it (fun s => AW C 51 [(0, .inr (.inr (some this))), (2, .inl v2), (4, .inl x6), (5, .inr (.inl s.1)), (7, .inr (.inr n7.1)), (8, .inl s.2.1)] [] s.2.2 (AQ C (some (.inl y.1)) y.2)) (fun e => AW C 133 [(0, .inr (.inr (some this))), (4, .inl x6), (5, .inr (.inl e.1)), (7, .inr (.inr n7.1))] [] e.2 (AQ C (some (.inl y.1)) y.2)) (fun s r hr kH kE => wX0_byChance_l51 X φ this v2 x6 n7.1 s.1 s.2.1 s.2.2 r hr kH kE) φ _ e23 h24 ?_
      refine aw_aload_n X dX0_byChance_133 0 0 rfl rfl ?_
      refine aw_aload X dX0_byChance_134 3 rfl ?_
      refine aw_iload X dX0_byChance_136 1 rfl ?_
      obtain ⟨x25, hx25, h⟩ := bind_some h
      refine aw_lald X dX0_byChance_138 hx25 ?_
      refine aw_lload X dX0_byChance_139 2 rfl ?_
      refine aw_iconst X (1 : Int32) dX0_byChance_141 (by decide) ?_
      obtain ⟨y26, hy26, h⟩ := bind_some h
      refine aw_cV X (st := []) hy26 [.inr (.inl x25), .inr (.inl e23.1), .inl (1 : Int32)] rfl rfl ml_X0_310 (fun o h => AX0_share (Cx.ok X) φ (d + 2) _ _ _ _ _ _ h) dX0_byChance_142 (Nat.le_of_ble_eq_true rfl) ?_
      cases h
      exact aw_iret X dX0_byChance_145
    · rw [if_neg c4] at h
      refine aw_iload_n X dX0_byChance_22 0 3 rfl rfl ?_
      cases h
      exact aw_iret X dX0_byChance_23
  · rw [if_pos c2] at h
    refine aw_iconst X (-1 : Int32) dX0_byChance_10 (by decide) ?_
    cases h
    exact aw_iret X dX0_byChance_11
theorem AX0_byChance {E : AE} {l : Launch} (hE : EOK E l) (φ d : Nat) (this : Nat) (v1 : Int32) (v2 : Int32) (σ : St) (y : Int32 × St) (h : fX0_byChance φ this v1 v2 σ = some y) : AMet E l yX0_byChance (ws_ yX0_byChance cX0_byChance 10 (some .int)) (d + 3) [.inr (.inr (some this)), .inl v1, .inl v2] σ (some (.inl y.1)) y.2 := by
  refine amet_of hE (by decide +kernel) (Nat.le_of_ble_eq_true rfl) fun C e1 e2 X XI => ?_
  subst e1
  exact wX0_byChance X φ this v1 v2 σ y h
theorem wX0_asked {C : CT} {d : Nat} (X : Cx C cX0_asked RX0 (some .int) 1 d) (φ : Nat) (this : Nat) (σ : St) (y : Int32) (h : fX0_asked φ this σ = some y) : AW C 0 [(0, .inr (.inr (some this)))] [] σ (AQ C (some (.inl y)) σ) := by
  unfold fX0_asked at h
  refine aw_aload_n X dX0_asked_0 0 0 rfl rfl ?_
  obtain ⟨x1, hx1, h⟩ := bind_some h
  refine aw_gfI X fl_X0_11 dX0_asked_1 hx1 ?_
  cases h
  exact aw_iret X dX0_asked_4
theorem AX0_asked {E : AE} {l : Launch} (hE : EOK E l) (φ d : Nat) (this : Nat) (σ : St) (y : Int32) (h : fX0_asked φ this σ = some y) : AMet E l yX0_asked (ws_ yX0_asked cX0_asked 1 (some .int)) d [.inr (.inr (some this))] σ (some (.inl y)) σ := by
  refine amet_of hE (by decide +kernel) (Nat.le_of_ble_eq_true rfl) fun C e1 e2 X XI => ?_
  subst e1
  exact wX0_asked X φ this σ y h
theorem wX0_many {C : CT} {d : Nat} (X : Cx C cX0_many RX0 (some .long) 1 d) (φ : Nat) (this : Nat) (σ : St) (y : Int64) (h : fX0_many φ this σ = some y) : AW C 0 [(0, .inr (.inr (some this)))] [] σ (AQ C (some (.inr (.inl y))) σ) := by
  unfold fX0_many at h
  refine aw_aload_n X dX0_many_0 0 0 rfl rfl ?_
  obtain ⟨x1, hx1, h⟩ := bind_some h
  refine aw_gfL X fl_X0_14 dX0_many_1 hx1 ?_
  cases h
  exact aw_lret X dX0_many_4
theorem AX0_many {E : AE} {l : Launch} (hE : EOK E l) (φ d : Nat) (this : Nat) (σ : St) (y : Int64) (h : fX0_many φ this σ = some y) : AMet E l yX0_many (ws_ yX0_many cX0_many 1 (some .long)) d [.inr (.inr (some this))] σ (some (.inr (.inl y))) σ := by
  refine amet_of hE (by decide +kernel) (Nat.le_of_ble_eq_true rfl) fun C e1 e2 X XI => ?_
  subst e1
  exact wX0_many X φ this σ y h
theorem wX0_upper {C : CT} {d : Nat} (X : Cx C cX0_upper RX0 (some .long) 1 d) (φ : Nat) (this : Nat) (σ : St) (y : Int64) (h : fX0_upper φ this σ = some y) : AW C 0 [(0, .inr (.inr (some this)))] [] σ (AQ C (some (.inr (.inl y))) σ) := by
  unfold fX0_upper at h
  refine aw_aload_n X dX0_upper_0 0 0 rfl rfl ?_
  obtain ⟨x1, hx1, h⟩ := bind_some h
  refine aw_gfL X fl_X0_18 dX0_upper_1 hx1 ?_
  cases h
  exact aw_lret X dX0_upper_4
theorem AX0_upper {E : AE} {l : Launch} (hE : EOK E l) (φ d : Nat) (this : Nat) (σ : St) (y : Int64) (h : fX0_upper φ this σ = some y) : AMet E l yX0_upper (ws_ yX0_upper cX0_upper 1 (some .long)) d [.inr (.inr (some this))] σ (some (.inr (.inl y))) σ := by
  refine amet_of hE (by decide +kernel) (Nat.le_of_ble_eq_true rfl) fun C e1 e2 X XI => ?_
  subst e1
  exact wX0_upper X φ this σ y h
theorem wX0_lower {C : CT} {d : Nat} (X : Cx C cX0_lower RX0 (some .long) 1 d) (φ : Nat) (this : Nat) (σ : St) (y : Int64) (h : fX0_lower φ this σ = some y) : AW C 0 [(0, .inr (.inr (some this)))] [] σ (AQ C (some (.inr (.inl y))) σ) := by
  unfold fX0_lower at h
  refine aw_aload_n X dX0_lower_0 0 0 rfl rfl ?_
  obtain ⟨x1, hx1, h⟩ := bind_some h
  refine aw_gfL X fl_X0_21 dX0_lower_1 hx1 ?_
  cases h
  exact aw_lret X dX0_lower_4
theorem AX0_lower {E : AE} {l : Launch} (hE : EOK E l) (φ d : Nat) (this : Nat) (σ : St) (y : Int64) (h : fX0_lower φ this σ = some y) : AMet E l yX0_lower (ws_ yX0_lower cX0_lower 1 (some .long)) d [.inr (.inr (some this))] σ (some (.inr (.inl y))) σ := by
  refine amet_of hE (by decide +kernel) (Nat.le_of_ble_eq_true rfl) fun C e1 e2 X XI => ?_
  subst e1
  exact wX0_lower X φ this σ y h
theorem wX0_rowCount_l13 {C : CT} {d : Nat} {Z : State → Prop} (X : Cx C cX0_rowCount RX0 (some .int) 6 d) (φ : Nat) (v2 : Option Nat) (v3 : Int32) (σ : St) (v1 : Int32) (v4 : Int32) (y : (Int32 × Int32) ⊕ (Int32)) (h : fX0_rowCount_l13 φ v2 v3 σ v1 v4 = some y) (kH : ∀ s : Int32 × Int32, y = .inl s → AW C 13 [(1, .inl s.1), (2, .inr (.inr v2)), (3, .inl v3), (4, .inl s.2)] [] σ Z) (kE0 : ∀ e : Int32, y = .inr e → AW C 44 [(1, .inl e)] [] σ Z) : AW C 13 [(1, .inl v1), (2, .inr (.inr v2)), (3, .inl v3), (4, .inl v4)] [] σ Z := by
  unfold fX0_rowCount_l13 at h
  refine aw_iload X dX0_rowCount_13 3 rfl ?_
  refine aw_iload_n X dX0_rowCount_15 2 3 rfl rfl ?_
  refine aw_icmp_ge X 44 dX0_rowCount_16 rfl (fun c3 => ?_) (fun c3 => ?_)
  · rw [if_pos c3] at h
    cases h
    refine aw_sub [(1, .inl v1)] [0] rfl ?_
    exact kE0 v1 rfl
  · rw [if_neg c3] at h
    refine aw_aload_n X dX0_rowCount_19 1 2 rfl rfl ?_
    refine aw_iload X dX0_rowCount_20 3 rfl ?_
    obtain ⟨x4, hx4, h⟩ := bind_some h
    refine aw_aald X (kd := 5) dX0_rowCount_22 (by decide) (by decide) hx4 ?_
    refine aw_astore X dX0_rowCount_23 (by decide) [(5, .inr (.inr x4)), (1, .inl v1), (2, .inr (.inr v2)), (3, .inl v3), (4, .inl v4)] rfl ?_
    refine aw_iload_n X dX0_rowCount_25 1 1 rfl rfl ?_
    refine aw_aload X dX0_rowCount_26 0 rfl ?_
    refine aw_ifnonnull X 35 dX0_rowCount_28 rfl (fun c5 => ?_) (fun c5 => ?_)
    · rw [if_neg c5] at h
      refine aw_iconst X (1 : Int32) dX0_rowCount_35 (by decide) ?_
      refine aw_iadd X dX0_rowCount_36 ?_
      refine aw_istore_n X dX0_rowCount_37 1 rfl (by decide) [(1, .inl (v1 + (1 : Int32))), (5, .inr (.inr x4)), (2, .inr (.inr v2)), (3, .inl v3), (4, .inl v4)] rfl ?_
      refine aw_iinc X dX0_rowCount_38 4 rfl (1 : Int32) rfl (by decide) [(4, .inl (v4 + (1 : Int32))), (1, .inl (v1 + (1 : Int32))), (5, .inr (.inr x4)), (2, .inr (.inr v2)), (3, .inl v3)] rfl ?_
      refine aw_goto X 13 dX0_rowCount_41 rfl ?_
      cases h
      refine aw_sub [(1, .inl (v1 + (1 : Int32))), (2, .inr (.inr v2)), (3, .inl v3), (4, .inl (v4 + (1 : Int32)))] [1, 3, 4, 0] rfl ?_
      exact kH ((v1 + (1 : Int32)), (v4 + (1 : Int32))) rfl
    · rw [if_pos c5] at h
      refine aw_iconst X (0 : Int32) dX0_rowCount_31 (by decide) ?_
      refine aw_goto X 36 dX0_rowCount_32 rfl ?_
      refine aw_iadd X dX0_rowCount_36 ?_
      refine aw_istore_n X dX0_rowCount_37 1 rfl (by decide) [(1, .inl (v1 + (0 : Int32))), (5, .inr (.inr x4)), (2, .inr (.inr v2)), (3, .inl v3), (4, .inl v4)] rfl ?_
      refine aw_iinc X dX0_rowCount_38 4 rfl (1 : Int32) rfl (by decide) [(4, .inl (v4 + (1 : Int32))), (1, .inl (v1 + (0 : Int32))), (5, .inr (.inr x4)), (2, .inr (.inr v2)), (3, .inl v3)] rfl ?_
      refine aw_goto X 13 dX0_rowCount_41 rfl ?_
      cases h
      refine aw_sub [(1, .inl (v1 + (0 : Int32))), (2, .inr (.inr v2)), (3, .inl v3), (4, .inl (v4 + (1 : Int32)))] [1, 3, 4, 0] rfl ?_
      exact kH ((v1 + (0 : Int32)), (v4 + (1 : Int32))) rfl
theorem wX0_rowCount {C : CT} {d : Nat} (X : Cx C cX0_rowCount RX0 (some .int) 6 d) (φ : Nat) (this : Nat) (σ : St) (y : Int32) (h : fX0_rowCount φ this σ = some y) : AW C 0 [(0, .inr (.inr (some this)))] [] σ (AQ C (some (.inl y)) σ) := by
  unfold fX0_rowCount at h
  refine aw_iconst X (0 : Int32) dX0_rowCount_0 (by decide) ?_
  refine aw_istore_n X dX0_rowCount_1 1 rfl (by decide) [(1, .inl (0 : Int32)), (0, .inr (.inr (some this)))] rfl ?_
  refine aw_aload_n X dX0_rowCount_2 1 0 rfl rfl ?_
  obtain ⟨x1, hx1, h⟩ := bind_some h
  refine aw_gfR X fl_X0_34 dX0_rowCount_3 hx1 ?_
  refine aw_astore_n X dX0_rowCount_6 2 rfl (by decide) [(2, .inr (.inr x1)), (1, .inl (0 : Int32)), (0, .inr (.inr (some this)))] rfl ?_
  refine aw_aload_n X dX0_rowCount_7 0 2 rfl rfl ?_
  obtain ⟨x2, hx2, h⟩ := bind_some h
  refine aw_alen X dX0_rowCount_8 hx2 ?_
  refine aw_istore_n X dX0_rowCount_9 3 rfl (by decide) [(3, .inl x2), (2, .inr (.inr x1)), (1, .inl (0 : Int32)), (0, .inr (.inr (some this)))] rfl ?_
  refine aw_iconst X (0 : Int32) dX0_rowCount_10 (by decide) ?_
  refine aw_istore X dX0_rowCount_11 (by decide) [(4, .inl (0 : Int32)), (3, .inl x2), (2, .inr (.inr x1)), (1, .inl (0 : Int32)), (0, .inr (.inr (some this)))] rfl ?_
  obtain ⟨e6, h7, h⟩ := bind_some h
  refine aw_sub [(1, .inl (0 : Int32)), (2, .inr (.inr x1)), (3, .inl x2), (4, .inl (0 : Int32))] [3, 2, 1, 0] rfl ?_
  refine aw_it (fun s => AW C 13 [(1, .inl s.1), (2, .inr (.inr x1)), (3, .inl x2), (4, .inl s.2)] [] σ (AQ C (some (.inl y)) σ)) (fun e => AW C 44 [(1, .inl e)] [] σ (AQ C (some (.inl y)) σ)) (fun s r hr kH kE => wX0_rowCount_l13 X φ x1 x2 σ s.1 s.2 r hr kH kE) φ _ e6 h7 ?_
  refine aw_iload_n X dX0_rowCount_44 0 1 rfl rfl ?_
  cases h
  exact aw_iret X dX0_rowCount_45
theorem AX0_rowCount {E : AE} {l : Launch} (hE : EOK E l) (φ d : Nat) (this : Nat) (σ : St) (y : Int32) (h : fX0_rowCount φ this σ = some y) : AMet E l yX0_rowCount (ws_ yX0_rowCount cX0_rowCount 6 (some .int)) d [.inr (.inr (some this))] σ (some (.inl y)) σ := by
  refine amet_of hE (by decide +kernel) (Nat.le_of_ble_eq_true rfl) fun C e1 e2 X XI => ?_
  subst e1
  exact wX0_rowCount X φ this σ y h
theorem wX0_textCount_l13 {C : CT} {d : Nat} {Z : State → Prop} (X : Cx C cX0_textCount RX0 (some .int) 6 d) (φ : Nat) (v2 : Option Nat) (v3 : Int32) (σ : St) (v1 : Int32) (v4 : Int32) (y : (Int32 × Int32) ⊕ (Int32)) (h : fX0_textCount_l13 φ v2 v3 σ v1 v4 = some y) (kH : ∀ s : Int32 × Int32, y = .inl s → AW C 13 [(1, .inl s.1), (2, .inr (.inr v2)), (3, .inl v3), (4, .inl s.2)] [] σ Z) (kE0 : ∀ e : Int32, y = .inr e → AW C 44 [(1, .inl e)] [] σ Z) : AW C 13 [(1, .inl v1), (2, .inr (.inr v2)), (3, .inl v3), (4, .inl v4)] [] σ Z := by
  unfold fX0_textCount_l13 at h
  refine aw_iload X dX0_textCount_13 3 rfl ?_
  refine aw_iload_n X dX0_textCount_15 2 3 rfl rfl ?_
  refine aw_icmp_ge X 44 dX0_textCount_16 rfl (fun c3 => ?_) (fun c3 => ?_)
  · rw [if_pos c3] at h
    cases h
    refine aw_sub [(1, .inl v1)] [0] rfl ?_
    exact kE0 v1 rfl
  · rw [if_neg c3] at h
    refine aw_aload_n X dX0_textCount_19 1 2 rfl rfl ?_
    refine aw_iload X dX0_textCount_20 3 rfl ?_
    obtain ⟨x4, hx4, h⟩ := bind_some h
    refine aw_aald X (kd := 6) dX0_textCount_22 (by decide) (by decide) hx4 ?_
    refine aw_astore X dX0_textCount_23 (by decide) [(5, .inr (.inr x4)), (1, .inl v1), (2, .inr (.inr v2)), (3, .inl v3), (4, .inl v4)] rfl ?_
    refine aw_iload_n X dX0_textCount_25 1 1 rfl rfl ?_
    refine aw_aload X dX0_textCount_26 0 rfl ?_
    refine aw_ifnonnull X 35 dX0_textCount_28 rfl (fun c5 => ?_) (fun c5 => ?_)
    · rw [if_neg c5] at h
      refine aw_iconst X (1 : Int32) dX0_textCount_35 (by decide) ?_
      refine aw_iadd X dX0_textCount_36 ?_
      refine aw_istore_n X dX0_textCount_37 1 rfl (by decide) [(1, .inl (v1 + (1 : Int32))), (5, .inr (.inr x4)), (2, .inr (.inr v2)), (3, .inl v3), (4, .inl v4)] rfl ?_
      refine aw_iinc X dX0_textCount_38 4 rfl (1 : Int32) rfl (by decide) [(4, .inl (v4 + (1 : Int32))), (1, .inl (v1 + (1 : Int32))), (5, .inr (.inr x4)), (2, .inr (.inr v2)), (3, .inl v3)] rfl ?_
      refine aw_goto X 13 dX0_textCount_41 rfl ?_
      cases h
      refine aw_sub [(1, .inl (v1 + (1 : Int32))), (2, .inr (.inr v2)), (3, .inl v3), (4, .inl (v4 + (1 : Int32)))] [1, 3, 4, 0] rfl ?_
      exact kH ((v1 + (1 : Int32)), (v4 + (1 : Int32))) rfl
    · rw [if_pos c5] at h
      refine aw_iconst X (0 : Int32) dX0_textCount_31 (by decide) ?_
      refine aw_goto X 36 dX0_textCount_32 rfl ?_
      refine aw_iadd X dX0_textCount_36 ?_
      refine aw_istore_n X dX0_textCount_37 1 rfl (by decide) [(1, .inl (v1 + (0 : Int32))), (5, .inr (.inr x4)), (2, .inr (.inr v2)), (3, .inl v3), (4, .inl v4)] rfl ?_
      refine aw_iinc X dX0_textCount_38 4 rfl (1 : Int32) rfl (by decide) [(4, .inl (v4 + (1 : Int32))), (1, .inl (v1 + (0 : Int32))), (5, .inr (.inr x4)), (2, .inr (.inr v2)), (3, .inl v3)] rfl ?_
      refine aw_goto X 13 dX0_textCount_41 rfl ?_
      cases h
      refine aw_sub [(1, .inl (v1 + (0 : Int32))), (2, .inr (.inr v2)), (3, .inl v3), (4, .inl (v4 + (1 : Int32)))] [1, 3, 4, 0] rfl ?_
      exact kH ((v1 + (0 : Int32)), (v4 + (1 : Int32))) rfl
theorem wX0_textCount {C : CT} {d : Nat} (X : Cx C cX0_textCount RX0 (some .int) 6 d) (φ : Nat) (this : Nat) (σ : St) (y : Int32) (h : fX0_textCount φ this σ = some y) : AW C 0 [(0, .inr (.inr (some this)))] [] σ (AQ C (some (.inl y)) σ) := by
  unfold fX0_textCount at h
  refine aw_iconst X (0 : Int32) dX0_textCount_0 (by decide) ?_
  refine aw_istore_n X dX0_textCount_1 1 rfl (by decide) [(1, .inl (0 : Int32)), (0, .inr (.inr (some this)))] rfl ?_
  refine aw_aload_n X dX0_textCount_2 1 0 rfl rfl ?_
  obtain ⟨x1, hx1, h⟩ := bind_some h
  refine aw_gfR X fl_X0_40 dX0_textCount_3 hx1 ?_
  refine aw_astore_n X dX0_textCount_6 2 rfl (by decide) [(2, .inr (.inr x1)), (1, .inl (0 : Int32)), (0, .inr (.inr (some this)))] rfl ?_
  refine aw_aload_n X dX0_textCount_7 0 2 rfl rfl ?_
  obtain ⟨x2, hx2, h⟩ := bind_some h
  refine aw_alen X dX0_textCount_8 hx2 ?_
  refine aw_istore_n X dX0_textCount_9 3 rfl (by decide) [(3, .inl x2), (2, .inr (.inr x1)), (1, .inl (0 : Int32)), (0, .inr (.inr (some this)))] rfl ?_
  refine aw_iconst X (0 : Int32) dX0_textCount_10 (by decide) ?_
  refine aw_istore X dX0_textCount_11 (by decide) [(4, .inl (0 : Int32)), (3, .inl x2), (2, .inr (.inr x1)), (1, .inl (0 : Int32)), (0, .inr (.inr (some this)))] rfl ?_
  obtain ⟨e6, h7, h⟩ := bind_some h
  refine aw_sub [(1, .inl (0 : Int32)), (2, .inr (.inr x1)), (3, .inl x2), (4, .inl (0 : Int32))] [3, 2, 1, 0] rfl ?_
  refine aw_it (fun s => AW C 13 [(1, .inl s.1), (2, .inr (.inr x1)), (3, .inl x2), (4, .inl s.2)] [] σ (AQ C (some (.inl y)) σ)) (fun e => AW C 44 [(1, .inl e)] [] σ (AQ C (some (.inl y)) σ)) (fun s r hr kH kE => wX0_textCount_l13 X φ x1 x2 σ s.1 s.2 r hr kH kE) φ _ e6 h7 ?_
  refine aw_iload_n X dX0_textCount_44 0 1 rfl rfl ?_
  cases h
  exact aw_iret X dX0_textCount_45
theorem AX0_textCount {E : AE} {l : Launch} (hE : EOK E l) (φ d : Nat) (this : Nat) (σ : St) (y : Int32) (h : fX0_textCount φ this σ = some y) : AMet E l yX0_textCount (ws_ yX0_textCount cX0_textCount 6 (some .int)) d [.inr (.inr (some this))] σ (some (.inl y)) σ := by
  refine amet_of hE (by decide +kernel) (Nat.le_of_ble_eq_true rfl) fun C e1 e2 X XI => ?_
  subst e1
  exact wX0_textCount X φ this σ y h
theorem wX0_wordCount_l14 {C : CT} {d : Nat} {Z : State → Prop} (X : Cx C cX0_wordCount RX0 (some .int) 7 (d + 3)) (φ : Nat) (v1 : Int32) (v3 : Option Nat) (v4 : Int32) (σ : St) (v2 : Int32) (v5 : Int32) (y : (Int32 × Int32) ⊕ (Int32)) (h : fX0_wordCount_l14 φ v1 v3 v4 σ v2 v5 = some y) (kH : ∀ s : Int32 × Int32, y = .inl s → AW C 14 [(1, .inl v1), (2, .inl s.1), (3, .inr (.inr v3)), (4, .inl v4), (5, .inl s.2)] [] σ Z) (kE0 : ∀ e : Int32, y = .inr e → AW C 55 [(2, .inl e)] [] σ Z) : AW C 14 [(1, .inl v1), (2, .inl v2), (3, .inr (.inr v3)), (4, .inl v4), (5, .inl v5)] [] σ Z := by
  unfold fX0_wordCount_l14 at h
  refine aw_iload X dX0_wordCount_14 4 rfl ?_
  refine aw_iload X dX0_wordCount_16 3 rfl ?_
  refine aw_icmp_ge X 55 dX0_wordCount_18 rfl (fun c3 => ?_) (fun c3 => ?_)
  · rw [if_pos c3] at h
    cases h
    refine aw_sub [(2, .inl v2)] [1] rfl ?_
    exact kE0 v2 rfl
  · rw [if_neg c3] at h
    refine aw_aload_n X dX0_wordCount_21 2 3 rfl rfl ?_
    refine aw_iload X dX0_wordCount_22 4 rfl ?_
    obtain ⟨x4, hx4, h⟩ := bind_some h
    refine aw_aald X (kd := 7) dX0_wordCount_24 (by decide) (by decide) hx4 ?_
    refine aw_astore X dX0_wordCount_25 (by decide) [(6, .inr (.inr x4)), (1, .inl v1), (2, .inl v2), (3, .inr (.inr v3)), (4, .inl v4), (5, .inl v5)] rfl ?_
    refine aw_iload_n X dX0_wordCount_27 2 2 rfl rfl ?_
    refine aw_aload X dX0_wordCount_28 0 rfl ?_
    refine aw_ifnull X 46 dX0_wordCount_30 rfl (fun c5 => ?_) (fun c5 => ?_)
    · rw [if_pos c5] at h
      refine aw_iconst X (0 : Int32) dX0_wordCount_46 (by decide) ?_
      refine aw_iadd X dX0_wordCount_47 ?_
      refine aw_istore_n X dX0_wordCount_48 2 rfl (by decide) [(2, .inl (v2 + (0 : Int32))), (6, .inr (.inr x4)), (1, .inl v1), (3, .inr (.inr v3)), (4, .inl v4), (5, .inl v5)] rfl ?_
      refine aw_iinc X dX0_wordCount_49 5 rfl (1 : Int32) rfl (by decide) [(5, .inl (v5 + (1 : Int32))), (2, .inl (v2 + (0 : Int32))), (6, .inr (.inr x4)), (1, .inl v1), (3, .inr (.inr v3)), (4, .inl v4)] rfl ?_
      refine aw_goto X 14 dX0_wordCount_52 rfl ?_
      cases h
      refine aw_sub [(1, .inl v1), (2, .inl (v2 + (0 : Int32))), (3, .inr (.inr v3)), (4, .inl v4), (5, .inl (v5 + (1 : Int32)))] [3, 1, 4, 5, 0] rfl ?_
      exact kH ((v2 + (0 : Int32)), (v5 + (1 : Int32))) rfl
    · rw [if_neg c5] at h
      refine aw_aload X dX0_wordCount_33 0 rfl ?_
      refine aw_iload_n X dX0_wordCount_35 1 1 rfl rfl ?_
      obtain ⟨y6, hy6, h⟩ := bind_some h
      refine aw_v_is X (st := [.inl v2]) hy6 rfl dX0_wordCount_36 (Nat.le_of_ble_eq_true rfl) ?_
      refine aw_if_eq X 46 dX0_wordCount_39 rfl (fun c7 => ?_) (fun c7 => ?_)
      · rw [if_pos c7] at h
        refine aw_iconst X (0 : Int32) dX0_wordCount_46 (by decide) ?_
        refine aw_iadd X dX0_wordCount_47 ?_
        refine aw_istore_n X dX0_wordCount_48 2 rfl (by decide) [(2, .inl (v2 + (0 : Int32))), (6, .inr (.inr x4)), (1, .inl v1), (3, .inr (.inr v3)), (4, .inl v4), (5, .inl v5)] rfl ?_
        refine aw_iinc X dX0_wordCount_49 5 rfl (1 : Int32) rfl (by decide) [(5, .inl (v5 + (1 : Int32))), (2, .inl (v2 + (0 : Int32))), (6, .inr (.inr x4)), (1, .inl v1), (3, .inr (.inr v3)), (4, .inl v4)] rfl ?_
        refine aw_goto X 14 dX0_wordCount_52 rfl ?_
        cases h
        refine aw_sub [(1, .inl v1), (2, .inl (v2 + (0 : Int32))), (3, .inr (.inr v3)), (4, .inl v4), (5, .inl (v5 + (1 : Int32)))] [3, 1, 4, 5, 0] rfl ?_
        exact kH ((v2 + (0 : Int32)), (v5 + (1 : Int32))) rfl
      · rw [if_neg c7] at h
        refine aw_iconst X (1 : Int32) dX0_wordCount_42 (by decide) ?_
        refine aw_goto X 47 dX0_wordCount_43 rfl ?_
        refine aw_iadd X dX0_wordCount_47 ?_
        refine aw_istore_n X dX0_wordCount_48 2 rfl (by decide) [(2, .inl (v2 + (1 : Int32))), (6, .inr (.inr x4)), (1, .inl v1), (3, .inr (.inr v3)), (4, .inl v4), (5, .inl v5)] rfl ?_
        refine aw_iinc X dX0_wordCount_49 5 rfl (1 : Int32) rfl (by decide) [(5, .inl (v5 + (1 : Int32))), (2, .inl (v2 + (1 : Int32))), (6, .inr (.inr x4)), (1, .inl v1), (3, .inr (.inr v3)), (4, .inl v4)] rfl ?_
        refine aw_goto X 14 dX0_wordCount_52 rfl ?_
        cases h
        refine aw_sub [(1, .inl v1), (2, .inl (v2 + (1 : Int32))), (3, .inr (.inr v3)), (4, .inl v4), (5, .inl (v5 + (1 : Int32)))] [3, 1, 4, 5, 0] rfl ?_
        exact kH ((v2 + (1 : Int32)), (v5 + (1 : Int32))) rfl
theorem wX0_wordCount {C : CT} {d : Nat} (X : Cx C cX0_wordCount RX0 (some .int) 7 (d + 3)) (φ : Nat) (this : Nat) (v1 : Int32) (σ : St) (y : Int32) (h : fX0_wordCount φ this v1 σ = some y) : AW C 0 [(0, .inr (.inr (some this))), (1, .inl v1)] [] σ (AQ C (some (.inl y)) σ) := by
  unfold fX0_wordCount at h
  refine aw_iconst X (0 : Int32) dX0_wordCount_0 (by decide) ?_
  refine aw_istore_n X dX0_wordCount_1 2 rfl (by decide) [(2, .inl (0 : Int32)), (0, .inr (.inr (some this))), (1, .inl v1)] rfl ?_
  refine aw_aload_n X dX0_wordCount_2 1 0 rfl rfl ?_
  obtain ⟨x1, hx1, h⟩ := bind_some h
  refine aw_gfR X fl_X0_46 dX0_wordCount_3 hx1 ?_
  refine aw_astore_n X dX0_wordCount_6 3 rfl (by decide) [(3, .inr (.inr x1)), (2, .inl (0 : Int32)), (0, .inr (.inr (some this))), (1, .inl v1)] rfl ?_
  refine aw_aload_n X dX0_wordCount_7 0 3 rfl rfl ?_
  obtain ⟨x2, hx2, h⟩ := bind_some h
  refine aw_alen X dX0_wordCount_8 hx2 ?_
  refine aw_istore X dX0_wordCount_9 (by decide) [(4, .inl x2), (3, .inr (.inr x1)), (2, .inl (0 : Int32)), (0, .inr (.inr (some this))), (1, .inl v1)] rfl ?_
  refine aw_iconst X (0 : Int32) dX0_wordCount_11 (by decide) ?_
  refine aw_istore X dX0_wordCount_12 (by decide) [(5, .inl (0 : Int32)), (4, .inl x2), (3, .inr (.inr x1)), (2, .inl (0 : Int32)), (0, .inr (.inr (some this))), (1, .inl v1)] rfl ?_
  obtain ⟨e8, h9, h⟩ := bind_some h
  refine aw_sub [(1, .inl v1), (2, .inl (0 : Int32)), (3, .inr (.inr x1)), (4, .inl x2), (5, .inl (0 : Int32))] [5, 3, 2, 1, 0] rfl ?_
  refine aw_it (fun s => AW C 14 [(1, .inl v1), (2, .inl s.1), (3, .inr (.inr x1)), (4, .inl x2), (5, .inl s.2)] [] σ (AQ C (some (.inl y)) σ)) (fun e => AW C 55 [(2, .inl e)] [] σ (AQ C (some (.inl y)) σ)) (fun s r hr kH kE => wX0_wordCount_l14 X φ v1 x1 x2 σ s.1 s.2 r hr kH kE) φ _ e8 h9 ?_
  refine aw_iload_n X dX0_wordCount_55 0 2 rfl rfl ?_
  cases h
  exact aw_iret X dX0_wordCount_56
theorem AX0_wordCount {E : AE} {l : Launch} (hE : EOK E l) (φ d : Nat) (this : Nat) (v1 : Int32) (σ : St) (y : Int32) (h : fX0_wordCount φ this v1 σ = some y) : AMet E l yX0_wordCount (ws_ yX0_wordCount cX0_wordCount 7 (some .int)) (d + 3) [.inr (.inr (some this)), .inl v1] σ (some (.inl y)) σ := by
  refine amet_of hE (by decide +kernel) (Nat.le_of_ble_eq_true rfl) fun C e1 e2 X XI => ?_
  subst e1
  exact wX0_wordCount X φ this v1 σ y h
theorem wX0_letterCount_l13 {C : CT} {d : Nat} {Z : State → Prop} (X : Cx C cX0_letterCount RX0 (some .int) 6 d) (φ : Nat) (v2 : Option Nat) (v3 : Int32) (σ : St) (v1 : Int32) (v4 : Int32) (y : (Int32 × Int32) ⊕ (Int32)) (h : fX0_letterCount_l13 φ v2 v3 σ v1 v4 = some y) (kH : ∀ s : Int32 × Int32, y = .inl s → AW C 13 [(1, .inl s.1), (2, .inr (.inr v2)), (3, .inl v3), (4, .inl s.2)] [] σ Z) (kE0 : ∀ e : Int32, y = .inr e → AW C 49 [(1, .inl e)] [] σ Z) : AW C 13 [(1, .inl v1), (2, .inr (.inr v2)), (3, .inl v3), (4, .inl v4)] [] σ Z := by
  unfold fX0_letterCount_l13 at h
  refine aw_iload X dX0_letterCount_13 3 rfl ?_
  refine aw_iload_n X dX0_letterCount_15 2 3 rfl rfl ?_
  refine aw_icmp_ge X 49 dX0_letterCount_16 rfl (fun c3 => ?_) (fun c3 => ?_)
  · rw [if_pos c3] at h
    cases h
    refine aw_sub [(1, .inl v1)] [0] rfl ?_
    exact kE0 v1 rfl
  · rw [if_neg c3] at h
    refine aw_aload_n X dX0_letterCount_19 1 2 rfl rfl ?_
    refine aw_iload X dX0_letterCount_20 3 rfl ?_
    obtain ⟨x4, hx4, h⟩ := bind_some h
    refine aw_aald X (kd := 7) dX0_letterCount_22 (by decide) (by decide) hx4 ?_
    refine aw_astore X dX0_letterCount_23 (by decide) [(5, .inr (.inr x4)), (1, .inl v1), (2, .inr (.inr v2)), (3, .inl v3), (4, .inl v4)] rfl ?_
    refine aw_iload_n X dX0_letterCount_25 1 1 rfl rfl ?_
    refine aw_aload X dX0_letterCount_26 0 rfl ?_
    refine aw_ifnonnull X 35 dX0_letterCount_28 rfl (fun c5 => ?_) (fun c5 => ?_)
    · rw [if_neg c5] at h
      refine aw_aload X dX0_letterCount_35 0 rfl ?_
      obtain ⟨x6, hx6, h⟩ := bind_some h
      refine aw_gfRN X fl_X0_134 dX0_letterCount_37 hx6 ?_
      obtain ⟨x7, hx7, h⟩ := bind_some h
      refine aw_alen X dX0_letterCount_40 hx7 ?_
      refine aw_iadd X dX0_letterCount_41 ?_
      refine aw_istore_n X dX0_letterCount_42 1 rfl (by decide) [(1, .inl (v1 + x7)), (5, .inr (.inr x4)), (2, .inr (.inr v2)), (3, .inl v3), (4, .inl v4)] rfl ?_
      refine aw_iinc X dX0_letterCount_43 4 rfl (1 : Int32) rfl (by decide) [(4, .inl (v4 + (1 : Int32))), (1, .inl (v1 + x7)), (5, .inr (.inr x4)), (2, .inr (.inr v2)), (3, .inl v3)] rfl ?_
      refine aw_goto X 13 dX0_letterCount_46 rfl ?_
      cases h
      refine aw_sub [(1, .inl (v1 + x7)), (2, .inr (.inr v2)), (3, .inl v3), (4, .inl (v4 + (1 : Int32)))] [1, 3, 4, 0] rfl ?_
      exact kH ((v1 + x7), (v4 + (1 : Int32))) rfl
    · rw [if_pos c5] at h
      refine aw_iconst X (0 : Int32) dX0_letterCount_31 (by decide) ?_
      refine aw_goto X 41 dX0_letterCount_32 rfl ?_
      refine aw_iadd X dX0_letterCount_41 ?_
      refine aw_istore_n X dX0_letterCount_42 1 rfl (by decide) [(1, .inl (v1 + (0 : Int32))), (5, .inr (.inr x4)), (2, .inr (.inr v2)), (3, .inl v3), (4, .inl v4)] rfl ?_
      refine aw_iinc X dX0_letterCount_43 4 rfl (1 : Int32) rfl (by decide) [(4, .inl (v4 + (1 : Int32))), (1, .inl (v1 + (0 : Int32))), (5, .inr (.inr x4)), (2, .inr (.inr v2)), (3, .inl v3)] rfl ?_
      refine aw_goto X 13 dX0_letterCount_46 rfl ?_
      cases h
      refine aw_sub [(1, .inl (v1 + (0 : Int32))), (2, .inr (.inr v2)), (3, .inl v3), (4, .inl (v4 + (1 : Int32)))] [1, 3, 4, 0] rfl ?_
      exact kH ((v1 + (0 : Int32)), (v4 + (1 : Int32))) rfl
theorem wX0_letterCount {C : CT} {d : Nat} (X : Cx C cX0_letterCount RX0 (some .int) 6 d) (φ : Nat) (this : Nat) (σ : St) (y : Int32) (h : fX0_letterCount φ this σ = some y) : AW C 0 [(0, .inr (.inr (some this)))] [] σ (AQ C (some (.inl y)) σ) := by
  unfold fX0_letterCount at h
  refine aw_iconst X (0 : Int32) dX0_letterCount_0 (by decide) ?_
  refine aw_istore_n X dX0_letterCount_1 1 rfl (by decide) [(1, .inl (0 : Int32)), (0, .inr (.inr (some this)))] rfl ?_
  refine aw_aload_n X dX0_letterCount_2 1 0 rfl rfl ?_
  obtain ⟨x1, hx1, h⟩ := bind_some h
  refine aw_gfR X fl_X0_46 dX0_letterCount_3 hx1 ?_
  refine aw_astore_n X dX0_letterCount_6 2 rfl (by decide) [(2, .inr (.inr x1)), (1, .inl (0 : Int32)), (0, .inr (.inr (some this)))] rfl ?_
  refine aw_aload_n X dX0_letterCount_7 0 2 rfl rfl ?_
  obtain ⟨x2, hx2, h⟩ := bind_some h
  refine aw_alen X dX0_letterCount_8 hx2 ?_
  refine aw_istore_n X dX0_letterCount_9 3 rfl (by decide) [(3, .inl x2), (2, .inr (.inr x1)), (1, .inl (0 : Int32)), (0, .inr (.inr (some this)))] rfl ?_
  refine aw_iconst X (0 : Int32) dX0_letterCount_10 (by decide) ?_
  refine aw_istore X dX0_letterCount_11 (by decide) [(4, .inl (0 : Int32)), (3, .inl x2), (2, .inr (.inr x1)), (1, .inl (0 : Int32)), (0, .inr (.inr (some this)))] rfl ?_
  obtain ⟨e8, h9, h⟩ := bind_some h
  refine aw_sub [(1, .inl (0 : Int32)), (2, .inr (.inr x1)), (3, .inl x2), (4, .inl (0 : Int32))] [3, 2, 1, 0] rfl ?_
  refine aw_it (fun s => AW C 13 [(1, .inl s.1), (2, .inr (.inr x1)), (3, .inl x2), (4, .inl s.2)] [] σ (AQ C (some (.inl y)) σ)) (fun e => AW C 49 [(1, .inl e)] [] σ (AQ C (some (.inl y)) σ)) (fun s r hr kH kE => wX0_letterCount_l13 X φ x1 x2 σ s.1 s.2 r hr kH kE) φ _ e8 h9 ?_
  refine aw_iload_n X dX0_letterCount_49 0 1 rfl rfl ?_
  cases h
  exact aw_iret X dX0_letterCount_50
theorem AX0_letterCount {E : AE} {l : Launch} (hE : EOK E l) (φ d : Nat) (this : Nat) (σ : St) (y : Int32) (h : fX0_letterCount φ this σ = some y) : AMet E l yX0_letterCount (ws_ yX0_letterCount cX0_letterCount 6 (some .int)) d [.inr (.inr (some this))] σ (some (.inl y)) σ := by
  refine amet_of hE (by decide +kernel) (Nat.le_of_ble_eq_true rfl) fun C e1 e2 X XI => ?_
  subst e1
  exact wX0_letterCount X φ this σ y h
theorem wX0_countsOf {C : CT} {d : Nat} (X : Cx C cX0_countsOf RX0 (some .int) 2 (d + 4)) (φ : Nat) (this : Nat) (v1 : Int32) (σ : St) (y : Int32) (h : fX0_countsOf φ this v1 σ = some y) : AW C 0 [(0, .inr (.inr (some this))), (1, .inl v1)] [] σ (AQ C (some (.inl y)) σ) := by
  unfold fX0_countsOf at h
  refine aw_iload_n X dX0_countsOf_0 1 1 rfl rfl ?_
  by_cases c1 : v1 = (0 : Int32)
  · rw [if_pos c1] at h
    refine aw_tabIn X 36 dX0_countsOf_1 (by rw [c1]; decide) (by rw [c1]; decide) (by rw [c1]; rfl) rfl ?_
    refine aw_aload_n X dX0_countsOf_36 0 0 rfl rfl ?_
    obtain ⟨x2, hx2, h⟩ := bind_some h
    refine aw_gfI X fl_X0_30 dX0_countsOf_37 hx2 ?_
    cases h
    exact aw_iret X dX0_countsOf_40
  rw [if_neg c1] at h
  by_cases c3 : v1 = (1 : Int32)
  · rw [if_pos c3] at h
    refine aw_tabIn X 41 dX0_countsOf_1 (by rw [c3]; decide) (by rw [c3]; decide) (by rw [c3]; rfl) rfl ?_
    refine aw_aload_n X dX0_countsOf_41 0 0 rfl rfl ?_
    obtain ⟨y4, hy4, h⟩ := bind_some h
    refine aw_cV X (st := []) hy4 [] rfl rfl ml_X0_317 (fun o h => AX0_rowCount (Cx.ok X) φ (d + 3) _ _ _ h) dX0_countsOf_42 (Nat.le_of_ble_eq_true rfl) ?_
    cases h
    exact aw_iret X dX0_countsOf_45
  rw [if_neg c3] at h
  by_cases c5 : v1 = (2 : Int32)
  · rw [if_pos c5] at h
    refine aw_tabIn X 46 dX0_countsOf_1 (by rw [c5]; decide) (by rw [c5]; decide) (by rw [c5]; rfl) rfl ?_
    refine aw_aload_n X dX0_countsOf_46 0 0 rfl rfl ?_
    obtain ⟨y6, hy6, h⟩ := bind_some h
    refine aw_cV X (st := []) hy6 [] rfl rfl ml_X0_320 (fun o h => AX0_textCount (Cx.ok X) φ (d + 3) _ _ _ h) dX0_countsOf_47 (Nat.le_of_ble_eq_true rfl) ?_
    cases h
    exact aw_iret X dX0_countsOf_50
  rw [if_neg c5] at h
  by_cases c7 : v1 = (3 : Int32)
  · rw [if_pos c7] at h
    refine aw_tabIn X 51 dX0_countsOf_1 (by rw [c7]; decide) (by rw [c7]; decide) (by rw [c7]; rfl) rfl ?_
    refine aw_aload_n X dX0_countsOf_51 0 0 rfl rfl ?_
    refine aw_iconst X (0 : Int32) dX0_countsOf_52 (by decide) ?_
    obtain ⟨y8, hy8, h⟩ := bind_some h
    refine aw_cV X (st := []) hy8 [.inl (0 : Int32)] rfl rfl ml_X0_323 (fun o h => AX0_wordCount (Cx.ok X) φ d _ _ _ _ h) dX0_countsOf_53 (Nat.le_of_ble_eq_true rfl) ?_
    cases h
    exact aw_iret X dX0_countsOf_56
  rw [if_neg c7] at h
  by_cases c9 : v1 = (4 : Int32)
  · rw [if_pos c9] at h
    refine aw_tabIn X 57 dX0_countsOf_1 (by rw [c9]; decide) (by rw [c9]; decide) (by rw [c9]; rfl) rfl ?_
    refine aw_aload_n X dX0_countsOf_57 0 0 rfl rfl ?_
    refine aw_iconst X (2 : Int32) dX0_countsOf_58 (by decide) ?_
    obtain ⟨y10, hy10, h⟩ := bind_some h
    refine aw_cV X (st := []) hy10 [.inl (2 : Int32)] rfl rfl ml_X0_323 (fun o h => AX0_wordCount (Cx.ok X) φ d _ _ _ _ h) dX0_countsOf_59 (Nat.le_of_ble_eq_true rfl) ?_
    cases h
    exact aw_iret X dX0_countsOf_62
  rw [if_neg c9] at h
  refine aw_tabOut X 63 dX0_countsOf_1 (by have := lv_neT c1 (a := 0) rfl; have := lv_neT c3 (a := 1) rfl; have := lv_neT c5 (a := 2) rfl; have := lv_neT c7 (a := 3) rfl; have := lv_neT c9 (a := 4) rfl; omega) rfl ?_
  refine aw_aload_n X dX0_countsOf_63 0 0 rfl rfl ?_
  obtain ⟨y11, hy11, h⟩ := bind_some h
  refine aw_cV X (st := []) hy11 [] rfl rfl ml_X0_326 (fun o h => AX0_letterCount (Cx.ok X) φ (d + 3) _ _ _ h) dX0_countsOf_64 (Nat.le_of_ble_eq_true rfl) ?_
  cases h
  exact aw_iret X dX0_countsOf_67
theorem AX0_countsOf {E : AE} {l : Launch} (hE : EOK E l) (φ d : Nat) (this : Nat) (v1 : Int32) (σ : St) (y : Int32) (h : fX0_countsOf φ this v1 σ = some y) : AMet E l yX0_countsOf (ws_ yX0_countsOf cX0_countsOf 2 (some .int)) (d + 4) [.inr (.inr (some this)), .inl v1] σ (some (.inl y)) σ := by
  refine amet_of hE (by decide +kernel) (Nat.le_of_ble_eq_true rfl) fun C e1 e2 X XI => ?_
  subst e1
  exact wX0_countsOf X φ this v1 σ y h
theorem wX0_count {C : CT} {d : Nat} (X : Cx C cX0_count RX0 (some .int) 2 (d + 5)) (φ : Nat) (this : Nat) (v1 : Int32) (σ : St) (y : Int32) (h : fX0_count φ this v1 σ = some y) : AW C 0 [(0, .inr (.inr (some this))), (1, .inl v1)] [] σ (AQ C (some (.inl y)) σ) := by
  unfold fX0_count at h
  refine aw_iload_n X dX0_count_0 1 1 rfl rfl ?_
  refine aw_iconst X (0 : Int32) dX0_count_1 (by decide) ?_
  refine aw_iconst X (5 : Int32) dX0_count_2 (by decide) ?_
  obtain ⟨y1, hy1, h⟩ := bind_some h
  refine aw_callS X (st := []) [.inl v1, .inl (0 : Int32), .inl (5 : Int32)] rfl ml_X0_93 (AX0_isIn (Cx.ok X) φ (d + 4) _ _ _ _ _  hy1) dX0_count_3 (Nat.le_of_ble_eq_true rfl) ?_
  refine aw_if_eq X 17 dX0_count_6 rfl (fun c2 => ?_) (fun c2 => ?_)
  · rw [if_pos c2] at h
    refine aw_iconst X (-1 : Int32) dX0_count_17 (by decide) ?_
    cases h
    exact aw_iret X dX0_count_18
  · rw [if_neg c2] at h
    refine aw_aload_n X dX0_count_9 0 0 rfl rfl ?_
    refine aw_iload_n X dX0_count_10 1 1 rfl rfl ?_
    obtain ⟨y3, hy3, h⟩ := bind_some h
    refine aw_cV X (st := []) hy3 [.inl v1] rfl rfl ml_X0_329 (fun o h => AX0_countsOf (Cx.ok X) φ d _ _ _ _ h) dX0_count_11 (Nat.le_of_ble_eq_true rfl) ?_
    refine aw_goto X 18 dX0_count_14 rfl ?_
    cases h
    exact aw_iret X dX0_count_18
theorem AX0_count {E : AE} {l : Launch} (hE : EOK E l) (φ d : Nat) (this : Nat) (v1 : Int32) (σ : St) (y : Int32) (h : fX0_count φ this v1 σ = some y) : AMet E l yX0_count (ws_ yX0_count cX0_count 2 (some .int)) (d + 5) [.inr (.inr (some this)), .inl v1] σ (some (.inl y)) σ := by
  refine amet_of hE (by decide +kernel) (Nat.le_of_ble_eq_true rfl) fun C e1 e2 X XI => ?_
  subst e1
  exact wX0_count X φ this v1 σ y h
theorem wX0_finding {C : CT} {d : Nat} (X : Cx C cX0_finding RX0 (some .int) 1 d) (φ : Nat) (this : Nat) (σ : St) (y : Int32) (h : fX0_finding φ this σ = some y) : AW C 0 [(0, .inr (.inr (some this)))] [] σ (AQ C (some (.inl y)) σ) := by
  unfold fX0_finding at h
  refine aw_aload_n X dX0_finding_0 0 0 rfl rfl ?_
  obtain ⟨x1, hx1, h⟩ := bind_some h
  refine aw_gfI X fl_X0_1 dX0_finding_1 hx1 ?_
  cases h
  exact aw_iret X dX0_finding_4
theorem AX0_finding {E : AE} {l : Launch} (hE : EOK E l) (φ d : Nat) (this : Nat) (σ : St) (y : Int32) (h : fX0_finding φ this σ = some y) : AMet E l yX0_finding (ws_ yX0_finding cX0_finding 1 (some .int)) d [.inr (.inr (some this))] σ (some (.inl y)) σ := by
  refine amet_of hE (by decide +kernel) (Nat.le_of_ble_eq_true rfl) fun C e1 e2 X XI => ?_
  subst e1
  exact wX0_finding X φ this σ y h
theorem wX0_findings {C : CT} {d : Nat} (X : Cx C cX0_findings RX0 (some .int) 2 (d + 1)) (φ : Nat) (this : Nat) (v1 : Int32) (σ : St) (y : Int32) (h : fX0_findings φ this v1 σ = some y) : AW C 0 [(0, .inr (.inr (some this))), (1, .inl v1)] [] σ (AQ C (some (.inl y)) σ) := by
  unfold fX0_findings at h
  refine aw_iload_n X dX0_findings_0 1 1 rfl rfl ?_
  refine aw_iconst X (1 : Int32) dX0_findings_1 (by decide) ?_
  refine aw_iconst X (5 : Int32) dX0_findings_2 (by decide) ?_
  obtain ⟨y1, hy1, h⟩ := bind_some h
  refine aw_callS X (st := []) [.inl v1, .inl (1 : Int32), .inl (5 : Int32)] rfl ml_X0_93 (AX0_isIn (Cx.ok X) φ d _ _ _ _ _  hy1) dX0_findings_3 (Nat.le_of_ble_eq_true rfl) ?_
  refine aw_if_eq X 18 dX0_findings_6 rfl (fun c2 => ?_) (fun c2 => ?_)
  · rw [if_pos c2] at h
    refine aw_iconst X (-1 : Int32) dX0_findings_18 (by decide) ?_
    cases h
    exact aw_iret X dX0_findings_19
  · rw [if_neg c2] at h
    refine aw_aload_n X dX0_findings_9 0 0 rfl rfl ?_
    obtain ⟨x3, hx3, h⟩ := bind_some h
    refine aw_gfR X fl_X0_7 dX0_findings_10 hx3 ?_
    refine aw_iload_n X dX0_findings_13 1 1 rfl rfl ?_
    obtain ⟨x4, hx4, h⟩ := bind_some h
    refine aw_iald X dX0_findings_14 hx4 ?_
    refine aw_goto X 19 dX0_findings_15 rfl ?_
    cases h
    exact aw_iret X dX0_findings_19
theorem AX0_findings {E : AE} {l : Launch} (hE : EOK E l) (φ d : Nat) (this : Nat) (v1 : Int32) (σ : St) (y : Int32) (h : fX0_findings φ this v1 σ = some y) : AMet E l yX0_findings (ws_ yX0_findings cX0_findings 2 (some .int)) (d + 1) [.inr (.inr (some this)), .inl v1] σ (some (.inl y)) σ := by
  refine amet_of hE (by decide +kernel) (Nat.le_of_ble_eq_true rfl) fun C e1 e2 X XI => ?_
  subst e1
  exact wX0_findings X φ this v1 σ y h
theorem wX0_mix {C : CT} {d : Nat} (X : Cx C cX0_mix RX0 none 2 d) (φ : Nat) (this : Nat) (v1 : Int32) (σ : St) (y : St) (h : fX0_mix φ this v1 σ = some y) : AW C 0 [(0, .inr (.inr (some this))), (1, .inl v1)] [] σ (AQ C none y) := by
  unfold fX0_mix at h
  refine aw_aload_n X dX0_mix_0 0 0 rfl rfl ?_
  refine aw_ldc2 X q841 dX0_mix_1 ?_
  refine aw_aload_n X dX0_mix_4 0 0 rfl rfl ?_
  obtain ⟨x1, hx1, h⟩ := bind_some h
  refine aw_gfL X fl_X0_334 dX0_mix_5 hx1 ?_
  refine aw_lmul X dX0_mix_8 ?_
  refine aw_iload_n X dX0_mix_9 1 1 rfl rfl ?_
  refine aw_i2l X dX0_mix_10 ?_
  refine aw_ladd X dX0_mix_11 ?_
  obtain ⟨s2, hs2, h⟩ := bind_some h
  refine aw_pfL X fl_X0_334 dX0_mix_12 hs2 ?_
  cases h
  exact aw_vret X dX0_mix_15
theorem AX0_mix {E : AE} {l : Launch} (hE : EOK E l) (φ d : Nat) (this : Nat) (v1 : Int32) (σ : St) (y : St) (h : fX0_mix φ this v1 σ = some y) : AMet E l yX0_mix (ws_ yX0_mix cX0_mix 2 none) d [.inr (.inr (some this)), .inl v1] σ none y := by
  refine amet_of hE (by decide +kernel) (Nat.le_of_ble_eq_true rfl) fun C e1 e2 X XI => ?_
  subst e1
  exact wX0_mix X φ this v1 σ y h
theorem wX0_mixWords_l76 {C : CT} {d : Nat} {Z : State → Prop} (X : Cx C cX0_mixWords RX0 none 9 (d + 1)) (φ : Nat) (this : Nat) (v1 : Option Nat) (v2 : Int32) (v3 : Int32) (v5 : Option Nat) (v6 : Int32) (v7 : Int32) (σ : St) (y : (Int32 × St) ⊕ (St)) (h : fX0_mixWords_l76 φ this v1 v2 v3 v5 v6 v7 σ = some y) (kH : ∀ s : Int32 × St, y = .inl s → AW C 76 [(0, .inr (.inr (some this))), (1, .inr (.inr v1)), (2, .inl v2), (3, .inl v3), (5, .inr (.inr v5)), (6, .inl v6), (7, .inl s.1)] [] s.2 Z) (kE0 : ∀ e : St, y = .inr e → AW C 102 [(0, .inr (.inr (some this))), (1, .inr (.inr v1)), (2, .inl v2), (3, .inl v3)] [] e Z) : AW C 76 [(0, .inr (.inr (some this))), (1, .inr (.inr v1)), (2, .inl v2), (3, .inl v3), (5, .inr (.inr v5)), (6, .inl v6), (7, .inl v7)] [] σ Z := by
  unfold fX0_mixWords_l76 at h
  refine aw_iload X dX0_mixWords_76 6 rfl ?_
  refine aw_iload X dX0_mixWords_78 5 rfl ?_
  refine aw_icmp_ge X 102 dX0_mixWords_80 rfl (fun c15 => ?_) (fun c15 => ?_)
  · rw [if_pos c15] at h
    cases h
    refine aw_sub [(0, .inr (.inr (some this))), (1, .inr (.inr v1)), (2, .inl v2), (3, .inl v3)] [0, 1, 2, 3] rfl ?_
    exact kE0 σ rfl
  · rw [if_neg c15] at h
    refine aw_aload X dX0_mixWords_83 4 rfl ?_
    refine aw_iload X dX0_mixWords_85 6 rfl ?_
    obtain ⟨x16, hx16, h⟩ := bind_some h
    refine aw_bald X dX0_mixWords_87 hx16 ?_
    refine aw_istore X dX0_mixWords_88 (by decide) [(8, .inl x16), (0, .inr (.inr (some this))), (1, .inr (.inr v1)), (2, .inl v2), (3, .inl v3), (5, .inr (.inr v5)), (6, .inl v6), (7, .inl v7)] rfl ?_
    refine aw_aload_n X dX0_mixWords_90 1 0 rfl rfl ?_
    refine aw_iload X dX0_mixWords_91 0 rfl ?_
    obtain ⟨y17, hy17, h⟩ := bind_some h
    refine aw_cV X (st := []) hy17 [.inl x16] rfl rfl ml_X0_337 (fun o h => AX0_mix (Cx.ok X) φ d _ _ _ _ h) dX0_mixWords_93 (Nat.le_of_ble_eq_true rfl) ?_
    refine aw_iinc X dX0_mixWords_96 7 rfl (1 : Int32) rfl (by decide) [(7, .inl (v7 + (1 : Int32))), (8, .inl x16), (0, .inr (.inr (some this))), (1, .inr (.inr v1)), (2, .inl v2), (3, .inl v3), (5, .inr (.inr v5)), (6, .inl v6)] rfl ?_
    refine aw_goto X 76 dX0_mixWords_99 rfl ?_
    cases h
    refine aw_sub [(0, .inr (.inr (some this))), (1, .inr (.inr v1)), (2, .inl v2), (3, .inl v3), (5, .inr (.inr v5)), (6, .inl v6), (7, .inl (v7 + (1 : Int32)))] [2, 3, 4, 5, 6, 7, 0] rfl ?_
    exact kH ((v7 + (1 : Int32)), y17) rfl
theorem wX0_mixWords_l10 {C : CT} {d : Nat} {Z : State → Prop} (X : Cx C cX0_mixWords RX0 none 9 (d + 1)) (φ : Nat) (this : Nat) (v1 : Option Nat) (v2 : Int32) (v3 : Int32) (σ : St) (y : (Int32 × St) ⊕ (St)) (h : fX0_mixWords_l10 φ this v1 v2 v3 σ = some y) (kH : ∀ s : Int32 × St, y = .inl s → AW C 10 [(0, .inr (.inr (some this))), (1, .inr (.inr v1)), (2, .inl v2), (3, .inl s.1)] [] s.2 Z) (kE0 : ∀ e : St, y = .inr e → AW C 108 [] [] e Z) : AW C 10 [(0, .inr (.inr (some this))), (1, .inr (.inr v1)), (2, .inl v2), (3, .inl v3)] [] σ Z := by
  unfold fX0_mixWords_l10 at h
  refine aw_iload_n X dX0_mixWords_10 3 3 rfl rfl ?_
  refine aw_iload_n X dX0_mixWords_11 2 2 rfl rfl ?_
  refine aw_icmp_ge X 108 dX0_mixWords_12 rfl (fun c3 => ?_) (fun c3 => ?_)
  · rw [if_pos c3] at h
    cases h
    refine aw_sub [] [] rfl ?_
    exact kE0 σ rfl
  · rw [if_neg c3] at h
    refine aw_aload_n X dX0_mixWords_15 1 1 rfl rfl ?_
    refine aw_iload_n X dX0_mixWords_16 3 3 rfl rfl ?_
    obtain ⟨x4, hx4, h⟩ := bind_some h
    refine aw_aald X (kd := 7) dX0_mixWords_17 (by decide) (by decide) hx4 ?_
    refine aw_astore X dX0_mixWords_18 (by decide) [(4, .inr (.inr x4)), (0, .inr (.inr (some this))), (1, .inr (.inr v1)), (2, .inl v2), (3, .inl v3)] rfl ?_
    refine aw_aload X dX0_mixWords_20 0 rfl ?_
    refine aw_ifnonnull X 33 dX0_mixWords_22 rfl (fun c5 => ?_) (fun c5 => ?_)
    · rw [if_neg c5] at h
      refine aw_aload_n X dX0_mixWords_33 1 0 rfl rfl ?_
      refine aw_aload X dX0_mixWords_34 0 rfl ?_
      obtain ⟨y6, hy6, h⟩ := bind_some h
      refine aw_v_kind X (st := [.inr (.inr (some this))]) hy6 rfl dX0_mixWords_36 (Nat.le_of_ble_eq_true rfl) ?_
      obtain ⟨y7, hy7, h⟩ := bind_some h
      refine aw_cV X (st := []) hy7 [.inl y6] rfl rfl ml_X0_337 (fun o h => AX0_mix (Cx.ok X) φ d _ _ _ _ h) dX0_mixWords_39 (Nat.le_of_ble_eq_true rfl) ?_
      refine aw_aload_n X dX0_mixWords_42 1 0 rfl rfl ?_
      refine aw_aload X dX0_mixWords_43 0 rfl ?_
      obtain ⟨y8, hy8, h⟩ := bind_some h
      refine aw_v_tells X (st := [.inr (.inr (some this))]) hy8 rfl dX0_mixWords_45 (Nat.le_of_ble_eq_true rfl) ?_
      obtain ⟨y9, hy9, h⟩ := bind_some h
      refine aw_cV X (st := []) hy9 [.inl y8] rfl rfl ml_X0_337 (fun o h => AX0_mix (Cx.ok X) φ d _ _ _ _ h) dX0_mixWords_48 (Nat.le_of_ble_eq_true rfl) ?_
      refine aw_aload_n X dX0_mixWords_51 1 0 rfl rfl ?_
      refine aw_aload X dX0_mixWords_52 0 rfl ?_
      obtain ⟨x10, hx10, h⟩ := bind_some h
      refine aw_gfRN X fl_X0_134 dX0_mixWords_54 hx10 ?_
      obtain ⟨x11, hx11, h⟩ := bind_some h
      refine aw_alen X dX0_mixWords_57 hx11 ?_
      obtain ⟨y12, hy12, h⟩ := bind_some h
      refine aw_cV X (st := []) hy12 [.inl x11] rfl rfl ml_X0_337 (fun o h => AX0_mix (Cx.ok X) φ d _ _ _ _ h) dX0_mixWords_58 (Nat.le_of_ble_eq_true rfl) ?_
      refine aw_aload X dX0_mixWords_61 0 rfl ?_
      obtain ⟨x13, hx13, h⟩ := bind_some h
      refine aw_gfRN X fl_X0_134 dX0_mixWords_63 hx13 ?_
      refine aw_astore X dX0_mixWords_66 (by decide) [(5, .inr (.inr x13)), (4, .inr (.inr x4)), (0, .inr (.inr (some this))), (1, .inr (.inr v1)), (2, .inl v2), (3, .inl v3)] rfl ?_
      refine aw_aload X dX0_mixWords_68 0 rfl ?_
      obtain ⟨x14, hx14, h⟩ := bind_some h
      refine aw_alen X dX0_mixWords_70 hx14 ?_
      refine aw_istore X dX0_mixWords_71 (by decide) [(6, .inl x14), (5, .inr (.inr x13)), (4, .inr (.inr x4)), (0, .inr (.inr (some this))), (1, .inr (.inr v1)), (2, .inl v2), (3, .inl v3)] rfl ?_
      refine aw_iconst X (0 : Int32) dX0_mixWords_73 (by decide) ?_
      refine aw_istore X dX0_mixWords_74 (by decide) [(7, .inl (0 : Int32)), (6, .inl x14), (5, .inr (.inr x13)), (4, .inr (.inr x4)), (0, .inr (.inr (some this))), (1, .inr (.inr v1)), (2, .inl v2), (3, .inl v3)] rfl ?_
      obtain ⟨e18, h19, h⟩ := bind_some h
      refine aw_sub [(0, .inr (.inr (some this))), (1, .inr (.inr v1)), (2, .inl v2), (3, .inl v3), (5, .inr (.inr x13)), (6, .inl x14), (7, .inl (0 : Int32))] [4, 5, 6, 7, 2, 1, 0] rfl ?_
      refine aw_it (fun s => AW C 76 [(0, .inr (.inr (some this))), (1, .inr (.inr v1)), (2, .inl v2), (3, .inl v3), (5, .inr (.inr x13)), (6, .inl x14), (7, .inl s.1)] [] s.2 Z) (fun e => AW C 102 [(0, .inr (.inr (some this))), (1, .inr (.inr v1)), (2, .inl v2), (3, .inl v3)] [] e Z) (fun s r hr kH kE => wX0_mixWords_l76 X φ this v1 v2 v3 x13 x14 s.1 s.2 r hr kH kE) φ _ e18 h19 ?_
      refine aw_iinc X dX0_mixWords_102 3 rfl (1 : Int32) rfl (by decide) [(3, .inl (v3 + (1 : Int32))), (0, .inr (.inr (some this))), (1, .inr (.inr v1)), (2, .inl v2)] rfl ?_
      refine aw_goto X 10 dX0_mixWords_105 rfl ?_
      cases h
      refine aw_sub [(0, .inr (.inr (some this))), (1, .inr (.inr v1)), (2, .inl v2), (3, .inl (v3 + (1 : Int32)))] [1, 2, 3, 0] rfl ?_
      exact kH ((v3 + (1 : Int32)), e18) rfl
    · rw [if_pos c5] at h
      refine aw_aload_n X dX0_mixWords_25 1 0 rfl rfl ?_
      refine aw_iconst X (-1 : Int32) dX0_mixWords_26 (by decide) ?_
      obtain ⟨y20, hy20, h⟩ := bind_some h
      refine aw_cV X (st := []) hy20 [.inl (-1 : Int32)] rfl rfl ml_X0_337 (fun o h => AX0_mix (Cx.ok X) φ d _ _ _ _ h) dX0_mixWords_27 (Nat.le_of_ble_eq_true rfl) ?_
      refine aw_goto X 102 dX0_mixWords_30 rfl ?_
      refine aw_iinc X dX0_mixWords_102 4 rfl (1 : Int32) rfl (by decide) [(3, .inl (v3 + (1 : Int32))), (4, .inr (.inr x4)), (0, .inr (.inr (some this))), (1, .inr (.inr v1)), (2, .inl v2)] rfl ?_
      refine aw_goto X 10 dX0_mixWords_105 rfl ?_
      cases h
      refine aw_sub [(0, .inr (.inr (some this))), (1, .inr (.inr v1)), (2, .inl v2), (3, .inl (v3 + (1 : Int32)))] [2, 3, 4, 0] rfl ?_
      exact kH ((v3 + (1 : Int32)), y20) rfl
theorem wX0_mixWords {C : CT} {d : Nat} (X : Cx C cX0_mixWords RX0 none 9 (d + 1)) (φ : Nat) (this : Nat) (σ : St) (y : St) (h : fX0_mixWords φ this σ = some y) : AW C 0 [(0, .inr (.inr (some this)))] [] σ (AQ C none y) := by
  unfold fX0_mixWords at h
  refine aw_aload_n X dX0_mixWords_0 0 0 rfl rfl ?_
  obtain ⟨x1, hx1, h⟩ := bind_some h
  refine aw_gfR X fl_X0_46 dX0_mixWords_1 hx1 ?_
  refine aw_astore_n X dX0_mixWords_4 1 rfl (by decide) [(1, .inr (.inr x1)), (0, .inr (.inr (some this)))] rfl ?_
  refine aw_aload_n X dX0_mixWords_5 0 1 rfl rfl ?_
  obtain ⟨x2, hx2, h⟩ := bind_some h
  refine aw_alen X dX0_mixWords_6 hx2 ?_
  refine aw_istore_n X dX0_mixWords_7 2 rfl (by decide) [(2, .inl x2), (1, .inr (.inr x1)), (0, .inr (.inr (some this)))] rfl ?_
  refine aw_iconst X (0 : Int32) dX0_mixWords_8 (by decide) ?_
  refine aw_istore_n X dX0_mixWords_9 3 rfl (by decide) [(3, .inl (0 : Int32)), (2, .inl x2), (1, .inr (.inr x1)), (0, .inr (.inr (some this)))] rfl ?_
  obtain ⟨e21, h22, h⟩ := bind_some h
  refine aw_sub [(0, .inr (.inr (some this))), (1, .inr (.inr x1)), (2, .inl x2), (3, .inl (0 : Int32))] [3, 2, 1, 0] rfl ?_
  refine aw_it (fun s => AW C 10 [(0, .inr (.inr (some this))), (1, .inr (.inr x1)), (2, .inl x2), (3, .inl s.1)] [] s.2 (AQ C none y)) (fun e => AW C 108 [] [] e (AQ C none y)) (fun s r hr kH kE => wX0_mixWords_l10 X φ this x1 x2 s.1 s.2 r hr kH kE) φ _ e21 h22 ?_
  cases h
  exact aw_vret X dX0_mixWords_108
theorem AX0_mixWords {E : AE} {l : Launch} (hE : EOK E l) (φ d : Nat) (this : Nat) (σ : St) (y : St) (h : fX0_mixWords φ this σ = some y) : AMet E l yX0_mixWords (ws_ yX0_mixWords cX0_mixWords 9 none) (d + 1) [.inr (.inr (some this))] σ none y := by
  refine amet_of hE (by decide +kernel) (Nat.le_of_ble_eq_true rfl) fun C e1 e2 X XI => ?_
  subst e1
  exact wX0_mixWords X φ this σ y h
theorem wX0_digest_l9 {C : CT} {d : Nat} {Z : State → Prop} (X : Cx C cX0_digest RX0 (some .long) 7 (d + 5)) (φ : Nat) (this : Nat) (v1 : Int32) (σ : St) (y : (Int32 × St) ⊕ (St)) (h : fX0_digest_l9 φ this v1 σ = some y) (kH : ∀ s : Int32 × St, y = .inl s → AW C 9 [(0, .inr (.inr (some this))), (1, .inl s.1)] [] s.2 Z) (kE0 : ∀ e : St, y = .inr e → AW C 29 [(0, .inr (.inr (some this)))] [] e Z) : AW C 9 [(0, .inr (.inr (some this))), (1, .inl v1)] [] σ Z := by
  unfold fX0_digest_l9 at h
  refine aw_iload_n X dX0_digest_9 1 1 rfl rfl ?_
  refine aw_iconst X (5 : Int32) dX0_digest_10 (by decide) ?_
  refine aw_icmp_gt X 29 dX0_digest_11 rfl (fun c2 => ?_) (fun c2 => ?_)
  · rw [if_pos c2] at h
    cases h
    refine aw_sub [(0, .inr (.inr (some this)))] [0] rfl ?_
    exact kE0 σ rfl
  · rw [if_neg c2] at h
    refine aw_aload_n X dX0_digest_14 0 0 rfl rfl ?_
    refine aw_aload_n X dX0_digest_15 0 0 rfl rfl ?_
    refine aw_iload_n X dX0_digest_16 1 1 rfl rfl ?_
    obtain ⟨y3, hy3, h⟩ := bind_some h
    refine aw_cV X (st := [.inr (.inr (some this))]) hy3 [.inl v1] rfl rfl ml_X0_329 (fun o h => AX0_countsOf (Cx.ok X) φ d _ _ _ _ h) dX0_digest_17 (Nat.le_of_ble_eq_true rfl) ?_
    obtain ⟨y4, hy4, h⟩ := bind_some h
    refine aw_cV X (st := []) hy4 [.inl y3] rfl rfl ml_X0_337 (fun o h => AX0_mix (Cx.ok X) φ (d + 4) _ _ _ _ h) dX0_digest_20 (Nat.le_of_ble_eq_true rfl) ?_
    refine aw_iinc X dX0_digest_23 1 rfl (1 : Int32) rfl (by decide) [(1, .inl (v1 + (1 : Int32))), (0, .inr (.inr (some this)))] rfl ?_
    refine aw_goto X 9 dX0_digest_26 rfl ?_
    cases h
    refine aw_sub [(0, .inr (.inr (some this))), (1, .inl (v1 + (1 : Int32)))] [1, 0] rfl ?_
    exact kH ((v1 + (1 : Int32)), y4) rfl
theorem wX0_digest_l76 {C : CT} {d : Nat} {Z : State → Prop} (X : Cx C cX0_digest RX0 (some .long) 7 (d + 5)) (φ : Nat) (this : Nat) (v1 : Option Nat) (v2 : Int32) (v3 : Int32) (v4 : Option Nat) (v5 : Int32) (v6 : Int32) (σ : St) (y : (Int32 × St) ⊕ (St)) (h : fX0_digest_l76 φ this v1 v2 v3 v4 v5 v6 σ = some y) (kH : ∀ s : Int32 × St, y = .inl s → AW C 76 [(0, .inr (.inr (some this))), (1, .inr (.inr v1)), (2, .inl v2), (3, .inl v3), (4, .inr (.inr v4)), (5, .inl v5), (6, .inl s.1)] [] s.2 Z) (kE0 : ∀ e : St, y = .inr e → AW C 98 [(0, .inr (.inr (some this))), (1, .inr (.inr v1)), (2, .inl v2), (3, .inl v3)] [] e Z) : AW C 76 [(0, .inr (.inr (some this))), (1, .inr (.inr v1)), (2, .inl v2), (3, .inl v3), (4, .inr (.inr v4)), (5, .inl v5), (6, .inl v6)] [] σ Z := by
  unfold fX0_digest_l76 at h
  refine aw_iload X dX0_digest_76 6 rfl ?_
  refine aw_iload X dX0_digest_78 5 rfl ?_
  refine aw_icmp_ge X 98 dX0_digest_80 rfl (fun c15 => ?_) (fun c15 => ?_)
  · rw [if_pos c15] at h
    cases h
    refine aw_sub [(0, .inr (.inr (some this))), (1, .inr (.inr v1)), (2, .inl v2), (3, .inl v3)] [0, 1, 2, 3] rfl ?_
    exact kE0 σ rfl
  · rw [if_neg c15] at h
    refine aw_aload_n X dX0_digest_83 0 0 rfl rfl ?_
    refine aw_aload X dX0_digest_84 4 rfl ?_
    refine aw_iload X dX0_digest_86 6 rfl ?_
    obtain ⟨x16, hx16, h⟩ := bind_some h
    refine aw_iald X dX0_digest_88 hx16 ?_
    obtain ⟨y17, hy17, h⟩ := bind_some h
    refine aw_cV X (st := []) hy17 [.inl x16] rfl rfl ml_X0_337 (fun o h => AX0_mix (Cx.ok X) φ (d + 4) _ _ _ _ h) dX0_digest_89 (Nat.le_of_ble_eq_true rfl) ?_
    refine aw_iinc X dX0_digest_92 6 rfl (1 : Int32) rfl (by decide) [(6, .inl (v6 + (1 : Int32))), (0, .inr (.inr (some this))), (1, .inr (.inr v1)), (2, .inl v2), (3, .inl v3), (4, .inr (.inr v4)), (5, .inl v5)] rfl ?_
    refine aw_goto X 76 dX0_digest_95 rfl ?_
    cases h
    refine aw_sub [(0, .inr (.inr (some this))), (1, .inr (.inr v1)), (2, .inl v2), (3, .inl v3), (4, .inr (.inr v4)), (5, .inl v5), (6, .inl (v6 + (1 : Int32)))] [1, 2, 3, 4, 5, 6, 0] rfl ?_
    exact kH ((v6 + (1 : Int32)), y17) rfl
theorem wX0_digest_b65 {C : CT} {d : Nat} {Z : State → Prop} (X : Cx C cX0_digest RX0 (some .long) 7 (d + 5)) (φ : Nat) (this : Nat) (v1 : Option Nat) (v2 : Int32) (v3 : Int32) (v4 : Option Nat) (k0 : Int32) (σ : St) (y : (Int32 × St) ⊕ (St)) (h : fX0_digest_b65 φ this v1 v2 v3 v4 k0 σ = some y) (kH : ∀ s : Int32 × St, y = .inl s → AW C 43 [(0, .inr (.inr (some this))), (1, .inr (.inr v1)), (2, .inl v2), (3, .inl s.1)] [] s.2 Z) (kE0 : ∀ e : St, y = .inr e → AW C 104 [(0, .inr (.inr (some this)))] [] e Z) : AW C 65 [(0, .inr (.inr (some this))), (1, .inr (.inr v1)), (2, .inl v2), (3, .inl v3), (4, .inr (.inr v4))] [.inl k0] σ Z := by
  unfold fX0_digest_b65 at h
  refine aw_istore X dX0_digest_65 (by decide) [(5, .inl k0), (0, .inr (.inr (some this))), (1, .inr (.inr v1)), (2, .inl v2), (3, .inl v3), (4, .inr (.inr v4))] rfl ?_
  refine aw_aload_n X dX0_digest_67 1 0 rfl rfl ?_
  refine aw_iload X dX0_digest_68 0 rfl ?_
  obtain ⟨y14, hy14, h⟩ := bind_some h
  refine aw_cV X (st := []) hy14 [.inl k0] rfl rfl ml_X0_337 (fun o h => AX0_mix (Cx.ok X) φ (d + 4) _ _ _ _ h) dX0_digest_70 (Nat.le_of_ble_eq_true rfl) ?_
  refine aw_iconst X (0 : Int32) dX0_digest_73 (by decide) ?_
  refine aw_istore X dX0_digest_74 (by decide) [(6, .inl (0 : Int32)), (5, .inl k0), (0, .inr (.inr (some this))), (1, .inr (.inr v1)), (2, .inl v2), (3, .inl v3), (4, .inr (.inr v4))] rfl ?_
  obtain ⟨e18, h19, h⟩ := bind_some h
  refine aw_sub [(0, .inr (.inr (some this))), (1, .inr (.inr v1)), (2, .inl v2), (3, .inl v3), (4, .inr (.inr v4)), (5, .inl k0), (6, .inl (0 : Int32))] [2, 3, 4, 5, 6, 1, 0] rfl ?_
  refine aw_it (fun s => AW C 76 [(0, .inr (.inr (some this))), (1, .inr (.inr v1)), (2, .inl v2), (3, .inl v3), (4, .inr (.inr v4)), (5, .inl k0), (6, .inl s.1)] [] s.2 Z) (fun e => AW C 98 [(0, .inr (.inr (some this))), (1, .inr (.inr v1)), (2, .inl v2), (3, .inl v3)] [] e Z) (fun s r hr kH kE => wX0_digest_l76 X φ this v1 v2 v3 v4 k0 s.1 s.2 r hr kH kE) φ _ e18 h19 ?_
  refine aw_iinc X dX0_digest_98 3 rfl (1 : Int32) rfl (by decide) [(3, .inl (v3 + (1 : Int32))), (0, .inr (.inr (some this))), (1, .inr (.inr v1)), (2, .inl v2)] rfl ?_
  refine aw_goto X 43 dX0_digest_101 rfl ?_
  cases h
  refine aw_sub [(0, .inr (.inr (some this))), (1, .inr (.inr v1)), (2, .inl v2), (3, .inl (v3 + (1 : Int32)))] [1, 2, 3, 0] rfl ?_
  exact kH ((v3 + (1 : Int32)), e18) rfl
theorem wX0_digest_l43 {C : CT} {d : Nat} {Z : State → Prop} (X : Cx C cX0_digest RX0 (some .long) 7 (d + 5)) (φ : Nat) (this : Nat) (v1 : Option Nat) (v2 : Int32) (v3 : Int32) (σ : St) (y : (Int32 × St) ⊕ (St)) (h : fX0_digest_l43 φ this v1 v2 v3 σ = some y) (kH : ∀ s : Int32 × St, y = .inl s → AW C 43 [(0, .inr (.inr (some this))), (1, .inr (.inr v1)), (2, .inl v2), (3, .inl s.1)] [] s.2 Z) (kE0 : ∀ e : St, y = .inr e → AW C 104 [(0, .inr (.inr (some this)))] [] e Z) : AW C 43 [(0, .inr (.inr (some this))), (1, .inr (.inr v1)), (2, .inl v2), (3, .inl v3)] [] σ Z := by
  unfold fX0_digest_l43 at h
  refine aw_iload_n X dX0_digest_43 3 3 rfl rfl ?_
  refine aw_iload_n X dX0_digest_44 2 2 rfl rfl ?_
  refine aw_icmp_ge X 104 dX0_digest_45 rfl (fun c10 => ?_) (fun c10 => ?_)
  · rw [if_pos c10] at h
    cases h
    refine aw_sub [(0, .inr (.inr (some this)))] [0] rfl ?_
    exact kE0 σ rfl
  · rw [if_neg c10] at h
    refine aw_aload_n X dX0_digest_48 1 1 rfl rfl ?_
    refine aw_iload_n X dX0_digest_49 3 3 rfl rfl ?_
    obtain ⟨x11, hx11, h⟩ := bind_some h
    refine aw_aald X (kd := 5) dX0_digest_50 (by decide) (by decide) hx11 ?_
    refine aw_astore X dX0_digest_51 (by decide) [(4, .inr (.inr x11)), (0, .inr (.inr (some this))), (1, .inr (.inr v1)), (2, .inl v2), (3, .inl v3)] rfl ?_
    refine aw_aload X dX0_digest_53 0 rfl ?_
    refine aw_ifnonnull X 62 dX0_digest_55 rfl (fun c12 => ?_) (fun c12 => ?_)
    · rw [if_neg c12] at h
      refine aw_aload X dX0_digest_62 0 rfl ?_
      obtain ⟨x13, hx13, h⟩ := bind_some h
      refine aw_alen X dX0_digest_64 hx13 ?_
      refine aw_sub [(0, .inr (.inr (some this))), (1, .inr (.inr v1)), (2, .inl v2), (3, .inl v3), (4, .inr (.inr x11))] [1, 2, 3, 4, 0] rfl ?_
      exact wX0_digest_b65 X φ this v1 v2 v3 x11 x13 σ y h kH kE0
    · rw [if_pos c12] at h
      refine aw_iconst X (-1 : Int32) dX0_digest_58 (by decide) ?_
      refine aw_goto X 65 dX0_digest_59 rfl ?_
      refine aw_sub [(0, .inr (.inr (some this))), (1, .inr (.inr v1)), (2, .inl v2), (3, .inl v3), (4, .inr (.inr x11))] [1, 2, 3, 4, 0] rfl ?_
      exact wX0_digest_b65 X φ this v1 v2 v3 x11 (-1 : Int32) σ y h kH kE0
theorem wX0_digest_l147 {C : CT} {d : Nat} {Z : State → Prop} (X : Cx C cX0_digest RX0 (some .long) 7 (d + 5)) (φ : Nat) (this : Nat) (v1 : Option Nat) (v2 : Int32) (v3 : Int32) (v4 : Option Nat) (v5 : Int32) (v6 : Int32) (σ : St) (y : (Int32 × St) ⊕ (St)) (h : fX0_digest_l147 φ this v1 v2 v3 v4 v5 v6 σ = some y) (kH : ∀ s : Int32 × St, y = .inl s → AW C 147 [(0, .inr (.inr (some this))), (1, .inr (.inr v1)), (2, .inl v2), (3, .inl v3), (4, .inr (.inr v4)), (5, .inl v5), (6, .inl s.1)] [] s.2 Z) (kE0 : ∀ e : St, y = .inr e → AW C 169 [(0, .inr (.inr (some this))), (1, .inr (.inr v1)), (2, .inl v2), (3, .inl v3)] [] e Z) : AW C 147 [(0, .inr (.inr (some this))), (1, .inr (.inr v1)), (2, .inl v2), (3, .inl v3), (4, .inr (.inr v4)), (5, .inl v5), (6, .inl v6)] [] σ Z := by
  unfold fX0_digest_l147 at h
  refine aw_iload X dX0_digest_147 6 rfl ?_
  refine aw_iload X dX0_digest_149 5 rfl ?_
  refine aw_icmp_ge X 169 dX0_digest_151 rfl (fun c29 => ?_) (fun c29 => ?_)
  · rw [if_pos c29] at h
    cases h
    refine aw_sub [(0, .inr (.inr (some this))), (1, .inr (.inr v1)), (2, .inl v2), (3, .inl v3)] [0, 1, 2, 3] rfl ?_
    exact kE0 σ rfl
  · rw [if_neg c29] at h
    refine aw_aload_n X dX0_digest_154 0 0 rfl rfl ?_
    refine aw_aload X dX0_digest_155 4 rfl ?_
    refine aw_iload X dX0_digest_157 6 rfl ?_
    obtain ⟨x30, hx30, h⟩ := bind_some h
    refine aw_bald X dX0_digest_159 hx30 ?_
    obtain ⟨y31, hy31, h⟩ := bind_some h
    refine aw_cV X (st := []) hy31 [.inl x30] rfl rfl ml_X0_337 (fun o h => AX0_mix (Cx.ok X) φ (d + 4) _ _ _ _ h) dX0_digest_160 (Nat.le_of_ble_eq_true rfl) ?_
    refine aw_iinc X dX0_digest_163 6 rfl (1 : Int32) rfl (by decide) [(6, .inl (v6 + (1 : Int32))), (0, .inr (.inr (some this))), (1, .inr (.inr v1)), (2, .inl v2), (3, .inl v3), (4, .inr (.inr v4)), (5, .inl v5)] rfl ?_
    refine aw_goto X 147 dX0_digest_166 rfl ?_
    cases h
    refine aw_sub [(0, .inr (.inr (some this))), (1, .inr (.inr v1)), (2, .inl v2), (3, .inl v3), (4, .inr (.inr v4)), (5, .inl v5), (6, .inl (v6 + (1 : Int32)))] [1, 2, 3, 4, 5, 6, 0] rfl ?_
    exact kH ((v6 + (1 : Int32)), y31) rfl
theorem wX0_digest_b136 {C : CT} {d : Nat} {Z : State → Prop} (X : Cx C cX0_digest RX0 (some .long) 7 (d + 5)) (φ : Nat) (this : Nat) (v1 : Option Nat) (v2 : Int32) (v3 : Int32) (v4 : Option Nat) (k0 : Int32) (σ : St) (y : (Int32 × St) ⊕ (St)) (h : fX0_digest_b136 φ this v1 v2 v3 v4 k0 σ = some y) (kH : ∀ s : Int32 × St, y = .inl s → AW C 114 [(0, .inr (.inr (some this))), (1, .inr (.inr v1)), (2, .inl v2), (3, .inl s.1)] [] s.2 Z) (kE0 : ∀ e : St, y = .inr e → AW C 175 [(0, .inr (.inr (some this)))] [] e Z) : AW C 136 [(0, .inr (.inr (some this))), (1, .inr (.inr v1)), (2, .inl v2), (3, .inl v3), (4, .inr (.inr v4))] [.inl k0] σ Z := by
  unfold fX0_digest_b136 at h
  refine aw_istore X dX0_digest_136 (by decide) [(5, .inl k0), (0, .inr (.inr (some this))), (1, .inr (.inr v1)), (2, .inl v2), (3, .inl v3), (4, .inr (.inr v4))] rfl ?_
  refine aw_aload_n X dX0_digest_138 1 0 rfl rfl ?_
  refine aw_iload X dX0_digest_139 0 rfl ?_
  obtain ⟨y28, hy28, h⟩ := bind_some h
  refine aw_cV X (st := []) hy28 [.inl k0] rfl rfl ml_X0_337 (fun o h => AX0_mix (Cx.ok X) φ (d + 4) _ _ _ _ h) dX0_digest_141 (Nat.le_of_ble_eq_true rfl) ?_
  refine aw_iconst X (0 : Int32) dX0_digest_144 (by decide) ?_
  refine aw_istore X dX0_digest_145 (by decide) [(6, .inl (0 : Int32)), (5, .inl k0), (0, .inr (.inr (some this))), (1, .inr (.inr v1)), (2, .inl v2), (3, .inl v3), (4, .inr (.inr v4))] rfl ?_
  obtain ⟨e32, h33, h⟩ := bind_some h
  refine aw_sub [(0, .inr (.inr (some this))), (1, .inr (.inr v1)), (2, .inl v2), (3, .inl v3), (4, .inr (.inr v4)), (5, .inl k0), (6, .inl (0 : Int32))] [2, 3, 4, 5, 6, 1, 0] rfl ?_
  refine aw_it (fun s => AW C 147 [(0, .inr (.inr (some this))), (1, .inr (.inr v1)), (2, .inl v2), (3, .inl v3), (4, .inr (.inr v4)), (5, .inl k0), (6, .inl s.1)] [] s.2 Z) (fun e => AW C 169 [(0, .inr (.inr (some this))), (1, .inr (.inr v1)), (2, .inl v2), (3, .inl v3)] [] e Z) (fun s r hr kH kE => wX0_digest_l147 X φ this v1 v2 v3 v4 k0 s.1 s.2 r hr kH kE) φ _ e32 h33 ?_
  refine aw_iinc X dX0_digest_169 3 rfl (1 : Int32) rfl (by decide) [(3, .inl (v3 + (1 : Int32))), (0, .inr (.inr (some this))), (1, .inr (.inr v1)), (2, .inl v2)] rfl ?_
  refine aw_goto X 114 dX0_digest_172 rfl ?_
  cases h
  refine aw_sub [(0, .inr (.inr (some this))), (1, .inr (.inr v1)), (2, .inl v2), (3, .inl (v3 + (1 : Int32)))] [1, 2, 3, 0] rfl ?_
  exact kH ((v3 + (1 : Int32)), e32) rfl
theorem wX0_digest_l114 {C : CT} {d : Nat} {Z : State → Prop} (X : Cx C cX0_digest RX0 (some .long) 7 (d + 5)) (φ : Nat) (this : Nat) (v1 : Option Nat) (v2 : Int32) (v3 : Int32) (σ : St) (y : (Int32 × St) ⊕ (St)) (h : fX0_digest_l114 φ this v1 v2 v3 σ = some y) (kH : ∀ s : Int32 × St, y = .inl s → AW C 114 [(0, .inr (.inr (some this))), (1, .inr (.inr v1)), (2, .inl v2), (3, .inl s.1)] [] s.2 Z) (kE0 : ∀ e : St, y = .inr e → AW C 175 [(0, .inr (.inr (some this)))] [] e Z) : AW C 114 [(0, .inr (.inr (some this))), (1, .inr (.inr v1)), (2, .inl v2), (3, .inl v3)] [] σ Z := by
  unfold fX0_digest_l114 at h
  refine aw_iload_n X dX0_digest_114 3 3 rfl rfl ?_
  refine aw_iload_n X dX0_digest_115 2 2 rfl rfl ?_
  refine aw_icmp_ge X 175 dX0_digest_116 rfl (fun c24 => ?_) (fun c24 => ?_)
  · rw [if_pos c24] at h
    cases h
    refine aw_sub [(0, .inr (.inr (some this)))] [0] rfl ?_
    exact kE0 σ rfl
  · rw [if_neg c24] at h
    refine aw_aload_n X dX0_digest_119 1 1 rfl rfl ?_
    refine aw_iload_n X dX0_digest_120 3 3 rfl rfl ?_
    obtain ⟨x25, hx25, h⟩ := bind_some h
    refine aw_aald X (kd := 6) dX0_digest_121 (by decide) (by decide) hx25 ?_
    refine aw_astore X dX0_digest_122 (by decide) [(4, .inr (.inr x25)), (0, .inr (.inr (some this))), (1, .inr (.inr v1)), (2, .inl v2), (3, .inl v3)] rfl ?_
    refine aw_aload X dX0_digest_124 0 rfl ?_
    refine aw_ifnonnull X 133 dX0_digest_126 rfl (fun c26 => ?_) (fun c26 => ?_)
    · rw [if_neg c26] at h
      refine aw_aload X dX0_digest_133 0 rfl ?_
      obtain ⟨x27, hx27, h⟩ := bind_some h
      refine aw_alen X dX0_digest_135 hx27 ?_
      refine aw_sub [(0, .inr (.inr (some this))), (1, .inr (.inr v1)), (2, .inl v2), (3, .inl v3), (4, .inr (.inr x25))] [1, 2, 3, 4, 0] rfl ?_
      exact wX0_digest_b136 X φ this v1 v2 v3 x25 x27 σ y h kH kE0
    · rw [if_pos c26] at h
      refine aw_iconst X (-1 : Int32) dX0_digest_129 (by decide) ?_
      refine aw_goto X 136 dX0_digest_130 rfl ?_
      refine aw_sub [(0, .inr (.inr (some this))), (1, .inr (.inr v1)), (2, .inl v2), (3, .inl v3), (4, .inr (.inr x25))] [1, 2, 3, 4, 0] rfl ?_
      exact wX0_digest_b136 X φ this v1 v2 v3 x25 (-1 : Int32) σ y h kH kE0
theorem wX0_digest {C : CT} {d : Nat} (X : Cx C cX0_digest RX0 (some .long) 7 (d + 5)) (φ : Nat) (this : Nat) (σ : St) (y : Int64 × St) (h : fX0_digest φ this σ = some y) : AW C 0 [(0, .inr (.inr (some this)))] [] σ (AQ C (some (.inr (.inl y.1))) y.2) := by
  unfold fX0_digest at h
  refine aw_aload_n X dX0_digest_0 0 0 rfl rfl ?_
  refine aw_ldc2 X q836 dX0_digest_1 ?_
  obtain ⟨s1, hs1, h⟩ := bind_some h
  refine aw_pfL X fl_X0_334 dX0_digest_4 hs1 ?_
  refine aw_iconst X (0 : Int32) dX0_digest_7 (by decide) ?_
  refine aw_istore_n X dX0_digest_8 1 rfl (by decide) [(1, .inl (0 : Int32)), (0, .inr (.inr (some this)))] rfl ?_
  obtain ⟨e5, h6, h⟩ := bind_some h
  refine aw_sub [(0, .inr (.inr (some this))), (1, .inl (0 : Int32))] [1, 0] rfl ?_
  refine aw_it (fun s => AW C 9 [(0, .inr (.inr (some this))), (1, .inl s.1)] [] s.2 (AQ C (some (.inr (.inl y.1))) y.2)) (fun e => AW C 29 [(0, .inr (.inr (some this)))] [] e (AQ C (some (.inr (.inl y.1))) y.2)) (fun s r hr kH kE => wX0_digest_l9 X φ this s.1 s.2 r hr kH kE) φ _ e5 h6 ?_
  refine aw_aload_n X dX0_digest_29 0 0 rfl rfl ?_
  obtain ⟨y7, hy7, h⟩ := bind_some h
  refine aw_cV X (st := []) hy7 [] rfl rfl ml_X0_345 (fun o h => AX0_mixWords (Cx.ok X) φ (d + 3) _ _ _ h) dX0_digest_30 (Nat.le_of_ble_eq_true rfl) ?_
  refine aw_aload_n X dX0_digest_33 0 0 rfl rfl ?_
  obtain ⟨x8, hx8, h⟩ := bind_some h
  refine aw_gfR X fl_X0_34 dX0_digest_34 hx8 ?_
  refine aw_astore_n X dX0_digest_37 1 rfl (by decide) [(1, .inr (.inr x8)), (0, .inr (.inr (some this)))] rfl ?_
  refine aw_aload_n X dX0_digest_38 0 1 rfl rfl ?_
  obtain ⟨x9, hx9, h⟩ := bind_some h
  refine aw_alen X dX0_digest_39 hx9 ?_
  refine aw_istore_n X dX0_digest_40 2 rfl (by decide) [(2, .inl x9), (1, .inr (.inr x8)), (0, .inr (.inr (some this)))] rfl ?_
  refine aw_iconst X (0 : Int32) dX0_digest_41 (by decide) ?_
  refine aw_istore_n X dX0_digest_42 3 rfl (by decide) [(3, .inl (0 : Int32)), (2, .inl x9), (1, .inr (.inr x8)), (0, .inr (.inr (some this)))] rfl ?_
  obtain ⟨e20, h21, h⟩ := bind_some h
  refine aw_sub [(0, .inr (.inr (some this))), (1, .inr (.inr x8)), (2, .inl x9), (3, .inl (0 : Int32))] [3, 2, 1, 0] rfl ?_
  refine aw_it (fun s => AW C 43 [(0, .inr (.inr (some this))), (1, .inr (.inr x8)), (2, .inl x9), (3, .inl s.1)] [] s.2 (AQ C (some (.inr (.inl y.1))) y.2)) (fun e => AW C 104 [(0, .inr (.inr (some this)))] [] e (AQ C (some (.inr (.inl y.1))) y.2)) (fun s r hr kH kE => wX0_digest_l43 X φ this x8 x9 s.1 s.2 r hr kH kE) φ _ e20 h21 ?_
  refine aw_aload_n X dX0_digest_104 0 0 rfl rfl ?_
  obtain ⟨x22, hx22, h⟩ := bind_some h
  refine aw_gfR X fl_X0_40 dX0_digest_105 hx22 ?_
  refine aw_astore_n X dX0_digest_108 1 rfl (by decide) [(1, .inr (.inr x22)), (0, .inr (.inr (some this)))] rfl ?_
  refine aw_aload_n X dX0_digest_109 0 1 rfl rfl ?_
  obtain ⟨x23, hx23, h⟩ := bind_some h
  refine aw_alen X dX0_digest_110 hx23 ?_
  refine aw_istore_n X dX0_digest_111 2 rfl (by decide) [(2, .inl x23), (1, .inr (.inr x22)), (0, .inr (.inr (some this)))] rfl ?_
  refine aw_iconst X (0 : Int32) dX0_digest_112 (by decide) ?_
  refine aw_istore_n X dX0_digest_113 3 rfl (by decide) [(3, .inl (0 : Int32)), (2, .inl x23), (1, .inr (.inr x22)), (0, .inr (.inr (some this)))] rfl ?_
  obtain ⟨e34, h35, h⟩ := bind_some h
  refine aw_sub [(0, .inr (.inr (some this))), (1, .inr (.inr x22)), (2, .inl x23), (3, .inl (0 : Int32))] [3, 2, 1, 0] rfl ?_
  refine aw_it (fun s => AW C 114 [(0, .inr (.inr (some this))), (1, .inr (.inr x22)), (2, .inl x23), (3, .inl s.1)] [] s.2 (AQ C (some (.inr (.inl y.1))) y.2)) (fun e => AW C 175 [(0, .inr (.inr (some this)))] [] e (AQ C (some (.inr (.inl y.1))) y.2)) (fun s r hr kH kE => wX0_digest_l114 X φ this x22 x23 s.1 s.2 r hr kH kE) φ _ e34 h35 ?_
  refine aw_aload_n X dX0_digest_175 0 0 rfl rfl ?_
  obtain ⟨x36, hx36, h⟩ := bind_some h
  refine aw_gfL X fl_X0_334 dX0_digest_176 hx36 ?_
  cases h
  exact aw_lret X dX0_digest_179
theorem AX0_digest {E : AE} {l : Launch} (hE : EOK E l) (φ d : Nat) (this : Nat) (σ : St) (y : Int64 × St) (h : fX0_digest φ this σ = some y) : AMet E l yX0_digest (ws_ yX0_digest cX0_digest 7 (some .long)) (d + 5) [.inr (.inr (some this))] σ (some (.inr (.inl y.1))) y.2 := by
  refine amet_of hE (by decide +kernel) (Nat.le_of_ble_eq_true rfl) fun C e1 e2 X XI => ?_
  subst e1
  exact wX0_digest X φ this σ y h
theorem wX1_init_l270 {C : CT} {d : Nat} {Z : State → Prop} (X : Cx C cX1_init RX1 none 2 d) (XI : CxI C) (φ : Nat) (this : Nat) (v1 : Int32) (σ : St) (y : (Int32 × St) ⊕ (St)) (h : fX1_init_l270 φ this v1 σ = some y) (kH : ∀ s : Int32 × St, y = .inl s → AW C 270 [(0, .inr (.inr (some this))), (1, .inl s.1)] [] s.2 Z) (kE0 : ∀ e : St, y = .inr e → AW C 289 [(0, .inr (.inr (some this)))] [] e Z) : AW C 270 [(0, .inr (.inr (some this))), (1, .inl v1)] [] σ Z := by
  unfold fX1_init_l270 at h
  refine aw_iload_n X dX1_init_270 1 1 rfl rfl ?_
  refine aw_bipush X (6 : Int32) dX1_init_271 (by decide) ?_
  refine aw_icmp_ge X 289 dX1_init_273 rfl (fun c65 => ?_) (fun c65 => ?_)
  · rw [if_pos c65] at h
    cases h
    refine aw_sub [(0, .inr (.inr (some this)))] [0] rfl ?_
    exact kE0 σ rfl
  · rw [if_neg c65] at h
    refine aw_aload_n X dX1_init_276 0 0 rfl rfl ?_
    obtain ⟨x66, hx66, h⟩ := bind_some h
    refine aw_gfR X fl_X1_13 dX1_init_277 hx66 ?_
    refine aw_iload_n X dX1_init_280 1 1 rfl rfl ?_
    refine aw_iconst X (-1 : Int32) dX1_init_281 (by decide) ?_
    obtain ⟨s67, hs67, h⟩ := bind_some h
    refine aw_iast X dX1_init_282 hs67 ?_
    refine aw_iinc X dX1_init_283 1 rfl (1 : Int32) rfl (by decide) [(1, .inl (v1 + (1 : Int32))), (0, .inr (.inr (some this)))] rfl ?_
    refine aw_goto X 270 dX1_init_286 rfl ?_
    cases h
    refine aw_sub [(0, .inr (.inr (some this))), (1, .inl (v1 + (1 : Int32)))] [1, 0] rfl ?_
    exact kH ((v1 + (1 : Int32)), s67) rfl
theorem wX1_init_l291 {C : CT} {d : Nat} {Z : State → Prop} (X : Cx C cX1_init RX1 none 2 d) (XI : CxI C) (φ : Nat) (this : Nat) (v1 : Int32) (σ : St) (y : (Int32 × St) ⊕ (St)) (h : fX1_init_l291 φ this v1 σ = some y) (kH : ∀ s : Int32 × St, y = .inl s → AW C 291 [(0, .inr (.inr (some this))), (1, .inl s.1)] [] s.2 Z) (kE0 : ∀ e : St, y = .inr e → AW C 309 [(0, .inr (.inr (some this)))] [] e Z) : AW C 291 [(0, .inr (.inr (some this))), (1, .inl v1)] [] σ Z := by
  unfold fX1_init_l291 at h
  refine aw_iload_n X dX1_init_291 1 1 rfl rfl ?_
  refine aw_iconst X (4 : Int32) dX1_init_292 (by decide) ?_
  refine aw_icmp_ge X 309 dX1_init_293 rfl (fun c70 => ?_) (fun c70 => ?_)
  · rw [if_pos c70] at h
    cases h
    refine aw_sub [(0, .inr (.inr (some this)))] [0] rfl ?_
    exact kE0 σ rfl
  · rw [if_neg c70] at h
    refine aw_aload_n X dX1_init_296 0 0 rfl rfl ?_
    obtain ⟨x71, hx71, h⟩ := bind_some h
    refine aw_gfR X fl_X1_22 dX1_init_297 hx71 ?_
    refine aw_iload_n X dX1_init_300 1 1 rfl rfl ?_
    refine aw_iconst X (-1 : Int32) dX1_init_301 (by decide) ?_
    obtain ⟨s72, hs72, h⟩ := bind_some h
    refine aw_iast X dX1_init_302 hs72 ?_
    refine aw_iinc X dX1_init_303 1 rfl (1 : Int32) rfl (by decide) [(1, .inl (v1 + (1 : Int32))), (0, .inr (.inr (some this)))] rfl ?_
    refine aw_goto X 291 dX1_init_306 rfl ?_
    cases h
    refine aw_sub [(0, .inr (.inr (some this))), (1, .inl (v1 + (1 : Int32)))] [1, 0] rfl ?_
    exact kH ((v1 + (1 : Int32)), s72) rfl
theorem wX1_init_l311 {C : CT} {d : Nat} {Z : State → Prop} (X : Cx C cX1_init RX1 none 2 d) (XI : CxI C) (φ : Nat) (this : Nat) (v1 : Int32) (σ : St) (y : (Int32 × St) ⊕ (St)) (h : fX1_init_l311 φ this v1 σ = some y) (kH : ∀ s : Int32 × St, y = .inl s → AW C 311 [(0, .inr (.inr (some this))), (1, .inl s.1)] [] s.2 Z) (kE0 : ∀ e : St, y = .inr e → AW C 330 [] [] e Z) : AW C 311 [(0, .inr (.inr (some this))), (1, .inl v1)] [] σ Z := by
  unfold fX1_init_l311 at h
  refine aw_iload_n X dX1_init_311 1 1 rfl rfl ?_
  refine aw_bipush X (8 : Int32) dX1_init_312 (by decide) ?_
  refine aw_icmp_ge X 330 dX1_init_314 rfl (fun c75 => ?_) (fun c75 => ?_)
  · rw [if_pos c75] at h
    cases h
    refine aw_sub [] [] rfl ?_
    exact kE0 σ rfl
  · rw [if_neg c75] at h
    refine aw_aload_n X dX1_init_317 0 0 rfl rfl ?_
    obtain ⟨x76, hx76, h⟩ := bind_some h
    refine aw_gfR X fl_X1_29 dX1_init_318 hx76 ?_
    refine aw_iload_n X dX1_init_321 1 1 rfl rfl ?_
    refine aw_iconst X (-1 : Int32) dX1_init_322 (by decide) ?_
    obtain ⟨s77, hs77, h⟩ := bind_some h
    refine aw_iast X dX1_init_323 hs77 ?_
    refine aw_iinc X dX1_init_324 1 rfl (1 : Int32) rfl (by decide) [(1, .inl (v1 + (1 : Int32))), (0, .inr (.inr (some this)))] rfl ?_
    refine aw_goto X 311 dX1_init_327 rfl ?_
    cases h
    refine aw_sub [(0, .inr (.inr (some this))), (1, .inl (v1 + (1 : Int32)))] [1, 0] rfl ?_
    exact kH ((v1 + (1 : Int32)), s77) rfl
theorem wX1_init {C : CT} {d : Nat} (X : Cx C cX1_init RX1 none 2 d) (XI : CxI C) (φ : Nat) (this : Nat) (σ : St) (y : St) (h : fX1_init φ this σ = some y) : AW C 0 [(0, .inr (.inr (some this)))] [] σ (AQ C none y) := by
  unfold fX1_init at h
  refine aw_aload_n X dX1_init_0 0 0 rfl rfl ?_
  refine aw_objI X q868 q107 q108 dX1_init_1 (Nat.le_of_ble_eq_true rfl) ?_
  refine aw_aload_n X dX1_init_4 0 0 rfl rfl ?_
  refine aw_bipush X (6 : Int32) dX1_init_5 (by decide) ?_
  obtain ⟨n1, hn1, h⟩ := bind_some h
  refine aw_newa X (kd := 1) dX1_init_7 rfl (by decide) (by decide) q215 (r := n1.1) (σ' := n1.2) hn1 ?_
  obtain ⟨s2, hs2, h⟩ := bind_some h
  refine aw_pfFR X XI fl_X1_7 dX1_init_9 hs2 ?_
  refine aw_aload_n X dX1_init_12 0 0 rfl rfl ?_
  refine aw_bipush X (6 : Int32) dX1_init_13 (by decide) ?_
  obtain ⟨n3, hn3, h⟩ := bind_some h
  refine aw_newa X (kd := 1) dX1_init_15 rfl (by decide) (by decide) q215 (r := n3.1) (σ' := n3.2) hn3 ?_
  obtain ⟨s4, hs4, h⟩ := bind_some h
  refine aw_pfFR X XI fl_X1_13 dX1_init_17 hs4 ?_
  refine aw_aload_n X dX1_init_20 0 0 rfl rfl ?_
  refine aw_sipush X (240 : Int32) dX1_init_21 (by decide) ?_
  obtain ⟨n5, hn5, h⟩ := bind_some h
  refine aw_newa X (kd := 1) dX1_init_24 rfl (by decide) (by decide) q215 (r := n5.1) (σ' := n5.2) hn5 ?_
  obtain ⟨s6, hs6, h⟩ := bind_some h
  refine aw_pfFR X XI fl_X1_16 dX1_init_26 hs6 ?_
  refine aw_aload_n X dX1_init_29 0 0 rfl rfl ?_
  refine aw_bipush X (40 : Int32) dX1_init_30 (by decide) ?_
  obtain ⟨n7, hn7, h⟩ := bind_some h
  refine aw_newa X (kd := 1) dX1_init_32 rfl (by decide) (by decide) q215 (r := n7.1) (σ' := n7.2) hn7 ?_
  obtain ⟨s8, hs8, h⟩ := bind_some h
  refine aw_pfFR X XI fl_X1_19 dX1_init_34 hs8 ?_
  refine aw_aload_n X dX1_init_37 0 0 rfl rfl ?_
  refine aw_iconst X (4 : Int32) dX1_init_38 (by decide) ?_
  obtain ⟨n9, hn9, h⟩ := bind_some h
  refine aw_newa X (kd := 1) dX1_init_39 rfl (by decide) (by decide) q215 (r := n9.1) (σ' := n9.2) hn9 ?_
  obtain ⟨s10, hs10, h⟩ := bind_some h
  refine aw_pfFR X XI fl_X1_22 dX1_init_41 hs10 ?_
  refine aw_aload_n X dX1_init_44 0 0 rfl rfl ?_
  refine aw_sipush X (240 : Int32) dX1_init_45 (by decide) ?_
  obtain ⟨n11, hn11, h⟩ := bind_some h
  refine aw_newa X (kd := 2) dX1_init_48 rfl (by decide) (by decide) q216 (r := n11.1) (σ' := n11.2) hn11 ?_
  obtain ⟨s12, hs12, h⟩ := bind_some h
  refine aw_pfFR X XI fl_X1_25 dX1_init_50 hs12 ?_
  refine aw_aload_n X dX1_init_53 0 0 rfl rfl ?_
  refine aw_bipush X (8 : Int32) dX1_init_54 (by decide) ?_
  obtain ⟨n13, hn13, h⟩ := bind_some h
  refine aw_newa X (kd := 1) dX1_init_56 rfl (by decide) (by decide) q215 (r := n13.1) (σ' := n13.2) hn13 ?_
  obtain ⟨s14, hs14, h⟩ := bind_some h
  refine aw_pfFR X XI fl_X1_29 dX1_init_58 hs14 ?_
  refine aw_aload_n X dX1_init_61 0 0 rfl rfl ?_
  refine aw_sipush X (320 : Int32) dX1_init_62 (by decide) ?_
  obtain ⟨n15, hn15, h⟩ := bind_some h
  refine aw_newa X (kd := 1) dX1_init_65 rfl (by decide) (by decide) q215 (r := n15.1) (σ' := n15.2) hn15 ?_
  obtain ⟨s16, hs16, h⟩ := bind_some h
  refine aw_pfFR X XI fl_X1_32 dX1_init_67 hs16 ?_
  refine aw_aload_n X dX1_init_70 0 0 rfl rfl ?_
  refine aw_bipush X (8 : Int32) dX1_init_71 (by decide) ?_
  obtain ⟨n17, hn17, h⟩ := bind_some h
  refine aw_newa X (kd := 1) dX1_init_73 rfl (by decide) (by decide) q215 (r := n17.1) (σ' := n17.2) hn17 ?_
  obtain ⟨s18, hs18, h⟩ := bind_some h
  refine aw_pfFR X XI fl_X1_35 dX1_init_75 hs18 ?_
  refine aw_aload_n X dX1_init_78 0 0 rfl rfl ?_
  refine aw_bipush X (8 : Int32) dX1_init_79 (by decide) ?_
  obtain ⟨n19, hn19, h⟩ := bind_some h
  refine aw_newa X (kd := 1) dX1_init_81 rfl (by decide) (by decide) q215 (r := n19.1) (σ' := n19.2) hn19 ?_
  obtain ⟨s20, hs20, h⟩ := bind_some h
  refine aw_pfFR X XI fl_X1_38 dX1_init_83 hs20 ?_
  refine aw_aload_n X dX1_init_86 0 0 rfl rfl ?_
  refine aw_bipush X (8 : Int32) dX1_init_87 (by decide) ?_
  obtain ⟨n21, hn21, h⟩ := bind_some h
  refine aw_newa X (kd := 1) dX1_init_89 rfl (by decide) (by decide) q215 (r := n21.1) (σ' := n21.2) hn21 ?_
  obtain ⟨s22, hs22, h⟩ := bind_some h
  refine aw_pfFR X XI fl_X1_41 dX1_init_91 hs22 ?_
  refine aw_aload_n X dX1_init_94 0 0 rfl rfl ?_
  refine aw_bipush X (40 : Int32) dX1_init_95 (by decide) ?_
  obtain ⟨n23, hn23, h⟩ := bind_some h
  refine aw_newa X (kd := 1) dX1_init_97 rfl (by decide) (by decide) q215 (r := n23.1) (σ' := n23.2) hn23 ?_
  obtain ⟨s24, hs24, h⟩ := bind_some h
  refine aw_pfFR X XI fl_X1_44 dX1_init_99 hs24 ?_
  refine aw_aload_n X dX1_init_102 0 0 rfl rfl ?_
  refine aw_iconst X (5 : Int32) dX1_init_103 (by decide) ?_
  obtain ⟨n25, hn25, h⟩ := bind_some h
  refine aw_newa X (kd := 1) dX1_init_104 rfl (by decide) (by decide) q215 (r := n25.1) (σ' := n25.2) hn25 ?_
  obtain ⟨s26, hs26, h⟩ := bind_some h
  refine aw_pfFR X XI fl_X1_47 dX1_init_106 hs26 ?_
  refine aw_aload_n X dX1_init_109 0 0 rfl rfl ?_
  refine aw_iconst X (5 : Int32) dX1_init_110 (by decide) ?_
  obtain ⟨n27, hn27, h⟩ := bind_some h
  refine aw_newa X (kd := 1) dX1_init_111 rfl (by decide) (by decide) q215 (r := n27.1) (σ' := n27.2) hn27 ?_
  obtain ⟨s28, hs28, h⟩ := bind_some h
  refine aw_pfFR X XI fl_X1_50 dX1_init_113 hs28 ?_
  refine aw_aload_n X dX1_init_116 0 0 rfl rfl ?_
  refine aw_bipush X (41 : Int32) dX1_init_117 (by decide) ?_
  obtain ⟨n29, hn29, h⟩ := bind_some h
  refine aw_newa X (kd := 3) dX1_init_119 rfl (by decide) (by decide) q217 (r := n29.1) (σ' := n29.2) hn29 ?_
  obtain ⟨s30, hs30, h⟩ := bind_some h
  refine aw_pfFR X XI fl_X1_53 dX1_init_121 hs30 ?_
  refine aw_aload_n X dX1_init_124 0 0 rfl rfl ?_
  refine aw_bipush X (40 : Int32) dX1_init_125 (by decide) ?_
  obtain ⟨n31, hn31, h⟩ := bind_some h
  refine aw_newa X (kd := 1) dX1_init_127 rfl (by decide) (by decide) q215 (r := n31.1) (σ' := n31.2) hn31 ?_
  obtain ⟨s32, hs32, h⟩ := bind_some h
  refine aw_pfFR X XI fl_X1_57 dX1_init_129 hs32 ?_
  refine aw_aload_n X dX1_init_132 0 0 rfl rfl ?_
  refine aw_bipush X (40 : Int32) dX1_init_133 (by decide) ?_
  obtain ⟨n33, hn33, h⟩ := bind_some h
  refine aw_newa X (kd := 1) dX1_init_135 rfl (by decide) (by decide) q215 (r := n33.1) (σ' := n33.2) hn33 ?_
  obtain ⟨s34, hs34, h⟩ := bind_some h
  refine aw_pfFR X XI fl_X1_60 dX1_init_137 hs34 ?_
  refine aw_aload_n X dX1_init_140 0 0 rfl rfl ?_
  refine aw_bipush X (41 : Int32) dX1_init_141 (by decide) ?_
  obtain ⟨n35, hn35, h⟩ := bind_some h
  refine aw_newa X (kd := 1) dX1_init_143 rfl (by decide) (by decide) q215 (r := n35.1) (σ' := n35.2) hn35 ?_
  obtain ⟨s36, hs36, h⟩ := bind_some h
  refine aw_pfFR X XI fl_X1_63 dX1_init_145 hs36 ?_
  refine aw_aload_n X dX1_init_148 0 0 rfl rfl ?_
  refine aw_sipush X (1681 : Int32) dX1_init_149 (by decide) ?_
  obtain ⟨n37, hn37, h⟩ := bind_some h
  refine aw_newa X (kd := 3) dX1_init_152 rfl (by decide) (by decide) q217 (r := n37.1) (σ' := n37.2) hn37 ?_
  obtain ⟨s38, hs38, h⟩ := bind_some h
  refine aw_pfFR X XI fl_X1_66 dX1_init_154 hs38 ?_
  refine aw_aload_n X dX1_init_157 0 0 rfl rfl ?_
  refine aw_sipush X (1700 : Int32) dX1_init_158 (by decide) ?_
  obtain ⟨n39, hn39, h⟩ := bind_some h
  refine aw_newa X (kd := 1) dX1_init_161 rfl (by decide) (by decide) q215 (r := n39.1) (σ' := n39.2) hn39 ?_
  obtain ⟨s40, hs40, h⟩ := bind_some h
  refine aw_pfFR X XI fl_X1_69 dX1_init_163 hs40 ?_
  refine aw_aload_n X dX1_init_166 0 0 rfl rfl ?_
  refine aw_sipush X (1700 : Int32) dX1_init_167 (by decide) ?_
  obtain ⟨n41, hn41, h⟩ := bind_some h
  refine aw_newa X (kd := 1) dX1_init_170 rfl (by decide) (by decide) q215 (r := n41.1) (σ' := n41.2) hn41 ?_
  obtain ⟨s42, hs42, h⟩ := bind_some h
  refine aw_pfFR X XI fl_X1_72 dX1_init_172 hs42 ?_
  refine aw_aload_n X dX1_init_175 0 0 rfl rfl ?_
  refine aw_sipush X (1700 : Int32) dX1_init_176 (by decide) ?_
  obtain ⟨n43, hn43, h⟩ := bind_some h
  refine aw_newa X (kd := 1) dX1_init_179 rfl (by decide) (by decide) q215 (r := n43.1) (σ' := n43.2) hn43 ?_
  obtain ⟨s44, hs44, h⟩ := bind_some h
  refine aw_pfFR X XI fl_X1_75 dX1_init_181 hs44 ?_
  refine aw_aload_n X dX1_init_184 0 0 rfl rfl ?_
  refine aw_sipush X (1700 : Int32) dX1_init_185 (by decide) ?_
  obtain ⟨n45, hn45, h⟩ := bind_some h
  refine aw_newa X (kd := 4) dX1_init_188 rfl (by decide) (by decide) q1002 (r := n45.1) (σ' := n45.2) hn45 ?_
  obtain ⟨s46, hs46, h⟩ := bind_some h
  refine aw_pfFR X XI fl_X1_78 dX1_init_190 hs46 ?_
  refine aw_aload_n X dX1_init_193 0 0 rfl rfl ?_
  refine aw_bipush X (40 : Int32) dX1_init_194 (by decide) ?_
  obtain ⟨n47, hn47, h⟩ := bind_some h
  refine aw_newa X (kd := 1) dX1_init_196 rfl (by decide) (by decide) q215 (r := n47.1) (σ' := n47.2) hn47 ?_
  obtain ⟨s48, hs48, h⟩ := bind_some h
  refine aw_pfFR X XI fl_X1_82 dX1_init_198 hs48 ?_
  refine aw_aload_n X dX1_init_201 0 0 rfl rfl ?_
  refine aw_iconst X (4 : Int32) dX1_init_202 (by decide) ?_
  obtain ⟨n49, hn49, h⟩ := bind_some h
  refine aw_newa X (kd := 1) dX1_init_203 rfl (by decide) (by decide) q215 (r := n49.1) (σ' := n49.2) hn49 ?_
  obtain ⟨s50, hs50, h⟩ := bind_some h
  refine aw_pfFR X XI fl_X1_85 dX1_init_205 hs50 ?_
  refine aw_aload_n X dX1_init_208 0 0 rfl rfl ?_
  refine aw_sipush X (20001 : Int32) dX1_init_209 (by decide) ?_
  obtain ⟨n51, hn51, h⟩ := bind_some h
  refine aw_newa X (kd := 1) dX1_init_212 rfl (by decide) (by decide) q215 (r := n51.1) (σ' := n51.2) hn51 ?_
  obtain ⟨s52, hs52, h⟩ := bind_some h
  refine aw_pfFR X XI fl_X1_88 dX1_init_214 hs52 ?_
  refine aw_aload_n X dX1_init_217 0 0 rfl rfl ?_
  refine aw_iconst X (4 : Int32) dX1_init_218 (by decide) ?_
  obtain ⟨n53, hn53, h⟩ := bind_some h
  refine aw_newa X (kd := 1) dX1_init_219 rfl (by decide) (by decide) q215 (r := n53.1) (σ' := n53.2) hn53 ?_
  obtain ⟨s54, hs54, h⟩ := bind_some h
  refine aw_pfFR X XI fl_X1_91 dX1_init_221 hs54 ?_
  refine aw_aload_n X dX1_init_224 0 0 rfl rfl ?_
  refine aw_sipush X (1681 : Int32) dX1_init_225 (by decide) ?_
  obtain ⟨n55, hn55, h⟩ := bind_some h
  refine aw_newa X (kd := 3) dX1_init_228 rfl (by decide) (by decide) q217 (r := n55.1) (σ' := n55.2) hn55 ?_
  obtain ⟨s56, hs56, h⟩ := bind_some h
  refine aw_pfFR X XI fl_X1_94 dX1_init_230 hs56 ?_
  refine aw_aload_n X dX1_init_233 0 0 rfl rfl ?_
  refine aw_sipush X (216 : Int32) dX1_init_234 (by decide) ?_
  obtain ⟨n57, hn57, h⟩ := bind_some h
  refine aw_newa X (kd := 3) dX1_init_237 rfl (by decide) (by decide) q217 (r := n57.1) (σ' := n57.2) hn57 ?_
  obtain ⟨s58, hs58, h⟩ := bind_some h
  refine aw_pfFR X XI fl_X1_97 dX1_init_239 hs58 ?_
  refine aw_aload_n X dX1_init_242 0 0 rfl rfl ?_
  refine aw_sipush X (216 : Int32) dX1_init_243 (by decide) ?_
  obtain ⟨n59, hn59, h⟩ := bind_some h
  refine aw_newa X (kd := 3) dX1_init_246 rfl (by decide) (by decide) q217 (r := n59.1) (σ' := n59.2) hn59 ?_
  obtain ⟨s60, hs60, h⟩ := bind_some h
  refine aw_pfFR X XI fl_X1_100 dX1_init_248 hs60 ?_
  refine aw_aload_n X dX1_init_251 0 0 rfl rfl ?_
  refine aw_iconst X (4 : Int32) dX1_init_252 (by decide) ?_
  obtain ⟨n61, hn61, h⟩ := bind_some h
  refine aw_newa X (kd := 3) dX1_init_253 rfl (by decide) (by decide) q217 (r := n61.1) (σ' := n61.2) hn61 ?_
  obtain ⟨s62, hs62, h⟩ := bind_some h
  refine aw_pfFR X XI fl_X1_103 dX1_init_255 hs62 ?_
  refine aw_aload_n X dX1_init_258 0 0 rfl rfl ?_
  refine aw_lconst X (1 : Int64) dX1_init_259 rfl ?_
  obtain ⟨s63, hs63, h⟩ := bind_some h
  refine aw_pfL X fl_X1_106 dX1_init_260 hs63 ?_
  refine aw_aload_n X dX1_init_263 0 0 rfl rfl ?_
  refine aw_iconst X (3 : Int32) dX1_init_264 (by decide) ?_
  obtain ⟨s64, hs64, h⟩ := bind_some h
  refine aw_pfI X fl_X1_110 dX1_init_265 hs64 ?_
  refine aw_iconst X (0 : Int32) dX1_init_268 (by decide) ?_
  refine aw_istore_n X dX1_init_269 1 rfl (by decide) [(1, .inl (0 : Int32)), (0, .inr (.inr (some this)))] rfl ?_
  obtain ⟨e68, h69, h⟩ := bind_some h
  refine aw_sub [(0, .inr (.inr (some this))), (1, .inl (0 : Int32))] [1, 0] rfl ?_
  refine aw_it (fun s => AW C 270 [(0, .inr (.inr (some this))), (1, .inl s.1)] [] s.2 (AQ C none y)) (fun e => AW C 289 [(0, .inr (.inr (some this)))] [] e (AQ C none y)) (fun s r hr kH kE => wX1_init_l270 X XI φ this s.1 s.2 r hr kH kE) φ _ e68 h69 ?_
  refine aw_iconst X (0 : Int32) dX1_init_289 (by decide) ?_
  refine aw_istore_n X dX1_init_290 1 rfl (by decide) [(1, .inl (0 : Int32)), (0, .inr (.inr (some this)))] rfl ?_
  obtain ⟨e73, h74, h⟩ := bind_some h
  refine aw_sub [(0, .inr (.inr (some this))), (1, .inl (0 : Int32))] [1, 0] rfl ?_
  refine aw_it (fun s => AW C 291 [(0, .inr (.inr (some this))), (1, .inl s.1)] [] s.2 (AQ C none y)) (fun e => AW C 309 [(0, .inr (.inr (some this)))] [] e (AQ C none y)) (fun s r hr kH kE => wX1_init_l291 X XI φ this s.1 s.2 r hr kH kE) φ _ e73 h74 ?_
  refine aw_iconst X (0 : Int32) dX1_init_309 (by decide) ?_
  refine aw_istore_n X dX1_init_310 1 rfl (by decide) [(1, .inl (0 : Int32)), (0, .inr (.inr (some this)))] rfl ?_
  obtain ⟨e78, h79, h⟩ := bind_some h
  refine aw_sub [(0, .inr (.inr (some this))), (1, .inl (0 : Int32))] [1, 0] rfl ?_
  refine aw_it (fun s => AW C 311 [(0, .inr (.inr (some this))), (1, .inl s.1)] [] s.2 (AQ C none y)) (fun e => AW C 330 [] [] e (AQ C none y)) (fun s r hr kH kE => wX1_init_l311 X XI φ this s.1 s.2 r hr kH kE) φ _ e78 h79 ?_
  cases h
  exact aw_vret X dX1_init_330
theorem AX1_init {E : AE} {l : Launch} (hE : EOK E l) (φ d : Nat) (this : Nat) (σ : St) (y : St) (h : fX1_init φ this σ = some y) : AMet E l yX1_init (ws_ yX1_init cX1_init 2 none) d [.inr (.inr (some this))] σ none y := by
  refine amet_of hE (by decide +kernel) (Nat.le_of_ble_eq_true rfl) fun C e1 e2 X XI => ?_
  subst e1
  exact wX1_init X (XI rfl) φ this σ y h
theorem wX1_finding {C : CT} {d : Nat} (X : Cx C cX1_finding RX1 (some .int) 1 d) (φ : Nat) (this : Nat) (σ : St) (y : Int32) (h : fX1_finding φ this σ = some y) : AW C 0 [(0, .inr (.inr (some this)))] [] σ (AQ C (some (.inl y)) σ) := by
  unfold fX1_finding at h
  refine aw_aload_n X dX1_finding_0 0 0 rfl rfl ?_
  obtain ⟨x1, hx1, h⟩ := bind_some h
  refine aw_gfI X fl_X1_114 dX1_finding_1 hx1 ?_
  cases h
  exact aw_iret X dX1_finding_4
theorem AX1_finding {E : AE} {l : Launch} (hE : EOK E l) (φ d : Nat) (this : Nat) (σ : St) (y : Int32) (h : fX1_finding φ this σ = some y) : AMet E l yX1_finding (ws_ yX1_finding cX1_finding 1 (some .int)) d [.inr (.inr (some this))] σ (some (.inl y)) σ := by
  refine amet_of hE (by decide +kernel) (Nat.le_of_ble_eq_true rfl) fun C e1 e2 X XI => ?_
  subst e1
  exact wX1_finding X φ this σ y h
theorem wX1_in {C : CT} {d : Nat} (X : Cx C cX1_in RX1 (some .boolean) 3 d) (φ : Nat) (v0 : Int32) (v1 : Int32) (v2 : Int32) (σ : St) (y : Int32) (h : fX1_in φ v0 v1 v2 σ = some y) : AW C 0 [(0, .inl v0), (1, .inl v1), (2, .inl v2)] [] σ (AQ C (some (.inl y)) σ) := by
  unfold fX1_in at h
  refine aw_iload_n X dX1_in_0 0 0 rfl rfl ?_
  refine aw_iload_n X dX1_in_1 1 1 rfl rfl ?_
  refine aw_icmp_lt X 14 dX1_in_2 rfl (fun c1 => ?_) (fun c1 => ?_)
  · rw [if_pos c1] at h
    refine aw_iconst X (0 : Int32) dX1_in_14 (by decide) ?_
    cases h
    exact aw_zret X (Or.inl rfl) dX1_in_15
  · rw [if_neg c1] at h
    refine aw_iload_n X dX1_in_5 0 0 rfl rfl ?_
    refine aw_iload_n X dX1_in_6 2 2 rfl rfl ?_
    refine aw_icmp_gt X 14 dX1_in_7 rfl (fun c2 => ?_) (fun c2 => ?_)
    · rw [if_pos c2] at h
      refine aw_iconst X (0 : Int32) dX1_in_14 (by decide) ?_
      cases h
      exact aw_zret X (Or.inl rfl) dX1_in_15
    · rw [if_neg c2] at h
      refine aw_iconst X (1 : Int32) dX1_in_10 (by decide) ?_
      refine aw_goto X 15 dX1_in_11 rfl ?_
      cases h
      exact aw_zret X (Or.inr rfl) dX1_in_15
theorem AX1_in {E : AE} {l : Launch} (hE : EOK E l) (φ d : Nat) (v0 : Int32) (v1 : Int32) (v2 : Int32) (σ : St) (y : Int32) (h : fX1_in φ v0 v1 v2 σ = some y) : AMet E l yX1_in (ws_ yX1_in cX1_in 3 (some .boolean)) d [.inl v0, .inl v1, .inl v2] σ (some (.inl y)) σ := by
  refine amet_of hE (by decide +kernel) (Nat.le_of_ble_eq_true rfl) fun C e1 e2 X XI => ?_
  subst e1
  exact wX1_in X φ v0 v1 v2 σ y h
theorem wX1_findings {C : CT} {d : Nat} (X : Cx C cX1_findings RX1 (some .int) 2 (d + 1)) (φ : Nat) (this : Nat) (v1 : Int32) (σ : St) (y : Int32) (h : fX1_findings φ this v1 σ = some y) : AW C 0 [(0, .inr (.inr (some this))), (1, .inl v1)] [] σ (AQ C (some (.inl y)) σ) := by
  unfold fX1_findings at h
  refine aw_iload_n X dX1_findings_0 1 1 rfl rfl ?_
  refine aw_iconst X (1 : Int32) dX1_findings_1 (by decide) ?_
  refine aw_iconst X (5 : Int32) dX1_findings_2 (by decide) ?_
  obtain ⟨y1, hy1, h⟩ := bind_some h
  refine aw_callS X (st := []) [.inl v1, .inl (1 : Int32), .inl (5 : Int32)] rfl ml_X1_117 (AX1_in (Cx.ok X) φ d _ _ _ _ _  hy1) dX1_findings_3 (Nat.le_of_ble_eq_true rfl) ?_
  refine aw_if_eq X 18 dX1_findings_6 rfl (fun c2 => ?_) (fun c2 => ?_)
  · rw [if_pos c2] at h
    refine aw_iconst X (-1 : Int32) dX1_findings_18 (by decide) ?_
    cases h
    exact aw_iret X dX1_findings_19
  · rw [if_neg c2] at h
    refine aw_aload_n X dX1_findings_9 0 0 rfl rfl ?_
    obtain ⟨x3, hx3, h⟩ := bind_some h
    refine aw_gfR X fl_X1_7 dX1_findings_10 hx3 ?_
    refine aw_iload_n X dX1_findings_13 1 1 rfl rfl ?_
    obtain ⟨x4, hx4, h⟩ := bind_some h
    refine aw_iald X dX1_findings_14 hx4 ?_
    refine aw_goto X 19 dX1_findings_15 rfl ?_
    cases h
    exact aw_iret X dX1_findings_19
theorem AX1_findings {E : AE} {l : Launch} (hE : EOK E l) (φ d : Nat) (this : Nat) (v1 : Int32) (σ : St) (y : Int32) (h : fX1_findings φ this v1 σ = some y) : AMet E l yX1_findings (ws_ yX1_findings cX1_findings 2 (some .int)) (d + 1) [.inr (.inr (some this)), .inl v1] σ (some (.inl y)) σ := by
  refine amet_of hE (by decide +kernel) (Nat.le_of_ble_eq_true rfl) fun C e1 e2 X XI => ?_
  subst e1
  exact wX1_findings X φ this v1 σ y h
theorem wX1_asked {C : CT} {d : Nat} (X : Cx C cX1_asked RX1 (some .int) 1 d) (φ : Nat) (this : Nat) (σ : St) (y : Int32) (h : fX1_asked φ this σ = some y) : AW C 0 [(0, .inr (.inr (some this)))] [] σ (AQ C (some (.inl y)) σ) := by
  unfold fX1_asked at h
  refine aw_aload_n X dX1_asked_0 0 0 rfl rfl ?_
  obtain ⟨x1, hx1, h⟩ := bind_some h
  refine aw_gfI X fl_X1_121 dX1_asked_1 hx1 ?_
  cases h
  exact aw_iret X dX1_asked_4
theorem AX1_asked {E : AE} {l : Launch} (hE : EOK E l) (φ d : Nat) (this : Nat) (σ : St) (y : Int32) (h : fX1_asked φ this σ = some y) : AMet E l yX1_asked (ws_ yX1_asked cX1_asked 1 (some .int)) d [.inr (.inr (some this))] σ (some (.inl y)) σ := by
  refine amet_of hE (by decide +kernel) (Nat.le_of_ble_eq_true rfl) fun C e1 e2 X XI => ?_
  subst e1
  exact wX1_asked X φ this σ y h
theorem wX1_many {C : CT} {d : Nat} (X : Cx C cX1_many RX1 (some .long) 1 d) (φ : Nat) (this : Nat) (σ : St) (y : Int64) (h : fX1_many φ this σ = some y) : AW C 0 [(0, .inr (.inr (some this)))] [] σ (AQ C (some (.inr (.inl y))) σ) := by
  unfold fX1_many at h
  refine aw_aload_n X dX1_many_0 0 0 rfl rfl ?_
  obtain ⟨x1, hx1, h⟩ := bind_some h
  refine aw_gfL X fl_X1_124 dX1_many_1 hx1 ?_
  cases h
  exact aw_lret X dX1_many_4
theorem AX1_many {E : AE} {l : Launch} (hE : EOK E l) (φ d : Nat) (this : Nat) (σ : St) (y : Int64) (h : fX1_many φ this σ = some y) : AMet E l yX1_many (ws_ yX1_many cX1_many 1 (some .long)) d [.inr (.inr (some this))] σ (some (.inr (.inl y))) σ := by
  refine amet_of hE (by decide +kernel) (Nat.le_of_ble_eq_true rfl) fun C e1 e2 X XI => ?_
  subst e1
  exact wX1_many X φ this σ y h
theorem wX1_upper {C : CT} {d : Nat} (X : Cx C cX1_upper RX1 (some .long) 1 d) (φ : Nat) (this : Nat) (σ : St) (y : Int64) (h : fX1_upper φ this σ = some y) : AW C 0 [(0, .inr (.inr (some this)))] [] σ (AQ C (some (.inr (.inl y))) σ) := by
  unfold fX1_upper at h
  refine aw_aload_n X dX1_upper_0 0 0 rfl rfl ?_
  obtain ⟨x1, hx1, h⟩ := bind_some h
  refine aw_gfL X fl_X1_127 dX1_upper_1 hx1 ?_
  cases h
  exact aw_lret X dX1_upper_4
theorem AX1_upper {E : AE} {l : Launch} (hE : EOK E l) (φ d : Nat) (this : Nat) (σ : St) (y : Int64) (h : fX1_upper φ this σ = some y) : AMet E l yX1_upper (ws_ yX1_upper cX1_upper 1 (some .long)) d [.inr (.inr (some this))] σ (some (.inr (.inl y))) σ := by
  refine amet_of hE (by decide +kernel) (Nat.le_of_ble_eq_true rfl) fun C e1 e2 X XI => ?_
  subst e1
  exact wX1_upper X φ this σ y h
theorem wX1_lower {C : CT} {d : Nat} (X : Cx C cX1_lower RX1 (some .long) 1 d) (φ : Nat) (this : Nat) (σ : St) (y : Int64) (h : fX1_lower φ this σ = some y) : AW C 0 [(0, .inr (.inr (some this)))] [] σ (AQ C (some (.inr (.inl y))) σ) := by
  unfold fX1_lower at h
  refine aw_aload_n X dX1_lower_0 0 0 rfl rfl ?_
  obtain ⟨x1, hx1, h⟩ := bind_some h
  refine aw_gfL X fl_X1_106 dX1_lower_1 hx1 ?_
  cases h
  exact aw_lret X dX1_lower_4
theorem AX1_lower {E : AE} {l : Launch} (hE : EOK E l) (φ d : Nat) (this : Nat) (σ : St) (y : Int64) (h : fX1_lower φ this σ = some y) : AMet E l yX1_lower (ws_ yX1_lower cX1_lower 1 (some .long)) d [.inr (.inr (some this))] σ (some (.inr (.inl y))) σ := by
  refine amet_of hE (by decide +kernel) (Nat.le_of_ble_eq_true rfl) fun C e1 e2 X XI => ?_
  subst e1
  exact wX1_lower X φ this σ y h
theorem wX1_isRow {C : CT} {d : Nat} (X : Cx C cX1_isRow RX1 (some .boolean) 1 (d + 1)) (φ : Nat) (v0 : Int32) (σ : St) (y : Int32) (h : fX1_isRow φ v0 σ = some y) : AW C 0 [(0, .inl v0)] [] σ (AQ C (some (.inl y)) σ) := by
  unfold fX1_isRow at h
  refine aw_iload_n X dX1_isRow_0 0 0 rfl rfl ?_
  refine aw_iconst X (0 : Int32) dX1_isRow_1 (by decide) ?_
  refine aw_iconst X (5 : Int32) dX1_isRow_2 (by decide) ?_
  obtain ⟨y1, hy1, h⟩ := bind_some h
  refine aw_callS X (st := []) [.inl v0, .inl (0 : Int32), .inl (5 : Int32)] rfl ml_X1_117 (AX1_in (Cx.ok X) φ d _ _ _ _ _  hy1) dX1_isRow_3 (Nat.le_of_ble_eq_true rfl) ?_
  obtain ⟨hz2, h⟩ := chk_some h
  cases h
  exact aw_zret X hz2 dX1_isRow_6
theorem AX1_isRow {E : AE} {l : Launch} (hE : EOK E l) (φ d : Nat) (v0 : Int32) (σ : St) (y : Int32) (h : fX1_isRow φ v0 σ = some y) : AMet E l yX1_isRow (ws_ yX1_isRow cX1_isRow 1 (some .boolean)) (d + 1) [.inl v0] σ (some (.inl y)) σ := by
  refine amet_of hE (by decide +kernel) (Nat.le_of_ble_eq_true rfl) fun C e1 e2 X XI => ?_
  subst e1
  exact wX1_isRow X φ v0 σ y h
theorem wX1_meets {C : CT} {d : Nat} (X : Cx C cX1_meets RX1 (some .int) 2 d) (φ : Nat) (this : Nat) (v1 : Int32) (σ : St) (y : Int32 × St) (h : fX1_meets φ this v1 σ = some y) : AW C 0 [(0, .inr (.inr (some this))), (1, .inl v1)] [] σ (AQ C (some (.inl y.1)) y.2) := by
  unfold fX1_meets at h
  refine aw_aload_n X dX1_meets_0 0 0 rfl rfl ?_
  refine aw_iload_n X dX1_meets_1 1 1 rfl rfl ?_
  obtain ⟨s1, hs1, h⟩ := bind_some h
  refine aw_pfI X fl_X1_114 dX1_meets_2 hs1 ?_
  refine aw_aload_n X dX1_meets_5 0 0 rfl rfl ?_
  obtain ⟨x2, hx2, h⟩ := bind_some h
  refine aw_gfR X fl_X1_7 dX1_meets_6 hx2 ?_
  refine aw_iload_n X dX1_meets_9 1 1 rfl rfl ?_
  refine aw_dup2 X dX1_meets_10 rfl rfl ?_
  obtain ⟨x3, hx3, h⟩ := bind_some h
  refine aw_iald X dX1_meets_11 hx3 ?_
  refine aw_iconst X (1 : Int32) dX1_meets_12 (by decide) ?_
  refine aw_iadd X dX1_meets_13 ?_
  obtain ⟨s4, hs4, h⟩ := bind_some h
  refine aw_iast X dX1_meets_14 hs4 ?_
  refine aw_bipush X (-3 : Int32) dX1_meets_15 (by decide) ?_
  cases h
  exact aw_iret X dX1_meets_17
theorem AX1_meets {E : AE} {l : Launch} (hE : EOK E l) (φ d : Nat) (this : Nat) (v1 : Int32) (σ : St) (y : Int32 × St) (h : fX1_meets φ this v1 σ = some y) : AMet E l yX1_meets (ws_ yX1_meets cX1_meets 2 (some .int)) d [.inr (.inr (some this)), .inl v1] σ (some (.inl y.1)) y.2 := by
  refine amet_of hE (by decide +kernel) (Nat.le_of_ble_eq_true rfl) fun C e1 e2 X XI => ?_
  subst e1
  exact wX1_meets X φ this v1 σ y h
theorem wX1_row_l34 {C : CT} {d : Nat} {Z : State → Prop} (X : Cx C cX1_row RX1 (some .int) 4 (d + 2)) (φ : Nat) (this : Nat) (v1 : Int32) (v2 : Int32) (v3 : Int32) (σ : St) (y : (Int32 × St) ⊕ (St)) (h : fX1_row_l34 φ this v1 v2 v3 σ = some y) (kH : ∀ s : Int32 × St, y = .inl s → AW C 34 [(0, .inr (.inr (some this))), (1, .inl v1), (2, .inl v2), (3, .inl s.1)] [] s.2 Z) (kE0 : ∀ e : St, y = .inr e → AW C 58 [(2, .inl v2)] [] e Z) : AW C 34 [(0, .inr (.inr (some this))), (1, .inl v1), (2, .inl v2), (3, .inl v3)] [] σ Z := by
  unfold fX1_row_l34 at h
  refine aw_iload_n X dX1_row_34 3 3 rfl rfl ?_
  refine aw_bipush X (40 : Int32) dX1_row_35 (by decide) ?_
  refine aw_icmp_ge X 58 dX1_row_37 rfl (fun c7 => ?_) (fun c7 => ?_)
  · rw [if_pos c7] at h
    cases h
    refine aw_sub [(2, .inl v2)] [2] rfl ?_
    exact kE0 σ rfl
  · rw [if_neg c7] at h
    refine aw_aload_n X dX1_row_40 0 0 rfl rfl ?_
    obtain ⟨x8, hx8, h⟩ := bind_some h
    refine aw_gfR X fl_X1_16 dX1_row_41 hx8 ?_
    refine aw_bipush X (40 : Int32) dX1_row_44 (by decide) ?_
    refine aw_iload_n X dX1_row_46 1 1 rfl rfl ?_
    refine aw_imul X dX1_row_47 ?_
    refine aw_iload_n X dX1_row_48 3 3 rfl rfl ?_
    refine aw_iadd X dX1_row_49 ?_
    refine aw_iconst X (0 : Int32) dX1_row_50 (by decide) ?_
    obtain ⟨s9, hs9, h⟩ := bind_some h
    refine aw_iast X dX1_row_51 hs9 ?_
    refine aw_iinc X dX1_row_52 3 rfl (1 : Int32) rfl (by decide) [(3, .inl (v3 + (1 : Int32))), (0, .inr (.inr (some this))), (1, .inl v1), (2, .inl v2)] rfl ?_
    refine aw_goto X 34 dX1_row_55 rfl ?_
    cases h
    refine aw_sub [(0, .inr (.inr (some this))), (1, .inl v1), (2, .inl v2), (3, .inl (v3 + (1 : Int32)))] [1, 2, 3, 0] rfl ?_
    exact kH ((v3 + (1 : Int32)), s9) rfl
theorem wX1_row {C : CT} {d : Nat} (X : Cx C cX1_row RX1 (some .int) 4 (d + 2)) (φ : Nat) (this : Nat) (v1 : Int32) (v2 : Int32) (σ : St) (y : Int32 × St) (h : fX1_row φ this v1 v2 σ = some y) : AW C 0 [(0, .inr (.inr (some this))), (1, .inl v1), (2, .inl v2)] [] σ (AQ C (some (.inl y.1)) y.2) := by
  unfold fX1_row at h
  refine aw_iload_n X dX1_row_0 1 1 rfl rfl ?_
  obtain ⟨y1, hy1, h⟩ := bind_some h
  refine aw_callS X (st := []) [.inl v1] rfl ml_X1_130 (AX1_isRow (Cx.ok X) φ d _ _ _  hy1) dX1_row_1 (Nat.le_of_ble_eq_true rfl) ?_
  refine aw_if_eq X 13 dX1_row_4 rfl (fun c2 => ?_) (fun c2 => ?_)
  · rw [if_pos c2] at h
    refine aw_iconst X (-1 : Int32) dX1_row_13 (by decide) ?_
    cases h
    exact aw_iret X dX1_row_14
  · rw [if_neg c2] at h
    refine aw_iload_n X dX1_row_7 2 2 rfl rfl ?_
    refine aw_bipush X (40 : Int32) dX1_row_8 (by decide) ?_
    refine aw_icmp_le X 15 dX1_row_10 rfl (fun c3 => ?_) (fun c3 => ?_)
    · rw [if_pos c3] at h
      refine aw_iload_n X dX1_row_15 2 2 rfl rfl ?_
      refine aw_if_ge X 25 dX1_row_16 rfl (fun c4 => ?_) (fun c4 => ?_)
      · rw [if_pos c4] at h
        refine aw_aload_n X dX1_row_25 0 0 rfl rfl ?_
        obtain ⟨x5, hx5, h⟩ := bind_some h
        refine aw_gfR X fl_X1_13 dX1_row_26 hx5 ?_
        refine aw_iload_n X dX1_row_29 1 1 rfl rfl ?_
        refine aw_iload_n X dX1_row_30 2 2 rfl rfl ?_
        obtain ⟨s6, hs6, h⟩ := bind_some h
        refine aw_iast X dX1_row_31 hs6 ?_
        refine aw_iconst X (0 : Int32) dX1_row_32 (by decide) ?_
        refine aw_istore_n X dX1_row_33 3 rfl (by decide) [(3, .inl (0 : Int32)), (0, .inr (.inr (some this))), (1, .inl v1), (2, .inl v2)] rfl ?_
        obtain ⟨e10, h11, h⟩ := bind_some h
        refine aw_sub [(0, .inr (.inr (some this))), (1, .inl v1), (2, .inl v2), (3, .inl (0 : Int32))] [1, 2, 3, 0] rfl ?_
        refine aw_it (fun s => AW C 34 [(0, .inr (.inr (some this))), (1, .inl v1), (2, .inl v2), (3, .inl s.1)] [] s.2 (AQ C (some (.inl y.1)) y.2)) (fun e => AW C 58 [(2, .inl v2)] [] e (AQ C (some (.inl y.1)) y.2)) (fun s r hr kH kE => wX1_row_l34 X φ this v1 v2 s.1 s.2 r hr kH kE) φ _ e10 h11 ?_
        refine aw_iload_n X dX1_row_58 0 2 rfl rfl ?_
        cases h
        exact aw_iret X dX1_row_59
      · rw [if_neg c4] at h
        refine aw_aload_n X dX1_row_19 0 0 rfl rfl ?_
        refine aw_iconst X (5 : Int32) dX1_row_20 (by decide) ?_
        obtain ⟨y12, hy12, h⟩ := bind_some h
        refine aw_cV X (st := []) hy12 [.inl (5 : Int32)] rfl rfl ml_X1_134 (fun o h => AX1_meets (Cx.ok X) φ (d + 1) _ _ _ _ h) dX1_row_21 (Nat.le_of_ble_eq_true rfl) ?_
        cases h
        exact aw_iret X dX1_row_24
    · rw [if_neg c3] at h
      refine aw_iconst X (-1 : Int32) dX1_row_13 (by decide) ?_
      cases h
      exact aw_iret X dX1_row_14
theorem AX1_row {E : AE} {l : Launch} (hE : EOK E l) (φ d : Nat) (this : Nat) (v1 : Int32) (v2 : Int32) (σ : St) (y : Int32 × St) (h : fX1_row φ this v1 v2 σ = some y) : AMet E l yX1_row (ws_ yX1_row cX1_row 4 (some .int)) (d + 2) [.inr (.inr (some this)), .inl v1, .inl v2] σ (some (.inl y.1)) y.2 := by
  refine amet_of hE (by decide +kernel) (Nat.le_of_ble_eq_true rfl) fun C e1 e2 X XI => ?_
  subst e1
  exact wX1_row X φ this v1 v2 σ y h
theorem wX1_rowAt {C : CT} {d : Nat} (X : Cx C cX1_rowAt RX1 (some .int) 3 d) (φ : Nat) (this : Nat) (v1 : Int32) (v2 : Int32) (σ : St) (y : Int32) (h : fX1_rowAt φ this v1 v2 σ = some y) : AW C 0 [(0, .inr (.inr (some this))), (1, .inl v1), (2, .inl v2)] [] σ (AQ C (some (.inl y)) σ) := by
  unfold fX1_rowAt at h
  refine aw_aload_n X dX1_rowAt_0 0 0 rfl rfl ?_
  obtain ⟨x1, hx1, h⟩ := bind_some h
  refine aw_gfR X fl_X1_16 dX1_rowAt_1 hx1 ?_
  refine aw_bipush X (40 : Int32) dX1_rowAt_4 (by decide) ?_
  refine aw_iload_n X dX1_rowAt_6 1 1 rfl rfl ?_
  refine aw_imul X dX1_rowAt_7 ?_
  refine aw_iload_n X dX1_rowAt_8 2 2 rfl rfl ?_
  refine aw_iadd X dX1_rowAt_9 ?_
  obtain ⟨x2, hx2, h⟩ := bind_some h
  refine aw_iald X dX1_rowAt_10 hx2 ?_
  cases h
  exact aw_iret X dX1_rowAt_11
theorem AX1_rowAt {E : AE} {l : Launch} (hE : EOK E l) (φ d : Nat) (this : Nat) (v1 : Int32) (v2 : Int32) (σ : St) (y : Int32) (h : fX1_rowAt φ this v1 v2 σ = some y) : AMet E l yX1_rowAt (ws_ yX1_rowAt cX1_rowAt 3 (some .int)) d [.inr (.inr (some this)), .inl v1, .inl v2] σ (some (.inl y)) σ := by
  refine amet_of hE (by decide +kernel) (Nat.le_of_ble_eq_true rfl) fun C e1 e2 X XI => ?_
  subst e1
  exact wX1_rowAt X φ this v1 v2 σ y h
theorem wX1_tells {C : CT} {d : Nat} (X : Cx C cX1_tells RX1 (some .int) 3 d) (φ : Nat) (this : Nat) (v1 : Int32) (v2 : Int32) (σ : St) (y : Int32 × St) (h : fX1_tells φ this v1 v2 σ = some y) : AW C 0 [(0, .inr (.inr (some this))), (1, .inl v1), (2, .inl v2)] [] σ (AQ C (some (.inl y.1)) y.2) := by
  unfold fX1_tells at h
  refine aw_aload_n X dX1_tells_0 0 0 rfl rfl ?_
  refine aw_iload_n X dX1_tells_1 1 1 rfl rfl ?_
  obtain ⟨s1, hs1, h⟩ := bind_some h
  refine aw_pfI X fl_X1_121 dX1_tells_2 hs1 ?_
  refine aw_iload_n X dX1_tells_5 2 2 rfl rfl ?_
  cases h
  exact aw_iret X dX1_tells_6
theorem AX1_tells {E : AE} {l : Launch} (hE : EOK E l) (φ d : Nat) (this : Nat) (v1 : Int32) (v2 : Int32) (σ : St) (y : Int32 × St) (h : fX1_tells φ this v1 v2 σ = some y) : AMet E l yX1_tells (ws_ yX1_tells cX1_tells 3 (some .int)) d [.inr (.inr (some this)), .inl v1, .inl v2] σ (some (.inl y.1)) y.2 := by
  refine amet_of hE (by decide +kernel) (Nat.le_of_ble_eq_true rfl) fun C e1 e2 X XI => ?_
  subst e1
  exact wX1_tells X φ this v1 v2 σ y h
theorem wX1_lay {C : CT} {d : Nat} (X : Cx C cX1_lay RX1 (some .int) 5 (d + 2)) (φ : Nat) (this : Nat) (v1 : Int32) (v2 : Int32) (v3 : Int32) (σ : St) (y : Int32 × St) (h : fX1_lay φ this v1 v2 v3 σ = some y) : AW C 0 [(0, .inr (.inr (some this))), (1, .inl v1), (2, .inl v2), (3, .inl v3)] [] σ (AQ C (some (.inl y.1)) y.2) := by
  unfold fX1_lay at h
  refine aw_iload_n X dX1_lay_0 1 1 rfl rfl ?_
  obtain ⟨y1, hy1, h⟩ := bind_some h
  refine aw_callS X (st := []) [.inl v1] rfl ml_X1_130 (AX1_isRow (Cx.ok X) φ d _ _ _  hy1) dX1_lay_1 (Nat.le_of_ble_eq_true rfl) ?_
  refine aw_if_ne X 9 dX1_lay_4 rfl (fun c2 => ?_) (fun c2 => ?_)
  · rw [if_neg c2] at h
    refine aw_aload_n X dX1_lay_9 0 0 rfl rfl ?_
    obtain ⟨x3, hx3, h⟩ := bind_some h
    refine aw_gfR X fl_X1_13 dX1_lay_10 hx3 ?_
    refine aw_iload_n X dX1_lay_13 1 1 rfl rfl ?_
    obtain ⟨x4, hx4, h⟩ := bind_some h
    refine aw_iald X dX1_lay_14 hx4 ?_
    refine aw_if_ge X 24 dX1_lay_15 rfl (fun c5 => ?_) (fun c5 => ?_)
    · rw [if_pos c5] at h
      refine aw_iload_n X dX1_lay_24 2 2 rfl rfl ?_
      refine aw_iconst X (0 : Int32) dX1_lay_25 (by decide) ?_
      refine aw_aload_n X dX1_lay_26 0 0 rfl rfl ?_
      obtain ⟨x6, hx6, h⟩ := bind_some h
      refine aw_gfR X fl_X1_13 dX1_lay_27 hx6 ?_
      refine aw_iload_n X dX1_lay_30 1 1 rfl rfl ?_
      obtain ⟨x7, hx7, h⟩ := bind_some h
      refine aw_iald X dX1_lay_31 hx7 ?_
      refine aw_iconst X (1 : Int32) dX1_lay_32 (by decide) ?_
      refine aw_isub X dX1_lay_33 ?_
      obtain ⟨y8, hy8, h⟩ := bind_some h
      refine aw_callS X (st := []) [.inl v2, .inl (0 : Int32), .inl (x7 - (1 : Int32))] rfl ml_X1_117 (AX1_in (Cx.ok X) φ (d + 1) _ _ _ _ _  hy8) dX1_lay_34 (Nat.le_of_ble_eq_true rfl) ?_
      refine aw_if_ne X 46 dX1_lay_37 rfl (fun c9 => ?_) (fun c9 => ?_)
      · rw [if_neg c9] at h
        refine aw_aload_n X dX1_lay_46 0 0 rfl rfl ?_
        refine aw_iload_n X dX1_lay_47 1 1 rfl rfl ?_
        refine aw_iload_n X dX1_lay_48 2 2 rfl rfl ?_
        obtain ⟨y10, hy10, h⟩ := bind_some h
        refine aw_cV X (st := []) hy10 [.inl v1, .inl v2] rfl rfl ml_X1_138 (fun o h => AX1_rowAt (Cx.ok X) φ (d + 1) _ _ _ _ _ h) dX1_lay_49 (Nat.le_of_ble_eq_true rfl) ?_
        refine aw_istore X dX1_lay_52 (by decide) [(4, .inl y10), (0, .inr (.inr (some this))), (1, .inl v1), (2, .inl v2), (3, .inl v3)] rfl ?_
        refine aw_aload_n X dX1_lay_54 1 0 rfl rfl ?_
        obtain ⟨x11, hx11, h⟩ := bind_some h
        refine aw_gfR X fl_X1_16 dX1_lay_55 hx11 ?_
        refine aw_bipush X (40 : Int32) dX1_lay_58 (by decide) ?_
        refine aw_iload_n X dX1_lay_60 2 1 rfl rfl ?_
        refine aw_imul X dX1_lay_61 ?_
        refine aw_iload_n X dX1_lay_62 3 2 rfl rfl ?_
        refine aw_iadd X dX1_lay_63 ?_
        refine aw_iload_n X dX1_lay_64 4 3 rfl rfl ?_
        obtain ⟨s12, hs12, h⟩ := bind_some h
        refine aw_iast X dX1_lay_65 hs12 ?_
        refine aw_aload_n X dX1_lay_66 1 0 rfl rfl ?_
        refine aw_iload X dX1_lay_67 0 rfl ?_
        refine aw_iconst X (1 : Int32) dX1_lay_69 (by decide) ?_
        obtain ⟨y13, hy13, h⟩ := bind_some h
        refine aw_cV X (st := []) hy13 [.inl y10, .inl (1 : Int32)] rfl rfl ml_X1_142 (fun o h => AX1_tells (Cx.ok X) φ (d + 1) _ _ _ _ _ h) dX1_lay_70 (Nat.le_of_ble_eq_true rfl) ?_
        cases h
        exact aw_iret X dX1_lay_73
      · rw [if_pos c9] at h
        refine aw_aload_n X dX1_lay_40 0 0 rfl rfl ?_
        refine aw_iconst X (2 : Int32) dX1_lay_41 (by decide) ?_
        obtain ⟨y14, hy14, h⟩ := bind_some h
        refine aw_cV X (st := []) hy14 [.inl (2 : Int32)] rfl rfl ml_X1_134 (fun o h => AX1_meets (Cx.ok X) φ (d + 1) _ _ _ _ h) dX1_lay_42 (Nat.le_of_ble_eq_true rfl) ?_
        cases h
        exact aw_iret X dX1_lay_45
    · rw [if_neg c5] at h
      refine aw_aload_n X dX1_lay_18 0 0 rfl rfl ?_
      refine aw_iconst X (1 : Int32) dX1_lay_19 (by decide) ?_
      obtain ⟨y15, hy15, h⟩ := bind_some h
      refine aw_cV X (st := []) hy15 [.inl (1 : Int32)] rfl rfl ml_X1_134 (fun o h => AX1_meets (Cx.ok X) φ (d + 1) _ _ _ _ h) dX1_lay_20 (Nat.le_of_ble_eq_true rfl) ?_
      cases h
      exact aw_iret X dX1_lay_23
  · rw [if_pos c2] at h
    refine aw_iconst X (-1 : Int32) dX1_lay_7 (by decide) ?_
    cases h
    exact aw_iret X dX1_lay_8
theorem AX1_lay {E : AE} {l : Launch} (hE : EOK E l) (φ d : Nat) (this : Nat) (v1 : Int32) (v2 : Int32) (v3 : Int32) (σ : St) (y : Int32 × St) (h : fX1_lay φ this v1 v2 v3 σ = some y) : AMet E l yX1_lay (ws_ yX1_lay cX1_lay 5 (some .int)) (d + 2) [.inr (.inr (some this)), .inl v1, .inl v2, .inl v3] σ (some (.inl y.1)) y.2 := by
  refine amet_of hE (by decide +kernel) (Nat.le_of_ble_eq_true rfl) fun C e1 e2 X XI => ?_
  subst e1
  exact wX1_lay X φ this v1 v2 v3 σ y h
theorem wX1_at {C : CT} {d : Nat} (X : Cx C cX1_at RX1 (some .int) 3 (d + 2)) (φ : Nat) (this : Nat) (v1 : Int32) (v2 : Int32) (σ : St) (y : Int32 × St) (h : fX1_at φ this v1 v2 σ = some y) : AW C 0 [(0, .inr (.inr (some this))), (1, .inl v1), (2, .inl v2)] [] σ (AQ C (some (.inl y.1)) y.2) := by
  unfold fX1_at at h
  refine aw_iload_n X dX1_at_0 1 1 rfl rfl ?_
  obtain ⟨y1, hy1, h⟩ := bind_some h
  refine aw_callS X (st := []) [.inl v1] rfl ml_X1_130 (AX1_isRow (Cx.ok X) φ d _ _ _  hy1) dX1_at_1 (Nat.le_of_ble_eq_true rfl) ?_
  refine aw_if_ne X 9 dX1_at_4 rfl (fun c2 => ?_) (fun c2 => ?_)
  · rw [if_neg c2] at h
    refine aw_aload_n X dX1_at_9 0 0 rfl rfl ?_
    obtain ⟨x3, hx3, h⟩ := bind_some h
    refine aw_gfR X fl_X1_13 dX1_at_10 hx3 ?_
    refine aw_iload_n X dX1_at_13 1 1 rfl rfl ?_
    obtain ⟨x4, hx4, h⟩ := bind_some h
    refine aw_iald X dX1_at_14 hx4 ?_
    refine aw_if_ge X 24 dX1_at_15 rfl (fun c5 => ?_) (fun c5 => ?_)
    · rw [if_pos c5] at h
      refine aw_iload_n X dX1_at_24 2 2 rfl rfl ?_
      refine aw_iconst X (0 : Int32) dX1_at_25 (by decide) ?_
      refine aw_aload_n X dX1_at_26 0 0 rfl rfl ?_
      obtain ⟨x6, hx6, h⟩ := bind_some h
      refine aw_gfR X fl_X1_13 dX1_at_27 hx6 ?_
      refine aw_iload_n X dX1_at_30 1 1 rfl rfl ?_
      obtain ⟨x7, hx7, h⟩ := bind_some h
      refine aw_iald X dX1_at_31 hx7 ?_
      refine aw_iconst X (1 : Int32) dX1_at_32 (by decide) ?_
      refine aw_isub X dX1_at_33 ?_
      obtain ⟨y8, hy8, h⟩ := bind_some h
      refine aw_callS X (st := []) [.inl v2, .inl (0 : Int32), .inl (x7 - (1 : Int32))] rfl ml_X1_117 (AX1_in (Cx.ok X) φ (d + 1) _ _ _ _ _  hy8) dX1_at_34 (Nat.le_of_ble_eq_true rfl) ?_
      refine aw_if_eq X 54 dX1_at_37 rfl (fun c9 => ?_) (fun c9 => ?_)
      · rw [if_pos c9] at h
        refine aw_aload_n X dX1_at_54 0 0 rfl rfl ?_
        refine aw_iconst X (2 : Int32) dX1_at_55 (by decide) ?_
        obtain ⟨y10, hy10, h⟩ := bind_some h
        refine aw_cV X (st := []) hy10 [.inl (2 : Int32)] rfl rfl ml_X1_134 (fun o h => AX1_meets (Cx.ok X) φ (d + 1) _ _ _ _ h) dX1_at_56 (Nat.le_of_ble_eq_true rfl) ?_
        cases h
        exact aw_iret X dX1_at_59
      · rw [if_neg c9] at h
        refine aw_aload_n X dX1_at_40 0 0 rfl rfl ?_
        refine aw_aload_n X dX1_at_41 0 0 rfl rfl ?_
        refine aw_iload_n X dX1_at_42 1 1 rfl rfl ?_
        refine aw_iload_n X dX1_at_43 2 2 rfl rfl ?_
        obtain ⟨y11, hy11, h⟩ := bind_some h
        refine aw_cV X (st := [.inr (.inr (some this))]) hy11 [.inl v1, .inl v2] rfl rfl ml_X1_138 (fun o h => AX1_rowAt (Cx.ok X) φ (d + 1) _ _ _ _ _ h) dX1_at_44 (Nat.le_of_ble_eq_true rfl) ?_
        refine aw_iconst X (1 : Int32) dX1_at_47 (by decide) ?_
        obtain ⟨y12, hy12, h⟩ := bind_some h
        refine aw_cV X (st := []) hy12 [.inl y11, .inl (1 : Int32)] rfl rfl ml_X1_142 (fun o h => AX1_tells (Cx.ok X) φ (d + 1) _ _ _ _ _ h) dX1_at_48 (Nat.le_of_ble_eq_true rfl) ?_
        refine aw_goto X 59 dX1_at_51 rfl ?_
        cases h
        exact aw_iret X dX1_at_59
    · rw [if_neg c5] at h
      refine aw_aload_n X dX1_at_18 0 0 rfl rfl ?_
      refine aw_iconst X (1 : Int32) dX1_at_19 (by decide) ?_
      obtain ⟨y13, hy13, h⟩ := bind_some h
      refine aw_cV X (st := []) hy13 [.inl (1 : Int32)] rfl rfl ml_X1_134 (fun o h => AX1_meets (Cx.ok X) φ (d + 1) _ _ _ _ h) dX1_at_20 (Nat.le_of_ble_eq_true rfl) ?_
      cases h
      exact aw_iret X dX1_at_23
  · rw [if_pos c2] at h
    refine aw_iconst X (-1 : Int32) dX1_at_7 (by decide) ?_
    cases h
    exact aw_iret X dX1_at_8
theorem AX1_at {E : AE} {l : Launch} (hE : EOK E l) (φ d : Nat) (this : Nat) (v1 : Int32) (v2 : Int32) (σ : St) (y : Int32 × St) (h : fX1_at φ this v1 v2 σ = some y) : AMet E l yX1_at (ws_ yX1_at cX1_at 3 (some .int)) (d + 2) [.inr (.inr (some this)), .inl v1, .inl v2] σ (some (.inl y.1)) y.2 := by
  refine amet_of hE (by decide +kernel) (Nat.le_of_ble_eq_true rfl) fun C e1 e2 X XI => ?_
  subst e1
  exact wX1_at X φ this v1 v2 σ y h
theorem wX1_tear {C : CT} {d : Nat} (X : Cx C cX1_tear RX1 (some .int) 2 (d + 2)) (φ : Nat) (this : Nat) (v1 : Int32) (σ : St) (y : Int32 × St) (h : fX1_tear φ this v1 σ = some y) : AW C 0 [(0, .inr (.inr (some this))), (1, .inl v1)] [] σ (AQ C (some (.inl y.1)) y.2) := by
  unfold fX1_tear at h
  refine aw_iload_n X dX1_tear_0 1 1 rfl rfl ?_
  obtain ⟨y1, hy1, h⟩ := bind_some h
  refine aw_callS X (st := []) [.inl v1] rfl ml_X1_130 (AX1_isRow (Cx.ok X) φ d _ _ _  hy1) dX1_tear_1 (Nat.le_of_ble_eq_true rfl) ?_
  refine aw_if_ne X 9 dX1_tear_4 rfl (fun c2 => ?_) (fun c2 => ?_)
  · rw [if_neg c2] at h
    refine aw_aload_n X dX1_tear_9 0 0 rfl rfl ?_
    obtain ⟨x3, hx3, h⟩ := bind_some h
    refine aw_gfR X fl_X1_13 dX1_tear_10 hx3 ?_
    refine aw_iload_n X dX1_tear_13 1 1 rfl rfl ?_
    obtain ⟨x4, hx4, h⟩ := bind_some h
    refine aw_iald X dX1_tear_14 hx4 ?_
    refine aw_if_ge X 24 dX1_tear_15 rfl (fun c5 => ?_) (fun c5 => ?_)
    · rw [if_pos c5] at h
      refine aw_aload_n X dX1_tear_24 0 0 rfl rfl ?_
      obtain ⟨x6, hx6, h⟩ := bind_some h
      refine aw_gfR X fl_X1_13 dX1_tear_25 hx6 ?_
      refine aw_iload_n X dX1_tear_28 1 1 rfl rfl ?_
      refine aw_iconst X (-1 : Int32) dX1_tear_29 (by decide) ?_
      obtain ⟨s7, hs7, h⟩ := bind_some h
      refine aw_iast X dX1_tear_30 hs7 ?_
      refine aw_iconst X (1 : Int32) dX1_tear_31 (by decide) ?_
      cases h
      exact aw_iret X dX1_tear_32
    · rw [if_neg c5] at h
      refine aw_aload_n X dX1_tear_18 0 0 rfl rfl ?_
      refine aw_iconst X (1 : Int32) dX1_tear_19 (by decide) ?_
      obtain ⟨y8, hy8, h⟩ := bind_some h
      refine aw_cV X (st := []) hy8 [.inl (1 : Int32)] rfl rfl ml_X1_134 (fun o h => AX1_meets (Cx.ok X) φ (d + 1) _ _ _ _ h) dX1_tear_20 (Nat.le_of_ble_eq_true rfl) ?_
      cases h
      exact aw_iret X dX1_tear_23
  · rw [if_pos c2] at h
    refine aw_iconst X (-1 : Int32) dX1_tear_7 (by decide) ?_
    cases h
    exact aw_iret X dX1_tear_8
theorem AX1_tear {E : AE} {l : Launch} (hE : EOK E l) (φ d : Nat) (this : Nat) (v1 : Int32) (σ : St) (y : Int32 × St) (h : fX1_tear φ this v1 σ = some y) : AMet E l yX1_tear (ws_ yX1_tear cX1_tear 2 (some .int)) (d + 2) [.inr (.inr (some this)), .inl v1] σ (some (.inl y.1)) y.2 := by
  refine amet_of hE (by decide +kernel) (Nat.le_of_ble_eq_true rfl) fun C e1 e2 X XI => ?_
  subst e1
  exact wX1_tear X φ this v1 σ y h
theorem wX1_copy_b45 {C : CT} {d : Nat} (X : Cx C cX1_copy RX1 (some .int) 7 (d + 2)) (φ : Nat) (this : Nat) (σ : St) (y : Int32 × St) (h : fX1_copy_b45 φ this σ = some y)  : AW C 45 [(0, .inr (.inr (some this)))] [] σ (AQ C (some (.inl y.1)) y.2) := by
  unfold fX1_copy_b45 at h
  refine aw_aload_n X dX1_copy_45 0 0 rfl rfl ?_
  refine aw_iconst X (1 : Int32) dX1_copy_46 (by decide) ?_
  obtain ⟨y9, hy9, h⟩ := bind_some h
  refine aw_cV X (st := []) hy9 [.inl (1 : Int32)] rfl rfl ml_X1_134 (fun o h => AX1_meets (Cx.ok X) φ (d + 1) _ _ _ _ h) dX1_copy_47 (Nat.le_of_ble_eq_true rfl) ?_
  cases h
  exact aw_iret X dX1_copy_50
theorem wX1_copy_b95 {C : CT} {d : Nat} (X : Cx C cX1_copy RX1 (some .int) 7 (d + 2)) (φ : Nat) (this : Nat) (σ : St) (y : Int32 × St) (h : fX1_copy_b95 φ this σ = some y)  : AW C 95 [(0, .inr (.inr (some this)))] [] σ (AQ C (some (.inl y.1)) y.2) := by
  unfold fX1_copy_b95 at h
  refine aw_aload_n X dX1_copy_95 0 0 rfl rfl ?_
  refine aw_iconst X (2 : Int32) dX1_copy_96 (by decide) ?_
  obtain ⟨y14, hy14, h⟩ := bind_some h
  refine aw_cV X (st := []) hy14 [.inl (2 : Int32)] rfl rfl ml_X1_134 (fun o h => AX1_meets (Cx.ok X) φ (d + 1) _ _ _ _ h) dX1_copy_97 (Nat.le_of_ble_eq_true rfl) ?_
  cases h
  exact aw_iret X dX1_copy_100
theorem wX1_copy_l104 {C : CT} {d : Nat} {Z : State → Prop} (X : Cx C cX1_copy RX1 (some .int) 7 (d + 2)) (φ : Nat) (this : Nat) (v1 : Int32) (v2 : Int32) (v3 : Int32) (v4 : Int32) (v5 : Int32) (v6 : Int32) (σ : St) (y : (Int32 × St) ⊕ (St)) (h : fX1_copy_l104 φ this v1 v2 v3 v4 v5 v6 σ = some y) (kH : ∀ s : Int32 × St, y = .inl s → AW C 104 [(0, .inr (.inr (some this))), (1, .inl v1), (2, .inl v2), (3, .inl v3), (4, .inl v4), (5, .inl v5), (6, .inl s.1)] [] s.2 Z) (kE0 : ∀ e : St, y = .inr e → AW C 133 [(0, .inr (.inr (some this))), (3, .inl v3), (4, .inl v4), (5, .inl v5)] [] e Z) : AW C 104 [(0, .inr (.inr (some this))), (1, .inl v1), (2, .inl v2), (3, .inl v3), (4, .inl v4), (5, .inl v5), (6, .inl v6)] [] σ Z := by
  unfold fX1_copy_l104 at h
  refine aw_iload X dX1_copy_104 6 rfl ?_
  refine aw_iload X dX1_copy_106 5 rfl ?_
  refine aw_icmp_ge X 133 dX1_copy_108 rfl (fun c22 => ?_) (fun c22 => ?_)
  · rw [if_pos c22] at h
    cases h
    refine aw_sub [(0, .inr (.inr (some this))), (3, .inl v3), (4, .inl v4), (5, .inl v5)] [0, 3, 4, 5] rfl ?_
    exact kE0 σ rfl
  · rw [if_neg c22] at h
    refine aw_aload_n X dX1_copy_111 0 0 rfl rfl ?_
    obtain ⟨x23, hx23, h⟩ := bind_some h
    refine aw_gfR X fl_X1_19 dX1_copy_112 hx23 ?_
    refine aw_iload X dX1_copy_115 6 rfl ?_
    refine aw_aload_n X dX1_copy_117 0 0 rfl rfl ?_
    refine aw_iload_n X dX1_copy_118 1 1 rfl rfl ?_
    refine aw_iload_n X dX1_copy_119 2 2 rfl rfl ?_
    refine aw_iload X dX1_copy_120 6 rfl ?_
    refine aw_iadd X dX1_copy_122 ?_
    obtain ⟨y24, hy24, h⟩ := bind_some h
    refine aw_cV X (st := [.inl v6, .inr (.inr x23)]) hy24 [.inl v1, .inl (v2 + v6)] rfl rfl ml_X1_138 (fun o h => AX1_rowAt (Cx.ok X) φ (d + 1) _ _ _ _ _ h) dX1_copy_123 (Nat.le_of_ble_eq_true rfl) ?_
    obtain ⟨s25, hs25, h⟩ := bind_some h
    refine aw_iast X dX1_copy_126 hs25 ?_
    refine aw_iinc X dX1_copy_127 6 rfl (1 : Int32) rfl (by decide) [(6, .inl (v6 + (1 : Int32))), (0, .inr (.inr (some this))), (1, .inl v1), (2, .inl v2), (3, .inl v3), (4, .inl v4), (5, .inl v5)] rfl ?_
    refine aw_goto X 104 dX1_copy_130 rfl ?_
    cases h
    refine aw_sub [(0, .inr (.inr (some this))), (1, .inl v1), (2, .inl v2), (3, .inl v3), (4, .inl v4), (5, .inl v5), (6, .inl (v6 + (1 : Int32)))] [1, 2, 3, 4, 5, 6, 0] rfl ?_
    exact kH ((v6 + (1 : Int32)), s25) rfl
theorem wX1_copy_l136 {C : CT} {d : Nat} {Z : State → Prop} (X : Cx C cX1_copy RX1 (some .int) 7 (d + 2)) (φ : Nat) (this : Nat) (v3 : Int32) (v4 : Int32) (v5 : Int32) (v6 : Int32) (σ : St) (y : (Int32 × St) ⊕ (St)) (h : fX1_copy_l136 φ this v3 v4 v5 v6 σ = some y) (kH : ∀ s : Int32 × St, y = .inl s → AW C 136 [(0, .inr (.inr (some this))), (3, .inl v3), (4, .inl v4), (5, .inl v5), (6, .inl s.1)] [] s.2 Z) (kE0 : ∀ e : St, y = .inr e → AW C 171 [] [] e Z) : AW C 136 [(0, .inr (.inr (some this))), (3, .inl v3), (4, .inl v4), (5, .inl v5), (6, .inl v6)] [] σ Z := by
  unfold fX1_copy_l136 at h
  refine aw_iload X dX1_copy_136 4 rfl ?_
  refine aw_iload X dX1_copy_138 3 rfl ?_
  refine aw_icmp_ge X 171 dX1_copy_140 rfl (fun c28 => ?_) (fun c28 => ?_)
  · rw [if_pos c28] at h
    cases h
    refine aw_sub [] [] rfl ?_
    exact kE0 σ rfl
  · rw [if_neg c28] at h
    refine aw_aload_n X dX1_copy_143 0 0 rfl rfl ?_
    obtain ⟨x29, hx29, h⟩ := bind_some h
    refine aw_gfR X fl_X1_16 dX1_copy_144 hx29 ?_
    refine aw_bipush X (40 : Int32) dX1_copy_147 (by decide) ?_
    refine aw_iload_n X dX1_copy_149 1 3 rfl rfl ?_
    refine aw_imul X dX1_copy_150 ?_
    refine aw_iload X dX1_copy_151 2 rfl ?_
    refine aw_iadd X dX1_copy_153 ?_
    refine aw_iload X dX1_copy_154 4 rfl ?_
    refine aw_iadd X dX1_copy_156 ?_
    refine aw_aload_n X dX1_copy_157 0 0 rfl rfl ?_
    obtain ⟨x30, hx30, h⟩ := bind_some h
    refine aw_gfR X fl_X1_19 dX1_copy_158 hx30 ?_
    refine aw_iload X dX1_copy_161 4 rfl ?_
    obtain ⟨x31, hx31, h⟩ := bind_some h
    refine aw_iald X dX1_copy_163 hx31 ?_
    obtain ⟨s32, hs32, h⟩ := bind_some h
    refine aw_iast X dX1_copy_164 hs32 ?_
    refine aw_iinc X dX1_copy_165 4 rfl (1 : Int32) rfl (by decide) [(6, .inl (v6 + (1 : Int32))), (0, .inr (.inr (some this))), (3, .inl v3), (4, .inl v4), (5, .inl v5)] rfl ?_
    refine aw_goto X 136 dX1_copy_168 rfl ?_
    cases h
    refine aw_sub [(0, .inr (.inr (some this))), (3, .inl v3), (4, .inl v4), (5, .inl v5), (6, .inl (v6 + (1 : Int32)))] [1, 2, 3, 4, 0] rfl ?_
    exact kH ((v6 + (1 : Int32)), s32) rfl
theorem wX1_copy {C : CT} {d : Nat} (X : Cx C cX1_copy RX1 (some .int) 7 (d + 2)) (φ : Nat) (this : Nat) (v1 : Int32) (v2 : Int32) (v3 : Int32) (v4 : Int32) (v5 : Int32) (σ : St) (y : Int32 × St) (h : fX1_copy φ this v1 v2 v3 v4 v5 σ = some y) : AW C 0 [(0, .inr (.inr (some this))), (1, .inl v1), (2, .inl v2), (3, .inl v3), (4, .inl v4), (5, .inl v5)] [] σ (AQ C (some (.inl y.1)) y.2) := by
  unfold fX1_copy at h
  refine aw_iload_n X dX1_copy_0 1 1 rfl rfl ?_
  obtain ⟨y1, hy1, h⟩ := bind_some h
  refine aw_callS X (st := []) [.inl v1] rfl ml_X1_130 (AX1_isRow (Cx.ok X) φ d _ _ _  hy1) dX1_copy_1 (Nat.le_of_ble_eq_true rfl) ?_
  refine aw_if_eq X 14 dX1_copy_4 rfl (fun c2 => ?_) (fun c2 => ?_)
  · rw [if_pos c2] at h
    refine aw_iconst X (-1 : Int32) dX1_copy_14 (by decide) ?_
    cases h
    exact aw_iret X dX1_copy_15
  · rw [if_neg c2] at h
    refine aw_iload_n X dX1_copy_7 3 3 rfl rfl ?_
    obtain ⟨y3, hy3, h⟩ := bind_some h
    refine aw_callS X (st := []) [.inl v3] rfl ml_X1_130 (AX1_isRow (Cx.ok X) φ d _ _ _  hy3) dX1_copy_8 (Nat.le_of_ble_eq_true rfl) ?_
    refine aw_if_ne X 16 dX1_copy_11 rfl (fun c4 => ?_) (fun c4 => ?_)
    · rw [if_neg c4] at h
      refine aw_iload X dX1_copy_16 5 rfl ?_
      refine aw_if_ge X 27 dX1_copy_18 rfl (fun c5 => ?_) (fun c5 => ?_)
      · rw [if_pos c5] at h
        refine aw_aload_n X dX1_copy_27 0 0 rfl rfl ?_
        obtain ⟨x6, hx6, h⟩ := bind_some h
        refine aw_gfR X fl_X1_13 dX1_copy_28 hx6 ?_
        refine aw_iload_n X dX1_copy_31 1 1 rfl rfl ?_
        obtain ⟨x7, hx7, h⟩ := bind_some h
        refine aw_iald X dX1_copy_32 hx7 ?_
        refine aw_if_lt X 45 dX1_copy_33 rfl (fun c8 => ?_) (fun c8 => ?_)
        · rw [if_pos c8] at h
          refine aw_sub [(0, .inr (.inr (some this)))] [0] rfl ?_
          exact wX1_copy_b45 X φ this σ y h
        · rw [if_neg c8] at h
          refine aw_aload_n X dX1_copy_36 0 0 rfl rfl ?_
          obtain ⟨x10, hx10, h⟩ := bind_some h
          refine aw_gfR X fl_X1_13 dX1_copy_37 hx10 ?_
          refine aw_iload_n X dX1_copy_40 3 3 rfl rfl ?_
          obtain ⟨x11, hx11, h⟩ := bind_some h
          refine aw_iald X dX1_copy_41 hx11 ?_
          refine aw_if_ge X 51 dX1_copy_42 rfl (fun c12 => ?_) (fun c12 => ?_)
          · rw [if_pos c12] at h
            refine aw_iload_n X dX1_copy_51 2 2 rfl rfl ?_
            refine aw_if_lt X 95 dX1_copy_52 rfl (fun c13 => ?_) (fun c13 => ?_)
            · rw [if_pos c13] at h
              refine aw_sub [(0, .inr (.inr (some this)))] [0] rfl ?_
              exact wX1_copy_b95 X φ this σ y h
            · rw [if_neg c13] at h
              refine aw_iload X dX1_copy_55 4 rfl ?_
              refine aw_if_lt X 95 dX1_copy_57 rfl (fun c15 => ?_) (fun c15 => ?_)
              · rw [if_pos c15] at h
                refine aw_sub [(0, .inr (.inr (some this)))] [0] rfl ?_
                exact wX1_copy_b95 X φ this σ y h
              · rw [if_neg c15] at h
                refine aw_iload_n X dX1_copy_60 2 2 rfl rfl ?_
                refine aw_i2l X dX1_copy_61 ?_
                refine aw_iload X dX1_copy_62 5 rfl ?_
                refine aw_i2l X dX1_copy_64 ?_
                refine aw_ladd X dX1_copy_65 ?_
                refine aw_aload_n X dX1_copy_66 0 0 rfl rfl ?_
                obtain ⟨x16, hx16, h⟩ := bind_some h
                refine aw_gfR X fl_X1_13 dX1_copy_67 hx16 ?_
                refine aw_iload_n X dX1_copy_70 1 1 rfl rfl ?_
                obtain ⟨x17, hx17, h⟩ := bind_some h
                refine aw_iald X dX1_copy_71 hx17 ?_
                refine aw_i2l X dX1_copy_72 ?_
                refine aw_lcmp_gt X 95 dX1_copy_73 dX1_copy_74 rfl (fun c18 => ?_) (fun c18 => ?_)
                · rw [if_pos c18] at h
                  refine aw_sub [(0, .inr (.inr (some this)))] [0] rfl ?_
                  exact wX1_copy_b95 X φ this σ y h
                · rw [if_neg c18] at h
                  refine aw_iload X dX1_copy_77 4 rfl ?_
                  refine aw_i2l X dX1_copy_79 ?_
                  refine aw_iload X dX1_copy_80 5 rfl ?_
                  refine aw_i2l X dX1_copy_82 ?_
                  refine aw_ladd X dX1_copy_83 ?_
                  refine aw_aload_n X dX1_copy_84 0 0 rfl rfl ?_
                  obtain ⟨x19, hx19, h⟩ := bind_some h
                  refine aw_gfR X fl_X1_13 dX1_copy_85 hx19 ?_
                  refine aw_iload_n X dX1_copy_88 3 3 rfl rfl ?_
                  obtain ⟨x20, hx20, h⟩ := bind_some h
                  refine aw_iald X dX1_copy_89 hx20 ?_
                  refine aw_i2l X dX1_copy_90 ?_
                  refine aw_lcmp_le X 101 dX1_copy_91 dX1_copy_92 rfl (fun c21 => ?_) (fun c21 => ?_)
                  · rw [if_pos c21] at h
                    refine aw_iconst X (0 : Int32) dX1_copy_101 (by decide) ?_
                    refine aw_istore X dX1_copy_102 (by decide) [(6, .inl (0 : Int32)), (0, .inr (.inr (some this))), (1, .inl v1), (2, .inl v2), (3, .inl v3), (4, .inl v4), (5, .inl v5)] rfl ?_
                    obtain ⟨e26, h27, h⟩ := bind_some h
                    refine aw_sub [(0, .inr (.inr (some this))), (1, .inl v1), (2, .inl v2), (3, .inl v3), (4, .inl v4), (5, .inl v5), (6, .inl (0 : Int32))] [1, 2, 3, 4, 5, 6, 0] rfl ?_
                    refine aw_it (fun s => AW C 104 [(0, .inr (.inr (some this))), (1, .inl v1), (2, .inl v2), (3, .inl v3), (4, .inl v4), (5, .inl v5), (6, .inl s.1)] [] s.2 (AQ C (some (.inl y.1)) y.2)) (fun e => AW C 133 [(0, .inr (.inr (some this))), (3, .inl v3), (4, .inl v4), (5, .inl v5)] [] e (AQ C (some (.inl y.1)) y.2)) (fun s r hr kH kE => wX1_copy_l104 X φ this v1 v2 v3 v4 v5 s.1 s.2 r hr kH kE) φ _ e26 h27 ?_
                    refine aw_iconst X (0 : Int32) dX1_copy_133 (by decide) ?_
                    refine aw_istore X dX1_copy_134 (by decide) [(6, .inl (0 : Int32)), (0, .inr (.inr (some this))), (3, .inl v3), (4, .inl v4), (5, .inl v5)] rfl ?_
                    obtain ⟨e33, h34, h⟩ := bind_some h
                    refine aw_sub [(0, .inr (.inr (some this))), (3, .inl v3), (4, .inl v4), (5, .inl v5), (6, .inl (0 : Int32))] [1, 2, 3, 4, 0] rfl ?_
                    refine aw_it (fun s => AW C 136 [(0, .inr (.inr (some this))), (3, .inl v3), (4, .inl v4), (5, .inl v5), (6, .inl s.1)] [] s.2 (AQ C (some (.inl y.1)) y.2)) (fun e => AW C 171 [] [] e (AQ C (some (.inl y.1)) y.2)) (fun s r hr kH kE => wX1_copy_l136 X φ this v3 v4 v5 s.1 s.2 r hr kH kE) φ _ e33 h34 ?_
                    refine aw_iconst X (1 : Int32) dX1_copy_171 (by decide) ?_
                    cases h
                    exact aw_iret X dX1_copy_172
                  · rw [if_neg c21] at h
                    refine aw_sub [(0, .inr (.inr (some this)))] [0] rfl ?_
                    exact wX1_copy_b95 X φ this σ y h
          · rw [if_neg c12] at h
            refine aw_sub [(0, .inr (.inr (some this)))] [0] rfl ?_
            exact wX1_copy_b45 X φ this σ y h
      · rw [if_neg c5] at h
        refine aw_aload_n X dX1_copy_21 0 0 rfl rfl ?_
        refine aw_iconst X (5 : Int32) dX1_copy_22 (by decide) ?_
        obtain ⟨y35, hy35, h⟩ := bind_some h
        refine aw_cV X (st := []) hy35 [.inl (5 : Int32)] rfl rfl ml_X1_134 (fun o h => AX1_meets (Cx.ok X) φ (d + 1) _ _ _ _ h) dX1_copy_23 (Nat.le_of_ble_eq_true rfl) ?_
        cases h
        exact aw_iret X dX1_copy_26
    · rw [if_pos c4] at h
      refine aw_iconst X (-1 : Int32) dX1_copy_14 (by decide) ?_
      cases h
      exact aw_iret X dX1_copy_15
theorem AX1_copy {E : AE} {l : Launch} (hE : EOK E l) (φ d : Nat) (this : Nat) (v1 : Int32) (v2 : Int32) (v3 : Int32) (v4 : Int32) (v5 : Int32) (σ : St) (y : Int32 × St) (h : fX1_copy φ this v1 v2 v3 v4 v5 σ = some y) : AMet E l yX1_copy (ws_ yX1_copy cX1_copy 7 (some .int)) (d + 2) [.inr (.inr (some this)), .inl v1, .inl v2, .inl v3, .inl v4, .inl v5] σ (some (.inl y.1)) y.2 := by
  refine amet_of hE (by decide +kernel) (Nat.le_of_ble_eq_true rfl) fun C e1 e2 X XI => ?_
  subst e1
  exact wX1_copy X φ this v1 v2 v3 v4 v5 σ y h
theorem wX1_mean_l44 {C : CT} {d : Nat} {Z : State → Prop} (X : Cx C cX1_mean RX1 (some .int) 5 (d + 2)) (φ : Nat) (this : Nat) (v1 : Int32) (σ : St) (v2 : Int64) (v4 : Int32) (y : (Int64 × Int32) ⊕ (Int64)) (h : fX1_mean_l44 φ this v1 σ v2 v4 = some y) (kH : ∀ s : Int64 × Int32, y = .inl s → AW C 44 [(0, .inr (.inr (some this))), (1, .inl v1), (2, .inr (.inl s.1)), (4, .inl s.2)] [] σ Z) (kE0 : ∀ e : Int64, y = .inr e → AW C 72 [(0, .inr (.inr (some this))), (1, .inl v1), (2, .inr (.inl e))] [] σ Z) : AW C 44 [(0, .inr (.inr (some this))), (1, .inl v1), (2, .inr (.inl v2)), (4, .inl v4)] [] σ Z := by
  unfold fX1_mean_l44 at h
  refine aw_iload X dX1_mean_44 3 rfl ?_
  refine aw_aload_n X dX1_mean_46 0 0 rfl rfl ?_
  obtain ⟨x9, hx9, h⟩ := bind_some h
  refine aw_gfR X fl_X1_13 dX1_mean_47 hx9 ?_
  refine aw_iload_n X dX1_mean_50 1 1 rfl rfl ?_
  obtain ⟨x10, hx10, h⟩ := bind_some h
  refine aw_iald X dX1_mean_51 hx10 ?_
  refine aw_icmp_ge X 72 dX1_mean_52 rfl (fun c11 => ?_) (fun c11 => ?_)
  · rw [if_pos c11] at h
    cases h
    refine aw_sub [(0, .inr (.inr (some this))), (1, .inl v1), (2, .inr (.inl v2))] [0, 1, 2] rfl ?_
    exact kE0 v2 rfl
  · rw [if_neg c11] at h
    refine aw_lload_n X dX1_mean_55 2 2 rfl rfl ?_
    refine aw_aload_n X dX1_mean_56 0 0 rfl rfl ?_
    refine aw_iload_n X dX1_mean_57 1 1 rfl rfl ?_
    refine aw_iload X dX1_mean_58 3 rfl ?_
    obtain ⟨y12, hy12, h⟩ := bind_some h
    refine aw_cV X (st := [.inr (.inl v2)]) hy12 [.inl v1, .inl v4] rfl rfl ml_X1_138 (fun o h => AX1_rowAt (Cx.ok X) φ (d + 1) _ _ _ _ _ h) dX1_mean_60 (Nat.le_of_ble_eq_true rfl) ?_
    refine aw_i2l X dX1_mean_63 ?_
    refine aw_ladd X dX1_mean_64 ?_
    refine aw_lstore_n X dX1_mean_65 2 rfl (by decide) [(2, .inr (.inl (v2 + (y12.toInt64)))), (0, .inr (.inr (some this))), (1, .inl v1), (4, .inl v4)] rfl ?_
    refine aw_iinc X dX1_mean_66 3 rfl (1 : Int32) rfl (by decide) [(4, .inl (v4 + (1 : Int32))), (2, .inr (.inl (v2 + (y12.toInt64)))), (0, .inr (.inr (some this))), (1, .inl v1)] rfl ?_
    refine aw_goto X 44 dX1_mean_69 rfl ?_
    cases h
    refine aw_sub [(0, .inr (.inr (some this))), (1, .inl v1), (2, .inr (.inl (v2 + (y12.toInt64)))), (4, .inl (v4 + (1 : Int32)))] [2, 3, 1, 0] rfl ?_
    exact kH ((v2 + (y12.toInt64)), (v4 + (1 : Int32))) rfl
theorem wX1_mean {C : CT} {d : Nat} (X : Cx C cX1_mean RX1 (some .int) 5 (d + 2)) (φ : Nat) (this : Nat) (v1 : Int32) (σ : St) (y : Int32 × St) (h : fX1_mean φ this v1 σ = some y) : AW C 0 [(0, .inr (.inr (some this))), (1, .inl v1)] [] σ (AQ C (some (.inl y.1)) y.2) := by
  unfold fX1_mean at h
  refine aw_iload_n X dX1_mean_0 1 1 rfl rfl ?_
  obtain ⟨y1, hy1, h⟩ := bind_some h
  refine aw_callS X (st := []) [.inl v1] rfl ml_X1_130 (AX1_isRow (Cx.ok X) φ d _ _ _  hy1) dX1_mean_1 (Nat.le_of_ble_eq_true rfl) ?_
  refine aw_if_ne X 9 dX1_mean_4 rfl (fun c2 => ?_) (fun c2 => ?_)
  · rw [if_neg c2] at h
    refine aw_aload_n X dX1_mean_9 0 0 rfl rfl ?_
    obtain ⟨x3, hx3, h⟩ := bind_some h
    refine aw_gfR X fl_X1_13 dX1_mean_10 hx3 ?_
    refine aw_iload_n X dX1_mean_13 1 1 rfl rfl ?_
    obtain ⟨x4, hx4, h⟩ := bind_some h
    refine aw_iald X dX1_mean_14 hx4 ?_
    refine aw_if_ge X 24 dX1_mean_15 rfl (fun c5 => ?_) (fun c5 => ?_)
    · rw [if_pos c5] at h
      refine aw_aload_n X dX1_mean_24 0 0 rfl rfl ?_
      obtain ⟨x6, hx6, h⟩ := bind_some h
      refine aw_gfR X fl_X1_13 dX1_mean_25 hx6 ?_
      refine aw_iload_n X dX1_mean_28 1 1 rfl rfl ?_
      obtain ⟨x7, hx7, h⟩ := bind_some h
      refine aw_iald X dX1_mean_29 hx7 ?_
      refine aw_if_ne X 39 dX1_mean_30 rfl (fun c8 => ?_) (fun c8 => ?_)
      · rw [if_neg c8] at h
        refine aw_lconst X (0 : Int64) dX1_mean_39 rfl ?_
        refine aw_lstore_n X dX1_mean_40 2 rfl (by decide) [(2, .inr (.inl (0 : Int64))), (0, .inr (.inr (some this))), (1, .inl v1)] rfl ?_
        refine aw_iconst X (0 : Int32) dX1_mean_41 (by decide) ?_
        refine aw_istore X dX1_mean_42 (by decide) [(4, .inl (0 : Int32)), (2, .inr (.inl (0 : Int64))), (0, .inr (.inr (some this))), (1, .inl v1)] rfl ?_
        obtain ⟨e13, h14, h⟩ := bind_some h
        refine aw_sub [(0, .inr (.inr (some this))), (1, .inl v1), (2, .inr (.inl (0 : Int64))), (4, .inl (0 : Int32))] [2, 3, 1, 0] rfl ?_
        refine aw_it (fun s => AW C 44 [(0, .inr (.inr (some this))), (1, .inl v1), (2, .inr (.inl s.1)), (4, .inl s.2)] [] σ (AQ C (some (.inl y.1)) y.2)) (fun e => AW C 72 [(0, .inr (.inr (some this))), (1, .inl v1), (2, .inr (.inl e))] [] σ (AQ C (some (.inl y.1)) y.2)) (fun s r hr kH kE => wX1_mean_l44 X φ this v1 σ s.1 s.2 r hr kH kE) φ _ e13 h14 ?_
        refine aw_aload_n X dX1_mean_72 0 0 rfl rfl ?_
        refine aw_lload_n X dX1_mean_73 2 2 rfl rfl ?_
        refine aw_aload_n X dX1_mean_74 0 0 rfl rfl ?_
        obtain ⟨x15, hx15, h⟩ := bind_some h
        refine aw_gfR X fl_X1_13 dX1_mean_75 hx15 ?_
        refine aw_iload_n X dX1_mean_78 1 1 rfl rfl ?_
        obtain ⟨x16, hx16, h⟩ := bind_some h
        refine aw_iald X dX1_mean_79 hx16 ?_
        refine aw_i2l X dX1_mean_80 ?_
        obtain ⟨hn17, h⟩ := chk_some h
        refine aw_ldiv X dX1_mean_81 hn17 ?_
        refine aw_l2i X dX1_mean_82 ?_
        refine aw_iconst X (1 : Int32) dX1_mean_83 (by decide) ?_
        obtain ⟨y18, hy18, h⟩ := bind_some h
        refine aw_cV X (st := []) hy18 [.inl ((e13 / (x16.toInt64)).toInt32), .inl (1 : Int32)] rfl rfl ml_X1_142 (fun o h => AX1_tells (Cx.ok X) φ (d + 1) _ _ _ _ _ h) dX1_mean_84 (Nat.le_of_ble_eq_true rfl) ?_
        cases h
        exact aw_iret X dX1_mean_87
      · rw [if_pos c8] at h
        refine aw_aload_n X dX1_mean_33 0 0 rfl rfl ?_
        refine aw_iconst X (4 : Int32) dX1_mean_34 (by decide) ?_
        obtain ⟨y19, hy19, h⟩ := bind_some h
        refine aw_cV X (st := []) hy19 [.inl (4 : Int32)] rfl rfl ml_X1_134 (fun o h => AX1_meets (Cx.ok X) φ (d + 1) _ _ _ _ h) dX1_mean_35 (Nat.le_of_ble_eq_true rfl) ?_
        cases h
        exact aw_iret X dX1_mean_38
    · rw [if_neg c5] at h
      refine aw_aload_n X dX1_mean_18 0 0 rfl rfl ?_
      refine aw_iconst X (1 : Int32) dX1_mean_19 (by decide) ?_
      obtain ⟨y20, hy20, h⟩ := bind_some h
      refine aw_cV X (st := []) hy20 [.inl (1 : Int32)] rfl rfl ml_X1_134 (fun o h => AX1_meets (Cx.ok X) φ (d + 1) _ _ _ _ h) dX1_mean_20 (Nat.le_of_ble_eq_true rfl) ?_
      cases h
      exact aw_iret X dX1_mean_23
  · rw [if_pos c2] at h
    refine aw_iconst X (-1 : Int32) dX1_mean_7 (by decide) ?_
    cases h
    exact aw_iret X dX1_mean_8
theorem AX1_mean {E : AE} {l : Launch} (hE : EOK E l) (φ d : Nat) (this : Nat) (v1 : Int32) (σ : St) (y : Int32 × St) (h : fX1_mean φ this v1 σ = some y) : AMet E l yX1_mean (ws_ yX1_mean cX1_mean 5 (some .int)) (d + 2) [.inr (.inr (some this)), .inl v1] σ (some (.inl y.1)) y.2 := by
  refine amet_of hE (by decide +kernel) (Nat.le_of_ble_eq_true rfl) fun C e1 e2 X XI => ?_
  subst e1
  exact wX1_mean X φ this v1 σ y h
theorem wX1_isText {C : CT} {d : Nat} (X : Cx C cX1_isText RX1 (some .boolean) 1 (d + 1)) (φ : Nat) (v0 : Int32) (σ : St) (y : Int32) (h : fX1_isText φ v0 σ = some y) : AW C 0 [(0, .inl v0)] [] σ (AQ C (some (.inl y)) σ) := by
  unfold fX1_isText at h
  refine aw_iload_n X dX1_isText_0 0 0 rfl rfl ?_
  refine aw_iconst X (0 : Int32) dX1_isText_1 (by decide) ?_
  refine aw_iconst X (3 : Int32) dX1_isText_2 (by decide) ?_
  obtain ⟨y1, hy1, h⟩ := bind_some h
  refine aw_callS X (st := []) [.inl v0, .inl (0 : Int32), .inl (3 : Int32)] rfl ml_X1_117 (AX1_in (Cx.ok X) φ d _ _ _ _ _  hy1) dX1_isText_3 (Nat.le_of_ble_eq_true rfl) ?_
  obtain ⟨hz2, h⟩ := chk_some h
  cases h
  exact aw_zret X hz2 dX1_isText_6
theorem AX1_isText {E : AE} {l : Launch} (hE : EOK E l) (φ d : Nat) (v0 : Int32) (σ : St) (y : Int32) (h : fX1_isText φ v0 σ = some y) : AMet E l yX1_isText (ws_ yX1_isText cX1_isText 1 (some .boolean)) (d + 1) [.inl v0] σ (some (.inl y)) σ := by
  refine amet_of hE (by decide +kernel) (Nat.le_of_ble_eq_true rfl) fun C e1 e2 X XI => ?_
  subst e1
  exact wX1_isText X φ v0 σ y h
theorem wX1_text_l34 {C : CT} {d : Nat} {Z : State → Prop} (X : Cx C cX1_text RX1 (some .int) 4 (d + 2)) (φ : Nat) (this : Nat) (v1 : Int32) (v2 : Int32) (v3 : Int32) (σ : St) (y : (Int32 × St) ⊕ (St)) (h : fX1_text_l34 φ this v1 v2 v3 σ = some y) (kH : ∀ s : Int32 × St, y = .inl s → AW C 34 [(0, .inr (.inr (some this))), (1, .inl v1), (2, .inl v2), (3, .inl s.1)] [] s.2 Z) (kE0 : ∀ e : St, y = .inr e → AW C 59 [(2, .inl v2)] [] e Z) : AW C 34 [(0, .inr (.inr (some this))), (1, .inl v1), (2, .inl v2), (3, .inl v3)] [] σ Z := by
  unfold fX1_text_l34 at h
  refine aw_iload_n X dX1_text_34 3 3 rfl rfl ?_
  refine aw_bipush X (60 : Int32) dX1_text_35 (by decide) ?_
  refine aw_icmp_ge X 59 dX1_text_37 rfl (fun c7 => ?_) (fun c7 => ?_)
  · rw [if_pos c7] at h
    cases h
    refine aw_sub [(2, .inl v2)] [2] rfl ?_
    exact kE0 σ rfl
  · rw [if_neg c7] at h
    refine aw_aload_n X dX1_text_40 0 0 rfl rfl ?_
    obtain ⟨x8, hx8, h⟩ := bind_some h
    refine aw_gfR X fl_X1_25 dX1_text_41 hx8 ?_
    refine aw_bipush X (60 : Int32) dX1_text_44 (by decide) ?_
    refine aw_iload_n X dX1_text_46 1 1 rfl rfl ?_
    refine aw_imul X dX1_text_47 ?_
    refine aw_iload_n X dX1_text_48 3 3 rfl rfl ?_
    refine aw_iadd X dX1_text_49 ?_
    refine aw_bipush X (32 : Int32) dX1_text_50 (by decide) ?_
    obtain ⟨s9, hs9, h⟩ := bind_some h
    refine aw_bast X dX1_text_52 hs9 ?_
    refine aw_iinc X dX1_text_53 3 rfl (1 : Int32) rfl (by decide) [(3, .inl (v3 + (1 : Int32))), (0, .inr (.inr (some this))), (1, .inl v1), (2, .inl v2)] rfl ?_
    refine aw_goto X 34 dX1_text_56 rfl ?_
    cases h
    refine aw_sub [(0, .inr (.inr (some this))), (1, .inl v1), (2, .inl v2), (3, .inl (v3 + (1 : Int32)))] [1, 2, 3, 0] rfl ?_
    exact kH ((v3 + (1 : Int32)), s9) rfl
theorem wX1_text {C : CT} {d : Nat} (X : Cx C cX1_text RX1 (some .int) 4 (d + 2)) (φ : Nat) (this : Nat) (v1 : Int32) (v2 : Int32) (σ : St) (y : Int32 × St) (h : fX1_text φ this v1 v2 σ = some y) : AW C 0 [(0, .inr (.inr (some this))), (1, .inl v1), (2, .inl v2)] [] σ (AQ C (some (.inl y.1)) y.2) := by
  unfold fX1_text at h
  refine aw_iload_n X dX1_text_0 1 1 rfl rfl ?_
  obtain ⟨y1, hy1, h⟩ := bind_some h
  refine aw_callS X (st := []) [.inl v1] rfl ml_X1_145 (AX1_isText (Cx.ok X) φ d _ _ _  hy1) dX1_text_1 (Nat.le_of_ble_eq_true rfl) ?_
  refine aw_if_eq X 13 dX1_text_4 rfl (fun c2 => ?_) (fun c2 => ?_)
  · rw [if_pos c2] at h
    refine aw_iconst X (-1 : Int32) dX1_text_13 (by decide) ?_
    cases h
    exact aw_iret X dX1_text_14
  · rw [if_neg c2] at h
    refine aw_iload_n X dX1_text_7 2 2 rfl rfl ?_
    refine aw_bipush X (60 : Int32) dX1_text_8 (by decide) ?_
    refine aw_icmp_le X 15 dX1_text_10 rfl (fun c3 => ?_) (fun c3 => ?_)
    · rw [if_pos c3] at h
      refine aw_iload_n X dX1_text_15 2 2 rfl rfl ?_
      refine aw_if_ge X 25 dX1_text_16 rfl (fun c4 => ?_) (fun c4 => ?_)
      · rw [if_pos c4] at h
        refine aw_aload_n X dX1_text_25 0 0 rfl rfl ?_
        obtain ⟨x5, hx5, h⟩ := bind_some h
        refine aw_gfR X fl_X1_22 dX1_text_26 hx5 ?_
        refine aw_iload_n X dX1_text_29 1 1 rfl rfl ?_
        refine aw_iload_n X dX1_text_30 2 2 rfl rfl ?_
        obtain ⟨s6, hs6, h⟩ := bind_some h
        refine aw_iast X dX1_text_31 hs6 ?_
        refine aw_iconst X (0 : Int32) dX1_text_32 (by decide) ?_
        refine aw_istore_n X dX1_text_33 3 rfl (by decide) [(3, .inl (0 : Int32)), (0, .inr (.inr (some this))), (1, .inl v1), (2, .inl v2)] rfl ?_
        obtain ⟨e10, h11, h⟩ := bind_some h
        refine aw_sub [(0, .inr (.inr (some this))), (1, .inl v1), (2, .inl v2), (3, .inl (0 : Int32))] [1, 2, 3, 0] rfl ?_
        refine aw_it (fun s => AW C 34 [(0, .inr (.inr (some this))), (1, .inl v1), (2, .inl v2), (3, .inl s.1)] [] s.2 (AQ C (some (.inl y.1)) y.2)) (fun e => AW C 59 [(2, .inl v2)] [] e (AQ C (some (.inl y.1)) y.2)) (fun s r hr kH kE => wX1_text_l34 X φ this v1 v2 s.1 s.2 r hr kH kE) φ _ e10 h11 ?_
        refine aw_iload_n X dX1_text_59 0 2 rfl rfl ?_
        cases h
        exact aw_iret X dX1_text_60
      · rw [if_neg c4] at h
        refine aw_aload_n X dX1_text_19 0 0 rfl rfl ?_
        refine aw_iconst X (5 : Int32) dX1_text_20 (by decide) ?_
        obtain ⟨y12, hy12, h⟩ := bind_some h
        refine aw_cV X (st := []) hy12 [.inl (5 : Int32)] rfl rfl ml_X1_134 (fun o h => AX1_meets (Cx.ok X) φ (d + 1) _ _ _ _ h) dX1_text_21 (Nat.le_of_ble_eq_true rfl) ?_
        cases h
        exact aw_iret X dX1_text_24
    · rw [if_neg c3] at h
      refine aw_iconst X (-1 : Int32) dX1_text_13 (by decide) ?_
      cases h
      exact aw_iret X dX1_text_14
theorem AX1_text {E : AE} {l : Launch} (hE : EOK E l) (φ d : Nat) (this : Nat) (v1 : Int32) (v2 : Int32) (σ : St) (y : Int32 × St) (h : fX1_text φ this v1 v2 σ = some y) : AMet E l yX1_text (ws_ yX1_text cX1_text 4 (some .int)) (d + 2) [.inr (.inr (some this)), .inl v1, .inl v2] σ (some (.inl y.1)) y.2 := by
  refine amet_of hE (by decide +kernel) (Nat.le_of_ble_eq_true rfl) fun C e1 e2 X XI => ?_
  subst e1
  exact wX1_text X φ this v1 v2 σ y h
theorem wX1_put {C : CT} {d : Nat} (X : Cx C cX1_put RX1 (some .int) 5 (d + 2)) (φ : Nat) (this : Nat) (v1 : Int32) (v2 : Int32) (v3 : Int32) (σ : St) (y : Int32 × St) (h : fX1_put φ this v1 v2 v3 σ = some y) : AW C 0 [(0, .inr (.inr (some this))), (1, .inl v1), (2, .inl v2), (3, .inl v3)] [] σ (AQ C (some (.inl y.1)) y.2) := by
  unfold fX1_put at h
  refine aw_iload_n X dX1_put_0 1 1 rfl rfl ?_
  obtain ⟨y1, hy1, h⟩ := bind_some h
  refine aw_callS X (st := []) [.inl v1] rfl ml_X1_145 (AX1_isText (Cx.ok X) φ d _ _ _  hy1) dX1_put_1 (Nat.le_of_ble_eq_true rfl) ?_
  refine aw_if_ne X 9 dX1_put_4 rfl (fun c2 => ?_) (fun c2 => ?_)
  · rw [if_neg c2] at h
    refine aw_aload_n X dX1_put_9 0 0 rfl rfl ?_
    obtain ⟨x3, hx3, h⟩ := bind_some h
    refine aw_gfR X fl_X1_22 dX1_put_10 hx3 ?_
    refine aw_iload_n X dX1_put_13 1 1 rfl rfl ?_
    obtain ⟨x4, hx4, h⟩ := bind_some h
    refine aw_iald X dX1_put_14 hx4 ?_
    refine aw_if_ge X 24 dX1_put_15 rfl (fun c5 => ?_) (fun c5 => ?_)
    · rw [if_pos c5] at h
      refine aw_iload_n X dX1_put_24 2 2 rfl rfl ?_
      refine aw_iconst X (0 : Int32) dX1_put_25 (by decide) ?_
      refine aw_aload_n X dX1_put_26 0 0 rfl rfl ?_
      obtain ⟨x6, hx6, h⟩ := bind_some h
      refine aw_gfR X fl_X1_22 dX1_put_27 hx6 ?_
      refine aw_iload_n X dX1_put_30 1 1 rfl rfl ?_
      obtain ⟨x7, hx7, h⟩ := bind_some h
      refine aw_iald X dX1_put_31 hx7 ?_
      refine aw_iconst X (1 : Int32) dX1_put_32 (by decide) ?_
      refine aw_isub X dX1_put_33 ?_
      obtain ⟨y8, hy8, h⟩ := bind_some h
      refine aw_callS X (st := []) [.inl v2, .inl (0 : Int32), .inl (x7 - (1 : Int32))] rfl ml_X1_117 (AX1_in (Cx.ok X) φ (d + 1) _ _ _ _ _  hy8) dX1_put_34 (Nat.le_of_ble_eq_true rfl) ?_
      refine aw_if_ne X 46 dX1_put_37 rfl (fun c9 => ?_) (fun c9 => ?_)
      · rw [if_neg c9] at h
        refine aw_aload_n X dX1_put_46 0 0 rfl rfl ?_
        obtain ⟨x10, hx10, h⟩ := bind_some h
        refine aw_gfR X fl_X1_25 dX1_put_47 hx10 ?_
        refine aw_bipush X (60 : Int32) dX1_put_50 (by decide) ?_
        refine aw_iload_n X dX1_put_52 1 1 rfl rfl ?_
        refine aw_imul X dX1_put_53 ?_
        refine aw_iload_n X dX1_put_54 2 2 rfl rfl ?_
        refine aw_iadd X dX1_put_55 ?_
        obtain ⟨x11, hx11, h⟩ := bind_some h
        refine aw_bald X dX1_put_56 hx11 ?_
        refine aw_istore X dX1_put_57 (by decide) [(4, .inl x11), (0, .inr (.inr (some this))), (1, .inl v1), (2, .inl v2), (3, .inl v3)] rfl ?_
        refine aw_aload_n X dX1_put_59 1 0 rfl rfl ?_
        obtain ⟨x12, hx12, h⟩ := bind_some h
        refine aw_gfR X fl_X1_25 dX1_put_60 hx12 ?_
        refine aw_bipush X (60 : Int32) dX1_put_63 (by decide) ?_
        refine aw_iload_n X dX1_put_65 2 1 rfl rfl ?_
        refine aw_imul X dX1_put_66 ?_
        refine aw_iload_n X dX1_put_67 3 2 rfl rfl ?_
        refine aw_iadd X dX1_put_68 ?_
        refine aw_iload_n X dX1_put_69 4 3 rfl rfl ?_
        refine aw_i2b X dX1_put_70 ?_
        obtain ⟨s13, hs13, h⟩ := bind_some h
        refine aw_bast X dX1_put_71 hs13 ?_
        refine aw_sipush X (1000 : Int32) dX1_put_72 (by decide) ?_
        refine aw_iload X dX1_put_75 0 rfl ?_
        refine aw_iadd X dX1_put_77 ?_
        cases h
        exact aw_iret X dX1_put_78
      · rw [if_pos c9] at h
        refine aw_aload_n X dX1_put_40 0 0 rfl rfl ?_
        refine aw_iconst X (2 : Int32) dX1_put_41 (by decide) ?_
        obtain ⟨y14, hy14, h⟩ := bind_some h
        refine aw_cV X (st := []) hy14 [.inl (2 : Int32)] rfl rfl ml_X1_134 (fun o h => AX1_meets (Cx.ok X) φ (d + 1) _ _ _ _ h) dX1_put_42 (Nat.le_of_ble_eq_true rfl) ?_
        cases h
        exact aw_iret X dX1_put_45
    · rw [if_neg c5] at h
      refine aw_aload_n X dX1_put_18 0 0 rfl rfl ?_
      refine aw_iconst X (1 : Int32) dX1_put_19 (by decide) ?_
      obtain ⟨y15, hy15, h⟩ := bind_some h
      refine aw_cV X (st := []) hy15 [.inl (1 : Int32)] rfl rfl ml_X1_134 (fun o h => AX1_meets (Cx.ok X) φ (d + 1) _ _ _ _ h) dX1_put_20 (Nat.le_of_ble_eq_true rfl) ?_
      cases h
      exact aw_iret X dX1_put_23
  · rw [if_pos c2] at h
    refine aw_iconst X (-1 : Int32) dX1_put_7 (by decide) ?_
    cases h
    exact aw_iret X dX1_put_8
theorem AX1_put {E : AE} {l : Launch} (hE : EOK E l) (φ d : Nat) (this : Nat) (v1 : Int32) (v2 : Int32) (v3 : Int32) (σ : St) (y : Int32 × St) (h : fX1_put φ this v1 v2 v3 σ = some y) : AMet E l yX1_put (ws_ yX1_put cX1_put 5 (some .int)) (d + 2) [.inr (.inr (some this)), .inl v1, .inl v2, .inl v3] σ (some (.inl y.1)) y.2 := by
  refine amet_of hE (by decide +kernel) (Nat.le_of_ble_eq_true rfl) fun C e1 e2 X XI => ?_
  subst e1
  exact wX1_put X φ this v1 v2 v3 σ y h
theorem wX1_at0 {C : CT} {d : Nat} (X : Cx C cX1_at0 RX1 (some .int) 3 d) (φ : Nat) (this : Nat) (v1 : Int32) (v2 : Int32) (σ : St) (y : Int32) (h : fX1_at0 φ this v1 v2 σ = some y) : AW C 0 [(0, .inr (.inr (some this))), (1, .inl v1), (2, .inl v2)] [] σ (AQ C (some (.inl y)) σ) := by
  unfold fX1_at0 at h
  refine aw_aload_n X dX1_at0_0 0 0 rfl rfl ?_
  obtain ⟨x1, hx1, h⟩ := bind_some h
  refine aw_gfR X fl_X1_32 dX1_at0_1 hx1 ?_
  refine aw_bipush X (40 : Int32) dX1_at0_4 (by decide) ?_
  refine aw_iload_n X dX1_at0_6 1 1 rfl rfl ?_
  refine aw_imul X dX1_at0_7 ?_
  refine aw_iload_n X dX1_at0_8 2 2 rfl rfl ?_
  refine aw_iadd X dX1_at0_9 ?_
  obtain ⟨x2, hx2, h⟩ := bind_some h
  refine aw_iald X dX1_at0_10 hx2 ?_
  cases h
  exact aw_iret X dX1_at0_11
theorem AX1_at0 {E : AE} {l : Launch} (hE : EOK E l) (φ d : Nat) (this : Nat) (v1 : Int32) (v2 : Int32) (σ : St) (y : Int32) (h : fX1_at0 φ this v1 v2 σ = some y) : AMet E l yX1_at0 (ws_ yX1_at0 cX1_at0 3 (some .int)) d [.inr (.inr (some this)), .inl v1, .inl v2] σ (some (.inl y)) σ := by
  refine amet_of hE (by decide +kernel) (Nat.le_of_ble_eq_true rfl) fun C e1 e2 X XI => ?_
  subst e1
  exact wX1_at0 X φ this v1 v2 σ y h
theorem wX1_letters_l22 {C : CT} {d : Nat} {Z : State → Prop} (X : Cx C cX1_letters RX1 (some .int) 4 (d + 1)) (φ : Nat) (this : Nat) (v1 : Int32) (v2 : Int32) (σ : St) (v3 : Int32) (y : (Int32) ⊕ ((Unit) ⊕ (Unit))) (h : fX1_letters_l22 φ this v1 v2 σ v3 = some y) (kH : ∀ s : Int32, y = .inl s → AW C 22 [(0, .inr (.inr (some this))), (1, .inl v1), (2, .inl v2), (3, .inl s)] [] σ Z) (kE0 : ∀ e : Unit, y = .inr (.inl e) → AW C 51 [(0, .inr (.inr (some this))), (1, .inl v1), (2, .inl v2)] [] σ Z) (kE1 : ∀ e : Unit, y = .inr (.inr e) → AW C 42 [] [] σ Z) : AW C 22 [(0, .inr (.inr (some this))), (1, .inl v1), (2, .inl v2), (3, .inl v3)] [] σ Z := by
  unfold fX1_letters_l22 at h
  refine aw_iload_n X dX1_letters_22 3 3 rfl rfl ?_
  refine aw_aload_n X dX1_letters_23 0 0 rfl rfl ?_
  obtain ⟨x4, hx4, h⟩ := bind_some h
  refine aw_gfR X fl_X1_29 dX1_letters_24 hx4 ?_
  refine aw_iload_n X dX1_letters_27 2 2 rfl rfl ?_
  obtain ⟨x5, hx5, h⟩ := bind_some h
  refine aw_iald X dX1_letters_28 hx5 ?_
  refine aw_icmp_ge X 51 dX1_letters_29 rfl (fun c6 => ?_) (fun c6 => ?_)
  · rw [if_pos c6] at h
    cases h
    refine aw_sub [(0, .inr (.inr (some this))), (1, .inl v1), (2, .inl v2)] [0, 1, 2] rfl ?_
    exact kE0 () rfl
  · rw [if_neg c6] at h
    refine aw_aload_n X dX1_letters_32 0 0 rfl rfl ?_
    refine aw_iload_n X dX1_letters_33 2 2 rfl rfl ?_
    refine aw_iload_n X dX1_letters_34 3 3 rfl rfl ?_
    obtain ⟨y7, hy7, h⟩ := bind_some h
    refine aw_cV X (st := []) hy7 [.inl v2, .inl v3] rfl rfl ml_X1_148 (fun o h => AX1_at0 (Cx.ok X) φ d _ _ _ _ _ h) dX1_letters_35 (Nat.le_of_ble_eq_true rfl) ?_
    refine aw_iload_n X dX1_letters_38 1 1 rfl rfl ?_
    refine aw_icmp_lt X 45 dX1_letters_39 rfl (fun c8 => ?_) (fun c8 => ?_)
    · rw [if_pos c8] at h
      refine aw_iinc X dX1_letters_45 3 rfl (1 : Int32) rfl (by decide) [(3, .inl (v3 + (1 : Int32))), (0, .inr (.inr (some this))), (1, .inl v1), (2, .inl v2)] rfl ?_
      refine aw_goto X 22 dX1_letters_48 rfl ?_
      cases h
      refine aw_sub [(0, .inr (.inr (some this))), (1, .inl v1), (2, .inl v2), (3, .inl (v3 + (1 : Int32)))] [1, 2, 3, 0] rfl ?_
      exact kH (v3 + (1 : Int32)) rfl
    · rw [if_neg c8] at h
      cases h
      refine aw_sub [] [] rfl ?_
      exact kE1 () rfl
theorem wX1_letters_l14 {C : CT} {d : Nat} {Z : State → Prop} (X : Cx C cX1_letters RX1 (some .int) 4 (d + 1)) (φ : Nat) (this : Nat) (v1 : Int32) (σ : St) (v2 : Int32) (y : (Int32) ⊕ ((Unit) ⊕ (Unit))) (h : fX1_letters_l14 φ this v1 σ v2 = some y) (kH : ∀ s : Int32, y = .inl s → AW C 14 [(0, .inr (.inr (some this))), (1, .inl v1), (2, .inl s)] [] σ Z) (kE0 : ∀ e : Unit, y = .inr (.inl e) → AW C 57 [(0, .inr (.inr (some this))), (1, .inl v1)] [] σ Z) (kE1 : ∀ e : Unit, y = .inr (.inr e) → AW C 42 [] [] σ Z) : AW C 14 [(0, .inr (.inr (some this))), (1, .inl v1), (2, .inl v2)] [] σ Z := by
  unfold fX1_letters_l14 at h
  refine aw_iload_n X dX1_letters_14 2 2 rfl rfl ?_
  refine aw_bipush X (8 : Int32) dX1_letters_15 (by decide) ?_
  refine aw_icmp_ge X 57 dX1_letters_17 rfl (fun c3 => ?_) (fun c3 => ?_)
  · rw [if_pos c3] at h
    cases h
    refine aw_sub [(0, .inr (.inr (some this))), (1, .inl v1)] [0, 1] rfl ?_
    exact kE0 () rfl
  · rw [if_neg c3] at h
    refine aw_iconst X (0 : Int32) dX1_letters_20 (by decide) ?_
    refine aw_istore_n X dX1_letters_21 3 rfl (by decide) [(3, .inl (0 : Int32)), (0, .inr (.inr (some this))), (1, .inl v1), (2, .inl v2)] rfl ?_
    obtain ⟨e9, h10, h⟩ := bind_some h
    refine aw_sub [(0, .inr (.inr (some this))), (1, .inl v1), (2, .inl v2), (3, .inl (0 : Int32))] [1, 2, 3, 0] rfl ?_
    refine aw_it (fun s => AW C 22 [(0, .inr (.inr (some this))), (1, .inl v1), (2, .inl v2), (3, .inl s)] [] σ Z) (fun e => match e with | (.inl e) => AW C 51 [(0, .inr (.inr (some this))), (1, .inl v1), (2, .inl v2)] [] σ Z | (.inr e) => AW C 42 [] [] σ Z) (fun s r hr kH kE => wX1_letters_l22 X φ this v1 v2 σ s r hr kH (fun e he => kE (.inl e) he) (fun e he => kE (.inr e) he)) φ _ e9 h10 ?_
    rcases e9 with e11 | e12
    · refine aw_iinc X dX1_letters_51 2 rfl (1 : Int32) rfl (by decide) [(2, .inl (v2 + (1 : Int32))), (0, .inr (.inr (some this))), (1, .inl v1)] rfl ?_
      refine aw_goto X 14 dX1_letters_54 rfl ?_
      cases h
      refine aw_sub [(0, .inr (.inr (some this))), (1, .inl v1), (2, .inl (v2 + (1 : Int32)))] [1, 2, 0] rfl ?_
      exact kH (v2 + (1 : Int32)) rfl
    · cases h
      exact kE1 () rfl
theorem wX1_letters {C : CT} {d : Nat} (X : Cx C cX1_letters RX1 (some .int) 4 (d + 1)) (φ : Nat) (this : Nat) (v1 : Int32) (σ : St) (y : Int32 × St) (h : fX1_letters φ this v1 σ = some y) : AW C 0 [(0, .inr (.inr (some this))), (1, .inl v1)] [] σ (AQ C (some (.inl y.1)) y.2) := by
  unfold fX1_letters at h
  refine aw_iload_n X dX1_letters_0 1 1 rfl rfl ?_
  refine aw_iconst X (1 : Int32) dX1_letters_1 (by decide) ?_
  refine aw_bipush X (6 : Int32) dX1_letters_2 (by decide) ?_
  obtain ⟨y1, hy1, h⟩ := bind_some h
  refine aw_callS X (st := []) [.inl v1, .inl (1 : Int32), .inl (6 : Int32)] rfl ml_X1_117 (AX1_in (Cx.ok X) φ d _ _ _ _ _  hy1) dX1_letters_4 (Nat.le_of_ble_eq_true rfl) ?_
  refine aw_if_ne X 12 dX1_letters_7 rfl (fun c2 => ?_) (fun c2 => ?_)
  · rw [if_neg c2] at h
    refine aw_iconst X (0 : Int32) dX1_letters_12 (by decide) ?_
    refine aw_istore_n X dX1_letters_13 2 rfl (by decide) [(2, .inl (0 : Int32)), (0, .inr (.inr (some this))), (1, .inl v1)] rfl ?_
    obtain ⟨e13, h14, h⟩ := bind_some h
    refine aw_sub [(0, .inr (.inr (some this))), (1, .inl v1), (2, .inl (0 : Int32))] [1, 2, 0] rfl ?_
    refine aw_it (fun s => AW C 14 [(0, .inr (.inr (some this))), (1, .inl v1), (2, .inl s)] [] σ (AQ C (some (.inl y.1)) y.2)) (fun e => match e with | (.inl e) => AW C 57 [(0, .inr (.inr (some this))), (1, .inl v1)] [] σ (AQ C (some (.inl y.1)) y.2) | (.inr e) => AW C 42 [] [] σ (AQ C (some (.inl y.1)) y.2)) (fun s r hr kH kE => wX1_letters_l14 X φ this v1 σ s r hr kH (fun e he => kE (.inl e) he) (fun e he => kE (.inr e) he)) φ _ e13 h14 ?_
    rcases e13 with e15 | e16
    · refine aw_aload_n X dX1_letters_57 0 0 rfl rfl ?_
      obtain ⟨x17, hx17, h⟩ := bind_some h
      refine aw_gfI X fl_X1_110 dX1_letters_58 hx17 ?_
      refine aw_istore_n X dX1_letters_61 2 rfl (by decide) [(2, .inl x17), (0, .inr (.inr (some this))), (1, .inl v1)] rfl ?_
      refine aw_aload_n X dX1_letters_62 1 0 rfl rfl ?_
      refine aw_iload_n X dX1_letters_63 2 1 rfl rfl ?_
      obtain ⟨s18, hs18, h⟩ := bind_some h
      refine aw_pfI X fl_X1_110 dX1_letters_64 hs18 ?_
      refine aw_iload_n X dX1_letters_67 0 2 rfl rfl ?_
      cases h
      exact aw_iret X dX1_letters_68
    · refine aw_bipush X (-4 : Int32) dX1_letters_42 (by decide) ?_
      cases h
      exact aw_iret X dX1_letters_44
  · rw [if_pos c2] at h
    refine aw_iconst X (-1 : Int32) dX1_letters_10 (by decide) ?_
    cases h
    exact aw_iret X dX1_letters_11
theorem AX1_letters {E : AE} {l : Launch} (hE : EOK E l) (φ d : Nat) (this : Nat) (v1 : Int32) (σ : St) (y : Int32 × St) (h : fX1_letters φ this v1 σ = some y) : AMet E l yX1_letters (ws_ yX1_letters cX1_letters 4 (some .int)) (d + 1) [.inr (.inr (some this)), .inl v1] σ (some (.inl y.1)) y.2 := by
  refine amet_of hE (by decide +kernel) (Nat.le_of_ble_eq_true rfl) fun C e1 e2 X XI => ?_
  subst e1
  exact wX1_letters X φ this v1 σ y h
theorem wX1_isWord {C : CT} {d : Nat} (X : Cx C cX1_isWord RX1 (some .boolean) 1 (d + 1)) (φ : Nat) (v0 : Int32) (σ : St) (y : Int32) (h : fX1_isWord φ v0 σ = some y) : AW C 0 [(0, .inl v0)] [] σ (AQ C (some (.inl y)) σ) := by
  unfold fX1_isWord at h
  refine aw_iload_n X dX1_isWord_0 0 0 rfl rfl ?_
  refine aw_iconst X (0 : Int32) dX1_isWord_1 (by decide) ?_
  refine aw_bipush X (7 : Int32) dX1_isWord_2 (by decide) ?_
  obtain ⟨y1, hy1, h⟩ := bind_some h
  refine aw_callS X (st := []) [.inl v0, .inl (0 : Int32), .inl (7 : Int32)] rfl ml_X1_117 (AX1_in (Cx.ok X) φ d _ _ _ _ _  hy1) dX1_isWord_4 (Nat.le_of_ble_eq_true rfl) ?_
  obtain ⟨hz2, h⟩ := chk_some h
  cases h
  exact aw_zret X hz2 dX1_isWord_7
theorem AX1_isWord {E : AE} {l : Launch} (hE : EOK E l) (φ d : Nat) (v0 : Int32) (σ : St) (y : Int32) (h : fX1_isWord φ v0 σ = some y) : AMet E l yX1_isWord (ws_ yX1_isWord cX1_isWord 1 (some .boolean)) (d + 1) [.inl v0] σ (some (.inl y)) σ := by
  refine amet_of hE (by decide +kernel) (Nat.le_of_ble_eq_true rfl) fun C e1 e2 X XI => ?_
  subst e1
  exact wX1_isWord X φ v0 σ y h
theorem wX1_isLetter {C : CT} {d : Nat} (X : Cx C cX1_isLetter RX1 (some .boolean) 2 (d + 1)) (φ : Nat) (this : Nat) (v1 : Int32) (σ : St) (y : Int32) (h : fX1_isLetter φ this v1 σ = some y) : AW C 0 [(0, .inr (.inr (some this))), (1, .inl v1)] [] σ (AQ C (some (.inl y)) σ) := by
  unfold fX1_isLetter at h
  refine aw_iload_n X dX1_isLetter_0 1 1 rfl rfl ?_
  refine aw_iconst X (0 : Int32) dX1_isLetter_1 (by decide) ?_
  refine aw_aload_n X dX1_isLetter_2 0 0 rfl rfl ?_
  obtain ⟨x1, hx1, h⟩ := bind_some h
  refine aw_gfI X fl_X1_110 dX1_isLetter_3 hx1 ?_
  refine aw_iconst X (1 : Int32) dX1_isLetter_6 (by decide) ?_
  refine aw_isub X dX1_isLetter_7 ?_
  obtain ⟨y2, hy2, h⟩ := bind_some h
  refine aw_callS X (st := []) [.inl v1, .inl (0 : Int32), .inl (x1 - (1 : Int32))] rfl ml_X1_117 (AX1_in (Cx.ok X) φ d _ _ _ _ _  hy2) dX1_isLetter_8 (Nat.le_of_ble_eq_true rfl) ?_
  obtain ⟨hz3, h⟩ := chk_some h
  cases h
  exact aw_zret X hz3 dX1_isLetter_11
theorem AX1_isLetter {E : AE} {l : Launch} (hE : EOK E l) (φ d : Nat) (this : Nat) (v1 : Int32) (σ : St) (y : Int32) (h : fX1_isLetter φ this v1 σ = some y) : AMet E l yX1_isLetter (ws_ yX1_isLetter cX1_isLetter 2 (some .boolean)) (d + 1) [.inr (.inr (some this)), .inl v1] σ (some (.inl y)) σ := by
  refine amet_of hE (by decide +kernel) (Nat.le_of_ble_eq_true rfl) fun C e1 e2 X XI => ?_
  subst e1
  exact wX1_isLetter X φ this v1 σ y h
theorem wX1_comes_l13 {C : CT} {d : Nat} {Z : State → Prop} (X : Cx C cX1_comes RX1 (some .int) 6 d) (φ : Nat) (this : Nat) (v1 : Int32) (v2 : Int32) (v3 : Int32) (v4 : Int32) (v5 : Int32) (σ : St) (y : (Int32 × St) ⊕ (St)) (h : fX1_comes_l13 φ this v1 v2 v3 v4 v5 σ = some y) (kH : ∀ s : Int32 × St, y = .inl s → AW C 13 [(0, .inr (.inr (some this))), (1, .inl v1), (2, .inl v2), (3, .inl v3), (4, .inl v4), (5, .inl s.1)] [] s.2 Z) (kE0 : ∀ e : St, y = .inr e → AW C 47 [(0, .inr (.inr (some this))), (1, .inl v1), (2, .inl v2), (3, .inl v3), (4, .inl v4)] [] e Z) : AW C 13 [(0, .inr (.inr (some this))), (1, .inl v1), (2, .inl v2), (3, .inl v3), (4, .inl v4), (5, .inl v5)] [] σ Z := by
  unfold fX1_comes_l13 at h
  refine aw_iload X dX1_comes_13 5 rfl ?_
  refine aw_aload_n X dX1_comes_15 0 0 rfl rfl ?_
  obtain ⟨x4, hx4, h⟩ := bind_some h
  refine aw_gfI X fl_X1_151 dX1_comes_16 hx4 ?_
  refine aw_icmp_ge X 47 dX1_comes_19 rfl (fun c5 => ?_) (fun c5 => ?_)
  · rw [if_pos c5] at h
    cases h
    refine aw_sub [(0, .inr (.inr (some this))), (1, .inl v1), (2, .inl v2), (3, .inl v3), (4, .inl v4)] [0, 1, 2, 3, 4] rfl ?_
    exact kE0 σ rfl
  · rw [if_neg c5] at h
    refine aw_aload_n X dX1_comes_22 0 0 rfl rfl ?_
    obtain ⟨x6, hx6, h⟩ := bind_some h
    refine aw_gfR X fl_X1_32 dX1_comes_23 hx6 ?_
    refine aw_bipush X (40 : Int32) dX1_comes_26 (by decide) ?_
    refine aw_iload_n X dX1_comes_28 1 1 rfl rfl ?_
    refine aw_imul X dX1_comes_29 ?_
    refine aw_iload X dX1_comes_30 5 rfl ?_
    refine aw_iadd X dX1_comes_32 ?_
    refine aw_aload_n X dX1_comes_33 0 0 rfl rfl ?_
    obtain ⟨x7, hx7, h⟩ := bind_some h
    refine aw_gfR X fl_X1_44 dX1_comes_34 hx7 ?_
    refine aw_iload X dX1_comes_37 5 rfl ?_
    obtain ⟨x8, hx8, h⟩ := bind_some h
    refine aw_iald X dX1_comes_39 hx8 ?_
    obtain ⟨s9, hs9, h⟩ := bind_some h
    refine aw_iast X dX1_comes_40 hs9 ?_
    refine aw_iinc X dX1_comes_41 5 rfl (1 : Int32) rfl (by decide) [(5, .inl (v5 + (1 : Int32))), (0, .inr (.inr (some this))), (1, .inl v1), (2, .inl v2), (3, .inl v3), (4, .inl v4)] rfl ?_
    refine aw_goto X 13 dX1_comes_44 rfl ?_
    cases h
    refine aw_sub [(0, .inr (.inr (some this))), (1, .inl v1), (2, .inl v2), (3, .inl v3), (4, .inl v4), (5, .inl (v5 + (1 : Int32)))] [1, 2, 3, 4, 5, 0] rfl ?_
    exact kH ((v5 + (1 : Int32)), s9) rfl
theorem wX1_comes {C : CT} {d : Nat} (X : Cx C cX1_comes RX1 (some .int) 6 d) (φ : Nat) (this : Nat) (v1 : Int32) (v2 : Int32) (v3 : Int32) (v4 : Int32) (σ : St) (y : Int32 × St) (h : fX1_comes φ this v1 v2 v3 v4 σ = some y) : AW C 0 [(0, .inr (.inr (some this))), (1, .inl v1), (2, .inl v2), (3, .inl v3), (4, .inl v4)] [] σ (AQ C (some (.inl y.1)) y.2) := by
  unfold fX1_comes at h
  refine aw_aload_n X dX1_comes_0 0 0 rfl rfl ?_
  obtain ⟨x1, hx1, h⟩ := bind_some h
  refine aw_gfR X fl_X1_29 dX1_comes_1 hx1 ?_
  refine aw_iload_n X dX1_comes_4 1 1 rfl rfl ?_
  refine aw_aload_n X dX1_comes_5 0 0 rfl rfl ?_
  obtain ⟨x2, hx2, h⟩ := bind_some h
  refine aw_gfI X fl_X1_151 dX1_comes_6 hx2 ?_
  obtain ⟨s3, hs3, h⟩ := bind_some h
  refine aw_iast X dX1_comes_9 hs3 ?_
  refine aw_iconst X (0 : Int32) dX1_comes_10 (by decide) ?_
  refine aw_istore X dX1_comes_11 (by decide) [(5, .inl (0 : Int32)), (0, .inr (.inr (some this))), (1, .inl v1), (2, .inl v2), (3, .inl v3), (4, .inl v4)] rfl ?_
  obtain ⟨e10, h11, h⟩ := bind_some h
  refine aw_sub [(0, .inr (.inr (some this))), (1, .inl v1), (2, .inl v2), (3, .inl v3), (4, .inl v4), (5, .inl (0 : Int32))] [1, 2, 3, 4, 5, 0] rfl ?_
  refine aw_it (fun s => AW C 13 [(0, .inr (.inr (some this))), (1, .inl v1), (2, .inl v2), (3, .inl v3), (4, .inl v4), (5, .inl s.1)] [] s.2 (AQ C (some (.inl y.1)) y.2)) (fun e => AW C 47 [(0, .inr (.inr (some this))), (1, .inl v1), (2, .inl v2), (3, .inl v3), (4, .inl v4)] [] e (AQ C (some (.inl y.1)) y.2)) (fun s r hr kH kE => wX1_comes_l13 X φ this v1 v2 v3 v4 s.1 s.2 r hr kH kE) φ _ e10 h11 ?_
  refine aw_aload_n X dX1_comes_47 0 0 rfl rfl ?_
  obtain ⟨x12, hx12, h⟩ := bind_some h
  refine aw_gfR X fl_X1_35 dX1_comes_48 hx12 ?_
  refine aw_iload_n X dX1_comes_51 1 1 rfl rfl ?_
  refine aw_iload_n X dX1_comes_52 2 2 rfl rfl ?_
  obtain ⟨s13, hs13, h⟩ := bind_some h
  refine aw_iast X dX1_comes_53 hs13 ?_
  refine aw_aload_n X dX1_comes_54 0 0 rfl rfl ?_
  obtain ⟨x14, hx14, h⟩ := bind_some h
  refine aw_gfR X fl_X1_38 dX1_comes_55 hx14 ?_
  refine aw_iload_n X dX1_comes_58 1 1 rfl rfl ?_
  refine aw_iload_n X dX1_comes_59 3 3 rfl rfl ?_
  obtain ⟨s15, hs15, h⟩ := bind_some h
  refine aw_iast X dX1_comes_60 hs15 ?_
  refine aw_aload_n X dX1_comes_61 0 0 rfl rfl ?_
  obtain ⟨x16, hx16, h⟩ := bind_some h
  refine aw_gfR X fl_X1_41 dX1_comes_62 hx16 ?_
  refine aw_iload_n X dX1_comes_65 1 1 rfl rfl ?_
  refine aw_iload X dX1_comes_66 4 rfl ?_
  obtain ⟨s17, hs17, h⟩ := bind_some h
  refine aw_iast X dX1_comes_68 hs17 ?_
  refine aw_aload_n X dX1_comes_69 0 0 rfl rfl ?_
  obtain ⟨x18, hx18, h⟩ := bind_some h
  refine aw_gfI X fl_X1_151 dX1_comes_70 hx18 ?_
  cases h
  exact aw_iret X dX1_comes_73
theorem AX1_comes {E : AE} {l : Launch} (hE : EOK E l) (φ d : Nat) (this : Nat) (v1 : Int32) (v2 : Int32) (v3 : Int32) (v4 : Int32) (σ : St) (y : Int32 × St) (h : fX1_comes φ this v1 v2 v3 v4 σ = some y) : AMet E l yX1_comes (ws_ yX1_comes cX1_comes 6 (some .int)) d [.inr (.inr (some this)), .inl v1, .inl v2, .inl v3, .inl v4] σ (some (.inl y.1)) y.2 := by
  refine amet_of hE (by decide +kernel) (Nat.le_of_ble_eq_true rfl) fun C e1 e2 X XI => ?_
  subst e1
  exact wX1_comes X φ this v1 v2 v3 v4 σ y h
theorem wX1_word_l36 {C : CT} {d : Nat} {Z : State → Prop} (X : Cx C cX1_word RX1 (some .int) 5 (d + 2)) (φ : Nat) (this : Nat) (v1 : Int32) (v2 : Int32) (v3 : Int32) (v4 : Int32) (σ : St) (y : (Int32 × Int32 × St) ⊕ (Int32 × St)) (h : fX1_word_l36 φ this v1 v2 v3 v4 σ = some y) (kH : ∀ s : Int32 × Int32 × St, y = .inl s → AW C 36 [(0, .inr (.inr (some this))), (1, .inl v1), (2, .inl v2), (3, .inl s.1), (4, .inl s.2.1)] [] s.2.2 Z) (kE0 : ∀ e : Int32 × St, y = .inr e → AW C 91 [(0, .inr (.inr (some this))), (1, .inl v1), (2, .inl v2), (3, .inl e.1)] [] e.2 Z) : AW C 36 [(0, .inr (.inr (some this))), (1, .inl v1), (2, .inl v2), (3, .inl v3), (4, .inl v4)] [] σ Z := by
  unfold fX1_word_l36 at h
  refine aw_iload X dX1_word_36 4 rfl ?_
  refine aw_aload_n X dX1_word_38 0 0 rfl rfl ?_
  obtain ⟨x8, hx8, h⟩ := bind_some h
  refine aw_gfR X fl_X1_13 dX1_word_39 hx8 ?_
  refine aw_iload_n X dX1_word_42 2 2 rfl rfl ?_
  obtain ⟨x9, hx9, h⟩ := bind_some h
  refine aw_iald X dX1_word_43 hx9 ?_
  refine aw_icmp_ge X 91 dX1_word_44 rfl (fun c10 => ?_) (fun c10 => ?_)
  · rw [if_pos c10] at h
    cases h
    refine aw_sub [(0, .inr (.inr (some this))), (1, .inl v1), (2, .inl v2), (3, .inl v3)] [0, 1, 2, 3] rfl ?_
    exact kE0 (v3, σ) rfl
  · rw [if_neg c10] at h
    refine aw_aload_n X dX1_word_47 0 0 rfl rfl ?_
    obtain ⟨x11, hx11, h⟩ := bind_some h
    refine aw_gfR X fl_X1_44 dX1_word_48 hx11 ?_
    refine aw_iload X dX1_word_51 4 rfl ?_
    refine aw_aload_n X dX1_word_53 0 0 rfl rfl ?_
    refine aw_iload_n X dX1_word_54 2 2 rfl rfl ?_
    refine aw_iload X dX1_word_55 4 rfl ?_
    obtain ⟨y12, hy12, h⟩ := bind_some h
    refine aw_cV X (st := [.inl v4, .inr (.inr x11)]) hy12 [.inl v2, .inl v4] rfl rfl ml_X1_138 (fun o h => AX1_rowAt (Cx.ok X) φ (d + 1) _ _ _ _ _ h) dX1_word_57 (Nat.le_of_ble_eq_true rfl) ?_
    obtain ⟨s13, hs13, h⟩ := bind_some h
    refine aw_iast X dX1_word_60 hs13 ?_
    refine aw_iload_n X dX1_word_61 3 3 rfl rfl ?_
    refine aw_if_eq X 83 dX1_word_62 rfl (fun c14 => ?_) (fun c14 => ?_)
    · rw [if_pos c14] at h
      refine aw_iconst X (0 : Int32) dX1_word_83 (by decide) ?_
      refine aw_istore_n X dX1_word_84 3 rfl (by decide) [(3, .inl (0 : Int32)), (0, .inr (.inr (some this))), (1, .inl v1), (2, .inl v2), (4, .inl v4)] rfl ?_
      refine aw_iinc X dX1_word_85 4 rfl (1 : Int32) rfl (by decide) [(4, .inl (v4 + (1 : Int32))), (3, .inl (0 : Int32)), (0, .inr (.inr (some this))), (1, .inl v1), (2, .inl v2)] rfl ?_
      refine aw_goto X 36 dX1_word_88 rfl ?_
      cases h
      refine aw_sub [(0, .inr (.inr (some this))), (1, .inl v1), (2, .inl v2), (3, .inl (0 : Int32)), (4, .inl (v4 + (1 : Int32)))] [2, 3, 4, 1, 0] rfl ?_
      exact kH ((0 : Int32), (v4 + (1 : Int32)), s13) rfl
    · rw [if_neg c14] at h
      refine aw_aload_n X dX1_word_65 0 0 rfl rfl ?_
      refine aw_aload_n X dX1_word_66 0 0 rfl rfl ?_
      obtain ⟨x15, hx15, h⟩ := bind_some h
      refine aw_gfR X fl_X1_44 dX1_word_67 hx15 ?_
      refine aw_iload X dX1_word_70 4 rfl ?_
      obtain ⟨x16, hx16, h⟩ := bind_some h
      refine aw_iald X dX1_word_72 hx16 ?_
      obtain ⟨y17, hy17, h⟩ := bind_some h
      refine aw_cV X (st := []) hy17 [.inl x16] rfl rfl ml_X1_157 (fun o h => AX1_isLetter (Cx.ok X) φ d _ _ _ _ h) dX1_word_73 (Nat.le_of_ble_eq_true rfl) ?_
      refine aw_if_eq X 83 dX1_word_76 rfl (fun c18 => ?_) (fun c18 => ?_)
      · rw [if_pos c18] at h
        refine aw_iconst X (0 : Int32) dX1_word_83 (by decide) ?_
        refine aw_istore_n X dX1_word_84 3 rfl (by decide) [(3, .inl (0 : Int32)), (0, .inr (.inr (some this))), (1, .inl v1), (2, .inl v2), (4, .inl v4)] rfl ?_
        refine aw_iinc X dX1_word_85 4 rfl (1 : Int32) rfl (by decide) [(4, .inl (v4 + (1 : Int32))), (3, .inl (0 : Int32)), (0, .inr (.inr (some this))), (1, .inl v1), (2, .inl v2)] rfl ?_
        refine aw_goto X 36 dX1_word_88 rfl ?_
        cases h
        refine aw_sub [(0, .inr (.inr (some this))), (1, .inl v1), (2, .inl v2), (3, .inl (0 : Int32)), (4, .inl (v4 + (1 : Int32)))] [2, 3, 4, 1, 0] rfl ?_
        exact kH ((0 : Int32), (v4 + (1 : Int32)), s13) rfl
      · rw [if_neg c18] at h
        refine aw_iconst X (1 : Int32) dX1_word_79 (by decide) ?_
        refine aw_goto X 84 dX1_word_80 rfl ?_
        refine aw_istore_n X dX1_word_84 3 rfl (by decide) [(3, .inl (1 : Int32)), (0, .inr (.inr (some this))), (1, .inl v1), (2, .inl v2), (4, .inl v4)] rfl ?_
        refine aw_iinc X dX1_word_85 4 rfl (1 : Int32) rfl (by decide) [(4, .inl (v4 + (1 : Int32))), (3, .inl (1 : Int32)), (0, .inr (.inr (some this))), (1, .inl v1), (2, .inl v2)] rfl ?_
        refine aw_goto X 36 dX1_word_88 rfl ?_
        cases h
        refine aw_sub [(0, .inr (.inr (some this))), (1, .inl v1), (2, .inl v2), (3, .inl (1 : Int32)), (4, .inl (v4 + (1 : Int32)))] [2, 3, 4, 1, 0] rfl ?_
        exact kH ((1 : Int32), (v4 + (1 : Int32)), s13) rfl
theorem wX1_word {C : CT} {d : Nat} (X : Cx C cX1_word RX1 (some .int) 5 (d + 2)) (φ : Nat) (this : Nat) (v1 : Int32) (v2 : Int32) (σ : St) (y : Int32 × St) (h : fX1_word φ this v1 v2 σ = some y) : AW C 0 [(0, .inr (.inr (some this))), (1, .inl v1), (2, .inl v2)] [] σ (AQ C (some (.inl y.1)) y.2) := by
  unfold fX1_word at h
  refine aw_iload_n X dX1_word_0 1 1 rfl rfl ?_
  obtain ⟨y1, hy1, h⟩ := bind_some h
  refine aw_callS X (st := []) [.inl v1] rfl ml_X1_154 (AX1_isWord (Cx.ok X) φ d _ _ _  hy1) dX1_word_1 (Nat.le_of_ble_eq_true rfl) ?_
  refine aw_if_eq X 14 dX1_word_4 rfl (fun c2 => ?_) (fun c2 => ?_)
  · rw [if_pos c2] at h
    refine aw_iconst X (-1 : Int32) dX1_word_14 (by decide) ?_
    cases h
    exact aw_iret X dX1_word_15
  · rw [if_neg c2] at h
    refine aw_iload_n X dX1_word_7 2 2 rfl rfl ?_
    obtain ⟨y3, hy3, h⟩ := bind_some h
    refine aw_callS X (st := []) [.inl v2] rfl ml_X1_130 (AX1_isRow (Cx.ok X) φ d _ _ _  hy3) dX1_word_8 (Nat.le_of_ble_eq_true rfl) ?_
    refine aw_if_ne X 16 dX1_word_11 rfl (fun c4 => ?_) (fun c4 => ?_)
    · rw [if_neg c4] at h
      refine aw_aload_n X dX1_word_16 0 0 rfl rfl ?_
      obtain ⟨x5, hx5, h⟩ := bind_some h
      refine aw_gfR X fl_X1_13 dX1_word_17 hx5 ?_
      refine aw_iload_n X dX1_word_20 2 2 rfl rfl ?_
      obtain ⟨x6, hx6, h⟩ := bind_some h
      refine aw_iald X dX1_word_21 hx6 ?_
      refine aw_if_ge X 31 dX1_word_22 rfl (fun c7 => ?_) (fun c7 => ?_)
      · rw [if_pos c7] at h
        refine aw_iconst X (1 : Int32) dX1_word_31 (by decide) ?_
        refine aw_istore_n X dX1_word_32 3 rfl (by decide) [(3, .inl (1 : Int32)), (0, .inr (.inr (some this))), (1, .inl v1), (2, .inl v2)] rfl ?_
        refine aw_iconst X (0 : Int32) dX1_word_33 (by decide) ?_
        refine aw_istore X dX1_word_34 (by decide) [(4, .inl (0 : Int32)), (3, .inl (1 : Int32)), (0, .inr (.inr (some this))), (1, .inl v1), (2, .inl v2)] rfl ?_
        obtain ⟨e19, h20, h⟩ := bind_some h
        refine aw_sub [(0, .inr (.inr (some this))), (1, .inl v1), (2, .inl v2), (3, .inl (1 : Int32)), (4, .inl (0 : Int32))] [2, 3, 4, 1, 0] rfl ?_
        refine aw_it (fun s => AW C 36 [(0, .inr (.inr (some this))), (1, .inl v1), (2, .inl v2), (3, .inl s.1), (4, .inl s.2.1)] [] s.2.2 (AQ C (some (.inl y.1)) y.2)) (fun e => AW C 91 [(0, .inr (.inr (some this))), (1, .inl v1), (2, .inl v2), (3, .inl e.1)] [] e.2 (AQ C (some (.inl y.1)) y.2)) (fun s r hr kH kE => wX1_word_l36 X φ this v1 v2 s.1 s.2.1 s.2.2 r hr kH kE) φ _ e19 h20 ?_
        refine aw_iload_n X dX1_word_91 3 3 rfl rfl ?_
        refine aw_if_ne X 101 dX1_word_92 rfl (fun c21 => ?_) (fun c21 => ?_)
        · rw [if_neg c21] at h
          refine aw_aload_n X dX1_word_101 0 0 rfl rfl ?_
          refine aw_aload_n X dX1_word_102 0 0 rfl rfl ?_
          obtain ⟨x22, hx22, h⟩ := bind_some h
          refine aw_gfR X fl_X1_13 dX1_word_103 hx22 ?_
          refine aw_iload_n X dX1_word_106 2 2 rfl rfl ?_
          obtain ⟨x23, hx23, h⟩ := bind_some h
          refine aw_iald X dX1_word_107 hx23 ?_
          obtain ⟨s24, hs24, h⟩ := bind_some h
          refine aw_pfI X fl_X1_151 dX1_word_108 hs24 ?_
          refine aw_aload_n X dX1_word_111 0 0 rfl rfl ?_
          refine aw_iload_n X dX1_word_112 1 1 rfl rfl ?_
          refine aw_iconst X (0 : Int32) dX1_word_113 (by decide) ?_
          refine aw_iconst X (0 : Int32) dX1_word_114 (by decide) ?_
          refine aw_iconst X (0 : Int32) dX1_word_115 (by decide) ?_
          obtain ⟨y25, hy25, h⟩ := bind_some h
          refine aw_cV X (st := []) hy25 [.inl v1, .inl (0 : Int32), .inl (0 : Int32), .inl (0 : Int32)] rfl rfl ml_X1_160 (fun o h => AX1_comes (Cx.ok X) φ (d + 1) _ _ _ _ _ _ _ h) dX1_word_116 (Nat.le_of_ble_eq_true rfl) ?_
          cases h
          exact aw_iret X dX1_word_119
        · rw [if_pos c21] at h
          refine aw_aload_n X dX1_word_95 0 0 rfl rfl ?_
          refine aw_iconst X (3 : Int32) dX1_word_96 (by decide) ?_
          obtain ⟨y26, hy26, h⟩ := bind_some h
          refine aw_cV X (st := []) hy26 [.inl (3 : Int32)] rfl rfl ml_X1_134 (fun o h => AX1_meets (Cx.ok X) φ (d + 1) _ _ _ _ h) dX1_word_97 (Nat.le_of_ble_eq_true rfl) ?_
          cases h
          exact aw_iret X dX1_word_100
      · rw [if_neg c7] at h
        refine aw_aload_n X dX1_word_25 0 0 rfl rfl ?_
        refine aw_iconst X (1 : Int32) dX1_word_26 (by decide) ?_
        obtain ⟨y27, hy27, h⟩ := bind_some h
        refine aw_cV X (st := []) hy27 [.inl (1 : Int32)] rfl rfl ml_X1_134 (fun o h => AX1_meets (Cx.ok X) φ (d + 1) _ _ _ _ h) dX1_word_27 (Nat.le_of_ble_eq_true rfl) ?_
        cases h
        exact aw_iret X dX1_word_30
    · rw [if_pos c4] at h
      refine aw_iconst X (-1 : Int32) dX1_word_14 (by decide) ?_
      cases h
      exact aw_iret X dX1_word_15
theorem AX1_word {E : AE} {l : Launch} (hE : EOK E l) (φ d : Nat) (this : Nat) (v1 : Int32) (v2 : Int32) (σ : St) (y : Int32 × St) (h : fX1_word φ this v1 v2 σ = some y) : AMet E l yX1_word (ws_ yX1_word cX1_word 5 (some .int)) (d + 2) [.inr (.inr (some this)), .inl v1, .inl v2] σ (some (.inl y.1)) y.2 := by
  refine amet_of hE (by decide +kernel) (Nat.le_of_ble_eq_true rfl) fun C e1 e2 X XI => ?_
  subst e1
  exact wX1_word X φ this v1 v2 σ y h
theorem wX1_byteAt {C : CT} {d : Nat} (X : Cx C cX1_byteAt RX1 (some .int) 3 d) (φ : Nat) (this : Nat) (v1 : Int32) (v2 : Int32) (σ : St) (y : Int32) (h : fX1_byteAt φ this v1 v2 σ = some y) : AW C 0 [(0, .inr (.inr (some this))), (1, .inl v1), (2, .inl v2)] [] σ (AQ C (some (.inl y)) σ) := by
  unfold fX1_byteAt at h
  refine aw_iload_n X dX1_byteAt_0 2 2 rfl rfl ?_
  refine aw_aload_n X dX1_byteAt_1 0 0 rfl rfl ?_
  obtain ⟨x1, hx1, h⟩ := bind_some h
  refine aw_gfR X fl_X1_22 dX1_byteAt_2 hx1 ?_
  refine aw_iload_n X dX1_byteAt_5 1 1 rfl rfl ?_
  obtain ⟨x2, hx2, h⟩ := bind_some h
  refine aw_iald X dX1_byteAt_6 hx2 ?_
  refine aw_icmp_ge X 24 dX1_byteAt_7 rfl (fun c3 => ?_) (fun c3 => ?_)
  · rw [if_pos c3] at h
    refine aw_iconst X (0 : Int32) dX1_byteAt_24 (by decide) ?_
    cases h
    exact aw_iret X dX1_byteAt_25
  · rw [if_neg c3] at h
    refine aw_aload_n X dX1_byteAt_10 0 0 rfl rfl ?_
    obtain ⟨x4, hx4, h⟩ := bind_some h
    refine aw_gfR X fl_X1_25 dX1_byteAt_11 hx4 ?_
    refine aw_bipush X (60 : Int32) dX1_byteAt_14 (by decide) ?_
    refine aw_iload_n X dX1_byteAt_16 1 1 rfl rfl ?_
    refine aw_imul X dX1_byteAt_17 ?_
    refine aw_iload_n X dX1_byteAt_18 2 2 rfl rfl ?_
    refine aw_iadd X dX1_byteAt_19 ?_
    obtain ⟨x5, hx5, h⟩ := bind_some h
    refine aw_bald X dX1_byteAt_20 hx5 ?_
    refine aw_goto X 25 dX1_byteAt_21 rfl ?_
    cases h
    exact aw_iret X dX1_byteAt_25
theorem AX1_byteAt {E : AE} {l : Launch} (hE : EOK E l) (φ d : Nat) (this : Nat) (v1 : Int32) (v2 : Int32) (σ : St) (y : Int32) (h : fX1_byteAt φ this v1 v2 σ = some y) : AMet E l yX1_byteAt (ws_ yX1_byteAt cX1_byteAt 3 (some .int)) d [.inr (.inr (some this)), .inl v1, .inl v2] σ (some (.inl y)) σ := by
  refine amet_of hE (by decide +kernel) (Nat.le_of_ble_eq_true rfl) fun C e1 e2 X XI => ?_
  subst e1
  exact wX1_byteAt X φ this v1 v2 σ y h
theorem wX1_comesOn {C : CT} {d : Nat} (X : Cx C cX1_comesOn RX1 none 2 d) (φ : Nat) (this : Nat) (v1 : Int32) (σ : St) (y : St) (h : fX1_comesOn φ this v1 σ = some y) : AW C 0 [(0, .inr (.inr (some this))), (1, .inl v1)] [] σ (AQ C none y) := by
  unfold fX1_comesOn at h
  refine aw_aload_n X dX1_comesOn_0 0 0 rfl rfl ?_
  obtain ⟨x1, hx1, h⟩ := bind_some h
  refine aw_gfI X fl_X1_151 dX1_comesOn_1 hx1 ?_
  refine aw_bipush X (40 : Int32) dX1_comesOn_4 (by decide) ?_
  refine aw_icmp_ge X 32 dX1_comesOn_6 rfl (fun c2 => ?_) (fun c2 => ?_)
  · rw [if_pos c2] at h
    refine aw_aload_n X dX1_comesOn_32 0 0 rfl rfl ?_
    refine aw_iconst X (1 : Int32) dX1_comesOn_33 (by decide) ?_
    obtain ⟨s3, hs3, h⟩ := bind_some h
    refine aw_pfZ X fl_X1_164 dX1_comesOn_34 hs3 ?_
    cases h
    exact aw_vret X dX1_comesOn_37
  · rw [if_neg c2] at h
    refine aw_aload_n X dX1_comesOn_9 0 0 rfl rfl ?_
    obtain ⟨x4, hx4, h⟩ := bind_some h
    refine aw_gfR X fl_X1_44 dX1_comesOn_10 hx4 ?_
    refine aw_aload_n X dX1_comesOn_13 0 0 rfl rfl ?_
    obtain ⟨x5, hx5, h⟩ := bind_some h
    refine aw_gfI X fl_X1_151 dX1_comesOn_14 hx5 ?_
    refine aw_iload_n X dX1_comesOn_17 1 1 rfl rfl ?_
    obtain ⟨s6, hs6, h⟩ := bind_some h
    refine aw_iast X dX1_comesOn_18 hs6 ?_
    refine aw_aload_n X dX1_comesOn_19 0 0 rfl rfl ?_
    refine aw_dup X dX1_comesOn_20 rfl ?_
    obtain ⟨x7, hx7, h⟩ := bind_some h
    refine aw_gfI X fl_X1_151 dX1_comesOn_21 hx7 ?_
    refine aw_iconst X (1 : Int32) dX1_comesOn_24 (by decide) ?_
    refine aw_iadd X dX1_comesOn_25 ?_
    obtain ⟨s8, hs8, h⟩ := bind_some h
    refine aw_pfI X fl_X1_151 dX1_comesOn_26 hs8 ?_
    refine aw_goto X 37 dX1_comesOn_29 rfl ?_
    cases h
    exact aw_vret X dX1_comesOn_37
theorem AX1_comesOn {E : AE} {l : Launch} (hE : EOK E l) (φ d : Nat) (this : Nat) (v1 : Int32) (σ : St) (y : St) (h : fX1_comesOn φ this v1 σ = some y) : AMet E l yX1_comesOn (ws_ yX1_comesOn cX1_comesOn 2 none) d [.inr (.inr (some this)), .inl v1] σ none y := by
  refine amet_of hE (by decide +kernel) (Nat.le_of_ble_eq_true rfl) fun C e1 e2 X XI => ?_
  subst e1
  exact wX1_comesOn X φ this v1 σ y h
theorem wX1_figureAt {C : CT} {d : Nat} (X : Cx C cX1_figureAt RX1 (some .int) 3 (d + 1)) (φ : Nat) (this : Nat) (v1 : Int32) (v2 : Int32) (σ : St) (y : Int32) (h : fX1_figureAt φ this v1 v2 σ = some y) : AW C 0 [(0, .inr (.inr (some this))), (1, .inl v1), (2, .inl v2)] [] σ (AQ C (some (.inl y)) σ) := by
  unfold fX1_figureAt at h
  refine aw_aload_n X dX1_figureAt_0 0 0 rfl rfl ?_
  refine aw_iload_n X dX1_figureAt_1 1 1 rfl rfl ?_
  refine aw_iload_n X dX1_figureAt_2 2 2 rfl rfl ?_
  obtain ⟨y1, hy1, h⟩ := bind_some h
  refine aw_cV X (st := []) hy1 [.inl v1, .inl v2] rfl rfl ml_X1_172 (fun o h => AX1_byteAt (Cx.ok X) φ d _ _ _ _ _ h) dX1_figureAt_3 (Nat.le_of_ble_eq_true rfl) ?_
  refine aw_bipush X (49 : Int32) dX1_figureAt_6 (by decide) ?_
  refine aw_bipush X (57 : Int32) dX1_figureAt_8 (by decide) ?_
  obtain ⟨y2, hy2, h⟩ := bind_some h
  refine aw_callS X (st := []) [.inl y1, .inl (49 : Int32), .inl (57 : Int32)] rfl ml_X1_117 (AX1_in (Cx.ok X) φ d _ _ _ _ _  hy2) dX1_figureAt_10 (Nat.le_of_ble_eq_true rfl) ?_
  refine aw_if_eq X 28 dX1_figureAt_13 rfl (fun c3 => ?_) (fun c3 => ?_)
  · rw [if_pos c3] at h
    refine aw_iconst X (0 : Int32) dX1_figureAt_28 (by decide) ?_
    cases h
    exact aw_iret X dX1_figureAt_29
  · rw [if_neg c3] at h
    refine aw_aload_n X dX1_figureAt_16 0 0 rfl rfl ?_
    refine aw_iload_n X dX1_figureAt_17 1 1 rfl rfl ?_
    refine aw_iload_n X dX1_figureAt_18 2 2 rfl rfl ?_
    obtain ⟨y4, hy4, h⟩ := bind_some h
    refine aw_cV X (st := []) hy4 [.inl v1, .inl v2] rfl rfl ml_X1_172 (fun o h => AX1_byteAt (Cx.ok X) φ d _ _ _ _ _ h) dX1_figureAt_19 (Nat.le_of_ble_eq_true rfl) ?_
    refine aw_bipush X (48 : Int32) dX1_figureAt_22 (by decide) ?_
    refine aw_isub X dX1_figureAt_24 ?_
    refine aw_goto X 29 dX1_figureAt_25 rfl ?_
    cases h
    exact aw_iret X dX1_figureAt_29
theorem AX1_figureAt {E : AE} {l : Launch} (hE : EOK E l) (φ d : Nat) (this : Nat) (v1 : Int32) (v2 : Int32) (σ : St) (y : Int32) (h : fX1_figureAt φ this v1 v2 σ = some y) : AMet E l yX1_figureAt (ws_ yX1_figureAt cX1_figureAt 3 (some .int)) (d + 1) [.inr (.inr (some this)), .inl v1, .inl v2] σ (some (.inl y)) σ := by
  refine amet_of hE (by decide +kernel) (Nat.le_of_ble_eq_true rfl) fun C e1 e2 X XI => ?_
  subst e1
  exact wX1_figureAt X φ this v1 v2 σ y h
theorem wX1_comesAgain_l17 {C : CT} {d : Nat} {Z : State → Prop} (X : Cx C cX1_comesAgain RX1 none 6 (d + 1)) (φ : Nat) (this : Nat) (v1 : Int32) (v2 : Int32) (v3 : Int32) (v4 : Int32) (v5 : Int32) (σ : St) (y : (Int32 × St) ⊕ (St)) (h : fX1_comesAgain_l17 φ this v1 v2 v3 v4 v5 σ = some y) (kH : ∀ s : Int32 × St, y = .inl s → AW C 17 [(0, .inr (.inr (some this))), (1, .inl v1), (2, .inl v2), (3, .inl v3), (4, .inl v4), (5, .inl s.1)] [] s.2 Z) (kE0 : ∀ e : St, y = .inr e → AW C 40 [(0, .inr (.inr (some this))), (1, .inl v1), (2, .inl v2), (3, .inl v3), (4, .inl v4)] [] e Z) : AW C 17 [(0, .inr (.inr (some this))), (1, .inl v1), (2, .inl v2), (3, .inl v3), (4, .inl v4), (5, .inl v5)] [] σ Z := by
  unfold fX1_comesAgain_l17 at h
  refine aw_iload X dX1_comesAgain_17 5 rfl ?_
  refine aw_iload_n X dX1_comesAgain_19 3 3 rfl rfl ?_
  refine aw_icmp_ge X 40 dX1_comesAgain_20 rfl (fun c3 => ?_) (fun c3 => ?_)
  · rw [if_pos c3] at h
    cases h
    refine aw_sub [(0, .inr (.inr (some this))), (1, .inl v1), (2, .inl v2), (3, .inl v3), (4, .inl v4)] [0, 1, 2, 3, 4] rfl ?_
    exact kE0 σ rfl
  · rw [if_neg c3] at h
    refine aw_aload_n X dX1_comesAgain_23 0 0 rfl rfl ?_
    refine aw_aload_n X dX1_comesAgain_24 0 0 rfl rfl ?_
    obtain ⟨x4, hx4, h⟩ := bind_some h
    refine aw_gfR X fl_X1_44 dX1_comesAgain_25 hx4 ?_
    refine aw_iload X dX1_comesAgain_28 5 rfl ?_
    obtain ⟨x5, hx5, h⟩ := bind_some h
    refine aw_iald X dX1_comesAgain_30 hx5 ?_
    obtain ⟨y6, hy6, h⟩ := bind_some h
    refine aw_cV X (st := []) hy6 [.inl x5] rfl rfl ml_X1_168 (fun o h => AX1_comesOn (Cx.ok X) φ d _ _ _ _ h) dX1_comesAgain_31 (Nat.le_of_ble_eq_true rfl) ?_
    refine aw_iinc X dX1_comesAgain_34 5 rfl (1 : Int32) rfl (by decide) [(5, .inl (v5 + (1 : Int32))), (0, .inr (.inr (some this))), (1, .inl v1), (2, .inl v2), (3, .inl v3), (4, .inl v4)] rfl ?_
    refine aw_goto X 17 dX1_comesAgain_37 rfl ?_
    cases h
    refine aw_sub [(0, .inr (.inr (some this))), (1, .inl v1), (2, .inl v2), (3, .inl v3), (4, .inl v4), (5, .inl (v5 + (1 : Int32)))] [1, 2, 3, 4, 5, 0] rfl ?_
    exact kH ((v5 + (1 : Int32)), y6) rfl
theorem wX1_comesAgain_l8 {C : CT} {d : Nat} {Z : State → Prop} (X : Cx C cX1_comesAgain RX1 none 6 (d + 1)) (φ : Nat) (this : Nat) (v1 : Int32) (v2 : Int32) (v3 : Int32) (v4 : Int32) (σ : St) (y : (Int32 × St) ⊕ (St)) (h : fX1_comesAgain_l8 φ this v1 v2 v3 v4 σ = some y) (kH : ∀ s : Int32 × St, y = .inl s → AW C 8 [(0, .inr (.inr (some this))), (1, .inl v1), (2, .inl v2), (3, .inl v3), (4, .inl s.1)] [] s.2 Z) (kE0 : ∀ e : St, y = .inr e → AW C 46 [] [] e Z) : AW C 8 [(0, .inr (.inr (some this))), (1, .inl v1), (2, .inl v2), (3, .inl v3), (4, .inl v4)] [] σ Z := by
  unfold fX1_comesAgain_l8 at h
  refine aw_iload X dX1_comesAgain_8 4 rfl ?_
  refine aw_iload_n X dX1_comesAgain_10 2 2 rfl rfl ?_
  refine aw_icmp_ge X 46 dX1_comesAgain_11 rfl (fun c2 => ?_) (fun c2 => ?_)
  · rw [if_pos c2] at h
    cases h
    refine aw_sub [] [] rfl ?_
    exact kE0 σ rfl
  · rw [if_neg c2] at h
    refine aw_iload_n X dX1_comesAgain_14 1 1 rfl rfl ?_
    refine aw_istore X dX1_comesAgain_15 (by decide) [(5, .inl v1), (0, .inr (.inr (some this))), (1, .inl v1), (2, .inl v2), (3, .inl v3), (4, .inl v4)] rfl ?_
    obtain ⟨e7, h8, h⟩ := bind_some h
    refine aw_sub [(0, .inr (.inr (some this))), (1, .inl v1), (2, .inl v2), (3, .inl v3), (4, .inl v4), (5, .inl v1)] [1, 2, 3, 4, 5, 0] rfl ?_
    refine aw_it (fun s => AW C 17 [(0, .inr (.inr (some this))), (1, .inl v1), (2, .inl v2), (3, .inl v3), (4, .inl v4), (5, .inl s.1)] [] s.2 Z) (fun e => AW C 40 [(0, .inr (.inr (some this))), (1, .inl v1), (2, .inl v2), (3, .inl v3), (4, .inl v4)] [] e Z) (fun s r hr kH kE => wX1_comesAgain_l17 X φ this v1 v2 v3 v4 s.1 s.2 r hr kH kE) φ _ e7 h8 ?_
    refine aw_iinc X dX1_comesAgain_40 4 rfl (1 : Int32) rfl (by decide) [(4, .inl (v4 + (1 : Int32))), (0, .inr (.inr (some this))), (1, .inl v1), (2, .inl v2), (3, .inl v3)] rfl ?_
    refine aw_goto X 8 dX1_comesAgain_43 rfl ?_
    cases h
    refine aw_sub [(0, .inr (.inr (some this))), (1, .inl v1), (2, .inl v2), (3, .inl v3), (4, .inl (v4 + (1 : Int32)))] [1, 2, 3, 4, 0] rfl ?_
    exact kH ((v4 + (1 : Int32)), e7) rfl
theorem wX1_comesAgain {C : CT} {d : Nat} (X : Cx C cX1_comesAgain RX1 none 6 (d + 1)) (φ : Nat) (this : Nat) (v1 : Int32) (v2 : Int32) (σ : St) (y : St) (h : fX1_comesAgain φ this v1 v2 σ = some y) : AW C 0 [(0, .inr (.inr (some this))), (1, .inl v1), (2, .inl v2)] [] σ (AQ C none y) := by
  unfold fX1_comesAgain at h
  refine aw_aload_n X dX1_comesAgain_0 0 0 rfl rfl ?_
  obtain ⟨x1, hx1, h⟩ := bind_some h
  refine aw_gfI X fl_X1_151 dX1_comesAgain_1 hx1 ?_
  refine aw_istore_n X dX1_comesAgain_4 3 rfl (by decide) [(3, .inl x1), (0, .inr (.inr (some this))), (1, .inl v1), (2, .inl v2)] rfl ?_
  refine aw_iconst X (0 : Int32) dX1_comesAgain_5 (by decide) ?_
  refine aw_istore X dX1_comesAgain_6 (by decide) [(4, .inl (0 : Int32)), (3, .inl x1), (0, .inr (.inr (some this))), (1, .inl v1), (2, .inl v2)] rfl ?_
  obtain ⟨e9, h10, h⟩ := bind_some h
  refine aw_sub [(0, .inr (.inr (some this))), (1, .inl v1), (2, .inl v2), (3, .inl x1), (4, .inl (0 : Int32))] [2, 3, 4, 1, 0] rfl ?_
  refine aw_it (fun s => AW C 8 [(0, .inr (.inr (some this))), (1, .inl v1), (2, .inl v2), (3, .inl x1), (4, .inl s.1)] [] s.2 (AQ C none y)) (fun e => AW C 46 [] [] e (AQ C none y)) (fun s r hr kH kE => wX1_comesAgain_l8 X φ this v1 v2 x1 s.1 s.2 r hr kH kE) φ _ e9 h10 ?_
  cases h
  exact aw_vret X dX1_comesAgain_46
theorem AX1_comesAgain {E : AE} {l : Launch} (hE : EOK E l) (φ d : Nat) (this : Nat) (v1 : Int32) (v2 : Int32) (σ : St) (y : St) (h : fX1_comesAgain φ this v1 v2 σ = some y) : AMet E l yX1_comesAgain (ws_ yX1_comesAgain cX1_comesAgain 6 none) (d + 1) [.inr (.inr (some this)), .inl v1, .inl v2] σ none y := by
  refine amet_of hE (by decide +kernel) (Nat.le_of_ble_eq_true rfl) fun C e1 e2 X XI => ?_
  subst e1
  exact wX1_comesAgain X φ this v1 v2 σ y h
theorem wX1_faultOf_l21 {C : CT} {d : Nat} {Z : State → Prop} (X : Cx C cX1_faultOf RX1 (some .int) 8 (d + 2)) (φ : Nat) (this : Nat) (v1 : Int32) (v2 : Int32) (σ : St) (v3 : Int32) (y : (Int32) ⊕ (Int32)) (h : fX1_faultOf_l21 φ this v1 v2 σ v3 = some y) (kH : ∀ s : Int32, y = .inl s → AW C 21 [(0, .inr (.inr (some this))), (1, .inl v1), (2, .inl v2), (3, .inl s)] [] σ Z) (kE0 : ∀ e : Int32, y = .inr e → AW C 38 [(0, .inr (.inr (some this))), (1, .inl v1), (2, .inl v2), (3, .inl e)] [] σ Z) : AW C 21 [(0, .inr (.inr (some this))), (1, .inl v1), (2, .inl v2), (3, .inl v3)] [] σ Z := by
  unfold fX1_faultOf_l21 at h
  refine aw_aload_n X dX1_faultOf_21 0 0 rfl rfl ?_
  refine aw_iload_n X dX1_faultOf_22 1 1 rfl rfl ?_
  refine aw_iload_n X dX1_faultOf_23 3 3 rfl rfl ?_
  obtain ⟨y5, hy5, h⟩ := bind_some h
  refine aw_cV X (st := []) hy5 [.inl v1, .inl v3] rfl rfl ml_X1_172 (fun o h => AX1_byteAt (Cx.ok X) φ (d + 1) _ _ _ _ _ h) dX1_faultOf_24 (Nat.le_of_ble_eq_true rfl) ?_
  refine aw_bipush X (32 : Int32) dX1_faultOf_27 (by decide) ?_
  refine aw_icmp_ne X 38 dX1_faultOf_29 rfl (fun c6 => ?_) (fun c6 => ?_)
  · rw [if_neg c6] at h
    cases h
    exact kE0 v3 rfl
  · rw [if_pos c6] at h
    refine aw_iinc X dX1_faultOf_32 3 rfl (1 : Int32) rfl (by decide) [(3, .inl (v3 + (1 : Int32))), (0, .inr (.inr (some this))), (1, .inl v1), (2, .inl v2)] rfl ?_
    refine aw_goto X 21 dX1_faultOf_35 rfl ?_
    cases h
    refine aw_sub [(0, .inr (.inr (some this))), (1, .inl v1), (2, .inl v2), (3, .inl (v3 + (1 : Int32)))] [1, 2, 3, 0] rfl ?_
    exact kH (v3 + (1 : Int32)) rfl
theorem wX1_faultOf_b202 {C : CT} {d : Nat} {Z : State → Prop} (X : Cx C cX1_faultOf RX1 (some .int) 8 (d + 2)) (φ : Nat) (this : Nat) (v1 : Int32) (v2 : Int32) (v4 : Int32) (v6 : Int32) (v7 : Int32) (k0 : Int32) (k1 : Int32) (σ : St) (y : (Int32 × Int32 × Int32 × St) ⊕ ((Int32 × Int32 × St) ⊕ (Int32 × St))) (h : fX1_faultOf_b202 φ this v1 v2 v4 v6 v7 k0 k1 σ = some y) (kH : ∀ s : Int32 × Int32 × Int32 × St, y = .inl s → AW C 41 [(0, .inr (.inr (some this))), (1, .inl v1), (2, .inl s.1), (3, .inl s.2.1), (4, .inl s.2.2.1)] [] s.2.2.2 Z) (kE0 : ∀ e : Int32 × Int32 × St, y = .inr (.inl e) → AW C 239 [(0, .inr (.inr (some this))), (1, .inl v1), (2, .inl e.1), (3, .inl e.2.1)] [] e.2.2 Z) (kE1 : ∀ e : Int32 × St, y = .inr (.inr e) → AW C 234 [(3, .inl e.1)] [] e.2 Z) : AW C 202 [(0, .inr (.inr (some this))), (1, .inl v1), (2, .inl v2), (4, .inl v4), (6, .inl v6), (7, .inl v7)] [.inl k1, .inl k0] σ Z := by
  unfold fX1_faultOf_b202 at h
  refine aw_iadd X dX1_faultOf_202 ?_
  refine aw_istore_n X dX1_faultOf_203 3 rfl (by decide) [(3, .inl (k0 + k1)), (0, .inr (.inr (some this))), (1, .inl v1), (2, .inl v2), (4, .inl v4), (6, .inl v6), (7, .inl v7)] rfl ?_
  refine aw_aload_n X dX1_faultOf_204 1 0 rfl rfl ?_
  refine aw_iload X dX1_faultOf_205 5 rfl ?_
  refine aw_iload X dX1_faultOf_207 6 rfl ?_
  refine aw_iconst X (1 : Int32) dX1_faultOf_209 (by decide) ?_
  refine aw_isub X dX1_faultOf_210 ?_
  obtain ⟨y28, hy28, h⟩ := bind_some h
  refine aw_cV X (st := []) hy28 [.inl v6, .inl (v7 - (1 : Int32))] rfl rfl ml_X1_178 (fun o h => AX1_comesAgain (Cx.ok X) φ d _ _ _ _ _ h) dX1_faultOf_211 (Nat.le_of_ble_eq_true rfl) ?_
  refine aw_goto X 236 dX1_faultOf_214 rfl ?_
  refine aw_goto X 41 dX1_faultOf_236 rfl ?_
  cases h
  refine aw_sub [(0, .inr (.inr (some this))), (1, .inl v1), (2, .inl v2), (3, .inl (k0 + k1)), (4, .inl v4)] [1, 2, 3, 0, 4] rfl ?_
  exact kH (v2, (k0 + k1), v4, y28) rfl
theorem wX1_faultOf_b170 {C : CT} {d : Nat} {Z : State → Prop} (X : Cx C cX1_faultOf RX1 (some .int) 8 (d + 2)) (φ : Nat) (this : Nat) (v1 : Int32) (v2 : Int32) (v3 : Int32) (v4 : Int32) (v6 : Int32) (σ : St) (y : (Int32 × Int32 × Int32 × St) ⊕ ((Int32 × Int32 × St) ⊕ (Int32 × St))) (h : fX1_faultOf_b170 φ this v1 v2 v3 v4 v6 σ = some y) (kH : ∀ s : Int32 × Int32 × Int32 × St, y = .inl s → AW C 41 [(0, .inr (.inr (some this))), (1, .inl v1), (2, .inl s.1), (3, .inl s.2.1), (4, .inl s.2.2.1)] [] s.2.2.2 Z) (kE0 : ∀ e : Int32 × Int32 × St, y = .inr (.inl e) → AW C 239 [(0, .inr (.inr (some this))), (1, .inl v1), (2, .inl e.1), (3, .inl e.2.1)] [] e.2.2 Z) (kE1 : ∀ e : Int32 × St, y = .inr (.inr e) → AW C 234 [(3, .inl e.1)] [] e.2 Z) : AW C 170 [(0, .inr (.inr (some this))), (1, .inl v1), (2, .inl v2), (3, .inl v3), (4, .inl v4), (6, .inl v6)] [] σ Z := by
  unfold fX1_faultOf_b170 at h
  refine aw_aload_n X dX1_faultOf_170 0 0 rfl rfl ?_
  obtain ⟨x23, hx23, h⟩ := bind_some h
  refine aw_gfR X fl_X1_50 dX1_faultOf_171 hx23 ?_
  refine aw_iload_n X dX1_faultOf_174 2 2 rfl rfl ?_
  refine aw_dup2 X dX1_faultOf_175 rfl rfl ?_
  obtain ⟨x24, hx24, h⟩ := bind_some h
  refine aw_iald X dX1_faultOf_176 hx24 ?_
  refine aw_iconst X (1 : Int32) dX1_faultOf_177 (by decide) ?_
  refine aw_iadd X dX1_faultOf_178 ?_
  obtain ⟨s25, hs25, h⟩ := bind_some h
  refine aw_iast X dX1_faultOf_179 hs25 ?_
  refine aw_iinc X dX1_faultOf_180 3 rfl (1 : Int32) rfl (by decide) [(3, .inl (v3 + (1 : Int32))), (0, .inr (.inr (some this))), (1, .inl v1), (2, .inl v2), (4, .inl v4), (6, .inl v6)] rfl ?_
  refine aw_aload_n X dX1_faultOf_183 1 0 rfl rfl ?_
  refine aw_iload_n X dX1_faultOf_184 2 1 rfl rfl ?_
  refine aw_iload_n X dX1_faultOf_185 0 3 rfl rfl ?_
  obtain ⟨y26, hy26, h⟩ := bind_some h
  refine aw_cV X (st := []) hy26 [.inl v1, .inl (v3 + (1 : Int32))] rfl rfl ml_X1_175 (fun o h => AX1_figureAt (Cx.ok X) φ d _ _ _ _ _ h) dX1_faultOf_186 (Nat.le_of_ble_eq_true rfl) ?_
  refine aw_istore X dX1_faultOf_189 (by decide) [(7, .inl y26), (3, .inl (v3 + (1 : Int32))), (0, .inr (.inr (some this))), (1, .inl v1), (2, .inl v2), (4, .inl v4), (6, .inl v6)] rfl ?_
  refine aw_iload_n X dX1_faultOf_191 1 3 rfl rfl ?_
  refine aw_iload X dX1_faultOf_192 0 rfl ?_
  refine aw_if_le X 201 dX1_faultOf_194 rfl (fun c27 => ?_) (fun c27 => ?_)
  · rw [if_pos c27] at h
    refine aw_iconst X (0 : Int32) dX1_faultOf_201 (by decide) ?_
    refine aw_sub [(0, .inr (.inr (some this))), (1, .inl v1), (2, .inl v2), (4, .inl v4), (6, .inl v6), (7, .inl y26)] [2, 3, 4, 5, 6, 0] rfl ?_
    exact wX1_faultOf_b202 X φ this v1 v2 v4 v6 y26 (v3 + (1 : Int32)) (0 : Int32) s25 y h kH kE0 kE1
  · rw [if_neg c27] at h
    refine aw_iconst X (1 : Int32) dX1_faultOf_197 (by decide) ?_
    refine aw_goto X 202 dX1_faultOf_198 rfl ?_
    refine aw_sub [(0, .inr (.inr (some this))), (1, .inl v1), (2, .inl v2), (4, .inl v4), (6, .inl v6), (7, .inl y26)] [2, 3, 4, 5, 6, 0] rfl ?_
    exact wX1_faultOf_b202 X φ this v1 v2 v4 v6 y26 (v3 + (1 : Int32)) (1 : Int32) s25 y h kH kE0 kE1
theorem wX1_faultOf_b140 {C : CT} {d : Nat} {Z : State → Prop} (X : Cx C cX1_faultOf RX1 (some .int) 8 (d + 2)) (φ : Nat) (this : Nat) (v1 : Int32) (v2 : Int32) (v3 : Int32) (v4 : Int32) (v5 : Int32) (v6 : Int32) (σ : St) (y : (Int32 × Int32 × Int32 × St) ⊕ ((Int32 × Int32 × St) ⊕ (Int32 × St))) (h : fX1_faultOf_b140 φ this v1 v2 v3 v4 v5 v6 σ = some y) (kH : ∀ s : Int32 × Int32 × Int32 × St, y = .inl s → AW C 41 [(0, .inr (.inr (some this))), (1, .inl v1), (2, .inl s.1), (3, .inl s.2.1), (4, .inl s.2.2.1)] [] s.2.2.2 Z) (kE0 : ∀ e : Int32 × Int32 × St, y = .inr (.inl e) → AW C 239 [(0, .inr (.inr (some this))), (1, .inl v1), (2, .inl e.1), (3, .inl e.2.1)] [] e.2.2 Z) (kE1 : ∀ e : Int32 × St, y = .inr (.inr e) → AW C 234 [(3, .inl e.1)] [] e.2 Z) : AW C 140 [(0, .inr (.inr (some this))), (1, .inl v1), (2, .inl v2), (3, .inl v3), (4, .inl v4), (5, .inl v5), (6, .inl v6)] [] σ Z := by
  unfold fX1_faultOf_b140 at h
  refine aw_iload X dX1_faultOf_140 5 rfl ?_
  refine aw_bipush X (41 : Int32) dX1_faultOf_142 (by decide) ?_
  refine aw_icmp_ne X 161 dX1_faultOf_144 rfl (fun c21 => ?_) (fun c21 => ?_)
  · rw [if_neg c21] at h
    refine aw_aload_n X dX1_faultOf_161 0 0 rfl rfl ?_
    refine aw_iload X dX1_faultOf_162 5 rfl ?_
    refine aw_bipush X (97 : Int32) dX1_faultOf_164 (by decide) ?_
    refine aw_isub X dX1_faultOf_166 ?_
    obtain ⟨y22, hy22, h⟩ := bind_some h
    refine aw_cV X (st := []) hy22 [.inl (v5 - (97 : Int32))] rfl rfl ml_X1_168 (fun o h => AX1_comesOn (Cx.ok X) φ (d + 1) _ _ _ _ h) dX1_faultOf_167 (Nat.le_of_ble_eq_true rfl) ?_
    refine aw_sub [(0, .inr (.inr (some this))), (1, .inl v1), (2, .inl v2), (3, .inl v3), (4, .inl v4), (6, .inl v6)] [0, 1, 2, 3, 4, 6] rfl ?_
    exact wX1_faultOf_b170 X φ this v1 v2 v3 v4 v6 y22 y h kH kE0 kE1
  · rw [if_pos c21] at h
    refine aw_aload_n X dX1_faultOf_147 0 0 rfl rfl ?_
    obtain ⟨x29, hx29, h⟩ := bind_some h
    refine aw_gfR X fl_X1_47 dX1_faultOf_148 hx29 ?_
    refine aw_iload_n X dX1_faultOf_151 2 2 rfl rfl ?_
    obtain ⟨x30, hx30, h⟩ := bind_some h
    refine aw_iald X dX1_faultOf_152 hx30 ?_
    refine aw_istore X dX1_faultOf_153 (by decide) [(6, .inl x30), (0, .inr (.inr (some this))), (1, .inl v1), (2, .inl v2), (3, .inl v3), (4, .inl v4), (5, .inl v5)] rfl ?_
    refine aw_iinc X dX1_faultOf_155 3 rfl (-1 : Int32) rfl (by decide) [(2, .inl (v2 + (-1 : Int32))), (6, .inl x30), (0, .inr (.inr (some this))), (1, .inl v1), (3, .inl v3), (4, .inl v4), (5, .inl v5)] rfl ?_
    refine aw_goto X 170 dX1_faultOf_158 rfl ?_
    refine aw_sub [(0, .inr (.inr (some this))), (1, .inl v1), (2, .inl (v2 + (-1 : Int32))), (3, .inl v3), (4, .inl v4), (6, .inl x30)] [2, 3, 0, 4, 5, 1] rfl ?_
    exact wX1_faultOf_b170 X φ this v1 (v2 + (-1 : Int32)) v3 v4 x30 σ y h kH kE0 kE1
theorem wX1_faultOf_b128 {C : CT} {d : Nat} {Z : State → Prop} (X : Cx C cX1_faultOf RX1 (some .int) 8 (d + 2)) (φ : Nat) (this : Nat) (v1 : Int32) (v2 : Int32) (v3 : Int32) (v4 : Int32) (v5 : Int32) (v6 : Int32) (σ : St) (y : (Int32 × Int32 × Int32 × St) ⊕ ((Int32 × Int32 × St) ⊕ (Int32 × St))) (h : fX1_faultOf_b128 φ this v1 v2 v3 v4 v5 v6 σ = some y) (kH : ∀ s : Int32 × Int32 × Int32 × St, y = .inl s → AW C 41 [(0, .inr (.inr (some this))), (1, .inl v1), (2, .inl s.1), (3, .inl s.2.1), (4, .inl s.2.2.1)] [] s.2.2.2 Z) (kE0 : ∀ e : Int32 × Int32 × St, y = .inr (.inl e) → AW C 239 [(0, .inr (.inr (some this))), (1, .inl v1), (2, .inl e.1), (3, .inl e.2.1)] [] e.2.2 Z) (kE1 : ∀ e : Int32 × St, y = .inr (.inr e) → AW C 234 [(3, .inl e.1)] [] e.2 Z) : AW C 128 [(0, .inr (.inr (some this))), (1, .inl v1), (2, .inl v2), (3, .inl v3), (4, .inl v4), (5, .inl v5), (6, .inl v6)] [] σ Z := by
  unfold fX1_faultOf_b128 at h
  refine aw_aload_n X dX1_faultOf_128 0 0 rfl rfl ?_
  refine aw_iload X dX1_faultOf_129 5 rfl ?_
  refine aw_bipush X (97 : Int32) dX1_faultOf_131 (by decide) ?_
  refine aw_isub X dX1_faultOf_133 ?_
  obtain ⟨y17, hy17, h⟩ := bind_some h
  refine aw_cV X (st := []) hy17 [.inl (v5 - (97 : Int32))] rfl rfl ml_X1_157 (fun o h => AX1_isLetter (Cx.ok X) φ d _ _ _ _ h) dX1_faultOf_134 (Nat.le_of_ble_eq_true rfl) ?_
  refine aw_if_eq X 217 dX1_faultOf_137 rfl (fun c18 => ?_) (fun c18 => ?_)
  · rw [if_pos c18] at h
    refine aw_iload X dX1_faultOf_217 5 rfl ?_
    refine aw_bipush X (32 : Int32) dX1_faultOf_219 (by decide) ?_
    refine aw_icmp_ne X 234 dX1_faultOf_221 rfl (fun c19 => ?_) (fun c19 => ?_)
    · rw [if_neg c19] at h
      cases h
      refine aw_sub [(3, .inl v3)] [3] rfl ?_
      exact kE1 (v3, σ) rfl
    · rw [if_pos c19] at h
      refine aw_iload_n X dX1_faultOf_224 2 2 rfl rfl ?_
      refine aw_if_ne X 234 dX1_faultOf_225 rfl (fun c20 => ?_) (fun c20 => ?_)
      · rw [if_neg c20] at h
        cases h
        refine aw_sub [(3, .inl v3)] [3] rfl ?_
        exact kE1 (v3, σ) rfl
      · rw [if_pos c20] at h
        refine aw_iconst X (0 : Int32) dX1_faultOf_228 (by decide) ?_
        refine aw_istore X dX1_faultOf_229 (by decide) [(4, .inl (0 : Int32)), (0, .inr (.inr (some this))), (1, .inl v1), (2, .inl v2), (3, .inl v3), (5, .inl v5), (6, .inl v6)] rfl ?_
        refine aw_goto X 236 dX1_faultOf_231 rfl ?_
        refine aw_goto X 41 dX1_faultOf_236 rfl ?_
        cases h
        refine aw_sub [(0, .inr (.inr (some this))), (1, .inl v1), (2, .inl v2), (3, .inl v3), (4, .inl (0 : Int32))] [1, 2, 3, 4, 0] rfl ?_
        exact kH (v2, v3, (0 : Int32), σ) rfl
  · rw [if_neg c18] at h
    exact wX1_faultOf_b140 X φ this v1 v2 v3 v4 v5 v6 σ y h kH kE0 kE1
theorem wX1_faultOf_b108 {C : CT} {d : Nat} {Z : State → Prop} (X : Cx C cX1_faultOf RX1 (some .int) 8 (d + 2)) (φ : Nat) (this : Nat) (v1 : Int32) (v2 : Int32) (v3 : Int32) (v4 : Int32) (v5 : Int32) (v6 : Int32) (σ : St) (y : (Int32 × Int32 × Int32 × St) ⊕ ((Int32 × Int32 × St) ⊕ (Int32 × St))) (h : fX1_faultOf_b108 φ this v1 v2 v3 v4 v5 v6 σ = some y) (kH : ∀ s : Int32 × Int32 × Int32 × St, y = .inl s → AW C 41 [(0, .inr (.inr (some this))), (1, .inl v1), (2, .inl s.1), (3, .inl s.2.1), (4, .inl s.2.2.1)] [] s.2.2.2 Z) (kE0 : ∀ e : Int32 × Int32 × St, y = .inr (.inl e) → AW C 239 [(0, .inr (.inr (some this))), (1, .inl v1), (2, .inl e.1), (3, .inl e.2.1)] [] e.2.2 Z) (kE1 : ∀ e : Int32 × St, y = .inr (.inr e) → AW C 234 [(3, .inl e.1)] [] e.2 Z) : AW C 108 [(0, .inr (.inr (some this))), (1, .inl v1), (2, .inl v2), (3, .inl v3), (4, .inl v4), (5, .inl v5), (6, .inl v6)] [] σ Z := by
  unfold fX1_faultOf_b108 at h
  refine aw_iload X dX1_faultOf_108 5 rfl ?_
  refine aw_bipush X (41 : Int32) dX1_faultOf_110 (by decide) ?_
  refine aw_icmp_ne X 128 dX1_faultOf_112 rfl (fun c16 => ?_) (fun c16 => ?_)
  · rw [if_neg c16] at h
    exact wX1_faultOf_b128 X φ this v1 v2 v3 v4 v5 v6 σ y h kH kE0 kE1
  · rw [if_pos c16] at h
    refine aw_iload_n X dX1_faultOf_115 2 2 rfl rfl ?_
    refine aw_if_le X 128 dX1_faultOf_116 rfl (fun c31 => ?_) (fun c31 => ?_)
    · rw [if_pos c31] at h
      exact wX1_faultOf_b128 X φ this v1 v2 v3 v4 v5 v6 σ y h kH kE0 kE1
    · rw [if_neg c31] at h
      refine aw_aload_n X dX1_faultOf_119 0 0 rfl rfl ?_
      obtain ⟨x32, hx32, h⟩ := bind_some h
      refine aw_gfR X fl_X1_50 dX1_faultOf_120 hx32 ?_
      refine aw_iload_n X dX1_faultOf_123 2 2 rfl rfl ?_
      obtain ⟨x33, hx33, h⟩ := bind_some h
      refine aw_iald X dX1_faultOf_124 hx33 ?_
      refine aw_if_gt X 140 dX1_faultOf_125 rfl (fun c34 => ?_) (fun c34 => ?_)
      · rw [if_pos c34] at h
        exact wX1_faultOf_b140 X φ this v1 v2 v3 v4 v5 v6 σ y h kH kE0 kE1
      · rw [if_neg c34] at h
        exact wX1_faultOf_b128 X φ this v1 v2 v3 v4 v5 v6 σ y h kH kE0 kE1
theorem wX1_faultOf_l41 {C : CT} {d : Nat} {Z : State → Prop} (X : Cx C cX1_faultOf RX1 (some .int) 8 (d + 2)) (φ : Nat) (this : Nat) (v1 : Int32) (v2 : Int32) (v3 : Int32) (v4 : Int32) (σ : St) (y : (Int32 × Int32 × Int32 × St) ⊕ ((Int32 × Int32 × St) ⊕ (Int32 × St))) (h : fX1_faultOf_l41 φ this v1 v2 v3 v4 σ = some y) (kH : ∀ s : Int32 × Int32 × Int32 × St, y = .inl s → AW C 41 [(0, .inr (.inr (some this))), (1, .inl v1), (2, .inl s.1), (3, .inl s.2.1), (4, .inl s.2.2.1)] [] s.2.2.2 Z) (kE0 : ∀ e : Int32 × Int32 × St, y = .inr (.inl e) → AW C 239 [(0, .inr (.inr (some this))), (1, .inl v1), (2, .inl e.1), (3, .inl e.2.1)] [] e.2.2 Z) (kE1 : ∀ e : Int32 × St, y = .inr (.inr e) → AW C 234 [(3, .inl e.1)] [] e.2 Z) : AW C 41 [(0, .inr (.inr (some this))), (1, .inl v1), (2, .inl v2), (3, .inl v3), (4, .inl v4)] [] σ Z := by
  unfold fX1_faultOf_l41 at h
  refine aw_iload_n X dX1_faultOf_41 3 3 rfl rfl ?_
  refine aw_aload_n X dX1_faultOf_42 0 0 rfl rfl ?_
  obtain ⟨x9, hx9, h⟩ := bind_some h
  refine aw_gfR X fl_X1_22 dX1_faultOf_43 hx9 ?_
  refine aw_iload_n X dX1_faultOf_46 1 1 rfl rfl ?_
  obtain ⟨x10, hx10, h⟩ := bind_some h
  refine aw_iald X dX1_faultOf_47 hx10 ?_
  refine aw_icmp_ge X 239 dX1_faultOf_48 rfl (fun c11 => ?_) (fun c11 => ?_)
  · rw [if_pos c11] at h
    cases h
    refine aw_sub [(0, .inr (.inr (some this))), (1, .inl v1), (2, .inl v2), (3, .inl v3)] [0, 1, 2, 3] rfl ?_
    exact kE0 (v2, v3, σ) rfl
  · rw [if_neg c11] at h
    refine aw_iload X dX1_faultOf_51 4 rfl ?_
    refine aw_if_eq X 239 dX1_faultOf_53 rfl (fun c12 => ?_) (fun c12 => ?_)
    · rw [if_pos c12] at h
      cases h
      refine aw_sub [(0, .inr (.inr (some this))), (1, .inl v1), (2, .inl v2), (3, .inl v3)] [0, 1, 2, 3] rfl ?_
      exact kE0 (v2, v3, σ) rfl
    · rw [if_neg c12] at h
      refine aw_aload_n X dX1_faultOf_56 0 0 rfl rfl ?_
      refine aw_iload_n X dX1_faultOf_57 1 1 rfl rfl ?_
      refine aw_iload_n X dX1_faultOf_58 3 3 rfl rfl ?_
      obtain ⟨y13, hy13, h⟩ := bind_some h
      refine aw_cV X (st := []) hy13 [.inl v1, .inl v3] rfl rfl ml_X1_172 (fun o h => AX1_byteAt (Cx.ok X) φ (d + 1) _ _ _ _ _ h) dX1_faultOf_59 (Nat.le_of_ble_eq_true rfl) ?_
      refine aw_istore X dX1_faultOf_62 (by decide) [(5, .inl y13), (0, .inr (.inr (some this))), (1, .inl v1), (2, .inl v2), (3, .inl v3), (4, .inl v4)] rfl ?_
      refine aw_aload_n X dX1_faultOf_64 1 0 rfl rfl ?_
      obtain ⟨x14, hx14, h⟩ := bind_some h
      refine aw_gfI X fl_X1_151 dX1_faultOf_65 hx14 ?_
      refine aw_istore X dX1_faultOf_68 (by decide) [(6, .inl x14), (5, .inl y13), (0, .inr (.inr (some this))), (1, .inl v1), (2, .inl v2), (3, .inl v3), (4, .inl v4)] rfl ?_
      refine aw_iload X dX1_faultOf_70 1 rfl ?_
      refine aw_bipush X (40 : Int32) dX1_faultOf_72 (by decide) ?_
      refine aw_icmp_ne X 108 dX1_faultOf_74 rfl (fun c15 => ?_) (fun c15 => ?_)
      · rw [if_neg c15] at h
        refine aw_sub [(0, .inr (.inr (some this))), (1, .inl v1), (2, .inl v2), (3, .inl v3), (4, .inl v4), (5, .inl y13), (6, .inl x14)] [2, 3, 4, 5, 6, 1, 0] rfl ?_
        exact wX1_faultOf_b108 X φ this v1 v2 v3 v4 y13 x14 σ y h kH kE0 kE1
      · rw [if_pos c15] at h
        refine aw_iload_n X dX1_faultOf_77 4 2 rfl rfl ?_
        refine aw_iconst X (4 : Int32) dX1_faultOf_78 (by decide) ?_
        refine aw_icmp_ge X 108 dX1_faultOf_79 rfl (fun c35 => ?_) (fun c35 => ?_)
        · rw [if_pos c35] at h
          refine aw_sub [(0, .inr (.inr (some this))), (1, .inl v1), (2, .inl v2), (3, .inl v3), (4, .inl v4), (5, .inl y13), (6, .inl x14)] [2, 3, 4, 5, 6, 1, 0] rfl ?_
          exact wX1_faultOf_b108 X φ this v1 v2 v3 v4 y13 x14 σ y h kH kE0 kE1
        · rw [if_neg c35] at h
          refine aw_iinc X dX1_faultOf_82 4 rfl (1 : Int32) rfl (by decide) [(2, .inl (v2 + (1 : Int32))), (6, .inl x14), (5, .inl y13), (0, .inr (.inr (some this))), (1, .inl v1), (3, .inl v3), (4, .inl v4)] rfl ?_
          refine aw_aload_n X dX1_faultOf_85 3 0 rfl rfl ?_
          obtain ⟨x36, hx36, h⟩ := bind_some h
          refine aw_gfR X fl_X1_47 dX1_faultOf_86 hx36 ?_
          refine aw_iload_n X dX1_faultOf_89 0 2 rfl rfl ?_
          refine aw_aload_n X dX1_faultOf_90 3 0 rfl rfl ?_
          obtain ⟨x37, hx37, h⟩ := bind_some h
          refine aw_gfI X fl_X1_151 dX1_faultOf_91 hx37 ?_
          obtain ⟨s38, hs38, h⟩ := bind_some h
          refine aw_iast X dX1_faultOf_94 hs38 ?_
          refine aw_aload_n X dX1_faultOf_95 3 0 rfl rfl ?_
          obtain ⟨x39, hx39, h⟩ := bind_some h
          refine aw_gfR X fl_X1_50 dX1_faultOf_96 hx39 ?_
          refine aw_iload_n X dX1_faultOf_99 0 2 rfl rfl ?_
          refine aw_iconst X (0 : Int32) dX1_faultOf_100 (by decide) ?_
          obtain ⟨s40, hs40, h⟩ := bind_some h
          refine aw_iast X dX1_faultOf_101 hs40 ?_
          refine aw_iinc X dX1_faultOf_102 5 rfl (1 : Int32) rfl (by decide) [(3, .inl (v3 + (1 : Int32))), (2, .inl (v2 + (1 : Int32))), (6, .inl x14), (5, .inl y13), (0, .inr (.inr (some this))), (1, .inl v1), (4, .inl v4)] rfl ?_
          refine aw_goto X 236 dX1_faultOf_105 rfl ?_
          refine aw_goto X 41 dX1_faultOf_236 rfl ?_
          cases h
          refine aw_sub [(0, .inr (.inr (some this))), (1, .inl v1), (2, .inl (v2 + (1 : Int32))), (3, .inl (v3 + (1 : Int32))), (4, .inl v4)] [4, 5, 1, 0, 6] rfl ?_
          exact kH ((v2 + (1 : Int32)), (v3 + (1 : Int32)), v4, s40) rfl
theorem wX1_faultOf_l239 {C : CT} {d : Nat} {Z : State → Prop} (X : Cx C cX1_faultOf RX1 (some .int) 8 (d + 2)) (φ : Nat) (this : Nat) (v1 : Int32) (v2 : Int32) (σ : St) (v3 : Int32) (y : (Int32) ⊕ (Int32)) (h : fX1_faultOf_l239 φ this v1 v2 σ v3 = some y) (kH : ∀ s : Int32, y = .inl s → AW C 239 [(0, .inr (.inr (some this))), (1, .inl v1), (2, .inl v2), (3, .inl s)] [] σ Z) (kE0 : ∀ e : Int32, y = .inr e → AW C 256 [(0, .inr (.inr (some this))), (1, .inl v1), (2, .inl v2), (3, .inl e)] [] σ Z) : AW C 239 [(0, .inr (.inr (some this))), (1, .inl v1), (2, .inl v2), (3, .inl v3)] [] σ Z := by
  unfold fX1_faultOf_l239 at h
  refine aw_aload_n X dX1_faultOf_239 0 0 rfl rfl ?_
  refine aw_iload_n X dX1_faultOf_240 1 1 rfl rfl ?_
  refine aw_iload_n X dX1_faultOf_241 3 3 rfl rfl ?_
  obtain ⟨y45, hy45, h⟩ := bind_some h
  refine aw_cV X (st := []) hy45 [.inl v1, .inl v3] rfl rfl ml_X1_172 (fun o h => AX1_byteAt (Cx.ok X) φ (d + 1) _ _ _ _ _ h) dX1_faultOf_242 (Nat.le_of_ble_eq_true rfl) ?_
  refine aw_bipush X (32 : Int32) dX1_faultOf_245 (by decide) ?_
  refine aw_icmp_ne X 256 dX1_faultOf_247 rfl (fun c46 => ?_) (fun c46 => ?_)
  · rw [if_neg c46] at h
    cases h
    exact kE0 v3 rfl
  · rw [if_pos c46] at h
    refine aw_iinc X dX1_faultOf_250 3 rfl (1 : Int32) rfl (by decide) [(3, .inl (v3 + (1 : Int32))), (0, .inr (.inr (some this))), (1, .inl v1), (2, .inl v2)] rfl ?_
    refine aw_goto X 239 dX1_faultOf_253 rfl ?_
    cases h
    refine aw_sub [(0, .inr (.inr (some this))), (1, .inl v1), (2, .inl v2), (3, .inl (v3 + (1 : Int32)))] [1, 2, 3, 0] rfl ?_
    exact kH (v3 + (1 : Int32)) rfl
theorem wX1_faultOf {C : CT} {d : Nat} (X : Cx C cX1_faultOf RX1 (some .int) 8 (d + 2)) (φ : Nat) (this : Nat) (v1 : Int32) (σ : St) (y : Int32 × St) (h : fX1_faultOf φ this v1 σ = some y) : AW C 0 [(0, .inr (.inr (some this))), (1, .inl v1)] [] σ (AQ C (some (.inl y.1)) y.2) := by
  unfold fX1_faultOf at h
  refine aw_aload_n X dX1_faultOf_0 0 0 rfl rfl ?_
  refine aw_iconst X (0 : Int32) dX1_faultOf_1 (by decide) ?_
  obtain ⟨s1, hs1, h⟩ := bind_some h
  refine aw_pfI X fl_X1_151 dX1_faultOf_2 hs1 ?_
  refine aw_aload_n X dX1_faultOf_5 0 0 rfl rfl ?_
  refine aw_iconst X (0 : Int32) dX1_faultOf_6 (by decide) ?_
  obtain ⟨s2, hs2, h⟩ := bind_some h
  refine aw_pfZ X fl_X1_164 dX1_faultOf_7 hs2 ?_
  refine aw_iconst X (0 : Int32) dX1_faultOf_10 (by decide) ?_
  refine aw_istore_n X dX1_faultOf_11 2 rfl (by decide) [(2, .inl (0 : Int32)), (0, .inr (.inr (some this))), (1, .inl v1)] rfl ?_
  refine aw_aload_n X dX1_faultOf_12 1 0 rfl rfl ?_
  obtain ⟨x3, hx3, h⟩ := bind_some h
  refine aw_gfR X fl_X1_50 dX1_faultOf_13 hx3 ?_
  refine aw_iconst X (0 : Int32) dX1_faultOf_16 (by decide) ?_
  refine aw_iconst X (0 : Int32) dX1_faultOf_17 (by decide) ?_
  obtain ⟨s4, hs4, h⟩ := bind_some h
  refine aw_iast X dX1_faultOf_18 hs4 ?_
  refine aw_iconst X (0 : Int32) dX1_faultOf_19 (by decide) ?_
  refine aw_istore_n X dX1_faultOf_20 3 rfl (by decide) [(3, .inl (0 : Int32)), (2, .inl (0 : Int32)), (0, .inr (.inr (some this))), (1, .inl v1)] rfl ?_
  obtain ⟨e7, h8, h⟩ := bind_some h
  refine aw_sub [(0, .inr (.inr (some this))), (1, .inl v1), (2, .inl (0 : Int32)), (3, .inl (0 : Int32))] [2, 3, 1, 0] rfl ?_
  refine aw_it (fun s => AW C 21 [(0, .inr (.inr (some this))), (1, .inl v1), (2, .inl (0 : Int32)), (3, .inl s)] [] s4 (AQ C (some (.inl y.1)) y.2)) (fun e => AW C 38 [(0, .inr (.inr (some this))), (1, .inl v1), (2, .inl (0 : Int32)), (3, .inl e)] [] s4 (AQ C (some (.inl y.1)) y.2)) (fun s r hr kH kE => wX1_faultOf_l21 X φ this v1 (0 : Int32) s4 s r hr kH kE) φ _ e7 h8 ?_
  refine aw_iconst X (1 : Int32) dX1_faultOf_38 (by decide) ?_
  refine aw_istore X dX1_faultOf_39 (by decide) [(4, .inl (1 : Int32)), (0, .inr (.inr (some this))), (1, .inl v1), (2, .inl (0 : Int32)), (3, .inl e7)] rfl ?_
  obtain ⟨e41, h42, h⟩ := bind_some h
  refine aw_sub [(0, .inr (.inr (some this))), (1, .inl v1), (2, .inl (0 : Int32)), (3, .inl e7), (4, .inl (1 : Int32))] [1, 2, 3, 4, 0] rfl ?_
  refine aw_it (fun s => AW C 41 [(0, .inr (.inr (some this))), (1, .inl v1), (2, .inl s.1), (3, .inl s.2.1), (4, .inl s.2.2.1)] [] s.2.2.2 (AQ C (some (.inl y.1)) y.2)) (fun e => match e with | (.inl e) => AW C 239 [(0, .inr (.inr (some this))), (1, .inl v1), (2, .inl e.1), (3, .inl e.2.1)] [] e.2.2 (AQ C (some (.inl y.1)) y.2) | (.inr e) => AW C 234 [(3, .inl e.1)] [] e.2 (AQ C (some (.inl y.1)) y.2)) (fun s r hr kH kE => wX1_faultOf_l41 X φ this v1 s.1 s.2.1 s.2.2.1 s.2.2.2 r hr kH (fun e he => kE (.inl e) he) (fun e he => kE (.inr e) he)) φ _ e41 h42 ?_
  rcases e41 with e43 | e44
  · obtain ⟨e47, h48, h⟩ := bind_some h
    refine aw_it (fun s => AW C 239 [(0, .inr (.inr (some this))), (1, .inl v1), (2, .inl e43.1), (3, .inl s)] [] e43.2.2 (AQ C (some (.inl y.1)) y.2)) (fun e => AW C 256 [(0, .inr (.inr (some this))), (1, .inl v1), (2, .inl e43.1), (3, .inl e)] [] e43.2.2 (AQ C (some (.inl y.1)) y.2)) (fun s r hr kH kE => wX1_faultOf_l239 X φ this v1 e43.1 e43.2.2 s r hr kH kE) φ _ e47 h48 ?_
    refine aw_iload_n X dX1_faultOf_256 3 3 rfl rfl ?_
    refine aw_aload_n X dX1_faultOf_257 0 0 rfl rfl ?_
    obtain ⟨x49, hx49, h⟩ := bind_some h
    refine aw_gfR X fl_X1_22 dX1_faultOf_258 hx49 ?_
    refine aw_iload_n X dX1_faultOf_261 1 1 rfl rfl ?_
    obtain ⟨x50, hx50, h⟩ := bind_some h
    refine aw_iald X dX1_faultOf_262 hx50 ?_
    refine aw_icmp_lt X 270 dX1_faultOf_263 rfl (fun c51 => ?_) (fun c51 => ?_)
    · rw [if_pos c51] at h
      refine aw_iload_n X dX1_faultOf_270 3 3 rfl rfl ?_
      refine aw_goto X 276 dX1_faultOf_271 rfl ?_
      cases h
      exact aw_iret X dX1_faultOf_276
    · rw [if_neg c51] at h
      refine aw_iload_n X dX1_faultOf_266 2 2 rfl rfl ?_
      refine aw_if_le X 274 dX1_faultOf_267 rfl (fun c52 => ?_) (fun c52 => ?_)
      · rw [if_pos c52] at h
        refine aw_bipush X (-9 : Int32) dX1_faultOf_274 (by decide) ?_
        cases h
        exact aw_iret X dX1_faultOf_276
      · rw [if_neg c52] at h
        refine aw_iload_n X dX1_faultOf_270 3 3 rfl rfl ?_
        refine aw_goto X 276 dX1_faultOf_271 rfl ?_
        cases h
        exact aw_iret X dX1_faultOf_276
  · refine aw_iload_n X dX1_faultOf_234 0 3 rfl rfl ?_
    cases h
    exact aw_iret X dX1_faultOf_235
theorem AX1_faultOf {E : AE} {l : Launch} (hE : EOK E l) (φ d : Nat) (this : Nat) (v1 : Int32) (σ : St) (y : Int32 × St) (h : fX1_faultOf φ this v1 σ = some y) : AMet E l yX1_faultOf (ws_ yX1_faultOf cX1_faultOf 8 (some .int)) (d + 2) [.inr (.inr (some this)), .inl v1] σ (some (.inl y.1)) y.2 := by
  refine amet_of hE (by decide +kernel) (Nat.le_of_ble_eq_true rfl) fun C e1 e2 X XI => ?_
  subst e1
  exact wX1_faultOf X φ this v1 σ y h
