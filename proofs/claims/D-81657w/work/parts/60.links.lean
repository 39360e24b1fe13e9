/-! links (written by gen2.py) -/
set_option maxRecDepth 100000
theorem fl_X0_1 : FLk RX0 1 0 0 0 0 false := by
  refine ⟨by decide, fun c h1 h2 => ?_⟩
  match c, h1, h2 with
  | 0, _, _ => exact ⟨_, rfl, by decide, rfl, rfl, q115, fun _ => rfl⟩
  | c + 1, _, h => exact absurd h (by omega)

theorem fl_X0_7 : FLk RX0 7 0 0 1 3 true := by
  refine ⟨by decide, fun c h1 h2 => ?_⟩
  match c, h1, h2 with
  | 0, _, _ => exact ⟨_, rfl, by decide, rfl, rfl, q116, fun _ => rfl⟩
  | c + 1, _, h => exact absurd h (by omega)

theorem fl_X0_11 : FLk RX0 11 0 0 2 0 false := by
  refine ⟨by decide, fun c h1 h2 => ?_⟩
  match c, h1, h2 with
  | 0, _, _ => exact ⟨_, rfl, by decide, rfl, rfl, q117, fun _ => rfl⟩
  | c + 1, _, h => exact absurd h (by omega)

theorem fl_X0_14 : FLk RX0 14 0 0 3 2 false := by
  refine ⟨by decide, fun c h1 h2 => ?_⟩
  match c, h1, h2 with
  | 0, _, _ => exact ⟨_, rfl, by decide, rfl, rfl, q118, fun _ => rfl⟩
  | c + 1, _, h => exact absurd h (by omega)

theorem fl_X0_18 : FLk RX0 18 0 0 4 2 false := by
  refine ⟨by decide, fun c h1 h2 => ?_⟩
  match c, h1, h2 with
  | 0, _, _ => exact ⟨_, rfl, by decide, rfl, rfl, q119, fun _ => rfl⟩
  | c + 1, _, h => exact absurd h (by omega)

theorem fl_X0_21 : FLk RX0 21 0 0 5 2 false := by
  refine ⟨by decide, fun c h1 h2 => ?_⟩
  match c, h1, h2 with
  | 0, _, _ => exact ⟨_, rfl, by decide, rfl, rfl, q120, fun _ => rfl⟩
  | c + 1, _, h => exact absurd h (by omega)

theorem fl_X0_30 : FLk RX0 30 0 0 6 0 false := by
  refine ⟨by decide, fun c h1 h2 => ?_⟩
  match c, h1, h2 with
  | 0, _, _ => exact ⟨_, rfl, by decide, rfl, rfl, q121, fun _ => rfl⟩
  | c + 1, _, h => exact absurd h (by omega)

theorem fl_X0_34 : FLk RX0 34 0 0 7 3 true := by
  refine ⟨by decide, fun c h1 h2 => ?_⟩
  match c, h1, h2 with
  | 0, _, _ => exact ⟨_, rfl, by decide, rfl, rfl, q122, fun _ => rfl⟩
  | c + 1, _, h => exact absurd h (by omega)

theorem fl_X0_40 : FLk RX0 40 0 0 8 3 true := by
  refine ⟨by decide, fun c h1 h2 => ?_⟩
  match c, h1, h2 with
  | 0, _, _ => exact ⟨_, rfl, by decide, rfl, rfl, q123, fun _ => rfl⟩
  | c + 1, _, h => exact absurd h (by omega)

theorem fl_X0_46 : FLk RX0 46 0 0 9 3 true := by
  refine ⟨by decide, fun c h1 h2 => ?_⟩
  match c, h1, h2 with
  | 0, _, _ => exact ⟨_, rfl, by decide, rfl, rfl, q124, fun _ => rfl⟩
  | c + 1, _, h => exact absurd h (by omega)

theorem fl_X0_50 : FLk RX0 50 0 0 13 3 true := by
  refine ⟨by decide, fun c h1 h2 => ?_⟩
  match c, h1, h2 with
  | 0, _, _ => exact ⟨_, rfl, by decide, rfl, rfl, q128, fun _ => rfl⟩
  | c + 1, _, h => exact absurd h (by omega)

theorem fl_X0_53 : FLk RX0 53 0 0 14 3 true := by
  refine ⟨by decide, fun c h1 h2 => ?_⟩
  match c, h1, h2 with
  | 0, _, _ => exact ⟨_, rfl, by decide, rfl, rfl, q129, fun _ => rfl⟩
  | c + 1, _, h => exact absurd h (by omega)

theorem fl_X0_56 : FLk RX0 56 0 0 15 3 true := by
  refine ⟨by decide, fun c h1 h2 => ?_⟩
  match c, h1, h2 with
  | 0, _, _ => exact ⟨_, rfl, by decide, rfl, rfl, q130, fun _ => rfl⟩
  | c + 1, _, h => exact absurd h (by omega)

theorem fl_X0_59 : FLk RX0 59 0 0 16 3 true := by
  refine ⟨by decide, fun c h1 h2 => ?_⟩
  match c, h1, h2 with
  | 0, _, _ => exact ⟨_, rfl, by decide, rfl, rfl, q131, fun _ => rfl⟩
  | c + 1, _, h => exact absurd h (by omega)

theorem fl_X0_62 : FLk RX0 62 0 0 17 3 true := by
  refine ⟨by decide, fun c h1 h2 => ?_⟩
  match c, h1, h2 with
  | 0, _, _ => exact ⟨_, rfl, by decide, rfl, rfl, q132, fun _ => rfl⟩
  | c + 1, _, h => exact absurd h (by omega)

theorem fl_X0_65 : FLk RX0 65 0 0 18 3 true := by
  refine ⟨by decide, fun c h1 h2 => ?_⟩
  match c, h1, h2 with
  | 0, _, _ => exact ⟨_, rfl, by decide, rfl, rfl, q133, fun _ => rfl⟩
  | c + 1, _, h => exact absurd h (by omega)

theorem fl_X0_69 : FLk RX0 69 0 0 21 3 true := by
  refine ⟨by decide, fun c h1 h2 => ?_⟩
  match c, h1, h2 with
  | 0, _, _ => exact ⟨_, rfl, by decide, rfl, rfl, q136, fun _ => rfl⟩
  | c + 1, _, h => exact absurd h (by omega)

theorem fl_X0_72 : FLk RX0 72 0 0 22 3 true := by
  refine ⟨by decide, fun c h1 h2 => ?_⟩
  match c, h1, h2 with
  | 0, _, _ => exact ⟨_, rfl, by decide, rfl, rfl, q137, fun _ => rfl⟩
  | c + 1, _, h => exact absurd h (by omega)

theorem fl_X0_75 : FLk RX0 75 0 0 23 3 true := by
  refine ⟨by decide, fun c h1 h2 => ?_⟩
  match c, h1, h2 with
  | 0, _, _ => exact ⟨_, rfl, by decide, rfl, rfl, q138, fun _ => rfl⟩
  | c + 1, _, h => exact absurd h (by omega)

theorem fl_X0_78 : FLk RX0 78 0 0 27 3 true := by
  refine ⟨by decide, fun c h1 h2 => ?_⟩
  match c, h1, h2 with
  | 0, _, _ => exact ⟨_, rfl, by decide, rfl, rfl, q142, fun _ => rfl⟩
  | c + 1, _, h => exact absurd h (by omega)

theorem fl_X0_81 : FLk RX0 81 0 0 28 3 true := by
  refine ⟨by decide, fun c h1 h2 => ?_⟩
  match c, h1, h2 with
  | 0, _, _ => exact ⟨_, rfl, by decide, rfl, rfl, q143, fun _ => rfl⟩
  | c + 1, _, h => exact absurd h (by omega)

theorem fl_X0_84 : FLk RX0 84 0 0 29 3 true := by
  refine ⟨by decide, fun c h1 h2 => ?_⟩
  match c, h1, h2 with
  | 0, _, _ => exact ⟨_, rfl, by decide, rfl, rfl, q144, fun _ => rfl⟩
  | c + 1, _, h => exact absurd h (by omega)

theorem fl_X0_87 : FLk RX0 87 0 0 30 3 true := by
  refine ⟨by decide, fun c h1 h2 => ?_⟩
  match c, h1, h2 with
  | 0, _, _ => exact ⟨_, rfl, by decide, rfl, rfl, q145, fun _ => rfl⟩
  | c + 1, _, h => exact absurd h (by omega)

theorem fl_X0_90 : FLk RX0 90 0 0 31 3 true := by
  refine ⟨by decide, fun c h1 h2 => ?_⟩
  match c, h1, h2 with
  | 0, _, _ => exact ⟨_, rfl, by decide, rfl, rfl, q146, fun _ => rfl⟩
  | c + 1, _, h => exact absurd h (by omega)

theorem fl_X0_134 : FLkN RX0 134 2 6 0 3 := by
  refine ⟨by decide, fun c h1 h2 => ?_⟩
  match c, h1, h2 with
  | 2, _, _ => exact ⟨_, rfl, by decide, rfl, q432⟩
  | 3, _, _ => exact ⟨_, rfl, by decide, rfl, q432⟩
  | 4, _, _ => exact ⟨_, rfl, by decide, rfl, q432⟩
  | 5, _, _ => exact ⟨_, rfl, by decide, rfl, q432⟩
  | 6, _, _ => exact ⟨_, rfl, by decide, rfl, q432⟩
  | 0, h, _ => exact absurd h (by decide)
  | 1, h, _ => exact absurd h (by decide)
  | c + 7, _, h => exact absurd h (by omega)

theorem fl_X0_140 : FLk RX0 140 0 0 11 0 false := by
  refine ⟨by decide, fun c h1 h2 => ?_⟩
  match c, h1, h2 with
  | 0, _, _ => exact ⟨_, rfl, by decide, rfl, rfl, q126, fun _ => rfl⟩
  | c + 1, _, h => exact absurd h (by omega)

theorem fl_X0_143 : FLk RX0 143 0 0 10 3 false := by
  refine ⟨by decide, fun c h1 h2 => ?_⟩
  match c, h1, h2 with
  | 0, _, _ => exact ⟨_, rfl, by decide, rfl, rfl, q125, fun _ => rfl⟩
  | c + 1, _, h => exact absurd h (by omega)

theorem fl_X0_150 : FLk RX0 150 0 0 12 0 false := by
  refine ⟨by decide, fun c h1 h2 => ?_⟩
  match c, h1, h2 with
  | 0, _, _ => exact ⟨_, rfl, by decide, rfl, rfl, q127, fun _ => rfl⟩
  | c + 1, _, h => exact absurd h (by omega)

theorem fl_X0_213 : FLkN RX0 213 3 3 1 0 := by
  refine ⟨by decide, fun c h1 h2 => ?_⟩
  match c, h1, h2 with
  | 3, _, _ => exact ⟨_, rfl, by decide, rfl, q481⟩
  | 0, h, _ => exact absurd h (by decide)
  | 1, h, _ => exact absurd h (by decide)
  | 2, h, _ => exact absurd h (by decide)
  | c + 4, _, h => exact absurd h (by omega)

theorem fl_X0_216 : FLkN RX0 216 4 6 1 0 := by
  refine ⟨by decide, fun c h1 h2 => ?_⟩
  match c, h1, h2 with
  | 4, _, _ => exact ⟨_, rfl, by decide, rfl, q505⟩
  | 5, _, _ => exact ⟨_, rfl, by decide, rfl, q505⟩
  | 6, _, _ => exact ⟨_, rfl, by decide, rfl, q505⟩
  | 0, h, _ => exact absurd h (by decide)
  | 1, h, _ => exact absurd h (by decide)
  | 2, h, _ => exact absurd h (by decide)
  | 3, h, _ => exact absurd h (by decide)
  | c + 7, _, h => exact absurd h (by omega)

theorem fl_X0_219 : FLkN RX0 219 5 5 2 0 := by
  refine ⟨by decide, fun c h1 h2 => ?_⟩
  match c, h1, h2 with
  | 5, _, _ => exact ⟨_, rfl, by decide, rfl, q529⟩
  | 0, h, _ => exact absurd h (by decide)
  | 1, h, _ => exact absurd h (by decide)
  | 2, h, _ => exact absurd h (by decide)
  | 3, h, _ => exact absurd h (by decide)
  | 4, h, _ => exact absurd h (by decide)
  | c + 6, _, h => exact absurd h (by omega)

theorem fl_X0_222 : FLkN RX0 222 6 6 2 0 := by
  refine ⟨by decide, fun c h1 h2 => ?_⟩
  match c, h1, h2 with
  | 6, _, _ => exact ⟨_, rfl, by decide, rfl, q557⟩
  | 0, h, _ => exact absurd h (by decide)
  | 1, h, _ => exact absurd h (by decide)
  | 2, h, _ => exact absurd h (by decide)
  | 3, h, _ => exact absurd h (by decide)
  | 4, h, _ => exact absurd h (by decide)
  | 5, h, _ => exact absurd h (by decide)
  | c + 7, _, h => exact absurd h (by omega)

theorem fl_X0_259 : FLk RX0 259 0 0 19 0 false := by
  refine ⟨by decide, fun c h1 h2 => ?_⟩
  match c, h1, h2 with
  | 0, _, _ => exact ⟨_, rfl, by decide, rfl, rfl, q134, fun _ => rfl⟩
  | c + 1, _, h => exact absurd h (by omega)

theorem fl_X0_262 : FLk RX0 262 0 0 20 0 false := by
  refine ⟨by decide, fun c h1 h2 => ?_⟩
  match c, h1, h2 with
  | 0, _, _ => exact ⟨_, rfl, by decide, rfl, rfl, q135, fun _ => rfl⟩
  | c + 1, _, h => exact absurd h (by omega)

theorem fl_X0_272 : FLk RX0 272 0 0 24 0 false := by
  refine ⟨by decide, fun c h1 h2 => ?_⟩
  match c, h1, h2 with
  | 0, _, _ => exact ⟨_, rfl, by decide, rfl, rfl, q139, fun _ => rfl⟩
  | c + 1, _, h => exact absurd h (by omega)

theorem fl_X0_275 : FLk RX0 275 0 0 25 0 false := by
  refine ⟨by decide, fun c h1 h2 => ?_⟩
  match c, h1, h2 with
  | 0, _, _ => exact ⟨_, rfl, by decide, rfl, rfl, q140, fun _ => rfl⟩
  | c + 1, _, h => exact absurd h (by omega)

theorem fl_X0_281 : FLk RX0 281 0 0 26 0 false := by
  refine ⟨by decide, fun c h1 h2 => ?_⟩
  match c, h1, h2 with
  | 0, _, _ => exact ⟨_, rfl, by decide, rfl, rfl, q141, fun _ => rfl⟩
  | c + 1, _, h => exact absurd h (by omega)

theorem fl_X0_334 : FLk RX0 334 0 0 32 2 false := by
  refine ⟨by decide, fun c h1 h2 => ?_⟩
  match c, h1, h2 with
  | 0, _, _ => exact ⟨_, rfl, by decide, rfl, rfl, q147, fun _ => rfl⟩
  | c + 1, _, h => exact absurd h (by omega)

theorem fl_X6_9 : FLk RX6 9 6 6 2 0 true := by
  refine ⟨by decide, fun c h1 h2 => ?_⟩
  match c, h1, h2 with
  | 0, h, _ => exact absurd h (by decide)
  | 1, h, _ => exact absurd h (by decide)
  | 2, h, _ => exact absurd h (by decide)
  | 3, h, _ => exact absurd h (by decide)
  | 4, h, _ => exact absurd h (by decide)
  | 5, h, _ => exact absurd h (by decide)
  | 6, _, _ => exact ⟨_, rfl, by decide, rfl, rfl, q556, fun _ => rfl⟩
  | c + 7, _, h => exact absurd h (by omega)

theorem fl_X4_9 : FLk RX4 9 4 6 1 0 true := by
  refine ⟨by decide, fun c h1 h2 => ?_⟩
  match c, h1, h2 with
  | 0, h, _ => exact absurd h (by decide)
  | 1, h, _ => exact absurd h (by decide)
  | 2, h, _ => exact absurd h (by decide)
  | 3, h, _ => exact absurd h (by decide)
  | 4, _, _ => exact ⟨_, rfl, by decide, rfl, rfl, q504, fun _ => rfl⟩
  | 5, _, _ => exact ⟨_, rfl, by decide, rfl, rfl, q504, fun _ => rfl⟩
  | 6, _, _ => exact ⟨_, rfl, by decide, rfl, rfl, q504, fun _ => rfl⟩
  | c + 7, _, h => exact absurd h (by omega)

theorem fl_X3_9 : FLk RX3 9 3 3 1 0 true := by
  refine ⟨by decide, fun c h1 h2 => ?_⟩
  match c, h1, h2 with
  | 0, h, _ => exact absurd h (by decide)
  | 1, h, _ => exact absurd h (by decide)
  | 2, h, _ => exact absurd h (by decide)
  | 3, _, _ => exact ⟨_, rfl, by decide, rfl, rfl, q480, fun _ => rfl⟩
  | c + 4, _, h => exact absurd h (by omega)

theorem fl_X5_9 : FLk RX5 9 5 5 2 0 true := by
  refine ⟨by decide, fun c h1 h2 => ?_⟩
  match c, h1, h2 with
  | 0, h, _ => exact absurd h (by decide)
  | 1, h, _ => exact absurd h (by decide)
  | 2, h, _ => exact absurd h (by decide)
  | 3, h, _ => exact absurd h (by decide)
  | 4, h, _ => exact absurd h (by decide)
  | 5, _, _ => exact ⟨_, rfl, by decide, rfl, rfl, q528, fun _ => rfl⟩
  | c + 6, _, h => exact absurd h (by omega)

theorem fl_X2_9 : FLk RX2 9 2 6 0 3 true := by
  refine ⟨by decide, fun c h1 h2 => ?_⟩
  match c, h1, h2 with
  | 0, h, _ => exact absurd h (by decide)
  | 1, h, _ => exact absurd h (by decide)
  | 2, _, _ => exact ⟨_, rfl, by decide, rfl, rfl, q431, fun _ => rfl⟩
  | 3, _, _ => exact ⟨_, rfl, by decide, rfl, rfl, q431, fun _ => rfl⟩
  | 4, _, _ => exact ⟨_, rfl, by decide, rfl, rfl, q431, fun _ => rfl⟩
  | 5, _, _ => exact ⟨_, rfl, by decide, rfl, rfl, q431, fun _ => rfl⟩
  | 6, _, _ => exact ⟨_, rfl, by decide, rfl, rfl, q431, fun _ => rfl⟩
  | c + 7, _, h => exact absurd h (by omega)

theorem fl_X1_7 : FLk RX1 7 1 1 1 3 true := by
  refine ⟨by decide, fun c h1 h2 => ?_⟩
  match c, h1, h2 with
  | 0, h, _ => exact absurd h (by decide)
  | 1, _, _ => exact ⟨_, rfl, by decide, rfl, rfl, q870, fun _ => rfl⟩
  | c + 2, _, h => exact absurd h (by omega)

theorem fl_X1_13 : FLk RX1 13 1 1 6 3 true := by
  refine ⟨by decide, fun c h1 h2 => ?_⟩
  match c, h1, h2 with
  | 0, h, _ => exact absurd h (by decide)
  | 1, _, _ => exact ⟨_, rfl, by decide, rfl, rfl, q875, fun _ => rfl⟩
  | c + 2, _, h => exact absurd h (by omega)

theorem fl_X1_16 : FLk RX1 16 1 1 7 3 true := by
  refine ⟨by decide, fun c h1 h2 => ?_⟩
  match c, h1, h2 with
  | 0, h, _ => exact absurd h (by decide)
  | 1, _, _ => exact ⟨_, rfl, by decide, rfl, rfl, q876, fun _ => rfl⟩
  | c + 2, _, h => exact absurd h (by omega)

theorem fl_X1_19 : FLk RX1 19 1 1 8 3 true := by
  refine ⟨by decide, fun c h1 h2 => ?_⟩
  match c, h1, h2 with
  | 0, h, _ => exact absurd h (by decide)
  | 1, _, _ => exact ⟨_, rfl, by decide, rfl, rfl, q877, fun _ => rfl⟩
  | c + 2, _, h => exact absurd h (by omega)

theorem fl_X1_22 : FLk RX1 22 1 1 9 3 true := by
  refine ⟨by decide, fun c h1 h2 => ?_⟩
  match c, h1, h2 with
  | 0, h, _ => exact absurd h (by decide)
  | 1, _, _ => exact ⟨_, rfl, by decide, rfl, rfl, q878, fun _ => rfl⟩
  | c + 2, _, h => exact absurd h (by omega)

theorem fl_X1_25 : FLk RX1 25 1 1 10 3 true := by
  refine ⟨by decide, fun c h1 h2 => ?_⟩
  match c, h1, h2 with
  | 0, h, _ => exact absurd h (by decide)
  | 1, _, _ => exact ⟨_, rfl, by decide, rfl, rfl, q879, fun _ => rfl⟩
  | c + 2, _, h => exact absurd h (by omega)

theorem fl_X1_29 : FLk RX1 29 1 1 12 3 true := by
  refine ⟨by decide, fun c h1 h2 => ?_⟩
  match c, h1, h2 with
  | 0, h, _ => exact absurd h (by decide)
  | 1, _, _ => exact ⟨_, rfl, by decide, rfl, rfl, q881, fun _ => rfl⟩
  | c + 2, _, h => exact absurd h (by omega)

theorem fl_X1_32 : FLk RX1 32 1 1 13 3 true := by
  refine ⟨by decide, fun c h1 h2 => ?_⟩
  match c, h1, h2 with
  | 0, h, _ => exact absurd h (by decide)
  | 1, _, _ => exact ⟨_, rfl, by decide, rfl, rfl, q882, fun _ => rfl⟩
  | c + 2, _, h => exact absurd h (by omega)

theorem fl_X1_35 : FLk RX1 35 1 1 14 3 true := by
  refine ⟨by decide, fun c h1 h2 => ?_⟩
  match c, h1, h2 with
  | 0, h, _ => exact absurd h (by decide)
  | 1, _, _ => exact ⟨_, rfl, by decide, rfl, rfl, q883, fun _ => rfl⟩
  | c + 2, _, h => exact absurd h (by omega)

theorem fl_X1_38 : FLk RX1 38 1 1 15 3 true := by
  refine ⟨by decide, fun c h1 h2 => ?_⟩
  match c, h1, h2 with
  | 0, h, _ => exact absurd h (by decide)
  | 1, _, _ => exact ⟨_, rfl, by decide, rfl, rfl, q884, fun _ => rfl⟩
  | c + 2, _, h => exact absurd h (by omega)

theorem fl_X1_41 : FLk RX1 41 1 1 16 3 true := by
  refine ⟨by decide, fun c h1 h2 => ?_⟩
  match c, h1, h2 with
  | 0, h, _ => exact absurd h (by decide)
  | 1, _, _ => exact ⟨_, rfl, by decide, rfl, rfl, q885, fun _ => rfl⟩
  | c + 2, _, h => exact absurd h (by omega)

theorem fl_X1_44 : FLk RX1 44 1 1 18 3 true := by
  refine ⟨by decide, fun c h1 h2 => ?_⟩
  match c, h1, h2 with
  | 0, h, _ => exact absurd h (by decide)
  | 1, _, _ => exact ⟨_, rfl, by decide, rfl, rfl, q887, fun _ => rfl⟩
  | c + 2, _, h => exact absurd h (by omega)

theorem fl_X1_47 : FLk RX1 47 1 1 19 3 true := by
  refine ⟨by decide, fun c h1 h2 => ?_⟩
  match c, h1, h2 with
  | 0, h, _ => exact absurd h (by decide)
  | 1, _, _ => exact ⟨_, rfl, by decide, rfl, rfl, q888, fun _ => rfl⟩
  | c + 2, _, h => exact absurd h (by omega)

theorem fl_X1_50 : FLk RX1 50 1 1 20 3 true := by
  refine ⟨by decide, fun c h1 h2 => ?_⟩
  match c, h1, h2 with
  | 0, h, _ => exact absurd h (by decide)
  | 1, _, _ => exact ⟨_, rfl, by decide, rfl, rfl, q889, fun _ => rfl⟩
  | c + 2, _, h => exact absurd h (by omega)

theorem fl_X1_53 : FLk RX1 53 1 1 22 3 true := by
  refine ⟨by decide, fun c h1 h2 => ?_⟩
  match c, h1, h2 with
  | 0, h, _ => exact absurd h (by decide)
  | 1, _, _ => exact ⟨_, rfl, by decide, rfl, rfl, q891, fun _ => rfl⟩
  | c + 2, _, h => exact absurd h (by omega)

theorem fl_X1_57 : FLk RX1 57 1 1 23 3 true := by
  refine ⟨by decide, fun c h1 h2 => ?_⟩
  match c, h1, h2 with
  | 0, h, _ => exact absurd h (by decide)
  | 1, _, _ => exact ⟨_, rfl, by decide, rfl, rfl, q892, fun _ => rfl⟩
  | c + 2, _, h => exact absurd h (by omega)

theorem fl_X1_60 : FLk RX1 60 1 1 24 3 true := by
  refine ⟨by decide, fun c h1 h2 => ?_⟩
  match c, h1, h2 with
  | 0, h, _ => exact absurd h (by decide)
  | 1, _, _ => exact ⟨_, rfl, by decide, rfl, rfl, q893, fun _ => rfl⟩
  | c + 2, _, h => exact absurd h (by omega)

theorem fl_X1_63 : FLk RX1 63 1 1 25 3 true := by
  refine ⟨by decide, fun c h1 h2 => ?_⟩
  match c, h1, h2 with
  | 0, h, _ => exact absurd h (by decide)
  | 1, _, _ => exact ⟨_, rfl, by decide, rfl, rfl, q894, fun _ => rfl⟩
  | c + 2, _, h => exact absurd h (by omega)

theorem fl_X1_66 : FLk RX1 66 1 1 26 3 true := by
  refine ⟨by decide, fun c h1 h2 => ?_⟩
  match c, h1, h2 with
  | 0, h, _ => exact absurd h (by decide)
  | 1, _, _ => exact ⟨_, rfl, by decide, rfl, rfl, q895, fun _ => rfl⟩
  | c + 2, _, h => exact absurd h (by omega)

theorem fl_X1_69 : FLk RX1 69 1 1 29 3 true := by
  refine ⟨by decide, fun c h1 h2 => ?_⟩
  match c, h1, h2 with
  | 0, h, _ => exact absurd h (by decide)
  | 1, _, _ => exact ⟨_, rfl, by decide, rfl, rfl, q898, fun _ => rfl⟩
  | c + 2, _, h => exact absurd h (by omega)

theorem fl_X1_72 : FLk RX1 72 1 1 30 3 true := by
  refine ⟨by decide, fun c h1 h2 => ?_⟩
  match c, h1, h2 with
  | 0, h, _ => exact absurd h (by decide)
  | 1, _, _ => exact ⟨_, rfl, by decide, rfl, rfl, q899, fun _ => rfl⟩
  | c + 2, _, h => exact absurd h (by omega)

theorem fl_X1_75 : FLk RX1 75 1 1 31 3 true := by
  refine ⟨by decide, fun c h1 h2 => ?_⟩
  match c, h1, h2 with
  | 0, h, _ => exact absurd h (by decide)
  | 1, _, _ => exact ⟨_, rfl, by decide, rfl, rfl, q900, fun _ => rfl⟩
  | c + 2, _, h => exact absurd h (by omega)

theorem fl_X1_78 : FLk RX1 78 1 1 32 3 true := by
  refine ⟨by decide, fun c h1 h2 => ?_⟩
  match c, h1, h2 with
  | 0, h, _ => exact absurd h (by decide)
  | 1, _, _ => exact ⟨_, rfl, by decide, rfl, rfl, q901, fun _ => rfl⟩
  | c + 2, _, h => exact absurd h (by omega)

theorem fl_X1_82 : FLk RX1 82 1 1 34 3 true := by
  refine ⟨by decide, fun c h1 h2 => ?_⟩
  match c, h1, h2 with
  | 0, h, _ => exact absurd h (by decide)
  | 1, _, _ => exact ⟨_, rfl, by decide, rfl, rfl, q903, fun _ => rfl⟩
  | c + 2, _, h => exact absurd h (by omega)

theorem fl_X1_85 : FLk RX1 85 1 1 36 3 true := by
  refine ⟨by decide, fun c h1 h2 => ?_⟩
  match c, h1, h2 with
  | 0, h, _ => exact absurd h (by decide)
  | 1, _, _ => exact ⟨_, rfl, by decide, rfl, rfl, q905, fun _ => rfl⟩
  | c + 2, _, h => exact absurd h (by omega)

theorem fl_X1_88 : FLk RX1 88 1 1 37 3 true := by
  refine ⟨by decide, fun c h1 h2 => ?_⟩
  match c, h1, h2 with
  | 0, h, _ => exact absurd h (by decide)
  | 1, _, _ => exact ⟨_, rfl, by decide, rfl, rfl, q906, fun _ => rfl⟩
  | c + 2, _, h => exact absurd h (by omega)

theorem fl_X1_91 : FLk RX1 91 1 1 38 3 true := by
  refine ⟨by decide, fun c h1 h2 => ?_⟩
  match c, h1, h2 with
  | 0, h, _ => exact absurd h (by decide)
  | 1, _, _ => exact ⟨_, rfl, by decide, rfl, rfl, q907, fun _ => rfl⟩
  | c + 2, _, h => exact absurd h (by omega)

theorem fl_X1_94 : FLk RX1 94 1 1 39 3 true := by
  refine ⟨by decide, fun c h1 h2 => ?_⟩
  match c, h1, h2 with
  | 0, h, _ => exact absurd h (by decide)
  | 1, _, _ => exact ⟨_, rfl, by decide, rfl, rfl, q908, fun _ => rfl⟩
  | c + 2, _, h => exact absurd h (by omega)

theorem fl_X1_97 : FLk RX1 97 1 1 40 3 true := by
  refine ⟨by decide, fun c h1 h2 => ?_⟩
  match c, h1, h2 with
  | 0, h, _ => exact absurd h (by decide)
  | 1, _, _ => exact ⟨_, rfl, by decide, rfl, rfl, q909, fun _ => rfl⟩
  | c + 2, _, h => exact absurd h (by omega)

theorem fl_X1_100 : FLk RX1 100 1 1 41 3 true := by
  refine ⟨by decide, fun c h1 h2 => ?_⟩
  match c, h1, h2 with
  | 0, h, _ => exact absurd h (by decide)
  | 1, _, _ => exact ⟨_, rfl, by decide, rfl, rfl, q910, fun _ => rfl⟩
  | c + 2, _, h => exact absurd h (by omega)

theorem fl_X1_103 : FLk RX1 103 1 1 42 3 true := by
  refine ⟨by decide, fun c h1 h2 => ?_⟩
  match c, h1, h2 with
  | 0, h, _ => exact absurd h (by decide)
  | 1, _, _ => exact ⟨_, rfl, by decide, rfl, rfl, q911, fun _ => rfl⟩
  | c + 2, _, h => exact absurd h (by omega)

theorem fl_X1_106 : FLk RX1 106 1 1 5 2 false := by
  refine ⟨by decide, fun c h1 h2 => ?_⟩
  match c, h1, h2 with
  | 0, h, _ => exact absurd h (by decide)
  | 1, _, _ => exact ⟨_, rfl, by decide, rfl, rfl, q874, fun _ => rfl⟩
  | c + 2, _, h => exact absurd h (by omega)

theorem fl_X1_110 : FLk RX1 110 1 1 11 0 false := by
  refine ⟨by decide, fun c h1 h2 => ?_⟩
  match c, h1, h2 with
  | 0, h, _ => exact absurd h (by decide)
  | 1, _, _ => exact ⟨_, rfl, by decide, rfl, rfl, q880, fun _ => rfl⟩
  | c + 2, _, h => exact absurd h (by omega)

theorem fl_X1_114 : FLk RX1 114 1 1 0 0 false := by
  refine ⟨by decide, fun c h1 h2 => ?_⟩
  match c, h1, h2 with
  | 0, h, _ => exact absurd h (by decide)
  | 1, _, _ => exact ⟨_, rfl, by decide, rfl, rfl, q869, fun _ => rfl⟩
  | c + 2, _, h => exact absurd h (by omega)

theorem fl_X1_121 : FLk RX1 121 1 1 2 0 false := by
  refine ⟨by decide, fun c h1 h2 => ?_⟩
  match c, h1, h2 with
  | 0, h, _ => exact absurd h (by decide)
  | 1, _, _ => exact ⟨_, rfl, by decide, rfl, rfl, q871, fun _ => rfl⟩
  | c + 2, _, h => exact absurd h (by omega)

theorem fl_X1_124 : FLk RX1 124 1 1 3 2 false := by
  refine ⟨by decide, fun c h1 h2 => ?_⟩
  match c, h1, h2 with
  | 0, h, _ => exact absurd h (by decide)
  | 1, _, _ => exact ⟨_, rfl, by decide, rfl, rfl, q872, fun _ => rfl⟩
  | c + 2, _, h => exact absurd h (by omega)

theorem fl_X1_127 : FLk RX1 127 1 1 4 2 false := by
  refine ⟨by decide, fun c h1 h2 => ?_⟩
  match c, h1, h2 with
  | 0, h, _ => exact absurd h (by decide)
  | 1, _, _ => exact ⟨_, rfl, by decide, rfl, rfl, q873, fun _ => rfl⟩
  | c + 2, _, h => exact absurd h (by omega)

theorem fl_X1_151 : FLk RX1 151 1 1 17 0 false := by
  refine ⟨by decide, fun c h1 h2 => ?_⟩
  match c, h1, h2 with
  | 0, h, _ => exact absurd h (by decide)
  | 1, _, _ => exact ⟨_, rfl, by decide, rfl, rfl, q886, fun _ => rfl⟩
  | c + 2, _, h => exact absurd h (by omega)

theorem fl_X1_164 : FLk RX1 164 1 1 21 1 false := by
  refine ⟨by decide, fun c h1 h2 => ?_⟩
  match c, h1, h2 with
  | 0, h, _ => exact absurd h (by decide)
  | 1, _, _ => exact ⟨_, rfl, by decide, rfl, rfl, q890, fun _ => rfl⟩
  | c + 2, _, h => exact absurd h (by omega)

theorem fl_X1_224 : FLk RX1 224 1 1 27 0 false := by
  refine ⟨by decide, fun c h1 h2 => ?_⟩
  match c, h1, h2 with
  | 0, h, _ => exact absurd h (by decide)
  | 1, _, _ => exact ⟨_, rfl, by decide, rfl, rfl, q896, fun _ => rfl⟩
  | c + 2, _, h => exact absurd h (by omega)

theorem fl_X1_227 : FLk RX1 227 1 1 28 0 false := by
  refine ⟨by decide, fun c h1 h2 => ?_⟩
  match c, h1, h2 with
  | 0, h, _ => exact absurd h (by decide)
  | 1, _, _ => exact ⟨_, rfl, by decide, rfl, rfl, q897, fun _ => rfl⟩
  | c + 2, _, h => exact absurd h (by omega)

theorem fl_X1_246 : FLk RX1 246 1 1 33 0 false := by
  refine ⟨by decide, fun c h1 h2 => ?_⟩
  match c, h1, h2 with
  | 0, h, _ => exact absurd h (by decide)
  | 1, _, _ => exact ⟨_, rfl, by decide, rfl, rfl, q902, fun _ => rfl⟩
  | c + 2, _, h => exact absurd h (by omega)

theorem fl_X1_270 : FLk RX1 270 1 1 35 0 false := by
  refine ⟨by decide, fun c h1 h2 => ?_⟩
  match c, h1, h2 with
  | 0, h, _ => exact absurd h (by decide)
  | 1, _, _ => exact ⟨_, rfl, by decide, rfl, rfl, q904, fun _ => rfl⟩
  | c + 2, _, h => exact absurd h (by omega)

theorem fl_X1_317 : FLk RX1 317 1 1 43 2 false := by
  refine ⟨by decide, fun c h1 h2 => ?_⟩
  match c, h1, h2 with
  | 0, h, _ => exact absurd h (by decide)
  | 1, _, _ => exact ⟨_, rfl, by decide, rfl, rfl, q912, fun _ => rfl⟩
  | c + 2, _, h => exact absurd h (by omega)

theorem ml_X0_93 : MLkS RX0 93 yX0_isIn cX0_isIn 3 (some .boolean) 3 := ⟨q310, q311, q80, q312, ⟨by decide, by decide⟩, (by unfold nPar; decide +kernel), by decide⟩
theorem ml_X0_97 : MLkS RX0 97 yX0_isRow cX0_isRow 1 (some .boolean) 1 := ⟨q307, q308, q80, q309, ⟨by decide, by decide⟩, (by unfold nPar; decide +kernel), by decide⟩
theorem ml_X0_103 : MLk RX0 103 RX0 yX0_met cX0_met 2 (some .int) 1 := ⟨q313, q315, qs2, q80, q316, ⟨by decide, by decide⟩, (by unfold nPar; decide +kernel), by decide⟩
theorem ml_X0_107 : MLkW RX0 107 RX0 yX0_at cX0_at 4 (some .int) [(9, 22, 23, 114), (9, 22, 30, 116)] 2 := ⟨q321, q322, q323, q80, q324, ⟨by decide, by decide⟩, (by unfold nPar; decide +kernel), by decide⟩
theorem ml_X0_111 : MLk RX0 111 RX0 yX0_ask cX0_ask 3 (some .int) 2 := ⟨q369, q371, qs3, q80, q372, ⟨by decide, by decide⟩, (by unfold nPar; decide +kernel), by decide⟩
theorem ml_X0_128 : MLkS RX0 128 yX0_isText cX0_isText 1 (some .boolean) 1 := ⟨q408, q409, q80, q410, ⟨by decide, by decide⟩, (by unfold nPar; decide +kernel), by decide⟩
theorem ml_X0_131 : MLkS RX0 131 yX0_isWord cX0_isWord 1 (some .boolean) 1 := ⟨q423, q424, q80, q425, ⟨by decide, by decide⟩, (by unfold nPar; decide +kernel), by decide⟩
theorem ml_X0_137 : MLkI RX0 137 yX2_init cX2_init 2 1 := ⟨q427, q428, q92, q429, rfl, ⟨by decide, by decide⟩, (by unfold nPar; decide +kernel), by decide⟩
theorem ml_X0_146 : MLk RX0 146 RX0 yX0_here cX0_here 1 (some .int) 0 := ⟨q448, q450, qs6, q80, q451, ⟨by decide, by decide⟩, (by unfold nPar; decide +kernel), by decide⟩
theorem ml_X0_158 : MLk RX0 158 RX0 yX0_add cX0_add 2 none 1 := ⟨q456, q458, qs8, q80, q459, ⟨by decide, by decide⟩, (by unfold nPar; decide +kernel), by decide⟩
theorem ml_X0_162 : MLk RX0 162 RX0 yX0_readsItems cX0_readsItems 5 (some .boolean) 1 := ⟨q452, q454, qs7, q80, q455, ⟨by decide, by decide⟩, (by unfold nPar; decide +kernel), by decide⟩
theorem ml_X0_165 : MLk RX0 165 RX0 yX0_repeats cX0_repeats 6 none 1 := ⟨q463, q465, qs9, q80, q466, ⟨by decide, by decide⟩, (by unfold nPar; decide +kernel), by decide⟩
theorem ml_X0_169 : MLk RX0 169 RX0 yX0_skips cX0_skips 1 none 0 := ⟨q444, q446, qs5, q80, q447, ⟨by decide, by decide⟩, (by unfold nPar; decide +kernel), by decide⟩
theorem ml_X0_172 : MLk RX0 172 RX0 yX0_reads cX0_reads 2 (some .int) 1 := ⟨q440, q442, qs4, q80, q443, ⟨by decide, by decide⟩, (by unfold nPar; decide +kernel), by decide⟩
theorem ml_X0_178 : MLkS RX0 178 yX0_cut cX0_cut 4 (some (.array .byte)) 3 := ⟨q473, q474, q80, q475, ⟨by decide, by decide⟩, (by unfold nPar; decide +kernel), by decide⟩
theorem ml_X0_182 : MLkI RX0 182 yX3_init cX3_init 3 2 := ⟨q476, q477, q94, q478, rfl, ⟨by decide, by decide⟩, (by unfold nPar; decide +kernel), by decide⟩
theorem ml_X0_185 : MLk RX0 185 RX0 yX0_askedTwo cX0_askedTwo 3 (some .int) 2 := ⟨q490, q492, qs10, q80, q493, ⟨by decide, by decide⟩, (by unfold nPar; decide +kernel), by decide⟩
theorem ml_X0_188 : MLk RX0 188 RX0 yX0_of cX0_of 2 (some (.array .byte)) 1 := ⟨q494, q496, qs11, q80, q497, ⟨by decide, by decide⟩, (by unfold nPar; decide +kernel), by decide⟩
theorem ml_X0_194 : MLkI RX0 194 yX4_init cX4_init 3 2 := ⟨q500, q501, q95, q502, rfl, ⟨by decide, by decide⟩, (by unfold nPar; decide +kernel), by decide⟩
theorem ml_X0_195 : MLk RX0 195 RX0 yX0_askedWord cX0_askedWord 2 (some .int) 1 := ⟨q518, q520, qs12, q80, q521, ⟨by decide, by decide⟩, (by unfold nPar; decide +kernel), by decide⟩
theorem ml_X0_200 : MLkI RX0 200 yX5_init cX5_init 4 3 := ⟨q524, q525, q96, q526, rfl, ⟨by decide, by decide⟩, (by unfold nPar; decide +kernel), by decide⟩
theorem ml_X0_203 : MLk RX0 203 RX0 yX0_parted cX0_parted 10 (some .int) 2 := ⟨q539, q541, qs13, q80, q542, ⟨by decide, by decide⟩, (by unfold nPar; decide +kernel), by decide⟩
theorem ml_X0_209 : MLkI RX0 209 yX6_init cX6_init 4 3 := ⟨q552, q553, q97, q554, rfl, ⟨by decide, by decide⟩, (by unfold nPar; decide +kernel), by decide⟩
theorem ml_X0_227 : MLkS RX0 227 yX0_waysOf cX0_waysOf 9 (some .long) 2 := ⟨q618, q619, q80, q620, ⟨by decide, by decide⟩, (by unfold nPar; decide +kernel), by decide⟩
theorem ml_X0_231 : MLk RX0 231 RX0 yX0_tellMany cX0_tellMany 4 (some .int) 2 := ⟨q621, q623, qs15, q80, q624, ⟨by decide, by decide⟩, (by unfold nPar; decide +kernel), by decide⟩
theorem ml_X0_235 : MLk RX0 235 RX0 yX0_setWays cX0_setWays 5 (some .boolean) 2 := ⟨q629, q631, qs16, q80, q632, ⟨by decide, by decide⟩, (by unfold nPar; decide +kernel), by decide⟩
theorem ml_X0_239 : MLk RX0 239 RX0 yX0_come cX0_come 4 none 3 := ⟨q633, q635, qs17, q80, q636, ⟨by decide, by decide⟩, (by unfold nPar; decide +kernel), by decide⟩
theorem ml_X0_243 : MLkS RX0 243 yJ11_bitCount cJ11_bitCount 2 (some .int) 1 := ⟨q641, q642, q99, q643, ⟨by decide, by decide⟩, (by unfold nPar; decide +kernel), by decide⟩
theorem ml_X0_249 : MLkS RX0 249 yX0_setNext cX0_setNext 5 none 2 := ⟨q543, q544, q80, q545, ⟨by decide, by decide⟩, (by unfold nPar; decide +kernel), by decide⟩
theorem ml_X0_253 : MLk RX0 253 RX0 yX0_setCounts cX0_setCounts 8 none 1 := ⟨q659, q661, qs18, q80, q662, ⟨by decide, by decide⟩, (by unfold nPar; decide +kernel), by decide⟩
theorem ml_X0_256 : MLk RX0 256 RX0 yX0_from cX0_from 5 (some .long) 3 := ⟨q671, q673, qs19, q80, q674, ⟨by decide, by decide⟩, (by unfold nPar; decide +kernel), by decide⟩
theorem ml_X0_265 : MLk RX0 265 RX0 yX0_setArches cX0_setArches 4 none 1 := ⟨q679, q681, qs20, q80, q682, ⟨by decide, by decide⟩, (by unfold nPar; decide +kernel), by decide⟩
theorem ml_X0_268 : MLkS RX0 268 yJ12_bitCount cJ12_bitCount 1 (some .int) 1 := ⟨q691, q692, q100, q693, ⟨by decide, by decide⟩, (by unfold nPar; decide +kernel), by decide⟩
theorem ml_X0_278 : MLk RX0 278 RX0 yX0_lengthTo cX0_lengthTo 4 (some .int) 1 := ⟨q546, q548, qs14, q80, q549, ⟨by decide, by decide⟩, (by unfold nPar; decide +kernel), by decide⟩
theorem ml_X0_284 : MLk RX0 284 RX0 yX0_placeIn cX0_placeIn 3 (some .int) 2 := ⟨q717, q719, qs23, q80, q720, ⟨by decide, by decide⟩, (by unfold nPar; decide +kernel), by decide⟩
theorem ml_X0_287 : MLk RX0 287 RX0 yX0_askedSome cX0_askedSome 5 (some .int) 1 := ⟨q709, q711, qs21, q80, q712, ⟨by decide, by decide⟩, (by unfold nPar; decide +kernel), by decide⟩
theorem ml_X0_290 : MLk RX0 290 RX0 yX0_allGo cX0_allGo 6 (some .int) 2 := ⟨q713, q715, qs22, q80, q716, ⟨by decide, by decide⟩, (by unfold nPar; decide +kernel), by decide⟩
theorem ml_X0_293 : MLk RX0 293 RX0 yX0_someGo cX0_someGo 6 (some .int) 2 := ⟨q725, q727, qs24, q80, q728, ⟨by decide, by decide⟩, (by unfold nPar; decide +kernel), by decide⟩
theorem ml_X0_296 : MLk RX0 296 RX0 yX0_power cX0_power 4 (some .int) 1 := ⟨q737, q739, qs25, q80, q740, ⟨by decide, by decide⟩, (by unfold nPar; decide +kernel), by decide⟩
theorem ml_X0_299 : MLk RX0 299 RX0 yX0_spell cX0_spell 5 none 2 := ⟨q741, q743, qs26, q80, q744, ⟨by decide, by decide⟩, (by unfold nPar; decide +kernel), by decide⟩
theorem ml_X0_303 : MLkS RX0 303 yX0_few cX0_few 12 (some .long) 2 := ⟨q745, q746, q80, q747, ⟨by decide, by decide⟩, (by unfold nPar; decide +kernel), by decide⟩
theorem ml_X0_306 : MLkS RX0 306 yX0_choose cX0_choose 5 (some .long) 2 := ⟨q752, q753, q80, q754, ⟨by decide, by decide⟩, (by unfold nPar; decide +kernel), by decide⟩
theorem ml_X0_310 : MLk RX0 310 RX0 yX0_share cX0_share 12 (some .int) 3 := ⟨q755, q757, qs27, q80, q758, ⟨by decide, by decide⟩, (by unfold nPar; decide +kernel), by decide⟩
theorem ml_X0_317 : MLk RX0 317 RX0 yX0_rowCount cX0_rowCount 6 (some .int) 0 := ⟨q787, q789, qs29, q80, q790, ⟨by decide, by decide⟩, (by unfold nPar; decide +kernel), by decide⟩
theorem ml_X0_320 : MLk RX0 320 RX0 yX0_textCount cX0_textCount 6 (some .int) 0 := ⟨q791, q793, qs30, q80, q794, ⟨by decide, by decide⟩, (by unfold nPar; decide +kernel), by decide⟩
theorem ml_X0_323 : MLk RX0 323 RX0 yX0_wordCount cX0_wordCount 7 (some .int) 1 := ⟨q795, q797, qs31, q80, q798, ⟨by decide, by decide⟩, (by unfold nPar; decide +kernel), by decide⟩
theorem ml_X0_326 : MLk RX0 326 RX0 yX0_letterCount cX0_letterCount 6 (some .int) 0 := ⟨q820, q822, qs32, q80, q823, ⟨by decide, by decide⟩, (by unfold nPar; decide +kernel), by decide⟩
theorem ml_X0_329 : MLk RX0 329 RX0 yX0_countsOf cX0_countsOf 2 (some .int) 1 := ⟨q783, q785, qs28, q80, q786, ⟨by decide, by decide⟩, (by unfold nPar; decide +kernel), by decide⟩
theorem ml_X0_337 : MLk RX0 337 RX0 yX0_mix cX0_mix 2 none 1 := ⟨q837, q839, qs33, q80, q840, ⟨by decide, by decide⟩, (by unfold nPar; decide +kernel), by decide⟩
theorem ml_X0_345 : MLk RX0 345 RX0 yX0_mixWords cX0_mixWords 9 none 0 := ⟨q842, q844, qs34, q80, q845, ⟨by decide, by decide⟩, (by unfold nPar; decide +kernel), by decide⟩
theorem ml_X6_3 : MLkI RX6 3 yX4_init cX4_init 3 2 := ⟨q555, q501, q95, q502, rfl, ⟨by decide, by decide⟩, (by unfold nPar; decide +kernel), by decide⟩
theorem ml_X6_15 : SLk RX6 15 yX4_is cX4_is 2 (some .boolean) 1 := ⟨q806, q1400, q562, q807, q95, q808, by decide, (by unfold nPar; decide +kernel), by decide⟩
theorem ml_X4_3 : MLkI RX4 3 yX2_init cX2_init 2 1 := ⟨q503, q428, q92, q429, rfl, ⟨by decide, by decide⟩, (by unfold nPar; decide +kernel), by decide⟩
theorem ml_X4_15 : SLk RX4 15 yX2_is cX2_is 2 (some .boolean) 1 := ⟨q809, q802, q509, q800, q92, q819, by decide, (by unfold nPar; decide +kernel), by decide⟩
theorem ml_X3_3 : MLkI RX3 3 yX2_init cX2_init 2 1 := ⟨q479, q428, q92, q429, rfl, ⟨by decide, by decide⟩, (by unfold nPar; decide +kernel), by decide⟩
theorem ml_X3_15 : SLk RX3 15 yX2_is cX2_is 2 (some .boolean) 1 := ⟨q814, q802, q485, q800, q92, q819, by decide, (by unfold nPar; decide +kernel), by decide⟩
theorem ml_X5_3 : MLkI RX5 3 yX4_init cX4_init 3 2 := ⟨q527, q501, q95, q502, rfl, ⟨by decide, by decide⟩, (by unfold nPar; decide +kernel), by decide⟩
theorem ml_X5_15 : SLk RX5 15 yX4_is cX4_is 2 (some .boolean) 1 := ⟨q818, q1400, q534, q807, q95, q808, by decide, (by unfold nPar; decide +kernel), by decide⟩
theorem ml_X1_117 : MLkS RX1 117 yX1_in cX1_in 3 (some .boolean) 3 := ⟨q1011, q1012, q81, q1013, ⟨by decide, by decide⟩, (by unfold nPar; decide +kernel), by decide⟩
theorem ml_X1_130 : MLkS RX1 130 yX1_isRow cX1_isRow 1 (some .boolean) 1 := ⟨q1034, q1035, q81, q1036, ⟨by decide, by decide⟩, (by unfold nPar; decide +kernel), by decide⟩
theorem ml_X1_134 : MLk RX1 134 RX1 yX1_meets cX1_meets 2 (some .int) 1 := ⟨q1037, q1039, qs35, q81, q1040, ⟨by decide, by decide⟩, (by unfold nPar; decide +kernel), by decide⟩
theorem ml_X1_138 : MLk RX1 138 RX1 yX1_rowAt cX1_rowAt 3 (some .int) 2 := ⟨q1045, q1047, qs36, q81, q1048, ⟨by decide, by decide⟩, (by unfold nPar; decide +kernel), by decide⟩
theorem ml_X1_142 : MLk RX1 142 RX1 yX1_tells cX1_tells 3 (some .int) 2 := ⟨q1049, q1051, qs37, q81, q1052, ⟨by decide, by decide⟩, (by unfold nPar; decide +kernel), by decide⟩
theorem ml_X1_145 : MLkS RX1 145 yX1_isText cX1_isText 1 (some .boolean) 1 := ⟨q1073, q1074, q81, q1075, ⟨by decide, by decide⟩, (by unfold nPar; decide +kernel), by decide⟩
theorem ml_X1_148 : MLk RX1 148 RX1 yX1_at0 cX1_at0 3 (some .int) 2 := ⟨q1084, q1086, qs38, q81, q1087, ⟨by decide, by decide⟩, (by unfold nPar; decide +kernel), by decide⟩
theorem ml_X1_154 : MLkS RX1 154 yX1_isWord cX1_isWord 1 (some .boolean) 1 := ⟨q1092, q1093, q81, q1094, ⟨by decide, by decide⟩, (by unfold nPar; decide +kernel), by decide⟩
theorem ml_X1_157 : MLk RX1 157 RX1 yX1_isLetter cX1_isLetter 2 (some .boolean) 1 := ⟨q1095, q1097, qs39, q81, q1098, ⟨by decide, by decide⟩, (by unfold nPar; decide +kernel), by decide⟩
theorem ml_X1_160 : MLk RX1 160 RX1 yX1_comes cX1_comes 6 (some .int) 4 := ⟨q1099, q1101, qs40, q81, q1102, ⟨by decide, by decide⟩, (by unfold nPar; decide +kernel), by decide⟩
theorem ml_X1_168 : MLk RX1 168 RX1 yX1_comesOn cX1_comesOn 2 none 1 := ⟨q1115, q1117, qs43, q81, q1118, ⟨by decide, by decide⟩, (by unfold nPar; decide +kernel), by decide⟩
theorem ml_X1_172 : MLk RX1 172 RX1 yX1_byteAt cX1_byteAt 3 (some .int) 2 := ⟨q1111, q1113, qs42, q81, q1114, ⟨by decide, by decide⟩, (by unfold nPar; decide +kernel), by decide⟩
theorem ml_X1_175 : MLk RX1 175 RX1 yX1_figureAt cX1_figureAt 3 (some .int) 2 := ⟨q1119, q1121, qs44, q81, q1122, ⟨by decide, by decide⟩, (by unfold nPar; decide +kernel), by decide⟩
theorem ml_X1_178 : MLk RX1 178 RX1 yX1_comesAgain cX1_comesAgain 6 none 2 := ⟨q1123, q1125, qs45, q81, q1126, ⟨by decide, by decide⟩, (by unfold nPar; decide +kernel), by decide⟩
theorem ml_X1_182 : MLk RX1 182 RX1 yX1_faultOf cX1_faultOf 8 (some .int) 1 := ⟨q1107, q1109, qs41, q81, q1110, ⟨by decide, by decide⟩, (by unfold nPar; decide +kernel), by decide⟩
theorem ml_X1_185 : MLk RX1 185 RX1 yX1_isThere cX1_isThere 2 (some .boolean) 1 := ⟨q1139, q1141, qs47, q81, q1142, ⟨by decide, by decide⟩, (by unfold nPar; decide +kernel), by decide⟩
theorem ml_X1_188 : MLk RX1 188 RX1 yX1_needTwo cX1_needTwo 4 (some .int) 3 := ⟨q1135, q1137, qs46, q81, q1138, ⟨by decide, by decide⟩, (by unfold nPar; decide +kernel), by decide⟩
theorem ml_X1_192 : MLk RX1 192 RX1 yX1_needWord cX1_needWord 3 (some .int) 2 := ⟨q1151, q1153, qs48, q81, q1154, ⟨by decide, by decide⟩, (by unfold nPar; decide +kernel), by decide⟩
theorem ml_X1_196 : MLk RX1 196 RX1 yX1_markOf cX1_markOf 3 (some .int) 2 := ⟨q1175, q1177, qs49, q81, q1178, ⟨by decide, by decide⟩, (by unfold nPar; decide +kernel), by decide⟩
theorem ml_X1_199 : MLk RX1 199 RX1 yX1_layWays cX1_layWays 5 none 2 := ⟨q1183, q1185, qs50, q81, q1186, ⟨by decide, by decide⟩, (by unfold nPar; decide +kernel), by decide⟩
theorem ml_X1_202 : MLk RX1 202 RX1 yX1_tellsMany cX1_tellsMany 4 (some .int) 2 := ⟨q1187, q1189, qs51, q81, q1190, ⟨by decide, by decide⟩, (by unfold nPar; decide +kernel), by decide⟩
theorem ml_X1_206 : MLk RX1 206 RX1 yX1_next cX1_next 5 (some .int) 3 := ⟨q1199, q1201, qs53, q81, q1202, ⟨by decide, by decide⟩, (by unfold nPar; decide +kernel), by decide⟩
theorem ml_X1_210 : MLk RX1 210 RX1 yX1_layPlaces cX1_layPlaces 7 (some .boolean) 2 := ⟨q1195, q1197, qs52, q81, q1198, ⟨by decide, by decide⟩, (by unfold nPar; decide +kernel), by decide⟩
theorem ml_X1_214 : MLk RX1 214 RX1 yX1_comesToRow cX1_comesToRow 3 none 1 := ⟨q1203, q1205, qs54, q81, q1206, ⟨by decide, by decide⟩, (by unfold nPar; decide +kernel), by decide⟩
theorem ml_X1_217 : MLk RX1 217 RX1 yX1_layInner cX1_layInner 7 none 1 := ⟨q1223, q1225, qs55, q81, q1226, ⟨by decide, by decide⟩, (by unfold nPar; decide +kernel), by decide⟩
theorem ml_X1_220 : MLk RX1 220 RX1 yX1_innersBy cX1_innersBy 6 (some .long) 4 := ⟨q1235, q1237, qs56, q81, q1238, ⟨by decide, by decide⟩, (by unfold nPar; decide +kernel), by decide⟩
theorem ml_X1_230 : MLk RX1 230 RX1 yX1_archesFrom cX1_archesFrom 5 (some .int) 2 := ⟨q1243, q1245, qs57, q81, q1246, ⟨by decide, by decide⟩, (by unfold nPar; decide +kernel), by decide⟩
theorem ml_X1_233 : MLk RX1 233 RX1 yX1_hasAll cX1_hasAll 4 (some .boolean) 3 := ⟨q1255, q1257, qs59, q81, q1258, ⟨by decide, by decide⟩, (by unfold nPar; decide +kernel), by decide⟩
theorem ml_X1_236 : MLk RX1 236 RX1 yX1_layAbsent cX1_layAbsent 7 none 2 := ⟨q1251, q1253, qs58, q81, q1254, ⟨by decide, by decide⟩, (by unfold nPar; decide +kernel), by decide⟩
theorem ml_X1_239 : MLkS RX1 239 yX1_powerOf cX1_powerOf 6 (some .long) 2 := ⟨q1259, q1260, q81, q1261, ⟨by decide, by decide⟩, (by unfold nPar; decide +kernel), by decide⟩
theorem ml_X1_243 : MLkS RX1 243 yX1_has cX1_has 2 (some .boolean) 2 := ⟨q1266, q1267, q81, q1268, ⟨by decide, by decide⟩, (by unfold nPar; decide +kernel), by decide⟩
theorem ml_X1_249 : MLk RX1 249 RX1 yX1_nextOther cX1_nextOther 4 (some .int) 2 := ⟨q1281, q1283, qs62, q81, q1284, ⟨by decide, by decide⟩, (by unfold nPar; decide +kernel), by decide⟩
theorem ml_X1_252 : MLk RX1 252 RX1 yX1_layPart cX1_layPart 6 (some .int) 2 := ⟨q1285, q1287, qs63, q81, q1288, ⟨by decide, by decide⟩, (by unfold nPar; decide +kernel), by decide⟩
theorem ml_X1_255 : MLk RX1 255 RX1 yX1_layOther cX1_layOther 3 none 1 := ⟨q1273, q1275, qs60, q81, q1276, ⟨by decide, by decide⟩, (by unfold nPar; decide +kernel), by decide⟩
theorem ml_X1_258 : MLk RX1 258 RX1 yX1_partsFrom cX1_partsFrom 10 (some .int) 1 := ⟨q1277, q1279, qs61, q81, q1280, ⟨by decide, by decide⟩, (by unfold nPar; decide +kernel), by decide⟩
theorem ml_X1_261 : MLk RX1 261 RX1 yX1_dropOther cX1_dropOther 3 none 1 := ⟨q1297, q1299, qs64, q81, q1300, ⟨by decide, by decide⟩, (by unfold nPar; decide +kernel), by decide⟩
theorem ml_X1_264 : MLk RX1 264 RX1 yX1_backOther cX1_backOther 4 none 2 := ⟨q1301, q1303, qs65, q81, q1304, ⟨by decide, by decide⟩, (by unfold nPar; decide +kernel), by decide⟩
theorem ml_X1_267 : MLkS RX1 267 yX1_bits cX1_bits 3 (some .int) 1 := ⟨q1313, q1314, q81, q1315, ⟨by decide, by decide⟩, (by unfold nPar; decide +kernel), by decide⟩
theorem ml_X1_273 : MLk RX1 273 RX1 yX1_layAt cX1_layAt 4 none 1 := ⟨q1324, q1326, qs69, q81, q1327, ⟨by decide, by decide⟩, (by unfold nPar; decide +kernel), by decide⟩
theorem ml_X1_276 : MLk RX1 276 RX1 yX1_code cX1_code 3 (some .int) 0 := ⟨q1328, q1330, qs70, q81, q1331, ⟨by decide, by decide⟩, (by unfold nPar; decide +kernel), by decide⟩
theorem ml_X1_280 : MLk RX1 280 RX1 yX1_needSeveral cX1_needSeveral 6 (some .int) 2 := ⟨q1309, q1311, qs66, q81, q1312, ⟨by decide, by decide⟩, (by unfold nPar; decide +kernel), by decide⟩
theorem ml_X1_283 : MLk RX1 283 RX1 yX1_allCodes cX1_allCodes 3 (some .int) 0 := ⟨q1316, q1318, qs67, q81, q1319, ⟨by decide, by decide⟩, (by unfold nPar; decide +kernel), by decide⟩
theorem ml_X1_286 : MLk RX1 286 RX1 yX1_behindNext cX1_behindNext 6 (some .int) 2 := ⟨q1320, q1322, qs68, q81, q1323, ⟨by decide, by decide⟩, (by unfold nPar; decide +kernel), by decide⟩
theorem ml_X1_289 : MLk RX1 289 RX1 yX1_behindHere cX1_behindHere 6 (some .int) 2 := ⟨q1336, q1338, qs71, q81, q1339, ⟨by decide, by decide⟩, (by unfold nPar; decide +kernel), by decide⟩
theorem ml_X1_292 : MLk RX1 292 RX1 yX1_oftenIn cX1_oftenIn 7 (some .long) 3 := ⟨q1349, q1351, qs72, q81, q1352, ⟨by decide, by decide⟩, (by unfold nPar; decide +kernel), by decide⟩
theorem ml_X1_298 : MLk RX1 298 RX1 yX1_layOtherBy cX1_layOtherBy 5 none 2 := ⟨q1353, q1355, qs73, q81, q1356, ⟨by decide, by decide⟩, (by unfold nPar; decide +kernel), by decide⟩
theorem ml_X1_301 : MLk RX1 301 RX1 yX1_isTwin cX1_isTwin 6 (some .boolean) 3 := ⟨q1357, q1359, qs74, q81, q1360, ⟨by decide, by decide⟩, (by unfold nPar; decide +kernel), by decide⟩
theorem ml_X1_304 : MLkS RX1 304 yX1_chosen cX1_chosen 5 (some .long) 2 := ⟨q1365, q1366, q81, q1367, ⟨by decide, by decide⟩, (by unfold nPar; decide +kernel), by decide⟩
theorem ml_X1_308 : MLk RX1 308 RX1 yX1_fraction cX1_fraction 12 (some .int) 3 := ⟨q1368, q1370, qs75, q81, q1371, ⟨by decide, by decide⟩, (by unfold nPar; decide +kernel), by decide⟩
theorem ml_X1_312 : MLk RX1 312 RX1 yX1_counted cX1_counted 5 (some .int) 1 := ⟨q1380, q1382, qs76, q81, q1383, ⟨by decide, by decide⟩, (by unfold nPar; decide +kernel), by decide⟩
theorem ml_X1_320 : MLk RX1 320 RX1 yX1_mix cX1_mix 3 none 1 := ⟨q1389, q1391, qs77, q81, q1392, ⟨by decide, by decide⟩, (by unfold nPar; decide +kernel), by decide⟩
theorem ml_X1_328 : MLk RX1 328 RX1 yX1_mixWord cX1_mixWord 3 none 1 := ⟨q1394, q1396, qs78, q81, q1397, ⟨by decide, by decide⟩, (by unfold nPar; decide +kernel), by decide⟩
theorem ck_X0_176 : CLk RX0 176 "WithinWords$Told" 3 3 := by
  refine ⟨q471, ⟨by decide, by decide +kernel⟩, fun c h1 h2 => ?_⟩
  match c, h1, h2 with
  | 0, h, _ => exact absurd h (by decide)
  | 1, h, _ => exact absurd h (by decide)
  | 2, _, _ => exact ⟨_, rfl, ⟨by decide, by decide +kernel⟩, fun h => absurd h (by decide), fun _ => by decide +kernel⟩
  | 3, _, _ => exact ⟨_, rfl, ⟨by decide, by decide +kernel⟩, fun _ => Or.inl rfl, fun h => absurd ⟨by decide, by decide⟩ h⟩
  | 4, _, _ => exact ⟨_, rfl, ⟨by decide, by decide +kernel⟩, fun h => absurd h (by decide), fun _ => by decide +kernel⟩
  | 5, _, _ => exact ⟨_, rfl, ⟨by decide, by decide +kernel⟩, fun h => absurd h (by decide), fun _ => by decide +kernel⟩
  | 6, _, _ => exact ⟨_, rfl, ⟨by decide, by decide +kernel⟩, fun h => absurd h (by decide), fun _ => by decide +kernel⟩
  | c + 7, _, h => exact absurd h (by omega)

theorem ck_X0_192 : CLk RX0 192 "WithinWords$Made" 4 6 := by
  refine ⟨q498, ⟨by decide, by decide +kernel⟩, fun c h1 h2 => ?_⟩
  match c, h1, h2 with
  | 0, h, _ => exact absurd h (by decide)
  | 1, h, _ => exact absurd h (by decide)
  | 2, _, _ => exact ⟨_, rfl, ⟨by decide, by decide +kernel⟩, fun h => absurd h (by decide), fun _ => by decide +kernel⟩
  | 3, _, _ => exact ⟨_, rfl, ⟨by decide, by decide +kernel⟩, fun h => absurd h (by decide), fun _ => by decide +kernel⟩
  | 4, _, _ => exact ⟨_, rfl, ⟨by decide, by decide +kernel⟩, fun _ => Or.inl rfl, fun h => absurd ⟨by decide, by decide⟩ h⟩
  | 5, _, _ => exact ⟨_, rfl, ⟨by decide, by decide +kernel⟩, fun _ => Or.inr q1403, fun h => absurd ⟨by decide, by decide⟩ h⟩
  | 6, _, _ => exact ⟨_, rfl, ⟨by decide, by decide +kernel⟩, fun _ => Or.inr q1402, fun h => absurd ⟨by decide, by decide⟩ h⟩
  | c + 7, _, h => exact absurd h (by omega)

theorem ck_X0_198 : CLk RX0 198 "WithinWords$Turned" 5 5 := by
  refine ⟨q522, ⟨by decide, by decide +kernel⟩, fun c h1 h2 => ?_⟩
  match c, h1, h2 with
  | 0, h, _ => exact absurd h (by decide)
  | 1, h, _ => exact absurd h (by decide)
  | 2, _, _ => exact ⟨_, rfl, ⟨by decide, by decide +kernel⟩, fun h => absurd h (by decide), fun _ => by decide +kernel⟩
  | 3, _, _ => exact ⟨_, rfl, ⟨by decide, by decide +kernel⟩, fun h => absurd h (by decide), fun _ => by decide +kernel⟩
  | 4, _, _ => exact ⟨_, rfl, ⟨by decide, by decide +kernel⟩, fun h => absurd h (by decide), fun _ => by decide +kernel⟩
  | 5, _, _ => exact ⟨_, rfl, ⟨by decide, by decide +kernel⟩, fun _ => Or.inl rfl, fun h => absurd ⟨by decide, by decide⟩ h⟩
  | 6, _, _ => exact ⟨_, rfl, ⟨by decide, by decide +kernel⟩, fun h => absurd h (by decide), fun _ => by decide +kernel⟩
  | c + 7, _, h => exact absurd h (by omega)

theorem ck_X0_207 : CLk RX0 207 "WithinWords$Dropped" 6 6 := by
  refine ⟨q550, ⟨by decide, by decide +kernel⟩, fun c h1 h2 => ?_⟩
  match c, h1, h2 with
  | 0, h, _ => exact absurd h (by decide)
  | 1, h, _ => exact absurd h (by decide)
  | 2, _, _ => exact ⟨_, rfl, ⟨by decide, by decide +kernel⟩, fun h => absurd h (by decide), fun _ => by decide +kernel⟩
  | 3, _, _ => exact ⟨_, rfl, ⟨by decide, by decide +kernel⟩, fun h => absurd h (by decide), fun _ => by decide +kernel⟩
  | 4, _, _ => exact ⟨_, rfl, ⟨by decide, by decide +kernel⟩, fun h => absurd h (by decide), fun _ => by decide +kernel⟩
  | 5, _, _ => exact ⟨_, rfl, ⟨by decide, by decide +kernel⟩, fun h => absurd h (by decide), fun _ => by decide +kernel⟩
  | 6, _, _ => exact ⟨_, rfl, ⟨by decide, by decide +kernel⟩, fun _ => Or.inl rfl, fun h => absurd ⟨by decide, by decide⟩ h⟩
  | c + 7, _, h => exact absurd h (by omega)

