/-! the pure functions of the methods (written by gen2.py) -/
set_option maxRecDepth 100000
def fX2_init (φ : Nat) (this : Nat) (v1 : Option Nat) (σ : St) : Option (St) :=
  (pfR σ (some this) 2 6 0 v1).bind fun s1 =>
  some s1
def fX2_kind (φ : Nat) (this : Nat) (σ : St) : Option (Int32) :=
  some (0 : Int32)
def fX2_is (φ : Nat) (this : Nat) (v1 : Int32) (σ : St) : Option (Int32) :=
  (if v1 = 0 then some (1 : Int32)
  else some (0 : Int32))
def fX2_tells (φ : Nat) (this : Nat) (σ : St) : Option (Int32) :=
  some (0 : Int32)
def fX3_init (φ : Nat) (this : Nat) (v1 : Option Nat) (v2 : Int32) (σ : St) : Option (St) :=
  (((some this)).bind fun o => fX2_init φ o v1 σ).bind fun y1 =>
  (pfI y1 (some this) 3 3 1 v2).bind fun s2 =>
  some s2
def fX3_kind (φ : Nat) (this : Nat) (σ : St) : Option (Int32) :=
  some (1 : Int32)
def fX3_is (φ : Nat) (this : Nat) (v1 : Int32) (σ : St) : Option (Int32) :=
  (if v1 = (1 : Int32) then some (1 : Int32)
  else (cW σ (some this) 3 3 fun o => fX2_is φ o v1 σ).bind fun y2 =>
  (if y2 = 0 then some (0 : Int32)
  else some (1 : Int32)))
def fX3_tells (φ : Nat) (this : Nat) (σ : St) : Option (Int32) :=
  (gfI σ (some this) 3 3 1).bind fun x1 =>
  some x1
def fX4_init (φ : Nat) (this : Nat) (v1 : Option Nat) (v2 : Int32) (σ : St) : Option (St) :=
  (((some this)).bind fun o => fX2_init φ o v1 σ).bind fun y1 =>
  (pfI y1 (some this) 4 6 1 v2).bind fun s2 =>
  some s2
def fX4_kind (φ : Nat) (this : Nat) (σ : St) : Option (Int32) :=
  some (2 : Int32)
def fX4_is (φ : Nat) (this : Nat) (v1 : Int32) (σ : St) : Option (Int32) :=
  (if v1 = (2 : Int32) then some (1 : Int32)
  else (cW σ (some this) 4 6 fun o => fX2_is φ o v1 σ).bind fun y2 =>
  (if y2 = 0 then some (0 : Int32)
  else some (1 : Int32)))
def fX4_tells (φ : Nat) (this : Nat) (σ : St) : Option (Int32) :=
  (gfI σ (some this) 4 6 1).bind fun x1 =>
  some x1
def fX5_init (φ : Nat) (this : Nat) (v1 : Option Nat) (v2 : Int32) (v3 : Int32) (σ : St) : Option (St) :=
  (((some this)).bind fun o => fX4_init φ o v1 v2 σ).bind fun y1 =>
  (pfI y1 (some this) 5 5 2 v3).bind fun s2 =>
  some s2
def fX5_kind (φ : Nat) (this : Nat) (σ : St) : Option (Int32) :=
  some (3 : Int32)
def fX5_is (φ : Nat) (this : Nat) (v1 : Int32) (σ : St) : Option (Int32) :=
  (if v1 = (3 : Int32) then some (1 : Int32)
  else (cW σ (some this) 5 5 fun o => fX4_is φ o v1 σ).bind fun y2 =>
  (if y2 = 0 then some (0 : Int32)
  else some (1 : Int32)))
def fX5_tells (φ : Nat) (this : Nat) (σ : St) : Option (Int32) :=
  (gfI σ (some this) 5 5 2).bind fun x1 =>
  some x1
def fX6_init (φ : Nat) (this : Nat) (v1 : Option Nat) (v2 : Int32) (v3 : Int32) (σ : St) : Option (St) :=
  (((some this)).bind fun o => fX4_init φ o v1 v2 σ).bind fun y1 =>
  (pfI y1 (some this) 6 6 2 v3).bind fun s2 =>
  some s2
def fX6_kind (φ : Nat) (this : Nat) (σ : St) : Option (Int32) :=
  some (4 : Int32)
def fX6_is (φ : Nat) (this : Nat) (v1 : Int32) (σ : St) : Option (Int32) :=
  (if v1 = (4 : Int32) then some (1 : Int32)
  else (cW σ (some this) 6 6 fun o => fX4_is φ o v1 σ).bind fun y2 =>
  (if y2 = 0 then some (0 : Int32)
  else some (1 : Int32)))
def fX6_tells (φ : Nat) (this : Nat) (σ : St) : Option (Int32) :=
  (gfI σ (some this) 6 6 2).bind fun x1 =>
  some x1
def fV_kind (φ : Nat) (o : Nat) (σ : St) : Option Int32 :=
  if sK σ o = 10 then fX2_kind φ o σ else if sK σ o = 11 then fX3_kind φ o σ else if sK σ o = 12 then fX4_kind φ o σ else if sK σ o = 13 then fX5_kind φ o σ else if sK σ o = 14 then fX6_kind φ o σ else none
def fV_is (φ : Nat) (o : Nat) (v1 : Int32) (σ : St) : Option Int32 :=
  if sK σ o = 10 then fX2_is φ o v1 σ else if sK σ o = 11 then fX3_is φ o v1 σ else if sK σ o = 12 then fX4_is φ o v1 σ else if sK σ o = 13 then fX5_is φ o v1 σ else if sK σ o = 14 then fX6_is φ o v1 σ else none
def fV_tells (φ : Nat) (o : Nat) (σ : St) : Option Int32 :=
  if sK σ o = 10 then fX2_tells φ o σ else if sK σ o = 11 then fX3_tells φ o σ else if sK σ o = 12 then fX4_tells φ o σ else if sK σ o = 13 then fX5_tells φ o σ else if sK σ o = 14 then fX6_tells φ o σ else none
def fX0_init (φ : Nat) (this : Nat) (σ : St) : Option (St) :=
  (newA σ 1 (6 : Int32)).bind fun n1 =>
  (pfR n1.2 (some this) 0 0 1 n1.1).bind fun s2 =>
  (pfL s2 (some this) 0 0 5 (1 : Int64)).bind fun s3 =>
  (pfI s3 (some this) 0 0 6 (3 : Int32)).bind fun s4 =>
  (newA s4 5 (6 : Int32)).bind fun n5 =>
  (pfR n5.2 (some this) 0 0 7 n5.1).bind fun s6 =>
  (newA s6 6 (4 : Int32)).bind fun n7 =>
  (pfR n7.2 (some this) 0 0 8 n7.1).bind fun s8 =>
  (newA s8 7 (8 : Int32)).bind fun n9 =>
  (pfR n9.2 (some this) 0 0 9 n9.1).bind fun s10 =>
  (newA s10 2 (40 : Int32)).bind fun n11 =>
  (pfR n11.2 (some this) 0 0 13 n11.1).bind fun s12 =>
  (newA s12 1 (246 : Int32)).bind fun n13 =>
  (pfR n13.2 (some this) 0 0 14 n13.1).bind fun s14 =>
  (newA s14 1 (246 : Int32)).bind fun n15 =>
  (pfR n15.2 (some this) 0 0 15 n15.1).bind fun s16 =>
  (newA s16 1 (40 : Int32)).bind fun n17 =>
  (pfR n17.2 (some this) 0 0 16 n17.1).bind fun s18 =>
  (newA s18 1 (40 : Int32)).bind fun n19 =>
  (pfR n19.2 (some this) 0 0 17 n19.1).bind fun s20 =>
  (newA s20 3 (1681 : Int32)).bind fun n21 =>
  (pfR n21.2 (some this) 0 0 18 n21.1).bind fun s22 =>
  (newA s22 1 (1681 : Int32)).bind fun n23 =>
  (pfR n23.2 (some this) 0 0 21 n23.1).bind fun s24 =>
  (newA s24 1 (1681 : Int32)).bind fun n25 =>
  (pfR n25.2 (some this) 0 0 22 n25.1).bind fun s26 =>
  (newA s26 1 (1681 : Int32)).bind fun n27 =>
  (pfR n27.2 (some this) 0 0 23 n27.1).bind fun s28 =>
  (newA s28 1 (4 : Int32)).bind fun n29 =>
  (pfR n29.2 (some this) 0 0 27 n29.1).bind fun s30 =>
  (newA s30 1 (4 : Int32)).bind fun n31 =>
  (pfR n31.2 (some this) 0 0 28 n31.1).bind fun s32 =>
  (newA s32 1 (984 : Int32)).bind fun n33 =>
  (pfR n33.2 (some this) 0 0 29 n33.1).bind fun s34 =>
  (newA s34 1 (20000 : Int32)).bind fun n35 =>
  (pfR n35.2 (some this) 0 0 30 n35.1).bind fun s36 =>
  (newA s36 1 (20000 : Int32)).bind fun n37 =>
  (pfR n37.2 (some this) 0 0 31 n37.1).bind fun s38 =>
  (pfL s38 (some this) 0 0 3 (0 : Int64)).bind fun s39 =>
  some s39
def fX0_isIn (φ : Nat) (v0 : Int32) (v1 : Int32) (v2 : Int32) (σ : St) : Option (Int32) :=
  (if v0 < v1 then some (0 : Int32)
  else (if v2 < v0 then some (0 : Int32)
  else some (1 : Int32)))
def fX0_isRow (φ : Nat) (v0 : Int32) (σ : St) : Option (Int32) :=
  (fX0_isIn φ v0 (0 : Int32) (5 : Int32) σ).bind fun y1 =>
  chk (y1 = 0 ∨ y1 = 1) <|
  some y1
def fX0_met (φ : Nat) (this : Nat) (v1 : Int32) (σ : St) : Option (Int32 × St) :=
  (pfI σ (some this) 0 0 0 v1).bind fun s1 =>
  (gfR s1 (some this) 0 0 1).bind fun x2 =>
  (ldI s1 x2 1 v1).bind fun x3 =>
  (stI s1 x2 v1 (x3 + (1 : Int32))).bind fun s4 =>
  some ((-3 : Int32), s4)
def fX0_row (φ : Nat) (this : Nat) (v1 : Int32) (v2 : Int32) (σ : St) : Option (Int32 × St) :=
  (fX0_isRow φ v1 σ).bind fun y1 =>
  (if y1 = 0 then some ((-1 : Int32), σ)
  else (if v2 ≤ (40 : Int32) then (gfR σ (some this) 0 0 7).bind fun x4 =>
  (if v2 < 0 then (junk σ 3 2000).bind fun s8 =>
  (cV s8 (some this) 0 fun o => fX0_met φ o (5 : Int32) s8).bind fun y9 =>
  some (y9.1, y9.2)
  else (newA σ 1 v2).bind fun n5 =>
  (stR n5.2 x4 5 1 1 v1 n5.1).bind fun s6 =>
  some (v2, s6))
  else some ((-1 : Int32), σ)))
def fX0_ask (φ : Nat) (this : Nat) (v1 : Int32) (v2 : Int32) (σ : St) : Option (Int32 × St) :=
  (pfI σ (some this) 0 0 2 v1).bind fun s1 =>
  some (v2, s1)
def fX0_at (φ : Nat) (this : Nat) (v1 : Int32) (v2 : Int32) (σ : St) : Option (Int32 × St) :=
  (fX0_isRow φ v1 σ).bind fun y1 =>
  (if y1 = 0 then some ((-1 : Int32), σ)
  else (gfR σ (some this) 0 0 7).bind fun x3 =>
  (ldR σ x3 5 v1).bind fun x4 =>
  (if x4 = none then (junk σ 1 2000).bind fun s10 =>
  (cV s10 (some this) 0 fun o => fX0_met φ o (1 : Int32) s10).bind fun y11 =>
  some (y11.1, y11.2)
  else if outA σ x4 v2 = true then chk (isK σ x4 1 = true) <|
  (junk σ 3 2000).bind fun s12 =>
  (cV s12 (some this) 0 fun o => fX0_met φ o (2 : Int32) s12).bind fun y13 =>
  some (y13.1, y13.2)
  else (ldI σ x4 1 v2).bind fun x5 =>
  (cV σ (some this) 0 fun o => fX0_ask φ o x5 (1 : Int32) σ).bind fun y6 =>
  some (y6.1, y6.2)))
def fX0_lay (φ : Nat) (this : Nat) (v1 : Int32) (v2 : Int32) (v3 : Int32) (σ : St) : Option (Int32 × St) :=
  (cV σ (some this) 0 fun o => fX0_at φ o v1 v2 σ).bind fun y1 =>
  (if y1.1 = (1 : Int32) then (gfR y1.2 (some this) 0 0 7).bind fun x3 =>
  (ldR y1.2 x3 5 v1).bind fun x4 =>
  (stI y1.2 x4 v2 v3).bind fun s5 =>
  some (y1.1, s5)
  else some (y1.1, y1.2))
def fX0_tear (φ : Nat) (this : Nat) (v1 : Int32) (σ : St) : Option (Int32 × St) :=
  (fX0_isRow φ v1 σ).bind fun y1 =>
  (if y1 = 0 then some ((-1 : Int32), σ)
  else (gfR σ (some this) 0 0 7).bind fun x3 =>
  (ldR σ x3 5 v1).bind fun x4 =>
  (if x4 = none then (junk σ 1 2000).bind fun s9 =>
  (cV s9 (some this) 0 fun o => fX0_met φ o (1 : Int32) s9).bind fun y10 =>
  some (y10.1, y10.2)
  else (alen σ x4).bind fun x5 =>
  (gfR σ (some this) 0 0 7).bind fun x6 =>
  (stR σ x6 5 1 1 v1 none).bind fun s7 =>
  some ((1 : Int32), s7)))
def fX0_mean_l27 (φ : Nat) (this : Nat) (v1 : Int32) (v4 : Option Nat) (v5 : Int32) (σ : St) (v2 : Int64) (v6 : Int32) : Option ((Int64 × Int32) ⊕ (Int64)) :=
  (if v5 ≤ v6 then some (.inr v2)
  else (ldI σ v4 1 v6).bind fun x7 =>
  some (.inl ((v2 + (x7.toInt64)), (v6 + (1 : Int32)))))
def fX0_mean (φ : Nat) (this : Nat) (v1 : Int32) (σ : St) : Option (Int32 × St) :=
  (fX0_isRow φ v1 σ).bind fun y1 =>
  (if y1 = 0 then some ((-1 : Int32), σ)
  else (gfR σ (some this) 0 0 7).bind fun x3 =>
  (ldR σ x3 5 v1).bind fun x4 =>
  (if x4 = none then (junk σ 1 2000).bind fun s19 =>
  (cV s19 (some this) 0 fun o => fX0_met φ o (1 : Int32) s19).bind fun y20 =>
  some (y20.1, y20.2)
  else (alen σ x4).bind fun x5 =>
  (it (fun s : Int64 × Int32 => fX0_mean_l27 φ this v1 x4 x5 σ s.1 s.2) φ ((0 : Int64), (0 : Int32))).bind fun e8 =>
  (gfR σ (some this) 0 0 7).bind fun x10 =>
  (ldR σ x10 5 v1).bind fun x11 =>
  (alen σ x11).bind fun x12 =>
  (if (x12.toInt64) = 0 then (junk σ 3 2000).bind fun s16 =>
  (cV s16 (some this) 0 fun o => fX0_met φ o (4 : Int32) s16).bind fun y17 =>
  some (y17.1, y17.2)
  else chk (¬ (x12.toInt64) = 0) <|
  (cV σ (some this) 0 fun o => fX0_ask φ o ((e8 / (x12.toInt64)).toInt32) (1 : Int32) σ).bind fun y14 =>
  some (y14.1, y14.2))))
def fX0_isText (φ : Nat) (v0 : Int32) (σ : St) : Option (Int32) :=
  (fX0_isIn φ v0 (0 : Int32) (3 : Int32) σ).bind fun y1 =>
  chk (y1 = 0 ∨ y1 = 1) <|
  some y1
def fX0_text_l22 (φ : Nat) (this : Nat) (v1 : Int32) (v2 : Int32) (v3 : Option Nat) (v4 : Int32) (σ : St) : Option ((Int32 × St) ⊕ (St)) :=
  (if v2 ≤ v4 then some (.inr σ)
  else (stB σ v3 v4 (32 : Int32)).bind fun s6 =>
  some (.inl ((v4 + (1 : Int32)), s6)))
def fX0_text (φ : Nat) (this : Nat) (v1 : Int32) (v2 : Int32) (σ : St) : Option (Int32 × St) :=
  (fX0_isText φ v1 σ).bind fun y1 =>
  (if y1 = 0 then some ((-1 : Int32), σ)
  else (if v2 ≤ (60 : Int32) then (if v2 < 0 then (junk σ 3 2000).bind fun s12 =>
  (cV s12 (some this) 0 fun o => fX0_met φ o (5 : Int32) s12).bind fun y13 =>
  some (y13.1, y13.2)
  else (newA σ 2 v2).bind fun n4 =>
  (it (fun s : Int32 × St => fX0_text_l22 φ this v1 v2 n4.1 s.1 s.2) φ ((0 : Int32), n4.2)).bind fun e7 =>
  (gfR e7 (some this) 0 0 8).bind fun x9 =>
  (stR e7 x9 6 2 2 v1 n4.1).bind fun s10 =>
  some (v2, s10))
  else some ((-1 : Int32), σ)))
def fX0_put (φ : Nat) (this : Nat) (v1 : Int32) (v2 : Int32) (v3 : Int32) (σ : St) : Option (Int32 × St) :=
  (fX0_isText φ v1 σ).bind fun y1 =>
  (if y1 = 0 then some ((-1 : Int32), σ)
  else (gfR σ (some this) 0 0 8).bind fun x3 =>
  (ldR σ x3 6 v1).bind fun x4 =>
  (if x4 = none then (junk σ 1 2000).bind fun s12 =>
  (cV s12 (some this) 0 fun o => fX0_met φ o (1 : Int32) s12).bind fun y13 =>
  some (y13.1, y13.2)
  else if outA σ x4 v2 = true then chk (isK σ x4 2 = true) <|
  (junk σ 3 2000).bind fun s14 =>
  (cV s14 (some this) 0 fun o => fX0_met φ o (2 : Int32) s14).bind fun y15 =>
  some (y15.1, y15.2)
  else (ldI σ x4 2 v2).bind fun x5 =>
  (gfR σ (some this) 0 0 8).bind fun x6 =>
  (ldR σ x6 6 v1).bind fun x7 =>
  (stB σ x7 v2 (v3.toInt8.toInt32)).bind fun s8 =>
  some ((x5 + (1000 : Int32)), s8)))
def fX0_letters_l38 (φ : Nat) (this : Nat) (v1 : Int32) (v2 : Option Nat) (v3 : Int32) (v4 : Int32) (v5 : Option Nat) (σ : St) (v6 : Int32) : Option ((Int32) ⊕ ((Unit) ⊕ (Unit))) :=
  (if v5 = none then some (.inr (.inl ()))
  else (gfR σ v5 2 6 0).bind fun x8 =>
  (alen σ x8).bind fun x9 =>
  (if x9 ≤ v6 then some (.inr (.inl ()))
  else (gfR σ v5 2 6 0).bind fun x11 =>
  (ldI σ x11 2 v6).bind fun x12 =>
  (if x12 < v1 then some (.inl (v6 + (1 : Int32)))
  else some (.inr (.inr ())))))
def fX0_letters_l23 (φ : Nat) (this : Nat) (v1 : Int32) (v2 : Option Nat) (v3 : Int32) (σ : St) (v4 : Int32) : Option ((Int32) ⊕ ((Unit) ⊕ (Unit))) :=
  (if v3 ≤ v4 then some (.inr (.inl ()))
  else (ldR σ v2 7 v4).bind fun x6 =>
  ((it (fun s : Int32 => fX0_letters_l38 φ this v1 v2 v3 v4 x6 σ s) φ (0 : Int32)).bind fun e14 =>
  match e14 with
  | (.inl e16) => some (.inl (v4 + (1 : Int32)))
  | (.inr e17) => some (.inr (.inr ()))))
def fX0_letters (φ : Nat) (this : Nat) (v1 : Int32) (σ : St) : Option (Int32 × St) :=
  (fX0_isIn φ v1 (1 : Int32) (6 : Int32) σ).bind fun y1 =>
  (if y1 = 0 then some ((-1 : Int32), σ)
  else (gfR σ (some this) 0 0 9).bind fun x3 =>
  (alen σ x3).bind fun x4 =>
  ((it (fun s : Int32 => fX0_letters_l23 φ this v1 x3 x4 σ s) φ (0 : Int32)).bind fun e18 =>
  match e18 with
  | (.inl e20) => (gfI σ (some this) 0 0 6).bind fun x22 =>
  (pfI σ (some this) 0 0 6 v1).bind fun s23 =>
  some (x22, s23)
  | (.inr e21) => some ((-4 : Int32), σ)))
def fX0_isWord (φ : Nat) (v0 : Int32) (σ : St) : Option (Int32) :=
  (fX0_isIn φ v0 (0 : Int32) (7 : Int32) σ).bind fun y1 =>
  chk (y1 = 0 ∨ y1 = 1) <|
  some y1
def fX0_word_l29 (φ : Nat) (this : Nat) (v1 : Int32) (v2 : Int32) (v3 : Option Nat) (v4 : Int32) (σ : St) : Option ((Int32 × St) ⊕ ((St) ⊕ (St))) :=
  (alen σ v3).bind fun x9 =>
  (if x9 ≤ v4 then some (.inr (.inl σ))
  else (gfR σ (some this) 0 0 7).bind fun x11 =>
  (ldR σ x11 5 v2).bind fun x12 =>
  (ldI σ x12 1 v4).bind fun x13 =>
  (gfI σ (some this) 0 0 6).bind fun x14 =>
  (fX0_isIn φ x13 (0 : Int32) (x14 - (1 : Int32)) σ).bind fun y15 =>
  (if y15 = 0 then some (.inr (.inr σ))
  else (gfR σ (some this) 0 0 7).bind fun x17 =>
  (ldR σ x17 5 v2).bind fun x18 =>
  (ldI σ x18 1 v4).bind fun x19 =>
  (stB σ v3 v4 (x19.toInt8.toInt32)).bind fun s20 =>
  some (.inl ((v4 + (1 : Int32)), s20))))
def fX0_word (φ : Nat) (this : Nat) (v1 : Int32) (v2 : Int32) (σ : St) : Option (Int32 × St) :=
  (fX0_isWord φ v1 σ).bind fun y1 =>
  (if y1 = 0 then some ((-1 : Int32), σ)
  else (fX0_isRow φ v2 σ).bind fun y3 =>
  (if y3 = 0 then some ((-1 : Int32), σ)
  else (gfR σ (some this) 0 0 7).bind fun x5 =>
  (ldR σ x5 5 v2).bind fun x6 =>
  (if x6 = none then (junk σ 1 2000).bind fun s32 =>
  (cV s32 (some this) 0 fun o => fX0_met φ o (1 : Int32) s32).bind fun y33 =>
  some (y33.1, y33.2)
  else (alen σ x6).bind fun x7 =>
  (newA σ 2 x7).bind fun n8 =>
  ((it (fun s : Int32 × St => fX0_word_l29 φ this v1 v2 n8.1 s.1 s.2) φ ((0 : Int32), n8.2)).bind fun e21 =>
  match e21 with
  | (.inl e23) => (gfR e23 (some this) 0 0 9).bind fun x25 =>
  (newO e23 2 1).bind fun n26 =>
  ((n26.1).bind fun o => fX2_init φ o n8.1 n26.2).bind fun y27 =>
  (stR y27 x25 7 10 14 v1 n26.1).bind fun s28 =>
  (alen s28 n8.1).bind fun x29 =>
  some (x29, s28)
  | (.inr e24) => (cV e24 (some this) 0 fun o => fX0_met φ o (3 : Int32) e24).bind fun y30 =>
  some (y30.1, y30.2)))))
def fX0_here (φ : Nat) (this : Nat) (σ : St) : Option (Int32) :=
  (gfI σ (some this) 0 0 11).bind fun x1 =>
  (gfR σ (some this) 0 0 10).bind fun x2 =>
  (alen σ x2).bind fun x3 =>
  (if x3 ≤ x1 then some (-9 : Int32)
  else (gfR σ (some this) 0 0 10).bind fun x5 =>
  (gfI σ (some this) 0 0 11).bind fun x6 =>
  (ldI σ x5 2 x6).bind fun x7 =>
  some x7)
def fX0_skips_l0 (φ : Nat) (this : Nat) (σ : St) : Option ((St) ⊕ (St)) :=
  (cV σ (some this) 0 fun o => fX0_here φ o  σ).bind fun y1 =>
  (if y1 = (32 : Int32) then (gfI σ (some this) 0 0 11).bind fun x3 =>
  (pfI σ (some this) 0 0 11 (x3 + (1 : Int32))).bind fun s4 =>
  some (.inl s4)
  else some (.inr σ))
def fX0_skips (φ : Nat) (this : Nat) (σ : St) : Option (St) :=
  (it (fun s : St => fX0_skips_l0 φ this s) φ σ).bind fun e5 =>
  some e5
def fX0_add_b19 (φ : Nat) (this : Nat) (σ : St) : Option (St) :=
  (gfI σ (some this) 0 0 12).bind fun x3 =>
  (pfI σ (some this) 0 0 12 (min32 (1000 : Int32) (x3 + (1 : Int32)))).bind fun s4 =>
  some s4
def fX0_add (φ : Nat) (this : Nat) (v1 : Int32) (σ : St) : Option (St) :=
  (gfI σ (some this) 0 0 12).bind fun x1 =>
  (if (40 : Int32) ≤ x1 then fX0_add_b19 φ this σ
  else (gfR σ (some this) 0 0 13).bind fun x5 =>
  (gfI σ (some this) 0 0 12).bind fun x6 =>
  (stB σ x5 x6 v1).bind fun s7 =>
  fX0_add_b19 φ this s7)
def fX0_repeats_b81 (φ : Nat) (this : Nat) (v1 : Int32) (v2 : Int32) (v3 : Int32) (v4 : Int32) (v5 : Int32) (k0 : Option Nat) (k1 : Int32) (σ : St) : Option ((Int32 × St) ⊕ (St)) :=
  (cV σ k0 0 fun o => fX0_add φ o k1 σ).bind fun y11 =>
  some (.inl ((v5 + (1 : Int32)), y11))
def fX0_repeats_l52 (φ : Nat) (this : Nat) (v1 : Int32) (v2 : Int32) (v3 : Int32) (v4 : Int32) (v5 : Int32) (σ : St) : Option ((Int32 × St) ⊕ (St)) :=
  (if v3 ≤ v5 then some (.inr σ)
  else (if (40 : Int32) ≤ (v1 + v5) then fX0_repeats_b81 φ this v1 v2 v3 v4 v5 (some this) (0 : Int32) σ
  else (gfR σ (some this) 0 0 13).bind fun x12 =>
  (ldI σ x12 2 (v1 + v5)).bind fun x13 =>
  fX0_repeats_b81 φ this v1 v2 v3 v4 v5 (some this) x13 σ))
def fX0_repeats_l43 (φ : Nat) (this : Nat) (v1 : Int32) (v2 : Int32) (v3 : Int32) (v4 : Int32) (σ : St) : Option ((Int32 × St) ⊕ (St)) :=
  (if v2 ≤ v4 then some (.inr σ)
  else (it (fun s : Int32 × St => fX0_repeats_l52 φ this v1 v2 v3 v4 s.1 s.2) φ ((0 : Int32), σ)).bind fun e14 =>
  some (.inl ((v4 + (1 : Int32)), e14)))
def fX0_repeats (φ : Nat) (this : Nat) (v1 : Int32) (σ : St) : Option (St) :=
  (cV σ (some this) 0 fun o => fX0_here φ o  σ).bind fun y1 =>
  (fX0_isIn φ y1 (49 : Int32) (57 : Int32) σ).bind fun y2 =>
  (if y2 = 0 then some σ
  else (cV σ (some this) 0 fun o => fX0_here φ o  σ).bind fun y4 =>
  (gfI σ (some this) 0 0 11).bind fun x5 =>
  (pfI σ (some this) 0 0 11 (x5 + (1 : Int32))).bind fun s6 =>
  (gfI s6 (some this) 0 0 12).bind fun x7 =>
  (it (fun s : Int32 × St => fX0_repeats_l43 φ this v1 (y4 - (48 : Int32)) (x7 - v1) s.1 s.2) φ ((1 : Int32), s6)).bind fun e16 =>
  some e16)
def fX0_readsItems_b108 (φ : Nat) (rec : Nat → Int32 → St → Option (Int32 × St)) (this : Nat) (v1 : Int32) (v4 : Int32) (σ : St) : Option ((Int32 × St) ⊕ ((Int32 × St) ⊕ (St))) :=
  (cV σ (some this) 0 fun o => fX0_repeats φ o v4 σ).bind fun y16 =>
  some (.inl ((1 : Int32), y16))
def fX0_readsItems_l2 (φ : Nat) (rec : Nat → Int32 → St → Option (Int32 × St)) (this : Nat) (v1 : Int32) (v2 : Int32) (σ : St) : Option ((Int32 × St) ⊕ ((Int32 × St) ⊕ (St))) :=
  (cV σ (some this) 0 fun o => fX0_here φ o  σ).bind fun y1 =>
  (gfI σ (some this) 0 0 12).bind fun x2 =>
  (gfI σ (some this) 0 0 6).bind fun x3 =>
  (fX0_isIn φ y1 (97 : Int32) ((96 : Int32) + x3) σ).bind fun y4 =>
  (if y4 = 0 then (if y1 = (40 : Int32) then (if (4 : Int32) ≤ v1 then some (.inr (.inl (v2, σ)))
  else (gfI σ (some this) 0 0 11).bind fun x8 =>
  (pfI σ (some this) 0 0 11 (x8 + (1 : Int32))).bind fun s9 =>
  (cV s9 (some this) 0 fun o => rec o (v1 + (1 : Int32)) s9).bind fun y10 =>
  (if y10.1 = 0 then some (.inr (.inr y10.2))
  else (cV y10.2 (some this) 0 fun o => fX0_here φ o  y10.2).bind fun y12 =>
  (if y12 = (41 : Int32) then (gfI y10.2 (some this) 0 0 11).bind fun x14 =>
  (pfI y10.2 (some this) 0 0 11 (x14 + (1 : Int32))).bind fun s15 =>
  fX0_readsItems_b108 φ rec this v1 x2 s15
  else some (.inr (.inr y10.2)))))
  else some (.inr (.inl (v2, σ))))
  else (gfI σ (some this) 0 0 11).bind fun x17 =>
  (pfI σ (some this) 0 0 11 (x17 + (1 : Int32))).bind fun s18 =>
  (cV s18 (some this) 0 fun o => fX0_add φ o ((y1 - (97 : Int32)).toInt8.toInt32) s18).bind fun y19 =>
  fX0_readsItems_b108 φ rec this v1 x2 y19)
def fX0_readsItems_m (φ : Nat) (rec : Nat → Int32 → St → Option (Int32 × St)) (this : Nat) (v1 : Int32) (σ : St) : Option (Int32 × St) :=
  ((it (fun s : Int32 × St => fX0_readsItems_l2 φ rec this v1 s.1 s.2) φ ((0 : Int32), σ)).bind fun e20 =>
  match e20 with
  | (.inl e22) => chk (e22.1 = 0 ∨ e22.1 = 1) <|
  some (e22.1, e22.2)
  | (.inr e23) => some ((0 : Int32), e23))
def fX0_readsItems_r (φ : Nat) : Nat → Nat → Int32 → St → Option (Int32 × St)
  | 0, _, _, _ => none
  | δ + 1, this, v1, σ => fX0_readsItems_m φ (fX0_readsItems_r φ δ) this v1 σ
def fX0_readsItems (φ : Nat) (this : Nat) (v1 : Int32) (σ : St) : Option (Int32 × St) := fX0_readsItems_r φ 6 this v1 σ
def fX0_reads (φ : Nat) (this : Nat) (v1 : Option Nat) (σ : St) : Option (Int32 × St) :=
  (pfR σ (some this) 0 0 10 v1).bind fun s1 =>
  (pfI s1 (some this) 0 0 11 (0 : Int32)).bind fun s2 =>
  (pfI s2 (some this) 0 0 12 (0 : Int32)).bind fun s3 =>
  (cV s3 (some this) 0 fun o => fX0_skips φ o  s3).bind fun y4 =>
  (gfI y4 (some this) 0 0 11).bind fun x5 =>
  (alen y4 v1).bind fun x6 =>
  (if x5 = x6 then some ((-9 : Int32), y4)
  else (cV y4 (some this) 0 fun o => fX0_readsItems φ o (0 : Int32) y4).bind fun y8 =>
  (if y8.1 = 0 then (gfI y8.2 (some this) 0 0 11).bind fun x15 =>
  some (x15, y8.2)
  else (cV y8.2 (some this) 0 fun o => fX0_skips φ o  y8.2).bind fun y10 =>
  (gfI y10 (some this) 0 0 11).bind fun x11 =>
  (alen y10 v1).bind fun x12 =>
  (if x11 = x12 then some ((-9 : Int32), y10)
  else (gfI y10 (some this) 0 0 11).bind fun x14 =>
  some (x14, y10))))
def fX0_fault (φ : Nat) (this : Nat) (v1 : Int32) (σ : St) : Option (Int32 × St) :=
  (fX0_isText φ v1 σ).bind fun y1 =>
  (if y1 = 0 then some ((-1 : Int32), σ)
  else (gfR σ (some this) 0 0 8).bind fun x3 =>
  (ldR σ x3 6 v1).bind fun x4 =>
  (if x4 = none then (cV σ (some this) 0 fun o => fX0_met φ o (1 : Int32) σ).bind fun y9 =>
  some (y9.1, y9.2)
  else (gfR σ (some this) 0 0 8).bind fun x6 =>
  (ldR σ x6 6 v1).bind fun x7 =>
  (cV σ (some this) 0 fun o => fX0_reads φ o x7 σ).bind fun y8 =>
  some (y8.1, y8.2)))
def fX0_cut (φ : Nat) (v0 : Option Nat) (v1 : Int32) (v2 : Int32) (σ : St) : Option ((Option Nat) × St) :=
  (newA σ 2 v2).bind fun n1 =>
  (acopy n1.2 v0 v1 n1.1 (0 : Int32) v2).bind fun s2 =>
  some (n1.1, s2)
def fX0_tell (φ : Nat) (this : Nat) (v1 : Int32) (v2 : Int32) (σ : St) : Option (Int32 × St) :=
  (fX0_isWord φ v1 σ).bind fun y1 =>
  (if y1 = 0 then some ((-1 : Int32), σ)
  else (fX0_isText φ v2 σ).bind fun y3 =>
  (if y3 = 0 then some ((-1 : Int32), σ)
  else (gfR σ (some this) 0 0 8).bind fun x5 =>
  (ldR σ x5 6 v2).bind fun x6 =>
  (if x6 = none then (cV σ (some this) 0 fun o => fX0_met φ o (1 : Int32) σ).bind fun y25 =>
  some (y25.1, y25.2)
  else (gfR σ (some this) 0 0 8).bind fun x8 =>
  (ldR σ x8 6 v2).bind fun x9 =>
  (cV σ (some this) 0 fun o => fX0_reads φ o x9 σ).bind fun y10 =>
  (if y10.1 = (-9 : Int32) then (gfI y10.2 (some this) 0 0 12).bind fun x12 =>
  (if x12 ≤ (40 : Int32) then (gfR y10.2 (some this) 0 0 9).bind fun x14 =>
  (newO y10.2 3 2).bind fun n15 =>
  (gfR n15.2 (some this) 0 0 13).bind fun x16 =>
  (gfI n15.2 (some this) 0 0 12).bind fun x17 =>
  (fX0_cut φ x16 (0 : Int32) x17 n15.2).bind fun y18 =>
  (gfR y18.2 (some this) 0 0 8).bind fun x19 =>
  (ldR y18.2 x19 6 v2).bind fun x20 =>
  (alen y18.2 x20).bind fun x21 =>
  ((n15.1).bind fun o => fX3_init φ o y18.1 x21 y18.2).bind fun y22 =>
  (stR y22 x14 7 10 14 v1 n15.1).bind fun s23 =>
  (gfI s23 (some this) 0 0 12).bind fun x24 =>
  some (x24, s23)
  else some ((-2 : Int32), y10.2))
  else some ((-4 : Int32), y10.2)))))
def fX0_askedTwo_b34 (φ : Nat) (this : Nat) (σ : St) : Option (Int32 × St) :=
  (cV σ (some this) 0 fun o => fX0_met φ o (1 : Int32) σ).bind fun y8 =>
  some (y8.1, y8.2)
def fX0_askedTwo (φ : Nat) (this : Nat) (v1 : Int32) (v2 : Int32) (σ : St) : Option (Int32 × St) :=
  (fX0_isWord φ v1 σ).bind fun y1 =>
  (if y1 = 0 then some ((-1 : Int32), σ)
  else (fX0_isWord φ v2 σ).bind fun y3 =>
  (if y3 = 0 then some ((-1 : Int32), σ)
  else (gfR σ (some this) 0 0 9).bind fun x5 =>
  (ldR σ x5 7 v1).bind fun x6 =>
  (if x6 = none then fX0_askedTwo_b34 φ this σ
  else (gfR σ (some this) 0 0 9).bind fun x9 =>
  (ldR σ x9 7 v2).bind fun x10 =>
  (if x10 = none then fX0_askedTwo_b34 φ this σ
  else some ((0 : Int32), σ)))))
def fX0_of (φ : Nat) (this : Nat) (v1 : Int32) (σ : St) : Option (Option Nat) :=
  (gfR σ (some this) 0 0 9).bind fun x1 =>
  (ldR σ x1 7 v1).bind fun x2 =>
  (gfR σ x2 2 6 0).bind fun x3 =>
  some x3
def fX0_join (φ : Nat) (this : Nat) (v1 : Int32) (v2 : Int32) (v3 : Int32) (σ : St) : Option (Int32 × St) :=
  (fX0_isWord φ v1 σ).bind fun y1 =>
  (if y1 = 0 then some ((-1 : Int32), σ)
  else (cV σ (some this) 0 fun o => fX0_askedTwo φ o v2 v3 σ).bind fun y3 =>
  (if 0 ≤ y3.1 then (cV y3.2 (some this) 0 fun o => fX0_of φ o v2 y3.2).bind fun y5 =>
  (alen y3.2 y5).bind fun x6 =>
  (cV y3.2 (some this) 0 fun o => fX0_of φ o v3 y3.2).bind fun y7 =>
  (alen y3.2 y7).bind fun x8 =>
  (if (x6 + x8) ≤ (40 : Int32) then (newA y3.2 2 (x6 + x8)).bind fun n10 =>
  (cV n10.2 (some this) 0 fun o => fX0_of φ o v2 n10.2).bind fun y11 =>
  (cV n10.2 (some this) 0 fun o => fX0_of φ o v2 n10.2).bind fun y12 =>
  (alen n10.2 y12).bind fun x13 =>
  (acopy n10.2 y11 (0 : Int32) n10.1 (0 : Int32) x13).bind fun s14 =>
  (cV s14 (some this) 0 fun o => fX0_of φ o v3 s14).bind fun y15 =>
  (cV s14 (some this) 0 fun o => fX0_of φ o v2 s14).bind fun y16 =>
  (alen s14 y16).bind fun x17 =>
  (cV s14 (some this) 0 fun o => fX0_of φ o v3 s14).bind fun y18 =>
  (alen s14 y18).bind fun x19 =>
  (acopy s14 y15 (0 : Int32) n10.1 x17 x19).bind fun s20 =>
  (gfR s20 (some this) 0 0 9).bind fun x21 =>
  (newO s20 4 2).bind fun n22 =>
  ((n22.1).bind fun o => fX4_init φ o n10.1 v2 n22.2).bind fun y23 =>
  (stR y23 x21 7 10 14 v1 n22.1).bind fun s24 =>
  some ((x6 + x8), s24)
  else some ((-2 : Int32), y3.2))
  else some (y3.1, y3.2)))
def fX0_part_b70 (φ : Nat) (this : Nat) (σ : St) : Option (Int32 × St) :=
  (cV σ (some this) 0 fun o => fX0_met φ o (2 : Int32) σ).bind fun y10 =>
  some (y10.1, y10.2)
def fX0_part (φ : Nat) (this : Nat) (v1 : Int32) (v2 : Int32) (v3 : Int32) (v4 : Int32) (σ : St) : Option (Int32 × St) :=
  (fX0_isWord φ v1 σ).bind fun y1 =>
  (if y1 = 0 then some ((-1 : Int32), σ)
  else (fX0_isWord φ v2 σ).bind fun y3 =>
  (if y3 = 0 then some ((-1 : Int32), σ)
  else (if 0 ≤ v4 then (gfR σ (some this) 0 0 9).bind fun x6 =>
  (ldR σ x6 7 v2).bind fun x7 =>
  (if x7 = none then (cV σ (some this) 0 fun o => fX0_met φ o (1 : Int32) σ).bind fun y23 =>
  some (y23.1, y23.2)
  else (if v3 < 0 then fX0_part_b70 φ this σ
  else (cV σ (some this) 0 fun o => fX0_of φ o v2 σ).bind fun y11 =>
  (alen σ y11).bind fun x12 =>
  (if x12 < v4 then fX0_part_b70 φ this σ
  else (cV σ (some this) 0 fun o => fX0_of φ o v2 σ).bind fun y14 =>
  (alen σ y14).bind fun x15 =>
  (if v3 ≤ (x15 - v4) then (gfR σ (some this) 0 0 9).bind fun x17 =>
  (newO σ 4 2).bind fun n18 =>
  (cV n18.2 (some this) 0 fun o => fX0_of φ o v2 n18.2).bind fun y19 =>
  (fX0_cut φ y19 v3 v4 n18.2).bind fun y20 =>
  ((n18.1).bind fun o => fX4_init φ o y20.1 v2 y20.2).bind fun y21 =>
  (stR y21 x17 7 10 14 v1 n18.1).bind fun s22 =>
  some (v4, s22)
  else fX0_part_b70 φ this σ))))
  else (cV σ (some this) 0 fun o => fX0_met φ o (5 : Int32) σ).bind fun y24 =>
  some (y24.1, y24.2))))
def fX0_askedWord (φ : Nat) (this : Nat) (v1 : Int32) (σ : St) : Option (Int32 × St) :=
  (fX0_isWord φ v1 σ).bind fun y1 =>
  (if y1 = 0 then some ((-1 : Int32), σ)
  else (gfR σ (some this) 0 0 9).bind fun x3 =>
  (ldR σ x3 7 v1).bind fun x4 =>
  (if x4 = none then (cV σ (some this) 0 fun o => fX0_met φ o (1 : Int32) σ).bind fun y6 =>
  some (y6.1, y6.2)
  else some ((0 : Int32), σ)))
def fX0_turn_l50 (φ : Nat) (this : Nat) (v1 : Int32) (v2 : Int32) (v3 : Int32) (v5 : Option Nat) (v6 : Option Nat) (v7 : Int32) (σ : St) : Option ((Int32 × St) ⊕ (St)) :=
  (alen σ v5).bind fun x10 =>
  (if x10 ≤ v7 then some (.inr σ)
  else (if v3 = 0 then (alen σ v5).bind fun x16 =>
  (ldI σ v5 2 ((x16 - (1 : Int32)) - v7)).bind fun x17 =>
  (stB σ v6 v7 x17).bind fun s18 =>
  some (.inl ((v7 + (1 : Int32)), s18))
  else (gfI σ (some this) 0 0 6).bind fun x13 =>
  (ldI σ v5 2 v7).bind fun x14 =>
  (stB σ v6 v7 (((x13 - (1 : Int32)) - x14).toInt8.toInt32)).bind fun s15 =>
  some (.inl ((v7 + (1 : Int32)), s15))))
def fX0_turn (φ : Nat) (this : Nat) (v1 : Int32) (v2 : Int32) (v3 : Int32) (σ : St) : Option (Int32 × St) :=
  (fX0_isWord φ v1 σ).bind fun y1 =>
  (if y1 = 0 then some ((-1 : Int32), σ)
  else (fX0_isIn φ v3 (0 : Int32) (1 : Int32) σ).bind fun y3 =>
  (if y3 = 0 then some ((-1 : Int32), σ)
  else (cV σ (some this) 0 fun o => fX0_askedWord φ o v2 σ).bind fun y5 =>
  (if 0 ≤ y5.1 then (cV y5.2 (some this) 0 fun o => fX0_of φ o v2 y5.2).bind fun y7 =>
  (alen y5.2 y7).bind fun x8 =>
  (newA y5.2 2 x8).bind fun n9 =>
  (it (fun s : Int32 × St => fX0_turn_l50 φ this v1 v2 v3 y7 n9.1 s.1 s.2) φ ((0 : Int32), n9.2)).bind fun e19 =>
  (gfR e19 (some this) 0 0 9).bind fun x21 =>
  (newO e19 5 3).bind fun n22 =>
  ((n22.1).bind fun o => fX5_init φ o n9.1 v2 v3 n22.2).bind fun y23 =>
  (stR y23 x21 7 10 14 v1 n22.1).bind fun s24 =>
  (alen s24 n9.1).bind fun x25 =>
  some (x25, s24)
  else some (y5.1, y5.2))))
def fX0_setNext_l5 (φ : Nat) (v0 : Option Nat) (v1 : Option Nat) (v2 : Int32) (v3 : Int32) (σ : St) : Option ((Int32 × St) ⊕ (St)) :=
  (if (6 : Int32) ≤ v3 then some (.inr σ)
  else (stI σ v1 (((6 : Int32) * v2) + v3) (-9 : Int32)).bind fun s3 =>
  some (.inl ((v3 + (1 : Int32)), s3)))
def fX0_setNext_l38 (φ : Nat) (v0 : Option Nat) (v1 : Option Nat) (v3 : Int32) (v4 : Int32) (σ : St) : Option ((Int32 × St) ⊕ (St)) :=
  (if (6 : Int32) ≤ v4 then some (.inr σ)
  else (ldI σ v0 2 v3).bind fun x8 =>
  (if x8 = v4 then (stI σ v1 (((6 : Int32) * v3) + v4) (v3 + (1 : Int32))).bind fun s12 =>
  some (.inl ((v4 + (1 : Int32)), s12))
  else (ldI σ v1 1 (((6 : Int32) * (v3 + (1 : Int32))) + v4)).bind fun x10 =>
  (stI σ v1 (((6 : Int32) * v3) + v4) x10).bind fun s11 =>
  some (.inl ((v4 + (1 : Int32)), s11))))
def fX0_setNext_l31 (φ : Nat) (v0 : Option Nat) (v1 : Option Nat) (v3 : Int32) (σ : St) : Option ((Int32 × St) ⊕ (St)) :=
  (if v3 < 0 then some (.inr σ)
  else (it (fun s : Int32 × St => fX0_setNext_l38 φ v0 v1 v3 s.1 s.2) φ ((0 : Int32), σ)).bind fun e13 =>
  some (.inl ((v3 + (-1 : Int32)), e13)))
def fX0_setNext (φ : Nat) (v0 : Option Nat) (v1 : Option Nat) (σ : St) : Option (St) :=
  (alen σ v0).bind fun x1 =>
  (it (fun s : Int32 × St => fX0_setNext_l5 φ v0 v1 x1 s.1 s.2) φ ((0 : Int32), σ)).bind fun e4 =>
  (it (fun s : Int32 × St => fX0_setNext_l31 φ v0 v1 s.1 s.2) φ ((x1 - (1 : Int32)), e4)).bind fun e15 =>
  some e15
def fX0_lengthTo_l4 (φ : Nat) (this : Nat) (σ : St) (v2 : Int32) (v3 : Int32) : Option ((Int32 × Int32) ⊕ (Int32)) :=
  (if v3 = 0 then some (.inr v2)
  else (gfR σ (some this) 0 0 22).bind fun x2 =>
  (ldI σ x2 1 v3).bind fun x3 =>
  some (.inl ((v2 + (1 : Int32)), x3)))
def fX0_lengthTo (φ : Nat) (this : Nat) (v1 : Int32) (σ : St) : Option (Int32) :=
  (it (fun s : Int32 × Int32 => fX0_lengthTo_l4 φ this σ s.1 s.2) φ ((0 : Int32), v1)).bind fun e4 =>
  some e4
def fX0_parted_l18 (φ : Nat) (this : Nat) (v3 : Int32) (σ : St) : Option ((Int32 × St) ⊕ (St)) :=
  (gfR σ (some this) 0 0 22).bind fun x5 =>
  (alen σ x5).bind fun x6 =>
  (if x6 ≤ v3 then some (.inr σ)
  else (gfR σ (some this) 0 0 22).bind fun x8 =>
  (stI σ x8 v3 (-9 : Int32)).bind fun s9 =>
  some (.inl ((v3 + (1 : Int32)), s9)))
def fX0_parted_b147 (φ : Nat) (this : Nat) (v3 : Int32) (v4 : Int32) (v5 : Int32) (v6 : Int32) (v7 : Int32) (v8 : Int32) (k0 : Int32) (k1 : Int32) (σ : St) : Option ((Int32 × Int32 × St) ⊕ ((Int32 × St) ⊕ (Int32 × St))) :=
  (if k0 = k1 then (if v7 = (-9 : Int32) then some (.inl (v4, (v6 + (1 : Int32)), σ))
  else (gfR σ (some this) 0 0 22).bind fun x28 =>
  (ldI σ x28 1 (((41 : Int32) * v7) + v8)).bind fun x29 =>
  (if x29 = (-9 : Int32) then (gfR σ (some this) 0 0 22).bind fun x31 =>
  (stI σ x31 (((41 : Int32) * v7) + v8) v5).bind fun s32 =>
  (gfR s32 (some this) 0 0 23).bind fun x33 =>
  (stI s32 x33 (((41 : Int32) * v7) + v8) v6).bind fun s34 =>
  (gfR s34 (some this) 0 0 21).bind fun x35 =>
  (stI s34 x35 v4 (((41 : Int32) * v7) + v8)).bind fun s36 =>
  some (.inl ((v4 + (1 : Int32)), (v6 + (1 : Int32)), s36))
  else some (.inl (v4, (v6 + (1 : Int32)), σ))))
  else some (.inr (.inr (v6, σ))))
def fX0_parted_b135 (φ : Nat) (this : Nat) (v3 : Int32) (v4 : Int32) (v5 : Int32) (v6 : Int32) (v7 : Int32) (v8 : Int32) (k0 : Int32) (σ : St) : Option ((Int32 × Int32 × St) ⊕ ((Int32 × St) ⊕ (Int32 × St))) :=
  (if v8 = (-9 : Int32) then fX0_parted_b147 φ this v3 v4 v5 v6 v7 v8 k0 (1 : Int32) σ
  else fX0_parted_b147 φ this v3 v4 v5 v6 v7 v8 k0 (0 : Int32) σ)
def fX0_parted_l80 (φ : Nat) (this : Nat) (v3 : Int32) (v5 : Int32) (v4 : Int32) (v6 : Int32) (σ : St) : Option ((Int32 × Int32 × St) ⊕ ((Int32 × St) ⊕ (Int32 × St))) :=
  (if (6 : Int32) ≤ v6 then some (.inr (.inl (v4, σ)))
  else (gfR σ (some this) 0 0 14).bind fun x20 =>
  (ldI σ x20 1 (((6 : Int32) * (v5 / (41 : Int32))) + v6)).bind fun x21 =>
  (gfR σ (some this) 0 0 15).bind fun x22 =>
  (ldI σ x22 1 (((6 : Int32) * (v5 % (41 : Int32))) + v6)).bind fun x23 =>
  (if x21 = (-9 : Int32) then fX0_parted_b135 φ this v3 v4 v5 v6 x21 x23 (1 : Int32) σ
  else fX0_parted_b135 φ this v3 v4 v5 v6 x21 x23 (0 : Int32) σ))
def fX0_parted_l60 (φ : Nat) (this : Nat) (v3 : Int32) (v4 : Int32) (σ : St) : Option ((Int32 × Int32 × St) ⊕ ((St) ⊕ (Int32 × Int32 × St))) :=
  (if v4 ≤ v3 then some (.inr (.inl σ))
  else (gfR σ (some this) 0 0 21).bind fun x17 =>
  (ldI σ x17 1 v3).bind fun x18 =>
  ((it (fun s : Int32 × Int32 × St => fX0_parted_l80 φ this (v3 + (1 : Int32)) x18 s.1 s.2.1 s.2.2) φ (v4, (0 : Int32), σ)).bind fun e37 =>
  match e37 with
  | (.inl e39) => some (.inl ((v3 + (1 : Int32)), e39.1, e39.2))
  | (.inr e40) => some (.inr (.inr (x18, e40.1, e40.2)))))
def fX0_parted (φ : Nat) (this : Nat) (v1 : Option Nat) (v2 : Option Nat) (σ : St) : Option (Int32 × St) :=
  (gfR σ (some this) 0 0 14).bind fun x1 =>
  (fX0_setNext φ v1 x1 σ).bind fun y2 =>
  (gfR y2 (some this) 0 0 15).bind fun x3 =>
  (fX0_setNext φ v2 x3 y2).bind fun y4 =>
  (it (fun s : Int32 × St => fX0_parted_l18 φ this s.1 s.2) φ ((0 : Int32), y4)).bind fun e10 =>
  (gfR e10 (some this) 0 0 21).bind fun x12 =>
  (stI e10 x12 (0 : Int32) (0 : Int32)).bind fun s13 =>
  (gfR s13 (some this) 0 0 22).bind fun x14 =>
  (stI s13 x14 (0 : Int32) (0 : Int32)).bind fun s15 =>
  ((it (fun s : Int32 × Int32 × St => fX0_parted_l60 φ this s.1 s.2.1 s.2.2) φ ((0 : Int32), (1 : Int32), s15)).bind fun e41 =>
  match e41 with
  | (.inl e43) => some ((1000 : Int32), e43)
  | (.inr e44) => (pfI e44.2.2 (some this) 0 0 24 e44.1).bind fun s45 =>
  (pfI s45 (some this) 0 0 25 e44.2.1).bind fun s46 =>
  (cV s46 (some this) 0 fun o => fX0_lengthTo φ o e44.1 s46).bind fun y47 =>
  some ((y47 + (1 : Int32)), s46))
def fX0_drop_l44 (φ : Nat) (this : Nat) (v1 : Int32) (v2 : Int32) (v3 : Int32) (v5 : Option Nat) (v6 : Int32) (σ : St) : Option (((Option Nat) × Int32 × St) ⊕ ((Option Nat) × St)) :=
  (alen σ v5).bind fun x8 =>
  (if x8 ≤ v6 then some (.inr (v5, σ))
  else (alen σ v5).bind fun x10 =>
  (newA σ 2 (x10 - (1 : Int32))).bind fun n11 =>
  (acopy n11.2 v5 (0 : Int32) n11.1 (0 : Int32) v6).bind fun s12 =>
  (alen s12 n11.1).bind fun x13 =>
  (acopy s12 v5 (v6 + (1 : Int32)) n11.1 v6 (x13 - v6)).bind fun s14 =>
  (cV s14 (some this) 0 fun o => fX0_of φ o v2 s14).bind fun y15 =>
  (cV s14 (some this) 0 fun o => fX0_parted φ o n11.1 y15 s14).bind fun y16 =>
  (if y16.1 ≤ v3 then some (.inl (v5, (v6 + (1 : Int32)), y16.2))
  else some (.inl (n11.1, v6, y16.2))))
def fX0_drop (φ : Nat) (this : Nat) (v1 : Int32) (v2 : Int32) (v3 : Int32) (σ : St) : Option (Int32 × St) :=
  (fX0_isWord φ v1 σ).bind fun y1 =>
  (if y1 = 0 then some ((-1 : Int32), σ)
  else (fX0_isIn φ v3 (0 : Int32) (40 : Int32) σ).bind fun y3 =>
  (if y3 = 0 then some ((-1 : Int32), σ)
  else (cV σ (some this) 0 fun o => fX0_askedWord φ o v2 σ).bind fun y5 =>
  (if 0 ≤ y5.1 then (cV y5.2 (some this) 0 fun o => fX0_of φ o v2 y5.2).bind fun y7 =>
  (it (fun s : (Option Nat) × Int32 × St => fX0_drop_l44 φ this v1 v2 v3 s.1 s.2.1 s.2.2) φ (y7, (0 : Int32), y5.2)).bind fun e18 =>
  (gfR e18.2 (some this) 0 0 9).bind fun x20 =>
  (newO e18.2 6 3).bind fun n21 =>
  (alen n21.2 e18.1).bind fun x22 =>
  (fX0_cut φ e18.1 (0 : Int32) x22 n21.2).bind fun y23 =>
  ((n21.1).bind fun o => fX6_init φ o y23.1 v2 v3 y23.2).bind fun y24 =>
  (stR y24 x20 7 10 14 v1 n21.1).bind fun s25 =>
  (alen s25 e18.1).bind fun x26 =>
  some (x26, s25)
  else some (y5.1, y5.2))))
def fX0_erase (φ : Nat) (this : Nat) (v1 : Int32) (σ : St) : Option (Int32 × St) :=
  (cV σ (some this) 0 fun o => fX0_askedWord φ o v1 σ).bind fun y1 =>
  (if 0 ≤ y1.1 then (gfR y1.2 (some this) 0 0 9).bind fun x3 =>
  (stR y1.2 x3 7 10 14 v1 none).bind fun s4 =>
  some ((1 : Int32), s4)
  else some (y1.1, y1.2))
def fX0_size (φ : Nat) (this : Nat) (v1 : Int32) (σ : St) : Option (Int32 × St) :=
  (cV σ (some this) 0 fun o => fX0_askedWord φ o v1 σ).bind fun y1 =>
  (if 0 ≤ y1.1 then (cV y1.2 (some this) 0 fun o => fX0_of φ o v1 y1.2).bind fun y3 =>
  (alen y1.2 y3).bind fun x4 =>
  some (x4, y1.2)
  else some (y1.1, y1.2))
def fX0_letter (φ : Nat) (this : Nat) (v1 : Int32) (v2 : Int32) (σ : St) : Option (Int32 × St) :=
  (cV σ (some this) 0 fun o => fX0_askedWord φ o v1 σ).bind fun y1 =>
  (if 0 ≤ y1.1 then (cV y1.2 (some this) 0 fun o => fX0_of φ o v1 y1.2).bind fun y3 =>
  (alen y1.2 y3).bind fun x4 =>
  (fX0_isIn φ v2 (0 : Int32) (x4 - (1 : Int32)) y1.2).bind fun y5 =>
  (if y5 = 0 then (cV y1.2 (some this) 0 fun o => fX0_met φ o (2 : Int32) y1.2).bind fun y7 =>
  some (y7.1, y7.2)
  else (cV y1.2 (some this) 0 fun o => fX0_of φ o v1 y1.2).bind fun y8 =>
  (ldI y1.2 y8 2 v2).bind fun x9 =>
  some (x9, y1.2))
  else some (y1.1, y1.2))
def fX0_kind (φ : Nat) (this : Nat) (v1 : Int32) (σ : St) : Option (Int32 × St) :=
  (cV σ (some this) 0 fun o => fX0_askedWord φ o v1 σ).bind fun y1 =>
  (if 0 ≤ y1.1 then (gfR y1.2 (some this) 0 0 9).bind fun x3 =>
  (ldR y1.2 x3 7 v1).bind fun x4 =>
  ((x4).bind fun o => fV_kind φ o  y1.2).bind fun y5 =>
  some (y5, y1.2)
  else some (y1.1, y1.2))
def fX0_mark (φ : Nat) (this : Nat) (v1 : Int32) (v2 : Int32) (σ : St) : Option (Int32 × St) :=
  (fX0_isWord φ v1 σ).bind fun y1 =>
  (if y1 = 0 then some ((-1 : Int32), σ)
  else (fX0_isIn φ v2 (1 : Int32) (4 : Int32) σ).bind fun y3 =>
  (if y3 = 0 then some ((-1 : Int32), σ)
  else (cV σ (some this) 0 fun o => fX0_askedWord φ o v1 σ).bind fun y5 =>
  (if 0 ≤ y5.1 then (gfR y5.2 (some this) 0 0 9).bind fun x7 =>
  (ldR y5.2 x7 7 v1).bind fun x8 =>
  (if v2 = (1 : Int32) then (cst y5.2 x8 3 3).bind fun b10 =>
  (if b10 = true then (gfI y5.2 x8 3 3 1).bind fun x13 =>
  some (x13, y5.2)
  else (junk y5.2 3 2000).bind fun s11 =>
  (cV s11 (some this) 0 fun o => fX0_met φ o (3 : Int32) s11).bind fun y12 =>
  some (y12.1, y12.2))
  else if v2 = (2 : Int32) then (cst y5.2 x8 4 6).bind fun b15 =>
  (if b15 = true then (gfI y5.2 x8 4 6 1).bind fun x18 =>
  some (x18, y5.2)
  else (junk y5.2 3 2000).bind fun s16 =>
  (cV s16 (some this) 0 fun o => fX0_met φ o (3 : Int32) s16).bind fun y17 =>
  some (y17.1, y17.2))
  else if v2 = (3 : Int32) then (cst y5.2 x8 5 5).bind fun b20 =>
  (if b20 = true then (gfI y5.2 x8 5 5 2).bind fun x23 =>
  some (x23, y5.2)
  else (junk y5.2 3 2000).bind fun s21 =>
  (cV s21 (some this) 0 fun o => fX0_met φ o (3 : Int32) s21).bind fun y22 =>
  some (y22.1, y22.2))
  else (cst y5.2 x8 6 6).bind fun b24 =>
  (if b24 = true then (gfI y5.2 x8 6 6 2).bind fun x27 =>
  some (x27, y5.2)
  else (junk y5.2 3 2000).bind fun s25 =>
  (cV s25 (some this) 0 fun o => fX0_met φ o (3 : Int32) s25).bind fun y26 =>
  some (y26.1, y26.2)))
  else some (y5.1, y5.2))))
def fX0_waysOf_l43 (φ : Nat) (v1 : Option Nat) (v2 : Int32) (v3 : Option Nat) (v4 : Option Nat) (v5 : Int32) (v6 : Int32) (v7 : Int32) (v8 : Int32) (σ : St) : Option ((Int32 × St) ⊕ (St)) :=
  (if v8 < 0 then some (.inr σ)
  else (ldL σ v3 (v8 + (1 : Int32))).bind fun x8 =>
  (ldI σ v1 2 v8).bind fun x9 =>
  (if x9 = v7 then (ldL σ v3 v8).bind fun x12 =>
  (stL σ v3 (v8 + (1 : Int32)) (x8 + x12)).bind fun s13 =>
  some (.inl ((v8 + (-1 : Int32)), s13))
  else (stL σ v3 (v8 + (1 : Int32)) (x8 + (0 : Int64))).bind fun s11 =>
  some (.inl ((v8 + (-1 : Int32)), s11))))
def fX0_waysOf_l24 (φ : Nat) (v1 : Option Nat) (v2 : Int32) (v3 : Option Nat) (v4 : Option Nat) (v5 : Int32) (v6 : Int32) (σ : St) : Option ((Int32 × St) ⊕ (St)) :=
  (if v5 ≤ v6 then some (.inr σ)
  else (ldI σ v4 2 v6).bind fun x6 =>
  (it (fun s : Int32 × St => fX0_waysOf_l43 φ v1 v2 v3 v4 v5 v6 x6 s.1 s.2) φ ((v2 - (1 : Int32)), σ)).bind fun e14 =>
  some (.inl ((v6 + (1 : Int32)), e14)))
def fX0_waysOf (φ : Nat) (v0 : Option Nat) (v1 : Option Nat) (σ : St) : Option (Int64 × St) :=
  (alen σ v1).bind fun x1 =>
  (newA σ 3 (x1 + (1 : Int32))).bind fun n2 =>
  (stL n2.2 n2.1 (0 : Int32) (1 : Int64)).bind fun s3 =>
  (alen s3 v0).bind fun x4 =>
  (it (fun s : Int32 × St => fX0_waysOf_l24 φ v1 x1 n2.1 v0 x4 s.1 s.2) φ ((0 : Int32), s3)).bind fun e16 =>
  (ldL e16 n2.1 x1).bind fun x18 =>
  some (x18, e16)
def fX0_tellMany (φ : Nat) (this : Nat) (v1 : Int64) (v3 : Int32) (σ : St) : Option (Int32 × St) :=
  (pfL σ (some this) 0 0 3 v1).bind fun s1 =>
  some (v3, s1)
def fX0_ways_b43 (φ : Nat) (k0 : Option Nat) (k1 : Int64) (k2 : Int32) (σ : St) : Option (Int32 × St) :=
  (cV σ k0 0 fun o => fX0_tellMany φ o k1 k2 σ).bind fun y7 =>
  some (y7.1, y7.2)
def fX0_ways (φ : Nat) (this : Nat) (v1 : Int32) (v2 : Int32) (σ : St) : Option (Int32 × St) :=
  (cV σ (some this) 0 fun o => fX0_askedTwo φ o v1 v2 σ).bind fun y1 =>
  (if 0 ≤ y1.1 then (cV y1.2 (some this) 0 fun o => fX0_of φ o v1 y1.2).bind fun y3 =>
  (cV y1.2 (some this) 0 fun o => fX0_of φ o v2 y1.2).bind fun y4 =>
  (fX0_waysOf φ y3 y4 y1.2).bind fun y5 =>
  (if y5.1 ≤ (0 : Int64) then fX0_ways_b43 φ (some this) y5.1 (0 : Int32) y5.2
  else fX0_ways_b43 φ (some this) y5.1 (1 : Int32) y5.2)
  else some (y1.1, y1.2))
def fX0_setWays_l5 (φ : Nat) (this : Nat) (v1 : Option Nat) (v2 : Option Nat) (v3 : Int32) (v4 : Int32) (σ : St) : Option ((Int32 × Int32 × St) ⊕ (Int32 × St)) :=
  (alen σ v1).bind fun x1 =>
  (if x1 ≤ v4 then some (.inr (v3, σ))
  else (alen σ v2).bind fun x3 =>
  (if x3 ≤ v3 then some (.inr (v3, σ))
  else (ldI σ v1 2 v4).bind fun x5 =>
  (ldI σ v2 2 v3).bind fun x6 =>
  (if x5 = x6 then (gfR σ (some this) 0 0 16).bind fun x8 =>
  (stI σ x8 v3 v4).bind fun s9 =>
  some (.inl ((v3 + (1 : Int32)), (v4 + (1 : Int32)), s9))
  else some (.inl (v3, (v4 + (1 : Int32)), σ)))))
def fX0_setWays_l64 (φ : Nat) (this : Nat) (v1 : Option Nat) (v2 : Option Nat) (v3 : Int32) (v4 : Int32) (σ : St) : Option ((Int32 × Int32 × St) ⊕ (St)) :=
  (if v4 < 0 then some (.inr σ)
  else (if v3 < 0 then some (.inr σ)
  else (ldI σ v1 2 v4).bind fun x18 =>
  (ldI σ v2 2 v3).bind fun x19 =>
  (if x18 = x19 then (gfR σ (some this) 0 0 17).bind fun x21 =>
  (stI σ x21 v3 v4).bind fun s22 =>
  some (.inl ((v3 + (-1 : Int32)), (v4 + (-1 : Int32)), s22))
  else some (.inl (v3, (v4 + (-1 : Int32)), σ)))))
def fX0_setWays (φ : Nat) (this : Nat) (v1 : Option Nat) (v2 : Option Nat) (σ : St) : Option (Int32 × St) :=
  (it (fun s : Int32 × Int32 × St => fX0_setWays_l5 φ this v1 v2 s.1 s.2.1 s.2.2) φ ((0 : Int32), (0 : Int32), σ)).bind fun e10 =>
  (alen e10.2 v2).bind fun x12 =>
  (if x12 ≤ e10.1 then (alen e10.2 v2).bind fun x14 =>
  (alen e10.2 v1).bind fun x15 =>
  (it (fun s : Int32 × Int32 × St => fX0_setWays_l64 φ this v1 v2 s.1 s.2.1 s.2.2) φ ((x14 - (1 : Int32)), (x15 - (1 : Int32)), e10.2)).bind fun e23 =>
  some ((1 : Int32), e23)
  else some ((0 : Int32), e10.2))
def fX0_come (φ : Nat) (this : Nat) (v1 : Int32) (v2 : Option Nat) (v3 : Int32) (σ : St) : Option (St) :=
  (gfR σ (some this) 0 0 7).bind fun x1 =>
  (newA σ 1 v3).bind fun n2 =>
  (stR n2.2 x1 5 1 1 v1 n2.1).bind fun s3 =>
  (gfR s3 (some this) 0 0 7).bind fun x4 =>
  (ldR s3 x4 5 v1).bind fun x5 =>
  (acopy s3 v2 (0 : Int32) x5 (0 : Int32) v3).bind fun s6 =>
  some s6
def fX0_way_b63 (φ : Nat) (this : Nat) (v2 : Int32) (k0 : Option Nat) (k1 : Int32) (k2 : Option Nat) (σ : St) : Option (Int32 × St) :=
  (cV σ (some this) 0 fun o => fX0_of φ o v2 σ).bind fun y11 =>
  (alen σ y11).bind fun x12 =>
  (cV σ k0 0 fun o => fX0_come φ o k1 k2 x12 σ).bind fun y13 =>
  (cV y13 (some this) 0 fun o => fX0_of φ o v2 y13).bind fun y14 =>
  (alen y13 y14).bind fun x15 =>
  some (x15, y13)
def fX0_way (φ : Nat) (this : Nat) (v1 : Int32) (v2 : Int32) (v3 : Int32) (v4 : Int32) (σ : St) : Option (Int32 × St) :=
  (fX0_isRow φ v3 σ).bind fun y1 =>
  (if y1 = 0 then some ((-1 : Int32), σ)
  else (cV σ (some this) 0 fun o => fX0_askedTwo φ o v1 v2 σ).bind fun y3 =>
  (if 0 ≤ y3.1 then (cV y3.2 (some this) 0 fun o => fX0_of φ o v1 y3.2).bind fun y5 =>
  (cV y3.2 (some this) 0 fun o => fX0_of φ o v2 y3.2).bind fun y6 =>
  (cV y3.2 (some this) 0 fun o => fX0_setWays φ o y5 y6 y3.2).bind fun y7 =>
  (if y7.1 = 0 then some ((-9 : Int32), y7.2)
  else (if v4 = 0 then (gfR y7.2 (some this) 0 0 16).bind fun x10 =>
  fX0_way_b63 φ this v2 (some this) v3 x10 y7.2
  else (gfR y7.2 (some this) 0 0 17).bind fun x16 =>
  fX0_way_b63 φ this v2 (some this) v3 x16 y7.2))
  else some (y3.1, y3.2)))
def fJ11_bitCount (φ : Nat) (v0 : Int64) (σ : St) : Option (Int32) :=
  some ((((((((((v0 - (((v0.toUInt64 >>> ((1 : Int32).toInt64.toUInt64 &&& Int64.toUInt64 63)).toInt64) &&& (6148914691236517205 : Int64))) &&& (3689348814741910323 : Int64)) + ((((v0 - (((v0.toUInt64 >>> ((1 : Int32).toInt64.toUInt64 &&& Int64.toUInt64 63)).toInt64) &&& (6148914691236517205 : Int64))).toUInt64 >>> ((2 : Int32).toInt64.toUInt64 &&& Int64.toUInt64 63)).toInt64) &&& (3689348814741910323 : Int64))) + (((((v0 - (((v0.toUInt64 >>> ((1 : Int32).toInt64.toUInt64 &&& Int64.toUInt64 63)).toInt64) &&& (6148914691236517205 : Int64))) &&& (3689348814741910323 : Int64)) + ((((v0 - (((v0.toUInt64 >>> ((1 : Int32).toInt64.toUInt64 &&& Int64.toUInt64 63)).toInt64) &&& (6148914691236517205 : Int64))).toUInt64 >>> ((2 : Int32).toInt64.toUInt64 &&& Int64.toUInt64 63)).toInt64) &&& (3689348814741910323 : Int64))).toUInt64 >>> ((4 : Int32).toInt64.toUInt64 &&& Int64.toUInt64 63)).toInt64)) &&& (1085102592571150095 : Int64)) + (((((((v0 - (((v0.toUInt64 >>> ((1 : Int32).toInt64.toUInt64 &&& Int64.toUInt64 63)).toInt64) &&& (6148914691236517205 : Int64))) &&& (3689348814741910323 : Int64)) + ((((v0 - (((v0.toUInt64 >>> ((1 : Int32).toInt64.toUInt64 &&& Int64.toUInt64 63)).toInt64) &&& (6148914691236517205 : Int64))).toUInt64 >>> ((2 : Int32).toInt64.toUInt64 &&& Int64.toUInt64 63)).toInt64) &&& (3689348814741910323 : Int64))) + (((((v0 - (((v0.toUInt64 >>> ((1 : Int32).toInt64.toUInt64 &&& Int64.toUInt64 63)).toInt64) &&& (6148914691236517205 : Int64))) &&& (3689348814741910323 : Int64)) + ((((v0 - (((v0.toUInt64 >>> ((1 : Int32).toInt64.toUInt64 &&& Int64.toUInt64 63)).toInt64) &&& (6148914691236517205 : Int64))).toUInt64 >>> ((2 : Int32).toInt64.toUInt64 &&& Int64.toUInt64 63)).toInt64) &&& (3689348814741910323 : Int64))).toUInt64 >>> ((4 : Int32).toInt64.toUInt64 &&& Int64.toUInt64 63)).toInt64)) &&& (1085102592571150095 : Int64)).toUInt64 >>> ((8 : Int32).toInt64.toUInt64 &&& Int64.toUInt64 63)).toInt64)) + ((((((((v0 - (((v0.toUInt64 >>> ((1 : Int32).toInt64.toUInt64 &&& Int64.toUInt64 63)).toInt64) &&& (6148914691236517205 : Int64))) &&& (3689348814741910323 : Int64)) + ((((v0 - (((v0.toUInt64 >>> ((1 : Int32).toInt64.toUInt64 &&& Int64.toUInt64 63)).toInt64) &&& (6148914691236517205 : Int64))).toUInt64 >>> ((2 : Int32).toInt64.toUInt64 &&& Int64.toUInt64 63)).toInt64) &&& (3689348814741910323 : Int64))) + (((((v0 - (((v0.toUInt64 >>> ((1 : Int32).toInt64.toUInt64 &&& Int64.toUInt64 63)).toInt64) &&& (6148914691236517205 : Int64))) &&& (3689348814741910323 : Int64)) + ((((v0 - (((v0.toUInt64 >>> ((1 : Int32).toInt64.toUInt64 &&& Int64.toUInt64 63)).toInt64) &&& (6148914691236517205 : Int64))).toUInt64 >>> ((2 : Int32).toInt64.toUInt64 &&& Int64.toUInt64 63)).toInt64) &&& (3689348814741910323 : Int64))).toUInt64 >>> ((4 : Int32).toInt64.toUInt64 &&& Int64.toUInt64 63)).toInt64)) &&& (1085102592571150095 : Int64)) + (((((((v0 - (((v0.toUInt64 >>> ((1 : Int32).toInt64.toUInt64 &&& Int64.toUInt64 63)).toInt64) &&& (6148914691236517205 : Int64))) &&& (3689348814741910323 : Int64)) + ((((v0 - (((v0.toUInt64 >>> ((1 : Int32).toInt64.toUInt64 &&& Int64.toUInt64 63)).toInt64) &&& (6148914691236517205 : Int64))).toUInt64 >>> ((2 : Int32).toInt64.toUInt64 &&& Int64.toUInt64 63)).toInt64) &&& (3689348814741910323 : Int64))) + (((((v0 - (((v0.toUInt64 >>> ((1 : Int32).toInt64.toUInt64 &&& Int64.toUInt64 63)).toInt64) &&& (6148914691236517205 : Int64))) &&& (3689348814741910323 : Int64)) + ((((v0 - (((v0.toUInt64 >>> ((1 : Int32).toInt64.toUInt64 &&& Int64.toUInt64 63)).toInt64) &&& (6148914691236517205 : Int64))).toUInt64 >>> ((2 : Int32).toInt64.toUInt64 &&& Int64.toUInt64 63)).toInt64) &&& (3689348814741910323 : Int64))).toUInt64 >>> ((4 : Int32).toInt64.toUInt64 &&& Int64.toUInt64 63)).toInt64)) &&& (1085102592571150095 : Int64)).toUInt64 >>> ((8 : Int32).toInt64.toUInt64 &&& Int64.toUInt64 63)).toInt64)).toUInt64 >>> ((16 : Int32).toInt64.toUInt64 &&& Int64.toUInt64 63)).toInt64)) + (((((((((v0 - (((v0.toUInt64 >>> ((1 : Int32).toInt64.toUInt64 &&& Int64.toUInt64 63)).toInt64) &&& (6148914691236517205 : Int64))) &&& (3689348814741910323 : Int64)) + ((((v0 - (((v0.toUInt64 >>> ((1 : Int32).toInt64.toUInt64 &&& Int64.toUInt64 63)).toInt64) &&& (6148914691236517205 : Int64))).toUInt64 >>> ((2 : Int32).toInt64.toUInt64 &&& Int64.toUInt64 63)).toInt64) &&& (3689348814741910323 : Int64))) + (((((v0 - (((v0.toUInt64 >>> ((1 : Int32).toInt64.toUInt64 &&& Int64.toUInt64 63)).toInt64) &&& (6148914691236517205 : Int64))) &&& (3689348814741910323 : Int64)) + ((((v0 - (((v0.toUInt64 >>> ((1 : Int32).toInt64.toUInt64 &&& Int64.toUInt64 63)).toInt64) &&& (6148914691236517205 : Int64))).toUInt64 >>> ((2 : Int32).toInt64.toUInt64 &&& Int64.toUInt64 63)).toInt64) &&& (3689348814741910323 : Int64))).toUInt64 >>> ((4 : Int32).toInt64.toUInt64 &&& Int64.toUInt64 63)).toInt64)) &&& (1085102592571150095 : Int64)) + (((((((v0 - (((v0.toUInt64 >>> ((1 : Int32).toInt64.toUInt64 &&& Int64.toUInt64 63)).toInt64) &&& (6148914691236517205 : Int64))) &&& (3689348814741910323 : Int64)) + ((((v0 - (((v0.toUInt64 >>> ((1 : Int32).toInt64.toUInt64 &&& Int64.toUInt64 63)).toInt64) &&& (6148914691236517205 : Int64))).toUInt64 >>> ((2 : Int32).toInt64.toUInt64 &&& Int64.toUInt64 63)).toInt64) &&& (3689348814741910323 : Int64))) + (((((v0 - (((v0.toUInt64 >>> ((1 : Int32).toInt64.toUInt64 &&& Int64.toUInt64 63)).toInt64) &&& (6148914691236517205 : Int64))) &&& (3689348814741910323 : Int64)) + ((((v0 - (((v0.toUInt64 >>> ((1 : Int32).toInt64.toUInt64 &&& Int64.toUInt64 63)).toInt64) &&& (6148914691236517205 : Int64))).toUInt64 >>> ((2 : Int32).toInt64.toUInt64 &&& Int64.toUInt64 63)).toInt64) &&& (3689348814741910323 : Int64))).toUInt64 >>> ((4 : Int32).toInt64.toUInt64 &&& Int64.toUInt64 63)).toInt64)) &&& (1085102592571150095 : Int64)).toUInt64 >>> ((8 : Int32).toInt64.toUInt64 &&& Int64.toUInt64 63)).toInt64)) + ((((((((v0 - (((v0.toUInt64 >>> ((1 : Int32).toInt64.toUInt64 &&& Int64.toUInt64 63)).toInt64) &&& (6148914691236517205 : Int64))) &&& (3689348814741910323 : Int64)) + ((((v0 - (((v0.toUInt64 >>> ((1 : Int32).toInt64.toUInt64 &&& Int64.toUInt64 63)).toInt64) &&& (6148914691236517205 : Int64))).toUInt64 >>> ((2 : Int32).toInt64.toUInt64 &&& Int64.toUInt64 63)).toInt64) &&& (3689348814741910323 : Int64))) + (((((v0 - (((v0.toUInt64 >>> ((1 : Int32).toInt64.toUInt64 &&& Int64.toUInt64 63)).toInt64) &&& (6148914691236517205 : Int64))) &&& (3689348814741910323 : Int64)) + ((((v0 - (((v0.toUInt64 >>> ((1 : Int32).toInt64.toUInt64 &&& Int64.toUInt64 63)).toInt64) &&& (6148914691236517205 : Int64))).toUInt64 >>> ((2 : Int32).toInt64.toUInt64 &&& Int64.toUInt64 63)).toInt64) &&& (3689348814741910323 : Int64))).toUInt64 >>> ((4 : Int32).toInt64.toUInt64 &&& Int64.toUInt64 63)).toInt64)) &&& (1085102592571150095 : Int64)) + (((((((v0 - (((v0.toUInt64 >>> ((1 : Int32).toInt64.toUInt64 &&& Int64.toUInt64 63)).toInt64) &&& (6148914691236517205 : Int64))) &&& (3689348814741910323 : Int64)) + ((((v0 - (((v0.toUInt64 >>> ((1 : Int32).toInt64.toUInt64 &&& Int64.toUInt64 63)).toInt64) &&& (6148914691236517205 : Int64))).toUInt64 >>> ((2 : Int32).toInt64.toUInt64 &&& Int64.toUInt64 63)).toInt64) &&& (3689348814741910323 : Int64))) + (((((v0 - (((v0.toUInt64 >>> ((1 : Int32).toInt64.toUInt64 &&& Int64.toUInt64 63)).toInt64) &&& (6148914691236517205 : Int64))) &&& (3689348814741910323 : Int64)) + ((((v0 - (((v0.toUInt64 >>> ((1 : Int32).toInt64.toUInt64 &&& Int64.toUInt64 63)).toInt64) &&& (6148914691236517205 : Int64))).toUInt64 >>> ((2 : Int32).toInt64.toUInt64 &&& Int64.toUInt64 63)).toInt64) &&& (3689348814741910323 : Int64))).toUInt64 >>> ((4 : Int32).toInt64.toUInt64 &&& Int64.toUInt64 63)).toInt64)) &&& (1085102592571150095 : Int64)).toUInt64 >>> ((8 : Int32).toInt64.toUInt64 &&& Int64.toUInt64 63)).toInt64)).toUInt64 >>> ((16 : Int32).toInt64.toUInt64 &&& Int64.toUInt64 63)).toInt64)).toUInt64 >>> ((32 : Int32).toInt64.toUInt64 &&& Int64.toUInt64 63)).toInt64)).toInt32) &&& (127 : Int32))
def fX0_places_b128 (φ : Nat) (this : Nat) (v1 : Int32) (v2 : Int32) (v3 : Int32) (v7 : Int32) (v8 : Int32) (k0 : Int64) (σ : St) : Option ((Int64 × Int32) ⊕ (Int64)) :=
  some (.inl ((k0 ||| ((1 : Int64) <<< (v8.toInt64 &&& 63))), (v8 + (1 : Int32))))
def fX0_places_b98 (φ : Nat) (this : Nat) (v1 : Int32) (v2 : Int32) (v3 : Int32) (v5 : Int64) (v7 : Int32) (v8 : Int32) (k0 : Int32) (σ : St) : Option ((Int64 × Int32) ⊕ (Int64)) :=
  (if k0 = 0 then some (.inl ((v5 ||| (0 : Int64)), (v8 + (1 : Int32))))
  else (if v3 = 0 then fX0_places_b128 φ this v1 v2 v3 v7 v8 v5 σ
  else (gfR σ (some this) 0 0 16).bind fun x22 =>
  (ldI σ x22 1 v7).bind fun x23 =>
  (gfR σ (some this) 0 0 17).bind fun x24 =>
  (ldI σ x24 1 v7).bind fun x25 =>
  (if x23 = x25 then fX0_places_b128 φ this v1 v2 v3 v7 v8 v5 σ
  else some (.inl ((v5 ||| (0 : Int64)), (v8 + (1 : Int32)))))))
def fX0_places_l62 (φ : Nat) (this : Nat) (v1 : Int32) (v2 : Int32) (v3 : Int32) (v7 : Int32) (σ : St) (v5 : Int64) (v8 : Int32) : Option ((Int64 × Int32) ⊕ (Int64)) :=
  (gfR σ (some this) 0 0 17).bind fun x12 =>
  (ldI σ x12 1 v7).bind fun x13 =>
  (if x13 < v8 then some (.inr v5)
  else (cV σ (some this) 0 fun o => fX0_of φ o v1 σ).bind fun y15 =>
  (ldI σ y15 2 v8).bind fun x16 =>
  (cV σ (some this) 0 fun o => fX0_of φ o v2 σ).bind fun y17 =>
  (ldI σ y17 2 v7).bind fun x18 =>
  (if x16 = x18 then fX0_places_b98 φ this v1 v2 v3 v5 v7 v8 (1 : Int32) σ
  else fX0_places_b98 φ this v1 v2 v3 v5 v7 v8 (0 : Int32) σ))
def fX0_places_l42 (φ : Nat) (this : Nat) (v1 : Int32) (v2 : Int32) (v3 : Int32) (σ : St) (v5 : Int64) (v7 : Int32) : Option ((Int64 × Int32) ⊕ (Int64)) :=
  (cV σ (some this) 0 fun o => fX0_of φ o v2 σ).bind fun y7 =>
  (alen σ y7).bind fun x8 =>
  (if x8 ≤ v7 then some (.inr v5)
  else (gfR σ (some this) 0 0 16).bind fun x10 =>
  (ldI σ x10 1 v7).bind fun x11 =>
  (it (fun s : Int64 × Int32 => fX0_places_l62 φ this v1 v2 v3 v7 σ s.1 s.2) φ (v5, x11)).bind fun e27 =>
  some (.inl (e27, (v7 + (1 : Int32)))))
def fX0_places (φ : Nat) (this : Nat) (v1 : Int32) (v2 : Int32) (v3 : Int32) (σ : St) : Option (Int32 × St) :=
  (cV σ (some this) 0 fun o => fX0_askedTwo φ o v1 v2 σ).bind fun y1 =>
  (if 0 ≤ y1.1 then (cV y1.2 (some this) 0 fun o => fX0_of φ o v1 y1.2).bind fun y3 =>
  (cV y1.2 (some this) 0 fun o => fX0_of φ o v2 y1.2).bind fun y4 =>
  (cV y1.2 (some this) 0 fun o => fX0_setWays φ o y3 y4 y1.2).bind fun y5 =>
  (if y5.1 = 0 then some ((-9 : Int32), y5.2)
  else (it (fun s : Int64 × Int32 => fX0_places_l42 φ this v1 v2 v3 y5.2 s.1 s.2) φ ((0 : Int64), (0 : Int32))).bind fun e29 =>
  (fJ11_bitCount φ e29 y5.2).bind fun y31 =>
  (cV y5.2 (some this) 0 fun o => fX0_tellMany φ o e29 y31 y5.2).bind fun y32 =>
  some (y32.1, y32.2))
  else some (y1.1, y1.2))
def fX0_judge_l69 (φ : Nat) (this : Nat) (v1 : Int32) (v2 : Int32) (v3 : Int32) (σ : St) (v5 : Int32) (v6 : Int32) (v7 : Int32) : Option ((Int32 × Int32 × Int32) ⊕ (Int32)) :=
  (if v5 = 0 then some (.inr v5)
  else (gfR σ (some this) 0 0 7).bind fun x15 =>
  (ldR σ x15 5 v3).bind fun x16 =>
  (alen σ x16).bind fun x17 =>
  (if x17 ≤ v7 then some (.inr v5)
  else (gfR σ (some this) 0 0 7).bind fun x19 =>
  (ldR σ x19 5 v3).bind fun x20 =>
  (ldI σ x20 1 v7).bind fun x21 =>
  (if x21 ≤ v6 then some (.inl ((0 : Int32), x21, (v7 + (1 : Int32))))
  else (cV σ (some this) 0 fun o => fX0_of φ o v1 σ).bind fun y23 =>
  (alen σ y23).bind fun x24 =>
  (if x24 ≤ x21 then some (.inl ((0 : Int32), x21, (v7 + (1 : Int32))))
  else (cV σ (some this) 0 fun o => fX0_of φ o v1 σ).bind fun y26 =>
  (ldI σ y26 2 x21).bind fun x27 =>
  (cV σ (some this) 0 fun o => fX0_of φ o v2 σ).bind fun y28 =>
  (ldI σ y28 2 v7).bind fun x29 =>
  (if x27 = x29 then some (.inl ((1 : Int32), x21, (v7 + (1 : Int32))))
  else some (.inl ((0 : Int32), x21, (v7 + (1 : Int32)))))))))
def fX0_judge (φ : Nat) (this : Nat) (v1 : Int32) (v2 : Int32) (v3 : Int32) (σ : St) : Option (Int32 × St) :=
  (fX0_isRow φ v3 σ).bind fun y1 =>
  (if y1 = 0 then some ((-1 : Int32), σ)
  else (cV σ (some this) 0 fun o => fX0_askedTwo φ o v1 v2 σ).bind fun y3 =>
  (if 0 ≤ y3.1 then (gfR y3.2 (some this) 0 0 7).bind fun x5 =>
  (ldR y3.2 x5 5 v3).bind fun x6 =>
  (if x6 = none then (cV y3.2 (some this) 0 fun o => fX0_met φ o (1 : Int32) y3.2).bind fun y37 =>
  some (y37.1, y37.2)
  else (gfR y3.2 (some this) 0 0 7).bind fun x8 =>
  (ldR y3.2 x8 5 v3).bind fun x9 =>
  (alen y3.2 x9).bind fun x10 =>
  (cV y3.2 (some this) 0 fun o => fX0_of φ o v2 y3.2).bind fun y11 =>
  (alen y3.2 y11).bind fun x12 =>
  (if x10 = x12 then (it (fun s : Int32 × Int32 × Int32 => fX0_judge_l69 φ this v1 v2 v3 y3.2 s.1 s.2.1 s.2.2) φ ((1 : Int32), (-1 : Int32), (0 : Int32))).bind fun e34 =>
  (if e34 = 0 then some ((0 : Int32), y3.2)
  else some ((1 : Int32), y3.2))
  else (it (fun s : Int32 × Int32 × Int32 => fX0_judge_l69 φ this v1 v2 v3 y3.2 s.1 s.2.1 s.2.2) φ ((0 : Int32), (-1 : Int32), (0 : Int32))).bind fun e31 =>
  (if e31 = 0 then some ((0 : Int32), y3.2)
  else some ((1 : Int32), y3.2))))
  else some (y3.1, y3.2)))
def fX0_bar_l39 (φ : Nat) (this : Nat) (v1 : Int32) (v4 : Option Nat) (v5 : Option Nat) (v6 : Int32) (σ : St) : Option ((Int32 × St) ⊕ (St)) :=
  (alen σ v4).bind fun x8 =>
  (if x8 ≤ v6 then some (.inr σ)
  else (stI σ v5 v6 (1000 : Int32)).bind fun s10 =>
  some (.inl ((v6 + (1 : Int32)), s10)))
def fX0_bar_b144 (φ : Nat) (v4 : Option Nat) (v5 : Option Nat) (v6 : Option Nat) (v7 : Int32) (v8 : Int32) (v9 : Int32) (v10 : Int32) (σ : St) : Option ((Int32 × St) ⊕ (St)) :=
  (ldI σ v5 1 v10).bind fun x23 =>
  (stI σ v5 v10 (min32 (1000 : Int32) (x23 + (1 : Int32)))).bind fun s24 =>
  some (.inl ((v10 + (-1 : Int32)), s24))
def fX0_bar_l97 (φ : Nat) (v4 : Option Nat) (v5 : Option Nat) (v6 : Option Nat) (v7 : Int32) (v8 : Int32) (v9 : Int32) (v10 : Int32) (σ : St) : Option ((Int32 × St) ⊕ (St)) :=
  (if v10 < 0 then some (.inr σ)
  else (ldI σ v4 2 v10).bind fun x19 =>
  (if x19 = v9 then (alen σ v4).bind fun x21 =>
  (if x21 ≤ (v10 + (1 : Int32)) then fX0_bar_b144 φ v4 v5 v6 v7 v8 v9 v10 σ
  else (ldI σ v5 1 (v10 + (1 : Int32))).bind fun x25 =>
  (ldI σ v5 1 v10).bind fun x26 =>
  (stI σ v5 (v10 + (1 : Int32)) (min32 x25 x26)).bind fun s27 =>
  fX0_bar_b144 φ v4 v5 v6 v7 v8 v9 v10 s27)
  else some (.inl ((v10 + (-1 : Int32)), σ))))
def fX0_bar_l76 (φ : Nat) (v4 : Option Nat) (v5 : Option Nat) (v6 : Option Nat) (v7 : Int32) (v8 : Int32) (σ : St) : Option ((Int32 × St) ⊕ (St)) :=
  (if v7 ≤ v8 then some (.inr σ)
  else (ldI σ v6 2 v8).bind fun x16 =>
  (alen σ v4).bind fun x17 =>
  (it (fun s : Int32 × St => fX0_bar_l97 φ v4 v5 v6 v7 v8 x16 s.1 s.2) φ ((x17 - (1 : Int32)), σ)).bind fun e28 =>
  some (.inl ((v8 + (1 : Int32)), e28)))
def fX0_bar_l191 (φ : Nat) (v7 : Option Nat) (v8 : Int32) (σ : St) (v6 : Int32) (v9 : Int32) : Option ((Int32 × Int32) ⊕ (Int32)) :=
  (if v8 ≤ v9 then some (.inr v6)
  else (ldI σ v7 1 v9).bind fun x34 =>
  some (.inl ((min32 v6 x34), (v9 + (1 : Int32)))))
def fX0_bar (φ : Nat) (this : Nat) (v1 : Int32) (v2 : Int32) (σ : St) : Option (Int32 × St) :=
  (cV σ (some this) 0 fun o => fX0_askedTwo φ o v1 v2 σ).bind fun y1 =>
  (if 0 ≤ y1.1 then (cV y1.2 (some this) 0 fun o => fX0_of φ o v2 y1.2).bind fun y3 =>
  (alen y1.2 y3).bind fun x4 =>
  (if x4 = 0 then some ((-4 : Int32), y1.2)
  else (alen y1.2 y3).bind fun x6 =>
  (newA y1.2 1 x6).bind fun n7 =>
  (it (fun s : Int32 × St => fX0_bar_l39 φ this v1 y3 n7.1 s.1 s.2) φ ((1 : Int32), n7.2)).bind fun e11 =>
  (cV e11 (some this) 0 fun o => fX0_of φ o v1 e11).bind fun y13 =>
  (alen e11 y13).bind fun x14 =>
  (it (fun s : Int32 × St => fX0_bar_l76 φ y3 n7.1 y13 x14 s.1 s.2) φ ((0 : Int32), e11)).bind fun e30 =>
  (alen e30 n7.1).bind fun x32 =>
  (it (fun s : Int32 × Int32 => fX0_bar_l191 φ n7.1 x32 e30 s.1 s.2) φ ((1000 : Int32), (0 : Int32))).bind fun e35 =>
  some (e35, e30))
  else some (y1.1, y1.2))
def fX0_setCounts_l39 (φ : Nat) (this : Nat) (v2 : Int32) (v3 : Int32) (σ : St) (v4 : Int64) (v6 : Int32) : Option ((Int64 × Int32) ⊕ (Int64)) :=
  (gfI σ (some this) 0 0 6).bind fun x8 =>
  (if x8 ≤ v6 then some (.inr v4)
  else (gfR σ (some this) 0 0 14).bind fun x10 =>
  (ldI σ x10 1 (((6 : Int32) * v2) + v6)).bind fun x11 =>
  (if x11 = (-9 : Int32) then some (.inl ((v4 + (0 : Int64)), (v6 + (1 : Int32))))
  else (gfR σ (some this) 0 0 18).bind fun x13 =>
  (ldL σ x13 ((((41 : Int32) * x11) + v3) - (1 : Int32))).bind fun x14 =>
  some (.inl ((v4 + x14), (v6 + (1 : Int32))))))
def fX0_setCounts_l27 (φ : Nat) (this : Nat) (v2 : Int32) (v3 : Int32) (σ : St) : Option ((Int32 × St) ⊕ (St)) :=
  (if (40 : Int32) < v3 then some (.inr σ)
  else (it (fun s : Int64 × Int32 => fX0_setCounts_l39 φ this v2 v3 σ s.1 s.2) φ ((0 : Int64), (0 : Int32))).bind fun e15 =>
  (gfR σ (some this) 0 0 18).bind fun x17 =>
  (stL σ x17 (((41 : Int32) * v2) + v3) e15).bind fun s18 =>
  some (.inl ((v3 + (1 : Int32)), s18)))
def fX0_setCounts_l11 (φ : Nat) (this : Nat) (v2 : Int32) (σ : St) : Option ((Int32 × St) ⊕ (St)) :=
  (if v2 < 0 then some (.inr σ)
  else (gfR σ (some this) 0 0 18).bind fun x5 =>
  (stL σ x5 ((41 : Int32) * v2) (1 : Int64)).bind fun s6 =>
  (it (fun s : Int32 × St => fX0_setCounts_l27 φ this v2 s.1 s.2) φ ((1 : Int32), s6)).bind fun e19 =>
  some (.inl ((v2 + (-1 : Int32)), e19)))
def fX0_setCounts (φ : Nat) (this : Nat) (v1 : Option Nat) (σ : St) : Option (St) :=
  (gfR σ (some this) 0 0 14).bind fun x1 =>
  (fX0_setNext φ v1 x1 σ).bind fun y2 =>
  (alen y2 v1).bind fun x3 =>
  (it (fun s : Int32 × St => fX0_setCounts_l11 φ this s.1 s.2) φ (x3, y2)).bind fun e21 =>
  some e21
def fX0_inner_b66 (φ : Nat) (this : Nat) (v2 : Int32) (v6 : Int32) (k0 : Int64) (σ : St) : Option ((Int64 × Int32) ⊕ (Int64)) :=
  (gfR σ (some this) 0 0 18).bind fun x8 =>
  (ldL σ x8 v6).bind fun x9 =>
  some (.inl ((k0 + x9), (v6 + (1 : Int32))))
def fX0_inner_l45 (φ : Nat) (this : Nat) (v2 : Int32) (σ : St) (v4 : Int64) (v6 : Int32) : Option ((Int64 × Int32) ⊕ (Int64)) :=
  (if (40 : Int32) < v6 then some (.inr v4)
  else (if v2 = (-9 : Int32) then fX0_inner_b66 φ this v2 v6 v4 σ
  else (if v2 = v6 then fX0_inner_b66 φ this v2 v6 v4 σ
  else some (.inl ((v4 + (0 : Int64)), (v6 + (1 : Int32)))))))
def fX0_inner_b18 (φ : Nat) (this : Nat) (v1 : Int32) (v2 : Int32) (σ : St) : Option (Int32 × St) :=
  (cV σ (some this) 0 fun o => fX0_askedWord φ o v1 σ).bind fun y2 =>
  (if 0 ≤ y2.1 then (cV y2.2 (some this) 0 fun o => fX0_of φ o v1 y2.2).bind fun y4 =>
  (cV y2.2 (some this) 0 fun o => fX0_setCounts φ o y4 y2.2).bind fun y5 =>
  (it (fun s : Int64 × Int32 => fX0_inner_l45 φ this v2 y5 s.1 s.2) φ ((0 : Int64), (0 : Int32))).bind fun e11 =>
  (cV y5 (some this) 0 fun o => fX0_tellMany φ o e11 (1 : Int32) y5).bind fun y13 =>
  some (y13.1, y13.2)
  else some (y2.1, y2.2))
def fX0_inner (φ : Nat) (this : Nat) (v1 : Int32) (v2 : Int32) (σ : St) : Option (Int32 × St) :=
  (if v2 = (-9 : Int32) then fX0_inner_b18 φ this v1 v2 σ
  else (fX0_isIn φ v2 (0 : Int32) (40 : Int32) σ).bind fun y14 =>
  (if y14 = 0 then some ((-1 : Int32), σ)
  else fX0_inner_b18 φ this v1 v2 σ))
def fX0_rank_l58 (φ : Nat) (this : Nat) (v2 : Int32) (v4 : Int32) (v7 : Int32) (v8 : Int32) (σ : St) (v5 : Int64) (v9 : Int32) : Option ((Int64 × Int32) ⊕ (Int64)) :=
  (cV σ (some this) 0 fun o => fX0_of φ o v2 σ).bind fun y10 =>
  (ldI σ y10 2 v7).bind fun x11 =>
  (if x11 ≤ v9 then some (.inr v5)
  else (gfR σ (some this) 0 0 14).bind fun x13 =>
  (ldI σ x13 1 (((6 : Int32) * v4) + v9)).bind fun x14 =>
  (if x14 = (-9 : Int32) then some (.inl ((v5 + (0 : Int64)), (v9 + (1 : Int32))))
  else (gfR σ (some this) 0 0 18).bind fun x16 =>
  (ldL σ x16 (((41 : Int32) * x14) + v8)).bind fun x17 =>
  some (.inl ((v5 + x17), (v9 + (1 : Int32))))))
def fX0_rank_l31 (φ : Nat) (this : Nat) (v2 : Int32) (σ : St) (v4 : Int32) (v5 : Int64) (v7 : Int32) : Option ((Int32 × Int64 × Int32) ⊕ ((Int64) ⊕ (Unit))) :=
  (cV σ (some this) 0 fun o => fX0_of φ o v2 σ).bind fun y5 =>
  (alen σ y5).bind fun x6 =>
  (if x6 ≤ v7 then some (.inr (.inl v5))
  else (cV σ (some this) 0 fun o => fX0_of φ o v2 σ).bind fun y8 =>
  (alen σ y8).bind fun x9 =>
  (it (fun s : Int64 × Int32 => fX0_rank_l58 φ this v2 v4 v7 ((x9 - v7) - (1 : Int32)) σ s.1 s.2) φ (v5, (0 : Int32))).bind fun e18 =>
  (gfR σ (some this) 0 0 14).bind fun x20 =>
  (cV σ (some this) 0 fun o => fX0_of φ o v2 σ).bind fun y21 =>
  (ldI σ y21 2 v7).bind fun x22 =>
  (ldI σ x20 1 (((6 : Int32) * v4) + x22)).bind fun x23 =>
  (if x23 = (-9 : Int32) then some (.inr (.inr ()))
  else some (.inl (x23, e18, (v7 + (1 : Int32))))))
def fX0_rank (φ : Nat) (this : Nat) (v1 : Int32) (v2 : Int32) (σ : St) : Option (Int32 × St) :=
  (cV σ (some this) 0 fun o => fX0_askedTwo φ o v1 v2 σ).bind fun y1 =>
  (if 0 ≤ y1.1 then (cV y1.2 (some this) 0 fun o => fX0_of φ o v1 y1.2).bind fun y3 =>
  (cV y1.2 (some this) 0 fun o => fX0_setCounts φ o y3 y1.2).bind fun y4 =>
  ((it (fun s : Int32 × Int64 × Int32 => fX0_rank_l31 φ this v2 y4 s.1 s.2.1 s.2.2) φ ((0 : Int32), (0 : Int64), (0 : Int32))).bind fun e25 =>
  match e25 with
  | (.inl e27) => (cV y4 (some this) 0 fun o => fX0_tellMany φ o e27 (1 : Int32) y4).bind fun y29 =>
  some (y29.1, y29.2)
  | (.inr e28) => some ((-9 : Int32), y4))
  else some (y1.1, y1.2))
def fX0_from (φ : Nat) (this : Nat) (v1 : Int32) (v2 : Int32) (v3 : Int32) (σ : St) : Option (Int64) :=
  (gfR σ (some this) 0 0 14).bind fun x1 =>
  (ldI σ x1 1 (((6 : Int32) * v1) + v2)).bind fun x2 =>
  (if x2 = (-9 : Int32) then some (0 : Int64)
  else (gfR σ (some this) 0 0 18).bind fun x4 =>
  (ldL σ x4 (((41 : Int32) * x2) + v3)).bind fun x5 =>
  some x5)
def fX0_byRank_l103 (φ : Nat) (this : Nat) (v2 : Int32) (v4 : Int32) (v6 : Option Nat) (v7 : Int32) (v10 : Int32) (σ : St) (v8 : Int64) (v11 : Int32) (v12 : Int64) : Option ((Int64 × Int32 × Int64) ⊕ (Int64 × Int32)) :=
  (if v8 < v12 then some (.inr (v8, v11))
  else (cV σ (some this) 0 fun o => fX0_from φ o v7 (v11 + (1 : Int32)) ((v2 - v10) - (1 : Int32)) σ).bind fun y17 =>
  some (.inl ((v8 - v12), (v11 + (1 : Int32)), y17)))
def fX0_byRank_l78 (φ : Nat) (this : Nat) (v2 : Int32) (v4 : Int32) (v6 : Option Nat) (v7 : Int32) (v8 : Int64) (v10 : Int32) (σ : St) : Option ((Int32 × Int64 × Int32 × St) ⊕ (St)) :=
  (if v2 ≤ v10 then some (.inr σ)
  else (cV σ (some this) 0 fun o => fX0_from φ o v7 (0 : Int32) ((v2 - v10) - (1 : Int32)) σ).bind fun y15 =>
  (it (fun s : Int64 × Int32 × Int64 => fX0_byRank_l103 φ this v2 v4 v6 v7 v10 σ s.1 s.2.1 s.2.2) φ (v8, (0 : Int32), y15)).bind fun e18 =>
  (stI σ v6 v10 e18.2).bind fun s20 =>
  (gfR s20 (some this) 0 0 14).bind fun x21 =>
  (ldI s20 x21 1 (((6 : Int32) * v7) + e18.2)).bind fun x22 =>
  some (.inl (x22, e18.1, (v10 + (1 : Int32)), s20)))
def fX0_byRank (φ : Nat) (this : Nat) (v1 : Int32) (v2 : Int32) (v3 : Int32) (v4 : Int32) (σ : St) : Option (Int32 × St) :=
  (fX0_isIn φ v2 (0 : Int32) (40 : Int32) σ).bind fun y1 =>
  (if y1 = 0 then some ((-1 : Int32), σ)
  else (if v3 < 0 then some ((-1 : Int32), σ)
  else (fX0_isRow φ v4 σ).bind fun y4 =>
  (if y4 = 0 then some ((-1 : Int32), σ)
  else (cV σ (some this) 0 fun o => fX0_askedWord φ o v1 σ).bind fun y6 =>
  (if 0 ≤ y6.1 then (cV y6.2 (some this) 0 fun o => fX0_of φ o v1 y6.2).bind fun y8 =>
  (cV y6.2 (some this) 0 fun o => fX0_setCounts φ o y8 y6.2).bind fun y9 =>
  (gfR y9 (some this) 0 0 18).bind fun x10 =>
  (ldL y9 x10 v2).bind fun x11 =>
  (if (v3.toInt64) < x11 then (newA y9 1 v2).bind fun n13 =>
  (it (fun s : Int32 × Int64 × Int32 × St => fX0_byRank_l78 φ this v2 v4 n13.1 s.1 s.2.1 s.2.2.1 s.2.2.2) φ ((0 : Int32), (v3.toInt64), (0 : Int32), n13.2)).bind fun e23 =>
  (gfR e23 (some this) 0 0 7).bind fun x25 =>
  (stR e23 x25 5 1 1 v4 n13.1).bind fun s26 =>
  some (v2, s26)
  else some ((-9 : Int32), y9))
  else some (y6.1, y6.2)))))
def fX0_setArches_l14 (φ : Nat) (this : Nat) (v1 : Option Nat) (v2 : Int32) (v3 : Int32) (σ : St) : Option ((Int32 × Int32 × St) ⊕ (St)) :=
  (alen σ v1).bind fun x3 =>
  (if x3 ≤ v3 then some (.inr σ)
  else (ldI σ v1 2 v3).bind fun x5 =>
  (gfI σ (some this) 0 0 6).bind fun x6 =>
  (if (v2 ||| ((1 : Int32) <<< (x5 &&& 31))) = (((1 : Int32) <<< (x6 &&& 31)) - (1 : Int32)) then (gfI σ (some this) 0 0 19).bind fun x8 =>
  (pfI σ (some this) 0 0 19 (x8 + (1 : Int32))).bind fun s9 =>
  (pfI s9 (some this) 0 0 20 (v3 + (1 : Int32))).bind fun s10 =>
  some (.inl ((0 : Int32), (v3 + (1 : Int32)), s10))
  else some (.inl ((v2 ||| ((1 : Int32) <<< (x5 &&& 31))), (v3 + (1 : Int32)), σ))))
def fX0_setArches (φ : Nat) (this : Nat) (v1 : Option Nat) (σ : St) : Option (St) :=
  (pfI σ (some this) 0 0 19 (0 : Int32)).bind fun s1 =>
  (pfI s1 (some this) 0 0 20 (0 : Int32)).bind fun s2 =>
  (it (fun s : Int32 × Int32 × St => fX0_setArches_l14 φ this v1 s.1 s.2.1 s.2.2) φ ((0 : Int32), (0 : Int32), s2)).bind fun e11 =>
  some e11
def fX0_arches (φ : Nat) (this : Nat) (v1 : Int32) (σ : St) : Option (Int32 × St) :=
  (cV σ (some this) 0 fun o => fX0_askedWord φ o v1 σ).bind fun y1 =>
  (if 0 ≤ y1.1 then (cV y1.2 (some this) 0 fun o => fX0_of φ o v1 y1.2).bind fun y3 =>
  (cV y1.2 (some this) 0 fun o => fX0_setArches φ o y3 y1.2).bind fun y4 =>
  (cV y4 (some this) 0 fun o => fX0_of φ o v1 y4).bind fun y5 =>
  (alen y4 y5).bind fun x6 =>
  (gfI y4 (some this) 0 0 20).bind fun x7 =>
  (gfI y4 (some this) 0 0 19).bind fun x8 =>
  (cV y4 (some this) 0 fun o => fX0_ask φ o (x6 - x7) x8 y4).bind fun y9 =>
  some (y9.1, y9.2)
  else some (y1.1, y1.2))
def fX0_absent_b154 (φ : Nat) (this : Nat) (v2 : Int32) (v5 : Option Nat) (v6 : Option Nat) (v7 : Option Nat) (v8 : Int32) (v9 : Int32) (v11 : Int32) (v12 : Int64) (σ : St) : Option ((Int32 × St) ⊕ (St)) :=
  (stI σ v5 v8 v11).bind fun s23 =>
  (stL s23 v6 v8 v12).bind fun s24 =>
  (stI s24 v7 v8 v9).bind fun s25 =>
  some (.inl ((v9 + (1 : Int32)), s25))
def fX0_absent_b137 (φ : Nat) (this : Nat) (v2 : Int32) (v5 : Option Nat) (v6 : Option Nat) (v7 : Option Nat) (v8 : Int32) (v9 : Int32) (v11 : Int32) (k0 : Int64) (σ : St) : Option ((Int32 × St) ⊕ (St)) :=
  (if v9 = 0 then fX0_absent_b154 φ this v2 v5 v6 v7 v8 v9 v11 k0 σ
  else (ldI σ v5 1 v8).bind fun x26 =>
  (if x26 ≤ v11 then (ldI σ v5 1 v8).bind fun x28 =>
  (if v11 = x28 then (ldL σ v6 v8).bind fun x30 =>
  (stL σ v6 v8 (x30 + k0)).bind fun s31 =>
  some (.inl ((v9 + (1 : Int32)), s31))
  else some (.inl ((v9 + (1 : Int32)), σ)))
  else fX0_absent_b154 φ this v2 v5 v6 v7 v8 v9 v11 k0 σ))
def fX0_absent_b119 (φ : Nat) (this : Nat) (v2 : Int32) (v5 : Option Nat) (v6 : Option Nat) (v7 : Option Nat) (v8 : Int32) (v9 : Int32) (v10 : Int32) (k0 : Int32) (σ : St) : Option ((Int32 × St) ⊕ (St)) :=
  (if v10 = (-9 : Int32) then fX0_absent_b137 φ this v2 v5 v6 v7 v8 v9 k0 (1 : Int64) σ
  else (ldL σ v6 v10).bind fun x21 =>
  fX0_absent_b137 φ this v2 v5 v6 v7 v8 v9 k0 x21 σ)
def fX0_absent_l77 (φ : Nat) (this : Nat) (v2 : Int32) (v5 : Option Nat) (v6 : Option Nat) (v7 : Option Nat) (v8 : Int32) (v9 : Int32) (σ : St) : Option ((Int32 × St) ⊕ (St)) :=
  (gfI σ (some this) 0 0 6).bind fun x14 =>
  (if x14 ≤ v9 then some (.inr σ)
  else (gfR σ (some this) 0 0 14).bind fun x16 =>
  (ldI σ x16 1 (((6 : Int32) * v8) + v9)).bind fun x17 =>
  (if x17 = (-9 : Int32) then fX0_absent_b119 φ this v2 v5 v6 v7 v8 v9 x17 (1 : Int32) σ
  else (ldI σ v5 1 x17).bind fun x19 =>
  fX0_absent_b119 φ this v2 v5 v6 v7 v8 v9 x17 (x19 + (1 : Int32)) σ))
def fX0_absent_l69 (φ : Nat) (this : Nat) (v2 : Int32) (v5 : Option Nat) (v6 : Option Nat) (v7 : Option Nat) (v8 : Int32) (σ : St) : Option ((Int32 × St) ⊕ (St)) :=
  (if v8 < 0 then some (.inr σ)
  else (it (fun s : Int32 × St => fX0_absent_l77 φ this v2 v5 v6 v7 v8 s.1 s.2) φ ((0 : Int32), σ)).bind fun e32 =>
  some (.inl ((v8 + (-1 : Int32)), e32)))
def fX0_absent_l224 (φ : Nat) (this : Nat) (v2 : Int32) (v6 : Option Nat) (v7 : Option Nat) (v8 : Option Nat) (v9 : Int32) (v10 : Int32) (σ : St) : Option ((Int32 × Int32 × St) ⊕ (St)) :=
  (alen σ v8).bind fun x38 =>
  (if x38 ≤ v10 then some (.inr σ)
  else (ldI σ v7 1 v9).bind fun x40 =>
  (stI σ v8 v10 x40).bind fun s41 =>
  (gfR s41 (some this) 0 0 14).bind fun x42 =>
  (ldI s41 v7 1 v9).bind fun x43 =>
  (ldI s41 x42 1 (((6 : Int32) * v9) + x43)).bind fun x44 =>
  some (.inl (x44, (v10 + (1 : Int32)), s41)))
def fX0_absent_b294 (φ : Nat) (this : Nat) (v6 : Option Nat) (v8 : Option Nat) (σ : St) : Option (Int32 × St) :=
  (ldL σ v6 (0 : Int32)).bind fun x51 =>
  (alen σ v8).bind fun x52 =>
  (cV σ (some this) 0 fun o => fX0_tellMany φ o x51 x52 σ).bind fun y53 =>
  some (y53.1, y53.2)
def fX0_absent (φ : Nat) (this : Nat) (v1 : Int32) (v2 : Int32) (σ : St) : Option (Int32 × St) :=
  (fX0_isRow φ v2 σ).bind fun y1 =>
  (if y1 = 0 then some ((-1 : Int32), σ)
  else (cV σ (some this) 0 fun o => fX0_askedWord φ o v1 σ).bind fun y3 =>
  (if 0 ≤ y3.1 then (cV y3.2 (some this) 0 fun o => fX0_of φ o v1 y3.2).bind fun y5 =>
  (gfR y3.2 (some this) 0 0 14).bind fun x6 =>
  (fX0_setNext φ y5 x6 y3.2).bind fun y7 =>
  (cV y7 (some this) 0 fun o => fX0_of φ o v1 y7).bind fun y8 =>
  (alen y7 y8).bind fun x9 =>
  (newA y7 1 (x9 + (1 : Int32))).bind fun n10 =>
  (newA n10.2 3 (x9 + (1 : Int32))).bind fun n11 =>
  (newA n11.2 1 (x9 + (1 : Int32))).bind fun n12 =>
  (it (fun s : Int32 × St => fX0_absent_l69 φ this v2 n10.1 n11.1 n12.1 s.1 s.2) φ (x9, n12.2)).bind fun e34 =>
  (ldI e34 n10.1 1 (0 : Int32)).bind fun x36 =>
  (newA e34 1 x36).bind fun n37 =>
  (it (fun s : Int32 × Int32 × St => fX0_absent_l224 φ this v2 n11.1 n12.1 n37.1 s.1 s.2.1 s.2.2) φ ((0 : Int32), (0 : Int32), n37.2)).bind fun e45 =>
  (alen e45 n37.1).bind fun x47 =>
  (if x47 ≤ (40 : Int32) then (gfR e45 (some this) 0 0 7).bind fun x49 =>
  (stR e45 x49 5 1 1 v2 n37.1).bind fun s50 =>
  fX0_absent_b294 φ this n11.1 n37.1 s50
  else (cV e45 (some this) 0 fun o => fX0_come φ o v2 n37.1 (40 : Int32) e45).bind fun y54 =>
  fX0_absent_b294 φ this n11.1 n37.1 y54)
  else some (y3.1, y3.2)))
def fJ12_bitCount (φ : Nat) (v0 : Int32) (σ : St) : Option (Int32) :=
  some ((((((((v0 - (((v0.toUInt32 >>> ((1 : Int32).toUInt32 &&& Int32.toUInt32 31)).toInt32) &&& (1431655765 : Int32))) &&& (858993459 : Int32)) + ((((v0 - (((v0.toUInt32 >>> ((1 : Int32).toUInt32 &&& Int32.toUInt32 31)).toInt32) &&& (1431655765 : Int32))).toUInt32 >>> ((2 : Int32).toUInt32 &&& Int32.toUInt32 31)).toInt32) &&& (858993459 : Int32))) + (((((v0 - (((v0.toUInt32 >>> ((1 : Int32).toUInt32 &&& Int32.toUInt32 31)).toInt32) &&& (1431655765 : Int32))) &&& (858993459 : Int32)) + ((((v0 - (((v0.toUInt32 >>> ((1 : Int32).toUInt32 &&& Int32.toUInt32 31)).toInt32) &&& (1431655765 : Int32))).toUInt32 >>> ((2 : Int32).toUInt32 &&& Int32.toUInt32 31)).toInt32) &&& (858993459 : Int32))).toUInt32 >>> ((4 : Int32).toUInt32 &&& Int32.toUInt32 31)).toInt32)) &&& (252645135 : Int32)) + (((((((v0 - (((v0.toUInt32 >>> ((1 : Int32).toUInt32 &&& Int32.toUInt32 31)).toInt32) &&& (1431655765 : Int32))) &&& (858993459 : Int32)) + ((((v0 - (((v0.toUInt32 >>> ((1 : Int32).toUInt32 &&& Int32.toUInt32 31)).toInt32) &&& (1431655765 : Int32))).toUInt32 >>> ((2 : Int32).toUInt32 &&& Int32.toUInt32 31)).toInt32) &&& (858993459 : Int32))) + (((((v0 - (((v0.toUInt32 >>> ((1 : Int32).toUInt32 &&& Int32.toUInt32 31)).toInt32) &&& (1431655765 : Int32))) &&& (858993459 : Int32)) + ((((v0 - (((v0.toUInt32 >>> ((1 : Int32).toUInt32 &&& Int32.toUInt32 31)).toInt32) &&& (1431655765 : Int32))).toUInt32 >>> ((2 : Int32).toUInt32 &&& Int32.toUInt32 31)).toInt32) &&& (858993459 : Int32))).toUInt32 >>> ((4 : Int32).toUInt32 &&& Int32.toUInt32 31)).toInt32)) &&& (252645135 : Int32)).toUInt32 >>> ((8 : Int32).toUInt32 &&& Int32.toUInt32 31)).toInt32)) + ((((((((v0 - (((v0.toUInt32 >>> ((1 : Int32).toUInt32 &&& Int32.toUInt32 31)).toInt32) &&& (1431655765 : Int32))) &&& (858993459 : Int32)) + ((((v0 - (((v0.toUInt32 >>> ((1 : Int32).toUInt32 &&& Int32.toUInt32 31)).toInt32) &&& (1431655765 : Int32))).toUInt32 >>> ((2 : Int32).toUInt32 &&& Int32.toUInt32 31)).toInt32) &&& (858993459 : Int32))) + (((((v0 - (((v0.toUInt32 >>> ((1 : Int32).toUInt32 &&& Int32.toUInt32 31)).toInt32) &&& (1431655765 : Int32))) &&& (858993459 : Int32)) + ((((v0 - (((v0.toUInt32 >>> ((1 : Int32).toUInt32 &&& Int32.toUInt32 31)).toInt32) &&& (1431655765 : Int32))).toUInt32 >>> ((2 : Int32).toUInt32 &&& Int32.toUInt32 31)).toInt32) &&& (858993459 : Int32))).toUInt32 >>> ((4 : Int32).toUInt32 &&& Int32.toUInt32 31)).toInt32)) &&& (252645135 : Int32)) + (((((((v0 - (((v0.toUInt32 >>> ((1 : Int32).toUInt32 &&& Int32.toUInt32 31)).toInt32) &&& (1431655765 : Int32))) &&& (858993459 : Int32)) + ((((v0 - (((v0.toUInt32 >>> ((1 : Int32).toUInt32 &&& Int32.toUInt32 31)).toInt32) &&& (1431655765 : Int32))).toUInt32 >>> ((2 : Int32).toUInt32 &&& Int32.toUInt32 31)).toInt32) &&& (858993459 : Int32))) + (((((v0 - (((v0.toUInt32 >>> ((1 : Int32).toUInt32 &&& Int32.toUInt32 31)).toInt32) &&& (1431655765 : Int32))) &&& (858993459 : Int32)) + ((((v0 - (((v0.toUInt32 >>> ((1 : Int32).toUInt32 &&& Int32.toUInt32 31)).toInt32) &&& (1431655765 : Int32))).toUInt32 >>> ((2 : Int32).toUInt32 &&& Int32.toUInt32 31)).toInt32) &&& (858993459 : Int32))).toUInt32 >>> ((4 : Int32).toUInt32 &&& Int32.toUInt32 31)).toInt32)) &&& (252645135 : Int32)).toUInt32 >>> ((8 : Int32).toUInt32 &&& Int32.toUInt32 31)).toInt32)).toUInt32 >>> ((16 : Int32).toUInt32 &&& Int32.toUInt32 31)).toInt32)) &&& (63 : Int32))
def fX0_added_l52 (φ : Nat) (this : Nat) (v1 : Int32) (v2 : Int32) (σ : St) (v4 : Int32) (v5 : Int32) : Option ((Int32 × Int32) ⊕ (Int32)) :=
  (cV σ (some this) 0 fun o => fX0_of φ o v1 σ).bind fun y10 =>
  (alen σ y10).bind fun x11 =>
  (if x11 ≤ v5 then some (.inr v4)
  else (cV σ (some this) 0 fun o => fX0_of φ o v1 σ).bind fun y13 =>
  (ldI σ y13 2 v5).bind fun x14 =>
  some (.inl ((v4 ||| ((1 : Int32) <<< (x14 &&& 31))), (v5 + (1 : Int32)))))
def fX0_added (φ : Nat) (this : Nat) (v1 : Int32) (v2 : Int32) (σ : St) : Option (Int32 × St) :=
  (fX0_isIn φ v2 (0 : Int32) (40 : Int32) σ).bind fun y1 =>
  (if y1 = 0 then some ((-1 : Int32), σ)
  else (cV σ (some this) 0 fun o => fX0_askedWord φ o v1 σ).bind fun y3 =>
  (if 0 ≤ y3.1 then (cV y3.2 (some this) 0 fun o => fX0_of φ o v1 y3.2).bind fun y5 =>
  (cV y3.2 (some this) 0 fun o => fX0_setArches φ o y5 y3.2).bind fun y6 =>
  (gfI y6 (some this) 0 0 19).bind fun x7 =>
  (if x7 < v2 then (gfI y6 (some this) 0 0 20).bind fun x9 =>
  (it (fun s : Int32 × Int32 => fX0_added_l52 φ this v1 v2 y6 s.1 s.2) φ ((0 : Int32), x9)).bind fun e15 =>
  (gfI y6 (some this) 0 0 6).bind fun x17 =>
  (fJ12_bitCount φ e15 y6).bind fun y18 =>
  (gfI y6 (some this) 0 0 19).bind fun x19 =>
  (gfI y6 (some this) 0 0 6).bind fun x20 =>
  some (((x17 - y18) + (((v2 - x19) - (1 : Int32)) * x20)), y6)
  else some ((0 : Int32), y6))
  else some (y3.1, y3.2)))
def fX0_alike (φ : Nat) (this : Nat) (v1 : Int32) (v2 : Int32) (v3 : Int32) (σ : St) : Option (Int32 × St) :=
  (fX0_isIn φ v3 (0 : Int32) (40 : Int32) σ).bind fun y1 =>
  (if y1 = 0 then some ((-1 : Int32), σ)
  else (cV σ (some this) 0 fun o => fX0_askedTwo φ o v1 v2 σ).bind fun y3 =>
  (if 0 ≤ y3.1 then (cV y3.2 (some this) 0 fun o => fX0_of φ o v1 y3.2).bind fun y5 =>
  (cV y3.2 (some this) 0 fun o => fX0_of φ o v2 y3.2).bind fun y6 =>
  (cV y3.2 (some this) 0 fun o => fX0_parted φ o y5 y6 y3.2).bind fun y7 =>
  (if y7.1 ≤ v3 then some ((0 : Int32), y7.2)
  else some ((1 : Int32), y7.2))
  else some (y3.1, y3.2)))
def fX0_parting_l81 (φ : Nat) (this : Nat) (v3 : Int32) (v5 : Int32) (v6 : Option Nat) (v7 : Int32) (v8 : Int32) (σ : St) : Option ((Int32 × Int32 × St) ⊕ (St)) :=
  (if v8 = 0 then some (.inr σ)
  else (gfR σ (some this) 0 0 23).bind fun x14 =>
  (ldI σ x14 1 v8).bind fun x15 =>
  (stI σ v6 v7 x15).bind fun s16 =>
  (gfR s16 (some this) 0 0 22).bind fun x17 =>
  (ldI s16 x17 1 v8).bind fun x18 =>
  some (.inl ((v7 + (-1 : Int32)), x18, s16)))
def fX0_parting (φ : Nat) (this : Nat) (v1 : Int32) (v2 : Int32) (v3 : Int32) (σ : St) : Option (Int32 × St) :=
  (fX0_isRow φ v3 σ).bind fun y1 =>
  (if y1 = 0 then some ((-1 : Int32), σ)
  else (cV σ (some this) 0 fun o => fX0_askedTwo φ o v1 v2 σ).bind fun y3 =>
  (if 0 ≤ y3.1 then (cV y3.2 (some this) 0 fun o => fX0_of φ o v1 y3.2).bind fun y5 =>
  (cV y3.2 (some this) 0 fun o => fX0_of φ o v2 y3.2).bind fun y6 =>
  (cV y3.2 (some this) 0 fun o => fX0_parted φ o y5 y6 y3.2).bind fun y7 =>
  (if y7.1 = (1000 : Int32) then some ((-9 : Int32), y7.2)
  else (newA y7.2 1 y7.1).bind fun n9 =>
  (gfI n9.2 (some this) 0 0 25).bind fun x10 =>
  (stI n9.2 n9.1 (y7.1 - (1 : Int32)) x10).bind fun s11 =>
  (gfI s11 (some this) 0 0 24).bind fun x12 =>
  (it (fun s : Int32 × Int32 × St => fX0_parting_l81 φ this v3 y7.1 n9.1 s.1 s.2.1 s.2.2) φ ((y7.1 - (2 : Int32)), x12, s11)).bind fun e19 =>
  (gfR e19 (some this) 0 0 7).bind fun x21 =>
  (stR e19 x21 5 1 1 v3 n9.1).bind fun s22 =>
  some (y7.1, s22))
  else some (y3.1, y3.2)))
def fX0_askedSome_b60 (φ : Nat) (this : Nat) (v1 : Int32) (v3 : Int32) (k0 : Int32) (k1 : Int32) (σ : St) : Option ((Int32 × Int32 × St) ⊕ (Int32 × St)) :=
  (gfR σ (some this) 0 0 27).bind fun x11 =>
  (gfI σ (some this) 0 0 26).bind fun x12 =>
  (stI σ x11 x12 v3).bind fun s13 =>
  (gfI s13 (some this) 0 0 26).bind fun x14 =>
  (pfI s13 (some this) 0 0 26 (x14 + (1 : Int32))).bind fun s15 =>
  some (.inl ((k0 &&& k1), (v3 + (1 : Int32)), s15))
def fX0_askedSome_l30 (φ : Nat) (this : Nat) (v1 : Int32) (v2 : Int32) (v3 : Int32) (σ : St) : Option ((Int32 × Int32 × St) ⊕ (Int32 × St)) :=
  (if (8 : Int32) ≤ v3 then some (.inr (v2, σ))
  else (if ((v1 >>> (v3 &&& 31)) &&& (1 : Int32)) = (1 : Int32) then (gfR σ (some this) 0 0 9).bind fun x8 =>
  (ldR σ x8 7 v3).bind fun x9 =>
  (if x9 = none then fX0_askedSome_b60 φ this v1 v3 v2 (0 : Int32) σ
  else fX0_askedSome_b60 φ this v1 v3 v2 (1 : Int32) σ)
  else some (.inl (v2, (v3 + (1 : Int32)), σ))))
def fX0_askedSome_l103 (φ : Nat) (this : Nat) (v3 : Int32) (v4 : Int32) (σ : St) : Option ((Int32 × Int32 × St) ⊕ (Int32 × St)) :=
  (gfI σ (some this) 0 0 26).bind fun x19 =>
  (if x19 ≤ v4 then some (.inr (v3, σ))
  else (gfR σ (some this) 0 0 28).bind fun x21 =>
  (stI σ x21 v4 v3).bind fun s22 =>
  (gfR s22 (some this) 0 0 27).bind fun x23 =>
  (ldI s22 x23 1 v4).bind fun x24 =>
  (cV s22 (some this) 0 fun o => fX0_of φ o x24 s22).bind fun y25 =>
  (alen s22 y25).bind fun x26 =>
  (gfR s22 (some this) 0 0 27).bind fun x27 =>
  (ldI s22 x27 1 v4).bind fun x28 =>
  (cV s22 (some this) 0 fun o => fX0_of φ o x28 s22).bind fun y29 =>
  (gfR s22 (some this) 0 0 14).bind fun x30 =>
  (fX0_setNext φ y29 x30 s22).bind fun y31 =>
  (gfR y31 (some this) 0 0 14).bind fun x32 =>
  (gfR y31 (some this) 0 0 29).bind fun x33 =>
  (acopy y31 x32 (0 : Int32) x33 ((246 : Int32) * v4) (246 : Int32)).bind fun s34 =>
  some (.inl ((v3 * (x26 + (1 : Int32))), (v4 + (1 : Int32)), s34)))
def fX0_askedSome (φ : Nat) (this : Nat) (v1 : Int32) (σ : St) : Option (Int32 × St) :=
  (fX0_isIn φ v1 (1 : Int32) (255 : Int32) σ).bind fun y1 =>
  (if y1 = 0 then some ((-1 : Int32), σ)
  else (fJ12_bitCount φ v1 σ).bind fun y3 =>
  (if y3 ≤ (4 : Int32) then (pfI σ (some this) 0 0 26 (0 : Int32)).bind fun s5 =>
  (it (fun s : Int32 × Int32 × St => fX0_askedSome_l30 φ this v1 s.1 s.2.1 s.2.2) φ ((1 : Int32), (0 : Int32), s5)).bind fun e16 =>
  (if e16.1 = 0 then (cV e16.2 (some this) 0 fun o => fX0_met φ o (1 : Int32) e16.2).bind fun y38 =>
  some (y38.1, y38.2)
  else (it (fun s : Int32 × Int32 × St => fX0_askedSome_l103 φ this s.1 s.2.1 s.2.2) φ ((1 : Int32), (0 : Int32), e16.2)).bind fun e35 =>
  (if e35.1 ≤ (20000 : Int32) then some (e35.1, e35.2)
  else some ((-6 : Int32), e35.2)))
  else some ((-1 : Int32), σ)))
def fX0_placeIn (φ : Nat) (this : Nat) (v1 : Int32) (v2 : Int32) (σ : St) : Option (Int32) :=
  (gfR σ (some this) 0 0 28).bind fun x1 =>
  (ldI σ x1 1 v2).bind fun x2 =>
  chk (¬ x2 = 0) <|
  (gfR σ (some this) 0 0 27).bind fun x4 =>
  (ldI σ x4 1 v2).bind fun x5 =>
  (cV σ (some this) 0 fun o => fX0_of φ o x5 σ).bind fun y6 =>
  (alen σ y6).bind fun x7 =>
  chk (¬ (x7 + (1 : Int32)) = 0) <|
  some ((v1 / x2) % (x7 + (1 : Int32)))
def fX0_allGo_l5 (φ : Nat) (this : Nat) (v1 : Int32) (v2 : Int32) (σ : St) (v3 : Int32) (v4 : Int32) : Option ((Int32 × Int32) ⊕ ((Int32) ⊕ (Unit))) :=
  (gfI σ (some this) 0 0 26).bind fun x1 =>
  (if x1 ≤ v4 then some (.inr (.inl v3))
  else (gfR σ (some this) 0 0 29).bind fun x3 =>
  (cV σ (some this) 0 fun o => fX0_placeIn φ o v1 v4 σ).bind fun y4 =>
  (ldI σ x3 1 (((6 : Int32) * (((41 : Int32) * v4) + y4)) + v2)).bind fun x5 =>
  (if x5 = (-9 : Int32) then some (.inr (.inr ()))
  else (gfR σ (some this) 0 0 28).bind fun x7 =>
  (ldI σ x7 1 v4).bind fun x8 =>
  some (.inl ((v3 + (x8 * x5)), (v4 + (1 : Int32))))))
def fX0_allGo (φ : Nat) (this : Nat) (v1 : Int32) (v2 : Int32) (σ : St) : Option (Int32) :=
  ((it (fun s : Int32 × Int32 => fX0_allGo_l5 φ this v1 v2 σ s.1 s.2) φ ((0 : Int32), (0 : Int32))).bind fun e9 =>
  match e9 with
  | (.inl e11) => some e11
  | (.inr e12) => some (-9 : Int32))
def fX0_common_l51 (φ : Nat) (this : Nat) (v2 : Int32) (v4 : Int32) (v5 : Int32) (σ : St) : Option ((Int32 × St) ⊕ (St)) :=
  (gfI σ (some this) 0 0 6).bind fun x10 =>
  (if x10 ≤ v5 then some (.inr σ)
  else (cV σ (some this) 0 fun o => fX0_allGo φ o v4 v5 σ).bind fun y12 =>
  (if y12 = (-9 : Int32) then some (.inl ((v5 + (1 : Int32)), σ))
  else (gfR σ (some this) 0 0 30).bind fun x14 =>
  (ldI σ x14 1 y12).bind fun x15 =>
  (gfR σ (some this) 0 0 30).bind fun x16 =>
  (ldI σ x16 1 v4).bind fun x17 =>
  (if (x15 + (1 : Int32)) ≤ x17 then some (.inl ((v5 + (1 : Int32)), σ))
  else (gfR σ (some this) 0 0 30).bind fun x19 =>
  (gfR σ (some this) 0 0 30).bind fun x20 =>
  (ldI σ x20 1 y12).bind fun x21 =>
  (stI σ x19 v4 (x21 + (1 : Int32))).bind fun s22 =>
  (gfR s22 (some this) 0 0 31).bind fun x23 =>
  (stI s22 x23 v4 v5).bind fun s24 =>
  some (.inl ((v5 + (1 : Int32)), s24)))))
def fX0_common_l26 (φ : Nat) (this : Nat) (v2 : Int32) (v4 : Int32) (σ : St) : Option ((Int32 × St) ⊕ (St)) :=
  (if v4 < 0 then some (.inr σ)
  else (gfR σ (some this) 0 0 30).bind fun x6 =>
  (stI σ x6 v4 (0 : Int32)).bind fun s7 =>
  (gfR s7 (some this) 0 0 31).bind fun x8 =>
  (stI s7 x8 v4 (-9 : Int32)).bind fun s9 =>
  (it (fun s : Int32 × St => fX0_common_l51 φ this v2 v4 s.1 s.2) φ ((0 : Int32), s9)).bind fun e25 =>
  some (.inl ((v4 + (-1 : Int32)), e25)))
def fX0_common_l149 (φ : Nat) (this : Nat) (v2 : Int32) (v4 : Option Nat) (v5 : Int32) (v6 : Int32) (σ : St) : Option ((Int32 × Int32 × St) ⊕ (St)) :=
  (alen σ v4).bind fun x32 =>
  (if x32 ≤ v6 then some (.inr σ)
  else (gfR σ (some this) 0 0 31).bind fun x34 =>
  (ldI σ x34 1 v5).bind fun x35 =>
  (stI σ v4 v6 x35).bind fun s36 =>
  (gfR s36 (some this) 0 0 31).bind fun x37 =>
  (ldI s36 x37 1 v5).bind fun x38 =>
  (cV s36 (some this) 0 fun o => fX0_allGo φ o v5 x38 s36).bind fun y39 =>
  some (.inl (y39, (v6 + (1 : Int32)), s36)))
def fX0_common (φ : Nat) (this : Nat) (v1 : Int32) (v2 : Int32) (σ : St) : Option (Int32 × St) :=
  (fX0_isRow φ v2 σ).bind fun y1 =>
  (if y1 = 0 then some ((-1 : Int32), σ)
  else (cV σ (some this) 0 fun o => fX0_askedSome φ o v1 σ).bind fun y3 =>
  (if 0 ≤ y3.1 then (it (fun s : Int32 × St => fX0_common_l26 φ this v2 s.1 s.2) φ ((y3.1 - (1 : Int32)), y3.2)).bind fun e27 =>
  (gfR e27 (some this) 0 0 30).bind fun x29 =>
  (ldI e27 x29 1 (0 : Int32)).bind fun x30 =>
  (newA e27 1 x30).bind fun n31 =>
  (it (fun s : Int32 × Int32 × St => fX0_common_l149 φ this v2 n31.1 s.1 s.2.1 s.2.2) φ ((0 : Int32), (0 : Int32), n31.2)).bind fun e40 =>
  (gfR e40 (some this) 0 0 7).bind fun x42 =>
  (stR e40 x42 5 1 1 v2 n31.1).bind fun s43 =>
  (alen s43 n31.1).bind fun x44 =>
  some (x44, s43)
  else some (y3.1, y3.2)))
def fX0_someGo_l5 (φ : Nat) (this : Nat) (v1 : Int32) (v2 : Int32) (σ : St) (v3 : Int32) (v4 : Int32) : Option ((Int32 × Int32) ⊕ (Int32)) :=
  (gfI σ (some this) 0 0 26).bind fun x1 =>
  (if x1 ≤ v4 then some (.inr v3)
  else (cV σ (some this) 0 fun o => fX0_placeIn φ o v1 v4 σ).bind fun y3 =>
  (gfR σ (some this) 0 0 27).bind fun x4 =>
  (ldI σ x4 1 v4).bind fun x5 =>
  (cV σ (some this) 0 fun o => fX0_of φ o x5 σ).bind fun y6 =>
  (alen σ y6).bind fun x7 =>
  (if x7 ≤ y3 then some (.inl ((v3 + (0 : Int32)), (v4 + (1 : Int32))))
  else (gfR σ (some this) 0 0 27).bind fun x9 =>
  (ldI σ x9 1 v4).bind fun x10 =>
  (cV σ (some this) 0 fun o => fX0_of φ o x10 σ).bind fun y11 =>
  (ldI σ y11 2 y3).bind fun x12 =>
  (if x12 = v2 then (gfR σ (some this) 0 0 28).bind fun x14 =>
  (ldI σ x14 1 v4).bind fun x15 =>
  some (.inl ((v3 + x15), (v4 + (1 : Int32))))
  else some (.inl ((v3 + (0 : Int32)), (v4 + (1 : Int32)))))))
def fX0_someGo (φ : Nat) (this : Nat) (v1 : Int32) (v2 : Int32) (σ : St) : Option (Int32) :=
  (it (fun s : Int32 × Int32 => fX0_someGo_l5 φ this v1 v2 σ s.1 s.2) φ (v1, (0 : Int32))).bind fun e16 =>
  some e16
def fX0_cover_b109 (φ : Nat) (this : Nat) (v2 : Int32) (v4 : Int32) (v5 : Int32) (v6 : Int32) (σ : St) : Option ((Int32 × St) ⊕ (St)) :=
  (gfR σ (some this) 0 0 30).bind fun x17 =>
  (gfR σ (some this) 0 0 30).bind fun x18 =>
  (ldI σ x18 1 v6).bind fun x19 =>
  (stI σ x17 v4 (x19 + (1 : Int32))).bind fun s20 =>
  (gfR s20 (some this) 0 0 31).bind fun x21 =>
  (stI s20 x21 v4 v5).bind fun s22 =>
  some (.inl ((v5 + (1 : Int32)), s22))
def fX0_cover_l52 (φ : Nat) (this : Nat) (v2 : Int32) (v4 : Int32) (v5 : Int32) (σ : St) : Option ((Int32 × St) ⊕ (St)) :=
  (gfI σ (some this) 0 0 6).bind fun x10 =>
  (if x10 ≤ v5 then some (.inr σ)
  else (cV σ (some this) 0 fun o => fX0_someGo φ o v4 v5 σ).bind fun y12 =>
  (if y12 = v4 then some (.inl ((v5 + (1 : Int32)), σ))
  else (gfR σ (some this) 0 0 31).bind fun x14 =>
  (ldI σ x14 1 v4).bind fun x15 =>
  (if x15 = (-9 : Int32) then fX0_cover_b109 φ this v2 v4 v5 y12 σ
  else (gfR σ (some this) 0 0 30).bind fun x23 =>
  (ldI σ x23 1 y12).bind fun x24 =>
  (gfR σ (some this) 0 0 30).bind fun x25 =>
  (ldI σ x25 1 v4).bind fun x26 =>
  (if x26 ≤ (x24 + (1 : Int32)) then some (.inl ((v5 + (1 : Int32)), σ))
  else fX0_cover_b109 φ this v2 v4 v5 y12 σ))))
def fX0_cover_l35 (φ : Nat) (this : Nat) (v2 : Int32) (v4 : Int32) (σ : St) : Option ((Int32 × St) ⊕ (St)) :=
  (if v4 < 0 then some (.inr σ)
  else (gfR σ (some this) 0 0 31).bind fun x8 =>
  (stI σ x8 v4 (-9 : Int32)).bind fun s9 =>
  (it (fun s : Int32 × St => fX0_cover_l52 φ this v2 v4 s.1 s.2) φ ((0 : Int32), s9)).bind fun e28 =>
  some (.inl ((v4 + (-1 : Int32)), e28)))
def fX0_cover_l171 (φ : Nat) (this : Nat) (v2 : Int32) (v4 : Int32) (v5 : Option Nat) (v6 : Int32) (v7 : Int32) (σ : St) : Option ((Int32 × Int32 × St) ⊕ (St)) :=
  (alen σ v5).bind fun x35 =>
  (if x35 ≤ v7 then some (.inr σ)
  else (gfR σ (some this) 0 0 31).bind fun x37 =>
  (ldI σ x37 1 v6).bind fun x38 =>
  (stI σ v5 v7 x38).bind fun s39 =>
  (gfR s39 (some this) 0 0 31).bind fun x40 =>
  (ldI s39 x40 1 v6).bind fun x41 =>
  (cV s39 (some this) 0 fun o => fX0_someGo φ o v6 x41 s39).bind fun y42 =>
  some (.inl (y42, (v7 + (1 : Int32)), s39)))
def fX0_cover (φ : Nat) (this : Nat) (v1 : Int32) (v2 : Int32) (σ : St) : Option (Int32 × St) :=
  (fX0_isRow φ v2 σ).bind fun y1 =>
  (if y1 = 0 then some ((-1 : Int32), σ)
  else (cV σ (some this) 0 fun o => fX0_askedSome φ o v1 σ).bind fun y3 =>
  (if 0 ≤ y3.1 then (gfR y3.2 (some this) 0 0 30).bind fun x5 =>
  (stI y3.2 x5 (y3.1 - (1 : Int32)) (0 : Int32)).bind fun s6 =>
  (it (fun s : Int32 × St => fX0_cover_l35 φ this v2 s.1 s.2) φ ((y3.1 - (2 : Int32)), s6)).bind fun e30 =>
  (gfR e30 (some this) 0 0 30).bind fun x32 =>
  (ldI e30 x32 1 (0 : Int32)).bind fun x33 =>
  (newA e30 1 (min32 x33 (40 : Int32))).bind fun n34 =>
  (it (fun s : Int32 × Int32 × St => fX0_cover_l171 φ this v2 x33 n34.1 s.1 s.2.1 s.2.2) φ ((0 : Int32), (0 : Int32), n34.2)).bind fun e43 =>
  (gfR e43 (some this) 0 0 7).bind fun x45 =>
  (stR e43 x45 5 1 1 v2 n34.1).bind fun s46 =>
  some (x33, s46)
  else some (y3.1, y3.2)))
def fX0_both_l94 (φ : Nat) (this : Nat) (v2 : Int32) (v4 : Int32) (v5 : Option Nat) (v6 : Int32) (v7 : Int32) (σ : St) (v8 : Int64) (v10 : Int32) : Option ((Int64 × Int32) ⊕ (Int64)) :=
  (gfI σ (some this) 0 0 6).bind fun x20 =>
  (if x20 ≤ v10 then some (.inr v8)
  else (gfR σ (some this) 0 0 14).bind fun x22 =>
  (ldI σ x22 1 (((6 : Int32) * v6) + v10)).bind fun x23 =>
  (gfR σ (some this) 0 0 15).bind fun x24 =>
  (ldI σ x24 1 (((6 : Int32) * v7) + v10)).bind fun x25 =>
  (if x23 = (-9 : Int32) then some (.inl ((v8 + (0 : Int64)), (v10 + (1 : Int32))))
  else (if x25 = (-9 : Int32) then some (.inl ((v8 + (0 : Int64)), (v10 + (1 : Int32))))
  else (ldL σ v5 ((v4 * x23) + x25)).bind fun x28 =>
  some (.inl ((v8 + x28), (v10 + (1 : Int32)))))))
def fX0_both_l83 (φ : Nat) (this : Nat) (v2 : Int32) (v4 : Int32) (v5 : Option Nat) (v6 : Int32) (v7 : Int32) (σ : St) : Option ((Int32 × St) ⊕ (St)) :=
  (if v7 < 0 then some (.inr σ)
  else (it (fun s : Int64 × Int32 => fX0_both_l94 φ this v2 v4 v5 v6 v7 σ s.1 s.2) φ ((1 : Int64), (0 : Int32))).bind fun e29 =>
  (stL σ v5 ((v4 * v6) + v7) e29).bind fun s31 =>
  some (.inl ((v7 + (-1 : Int32)), s31)))
def fX0_both_l70 (φ : Nat) (this : Nat) (v2 : Int32) (v4 : Int32) (v5 : Option Nat) (v6 : Int32) (σ : St) : Option ((Int32 × St) ⊕ (St)) :=
  (if v6 < 0 then some (.inr σ)
  else (cV σ (some this) 0 fun o => fX0_of φ o v2 σ).bind fun y17 =>
  (alen σ y17).bind fun x18 =>
  (it (fun s : Int32 × St => fX0_both_l83 φ this v2 v4 v5 v6 s.1 s.2) φ (x18, σ)).bind fun e32 =>
  some (.inl ((v6 + (-1 : Int32)), e32)))
def fX0_both (φ : Nat) (this : Nat) (v1 : Int32) (v2 : Int32) (σ : St) : Option (Int32 × St) :=
  (cV σ (some this) 0 fun o => fX0_askedTwo φ o v1 v2 σ).bind fun y1 =>
  (if 0 ≤ y1.1 then (cV y1.2 (some this) 0 fun o => fX0_of φ o v1 y1.2).bind fun y3 =>
  (gfR y1.2 (some this) 0 0 14).bind fun x4 =>
  (fX0_setNext φ y3 x4 y1.2).bind fun y5 =>
  (cV y5 (some this) 0 fun o => fX0_of φ o v2 y5).bind fun y6 =>
  (gfR y5 (some this) 0 0 15).bind fun x7 =>
  (fX0_setNext φ y6 x7 y5).bind fun y8 =>
  (cV y8 (some this) 0 fun o => fX0_of φ o v2 y8).bind fun y9 =>
  (alen y8 y9).bind fun x10 =>
  (cV y8 (some this) 0 fun o => fX0_of φ o v1 y8).bind fun y11 =>
  (alen y8 y11).bind fun x12 =>
  (newA y8 3 ((x12 + (1 : Int32)) * (x10 + (1 : Int32)))).bind fun n13 =>
  (cV n13.2 (some this) 0 fun o => fX0_of φ o v1 n13.2).bind fun y14 =>
  (alen n13.2 y14).bind fun x15 =>
  (it (fun s : Int32 × St => fX0_both_l70 φ this v2 (x10 + (1 : Int32)) n13.1 s.1 s.2) φ (x15, n13.2)).bind fun e34 =>
  (ldL e34 n13.1 (0 : Int32)).bind fun x36 =>
  (cV e34 (some this) 0 fun o => fX0_tellMany φ o x36 (1 : Int32) e34).bind fun y37 =>
  some (y37.1, y37.2)
  else some (y1.1, y1.2))
def fX0_power_l4 (φ : Nat) (this : Nat) (v1 : Int32) (σ : St) (v2 : Int32) (v3 : Int32) : Option ((Int32 × Int32) ⊕ (Int32)) :=
  (if v1 ≤ v3 then some (.inr v2)
  else (if (10000 : Int32) < v2 then some (.inr v2)
  else (gfI σ (some this) 0 0 6).bind fun x3 =>
  some (.inl ((v2 * x3), (v3 + (1 : Int32))))))
def fX0_power (φ : Nat) (this : Nat) (v1 : Int32) (σ : St) : Option (Int32) :=
  (it (fun s : Int32 × Int32 => fX0_power_l4 φ this v1 σ s.1 s.2) φ ((1 : Int32), (0 : Int32))).bind fun e4 =>
  some e4
def fX0_spell_l8 (φ : Nat) (this : Nat) (v2 : Option Nat) (v3 : Int32) (v4 : Int32) (σ : St) : Option ((Int32 × Int32 × St) ⊕ (St)) :=
  (if v4 < 0 then some (.inr σ)
  else (gfI σ (some this) 0 0 6).bind fun x3 =>
  chk (¬ x3 = 0) <|
  (stB σ v2 v4 ((v3 % x3).toInt8.toInt32)).bind fun s5 =>
  (gfI s5 (some this) 0 0 6).bind fun x6 =>
  chk (¬ x6 = 0) <|
  some (.inl ((v3 / x6), (v4 + (-1 : Int32)), s5)))
def fX0_spell (φ : Nat) (this : Nat) (v1 : Int32) (v2 : Option Nat) (σ : St) : Option (St) :=
  (alen σ v2).bind fun x1 =>
  (it (fun s : Int32 × Int32 × St => fX0_spell_l8 φ this v2 s.1 s.2.1 s.2.2) φ (v1, (x1 - (1 : Int32)), σ)).bind fun e8 =>
  some e8
def fX0_few_b79 (φ : Nat) (v1 : Option Nat) (v2 : Int64) (v6 : Int64) (v8 : Option Nat) (v9 : Int32) (v10 : Int32) (v11 : Int32) (k0 : Int64) (k1 : Int64) (σ : St) : Option ((Int64 × Int64 × Int64 × Int32) ⊕ (Int64 × Int64 × Int64)) :=
  (ldI σ v1 2 (0 : Int32)).bind fun x8 =>
  (if x8 = v11 then some (.inl ((v2 + (1 : Int64)), (k0 + k1), v6, (v10 + (1 : Int32))))
  else some (.inl ((v2 + (0 : Int64)), (k0 + k1), v6, (v10 + (1 : Int32)))))
def fX0_few_b78 (φ : Nat) (v1 : Option Nat) (v2 : Int64) (v6 : Int64) (v8 : Option Nat) (v9 : Int32) (v10 : Int32) (v11 : Int32) (k0 : Int64) (σ : St) : Option ((Int64 × Int64 × Int64 × Int32) ⊕ (Int64 × Int64 × Int64)) :=
  fX0_few_b79 φ v1 v2 v6 v8 v9 v10 v11 k0 (0 : Int64) σ
def fX0_few_b55 (φ : Nat) (v1 : Option Nat) (v2 : Int64) (v4 : Int64) (v8 : Option Nat) (v9 : Int32) (v10 : Int32) (v11 : Int32) (k0 : Int64) (k1 : Int64) (σ : St) : Option ((Int64 × Int64 × Int64 × Int32) ⊕ (Int64 × Int64 × Int64)) :=
  (alen σ v1).bind fun x6 =>
  (if x6 ≤ (1 : Int32) then fX0_few_b78 φ v1 v2 (k0 + k1) v8 v9 v10 v11 v4 σ
  else (ldI σ v1 2 (1 : Int32)).bind fun x10 =>
  (if x10 = v11 then fX0_few_b79 φ v1 v2 (k0 + k1) v8 v9 v10 v11 v4 v2 σ
  else fX0_few_b78 φ v1 v2 (k0 + k1) v8 v9 v10 v11 v4 σ))
def fX0_few_b54 (φ : Nat) (v1 : Option Nat) (v2 : Int64) (v4 : Int64) (v8 : Option Nat) (v9 : Int32) (v10 : Int32) (v11 : Int32) (k0 : Int64) (σ : St) : Option ((Int64 × Int64 × Int64 × Int32) ⊕ (Int64 × Int64 × Int64)) :=
  fX0_few_b55 φ v1 v2 v4 v8 v9 v10 v11 k0 (0 : Int64) σ
def fX0_few_l19 (φ : Nat) (v1 : Option Nat) (v8 : Option Nat) (v9 : Int32) (σ : St) (v2 : Int64) (v4 : Int64) (v6 : Int64) (v10 : Int32) : Option ((Int64 × Int64 × Int64 × Int32) ⊕ (Int64 × Int64 × Int64)) :=
  (if v9 ≤ v10 then some (.inr (v2, v4, v6))
  else (ldI σ v8 2 v10).bind fun x3 =>
  (alen σ v1).bind fun x4 =>
  (if x4 ≤ (2 : Int32) then fX0_few_b54 φ v1 v2 v4 v8 v9 v10 x3 v6 σ
  else (ldI σ v1 2 (2 : Int32)).bind fun x12 =>
  (if x12 = x3 then fX0_few_b55 φ v1 v2 v4 v8 v9 v10 x3 v6 v4 σ
  else fX0_few_b54 φ v1 v2 v4 v8 v9 v10 x3 v6 σ)))
def fX0_few (φ : Nat) (v0 : Option Nat) (v1 : Option Nat) (σ : St) : Option (Int64) :=
  (alen σ v0).bind fun x1 =>
  (it (fun s : Int64 × Int64 × Int64 × Int32 => fX0_few_l19 φ v1 v0 x1 σ s.1 s.2.1 s.2.2.1 s.2.2.2) φ ((0 : Int64), (0 : Int64), (0 : Int64), (0 : Int32))).bind fun e14 =>
  (alen σ v1).bind fun x16 =>
  (if x16 = (1 : Int32) then some e14.1
  else (alen σ v1).bind fun x18 =>
  (if x18 = (2 : Int32) then some e14.2.1
  else some e14.2.2))
def fX0_twins_l81 (φ : Nat) (this : Nat) (v1 : Int32) (v3 : Int32) (v5 : Int32) (v6 : Int32) (v7 : Int32) (v8 : Option Nat) (v9 : Option Nat) (v10 : Int32) (σ : St) : Option ((Int32 × St) ⊕ (St)) :=
  (if v7 ≤ v10 then some (.inr σ)
  else (cV σ (some this) 0 fun o => fX0_spell φ o v10 v9 σ).bind fun y15 =>
  (cV y15 (some this) 0 fun o => fX0_of φ o v1 y15).bind fun y16 =>
  (fX0_waysOf φ y16 v9 y15).bind fun y17 =>
  (stL y17.2 v8 v10 y17.1).bind fun s18 =>
  some (.inl ((v10 + (1 : Int32)), s18)))
def fX0_twins_l153 (φ : Nat) (this : Nat) (v3 : Int32) (v5 : Int32) (v6 : Int32) (v7 : Int32) (v8 : Option Nat) (v9 : Option Nat) (v10 : Option Nat) (v11 : Int32) (v12 : Int32) (v13 : Int32) (v14 : Int32) (v15 : Int32) (σ : St) : Option ((Int32 × Int32 × St) ⊕ (Int32 × St)) :=
  (if v7 ≤ v15 then some (.inr (v14, σ))
  else (if v14 = 0 then some (.inr (v14, σ))
  else (cV σ (some this) 0 fun o => fX0_spell φ o v15 v9 σ).bind fun y26 =>
  (fX0_few φ v10 v9 y26).bind fun y27 =>
  (ldL y26 v8 v15).bind fun x28 =>
  (if y27 = x28 then some (.inl ((1 : Int32), (v15 + (1 : Int32)), y26))
  else some (.inl ((0 : Int32), (v15 + (1 : Int32)), y26)))))
def fX0_twins_l132 (φ : Nat) (this : Nat) (v3 : Int32) (v5 : Int32) (v6 : Int32) (v7 : Int32) (v8 : Option Nat) (v9 : Option Nat) (v10 : Option Nat) (v11 : Int32) (v12 : Int32) (v13 : Int32) (σ : St) : Option ((Int32 × Int32 × Int32 × St) ⊕ (Int32 × Int32 × St)) :=
  (if v6 ≤ v13 then some (.inr (v11, v12, σ))
  else (cV σ (some this) 0 fun o => fX0_spell φ o v13 v10 σ).bind fun y23 =>
  (it (fun s : Int32 × Int32 × St => fX0_twins_l153 φ this v3 v5 v6 v7 v8 v9 v10 v11 v12 v13 s.1 s.2.1 s.2.2) φ ((1 : Int32), (0 : Int32), y23)).bind fun e30 =>
  (if e30.1 = 0 then some (.inl (v11, v12, (v13 + (1 : Int32)), e30.2))
  else (if v11 = 0 then some (.inl ((v11 + (1 : Int32)), v13, (v13 + (1 : Int32)), e30.2))
  else some (.inl ((v11 + (1 : Int32)), v12, (v13 + (1 : Int32)), e30.2)))))
def fX0_twins_l251 (φ : Nat) (this : Nat) (v3 : Int32) (v5 : Int32) (v10 : Option Nat) (v11 : Int32) (v13 : Int32) (σ : St) : Option ((Int32 × St) ⊕ (St)) :=
  (if v5 ≤ v13 then some (.inr σ)
  else (gfR σ (some this) 0 0 7).bind fun x41 =>
  (ldR σ x41 5 v3).bind fun x42 =>
  (ldI σ v10 2 v13).bind fun x43 =>
  (stI σ x42 v13 x43).bind fun s44 =>
  some (.inl ((v13 + (1 : Int32)), s44)))
def fX0_twins (φ : Nat) (this : Nat) (v1 : Int32) (v2 : Int32) (v3 : Int32) (σ : St) : Option (Int32 × St) :=
  (fX0_isIn φ v2 (1 : Int32) (3 : Int32) σ).bind fun y1 =>
  (if y1 = 0 then some ((-1 : Int32), σ)
  else (fX0_isRow φ v3 σ).bind fun y3 =>
  (if y3 = 0 then some ((-1 : Int32), σ)
  else (cV σ (some this) 0 fun o => fX0_askedWord φ o v1 σ).bind fun y5 =>
  (if 0 ≤ y5.1 then (cV y5.2 (some this) 0 fun o => fX0_of φ o v1 y5.2).bind fun y7 =>
  (alen y5.2 y7).bind fun x8 =>
  (cV y5.2 (some this) 0 fun o => fX0_power φ o x8 y5.2).bind fun y9 =>
  (if y9 ≤ (10000 : Int32) then (cV y5.2 (some this) 0 fun o => fX0_power φ o v2 y5.2).bind fun y11 =>
  (newA y5.2 3 y11).bind fun n12 =>
  (newA n12.2 2 v2).bind fun n13 =>
  (it (fun s : Int32 × St => fX0_twins_l81 φ this v1 v3 x8 y9 y11 n12.1 n13.1 s.1 s.2) φ ((0 : Int32), n13.2)).bind fun e19 =>
  (newA e19 2 x8).bind fun n21 =>
  (it (fun s : Int32 × Int32 × Int32 × St => fX0_twins_l132 φ this v3 x8 y9 y11 n12.1 n13.1 n21.1 s.1 s.2.1 s.2.2.1 s.2.2.2) φ ((0 : Int32), (0 : Int32), (0 : Int32), n21.2)).bind fun e34 =>
  (cV e34.2.2 (some this) 0 fun o => fX0_spell φ o e34.2.1 n21.1 e34.2.2).bind fun y36 =>
  (gfR y36 (some this) 0 0 7).bind fun x37 =>
  (newA y36 1 x8).bind fun n38 =>
  (stR n38.2 x37 5 1 1 v3 n38.1).bind fun s39 =>
  (it (fun s : Int32 × St => fX0_twins_l251 φ this v3 x8 n21.1 e34.1 s.1 s.2) φ ((0 : Int32), s39)).bind fun e45 =>
  some (e34.1, e45)
  else some ((-6 : Int32), y5.2))
  else some (y5.1, y5.2))))
def fX0_choose_l5 (φ : Nat) (v0 : Int32) (v1 : Int32) (σ : St) (v2 : Int64) (v4 : Int32) : Option ((Int64 × Int32) ⊕ (Int64)) :=
  (if v1 < v4 then some (.inr v2)
  else chk (¬ (v4.toInt64) = 0) <|
  some (.inl (((v2 * (((v0 - v4) + (1 : Int32)).toInt64)) / (v4.toInt64)), (v4 + (1 : Int32)))))
def fX0_choose (φ : Nat) (v0 : Int32) (v1 : Int32) (σ : St) : Option (Int64) :=
  (it (fun s : Int64 × Int32 => fX0_choose_l5 φ v0 v1 σ s.1 s.2) φ ((1 : Int64), (1 : Int32))).bind fun e3 =>
  some e3
def fX0_share_l6 (φ : Nat) (this : Nat) (v1 : Int64) (v3 : Int64) (v5 : Int32) (σ : St) (v6 : Int64) (v8 : Int64) : Option ((Int64 × Int64) ⊕ (Int64)) :=
  (if v8 = (0 : Int64) then some (.inr v6)
  else chk (¬ v8 = 0) <|
  some (.inl (v8, (v6 - v6 / v8 * v8))))
def fX0_share (φ : Nat) (this : Nat) (v1 : Int64) (v3 : Int64) (v5 : Int32) (σ : St) : Option (Int32 × St) :=
  (it (fun s : Int64 × Int64 => fX0_share_l6 φ this v1 v3 v5 σ s.1 s.2) φ (v1, v3)).bind fun e3 =>
  chk (¬ e3 = 0) <|
  (pfL σ (some this) 0 0 4 (v1 / e3)).bind fun s6 =>
  chk (¬ e3 = 0) <|
  (pfL s6 (some this) 0 0 5 (v3 / e3)).bind fun s8 =>
  some (v5, s8)
def fX0_odds (φ : Nat) (this : Nat) (v1 : Int32) (v2 : Int32) (σ : St) : Option (Int32 × St) :=
  (cV σ (some this) 0 fun o => fX0_askedTwo φ o v1 v2 σ).bind fun y1 =>
  (if 0 ≤ y1.1 then (cV y1.2 (some this) 0 fun o => fX0_of φ o v2 y1.2).bind fun y3 =>
  (alen y1.2 y3).bind fun x4 =>
  (cV y1.2 (some this) 0 fun o => fX0_of φ o v1 y1.2).bind fun y5 =>
  (alen y1.2 y5).bind fun x6 =>
  (if x4 ≤ x6 then (cV y1.2 (some this) 0 fun o => fX0_of φ o v1 y1.2).bind fun y8 =>
  (cV y1.2 (some this) 0 fun o => fX0_of φ o v2 y1.2).bind fun y9 =>
  (fX0_waysOf φ y8 y9 y1.2).bind fun y10 =>
  (cV y10.2 (some this) 0 fun o => fX0_of φ o v1 y10.2).bind fun y11 =>
  (alen y10.2 y11).bind fun x12 =>
  (cV y10.2 (some this) 0 fun o => fX0_of φ o v2 y10.2).bind fun y13 =>
  (alen y10.2 y13).bind fun x14 =>
  (fX0_choose φ x12 x14 y10.2).bind fun y15 =>
  (cV y10.2 (some this) 0 fun o => fX0_share φ o y10.1 y15 (1 : Int32) y10.2).bind fun y16 =>
  some (y16.1, y16.2)
  else (cV y1.2 (some this) 0 fun o => fX0_met φ o (4 : Int32) y1.2).bind fun y17 =>
  some (y17.1, y17.2))
  else some (y1.1, y1.2))
def fX0_byChance_l76 (φ : Nat) (this : Nat) (v2 : Int32) (v4 : Int32) (v5 : Int64) (v7 : Option Nat) (v8 : Int32) (v9 : Int32) (σ : St) : Option ((Int32 × St) ⊕ (St)) :=
  (if v9 < 0 then some (.inr σ)
  else (ldL σ v7 (v9 + (1 : Int32))).bind fun x14 =>
  (ldL σ v7 v9).bind fun x15 =>
  (stL σ v7 (v9 + (1 : Int32)) (x14 + x15)).bind fun s16 =>
  (ldL s16 v7 v9).bind fun x17 =>
  (gfI s16 (some this) 0 0 6).bind fun x18 =>
  (stL s16 v7 v9 (x17 * ((x18 - (1 : Int32)).toInt64))).bind fun s19 =>
  some (.inl ((v9 + (-1 : Int32)), s19)))
def fX0_byChance_l51 (φ : Nat) (this : Nat) (v2 : Int32) (v4 : Int32) (v7 : Option Nat) (v5 : Int64) (v8 : Int32) (σ : St) : Option ((Int64 × Int32 × St) ⊕ (Int64 × St)) :=
  (if v2 ≤ v8 then some (.inr (v5, σ))
  else (ldL σ v7 v4).bind fun x10 =>
  (gfI σ (some this) 0 0 6).bind fun x11 =>
  (stL σ v7 v4 (x10 * (x11.toInt64))).bind fun s12 =>
  (it (fun s : Int32 × St => fX0_byChance_l76 φ this v2 v4 v5 v7 v8 s.1 s.2) φ ((v4 - (1 : Int32)), s12)).bind fun e20 =>
  (gfI e20 (some this) 0 0 6).bind fun x22 =>
  some (.inl ((v5 * (x22.toInt64)), (v8 + (1 : Int32)), e20)))
def fX0_byChance (φ : Nat) (this : Nat) (v1 : Int32) (v2 : Int32) (σ : St) : Option (Int32 × St) :=
  (fX0_isIn φ v2 (0 : Int32) (20 : Int32) σ).bind fun y1 =>
  (if y1 = 0 then some ((-1 : Int32), σ)
  else (cV σ (some this) 0 fun o => fX0_askedWord φ o v1 σ).bind fun y3 =>
  (if 0 ≤ y3.1 then (cV y3.2 (some this) 0 fun o => fX0_of φ o v1 y3.2).bind fun y5 =>
  (alen y3.2 y5).bind fun x6 =>
  (newA y3.2 3 (x6 + (1 : Int32))).bind fun n7 =>
  (stL n7.2 n7.1 (0 : Int32) (1 : Int64)).bind fun s8 =>
  (it (fun s : Int64 × Int32 × St => fX0_byChance_l51 φ this v2 x6 n7.1 s.1 s.2.1 s.2.2) φ ((1 : Int64), (0 : Int32), s8)).bind fun e23 =>
  (ldL e23.2 n7.1 x6).bind fun x25 =>
  (cV e23.2 (some this) 0 fun o => fX0_share φ o x25 e23.1 (1 : Int32) e23.2).bind fun y26 =>
  some (y26.1, y26.2)
  else some (y3.1, y3.2)))
def fX0_asked (φ : Nat) (this : Nat) (σ : St) : Option (Int32) :=
  (gfI σ (some this) 0 0 2).bind fun x1 =>
  some x1
def fX0_many (φ : Nat) (this : Nat) (σ : St) : Option (Int64) :=
  (gfL σ (some this) 0 0 3).bind fun x1 =>
  some x1
def fX0_upper (φ : Nat) (this : Nat) (σ : St) : Option (Int64) :=
  (gfL σ (some this) 0 0 4).bind fun x1 =>
  some x1
def fX0_lower (φ : Nat) (this : Nat) (σ : St) : Option (Int64) :=
  (gfL σ (some this) 0 0 5).bind fun x1 =>
  some x1
def fX0_rowCount_l13 (φ : Nat) (v2 : Option Nat) (v3 : Int32) (σ : St) (v1 : Int32) (v4 : Int32) : Option ((Int32 × Int32) ⊕ (Int32)) :=
  (if v3 ≤ v4 then some (.inr v1)
  else (ldR σ v2 5 v4).bind fun x4 =>
  (if x4 = none then some (.inl ((v1 + (0 : Int32)), (v4 + (1 : Int32))))
  else some (.inl ((v1 + (1 : Int32)), (v4 + (1 : Int32))))))
def fX0_rowCount (φ : Nat) (this : Nat) (σ : St) : Option (Int32) :=
  (gfR σ (some this) 0 0 7).bind fun x1 =>
  (alen σ x1).bind fun x2 =>
  (it (fun s : Int32 × Int32 => fX0_rowCount_l13 φ x1 x2 σ s.1 s.2) φ ((0 : Int32), (0 : Int32))).bind fun e6 =>
  some e6
def fX0_textCount_l13 (φ : Nat) (v2 : Option Nat) (v3 : Int32) (σ : St) (v1 : Int32) (v4 : Int32) : Option ((Int32 × Int32) ⊕ (Int32)) :=
  (if v3 ≤ v4 then some (.inr v1)
  else (ldR σ v2 6 v4).bind fun x4 =>
  (if x4 = none then some (.inl ((v1 + (0 : Int32)), (v4 + (1 : Int32))))
  else some (.inl ((v1 + (1 : Int32)), (v4 + (1 : Int32))))))
def fX0_textCount (φ : Nat) (this : Nat) (σ : St) : Option (Int32) :=
  (gfR σ (some this) 0 0 8).bind fun x1 =>
  (alen σ x1).bind fun x2 =>
  (it (fun s : Int32 × Int32 => fX0_textCount_l13 φ x1 x2 σ s.1 s.2) φ ((0 : Int32), (0 : Int32))).bind fun e6 =>
  some e6
def fX0_wordCount_l14 (φ : Nat) (v1 : Int32) (v3 : Option Nat) (v4 : Int32) (σ : St) (v2 : Int32) (v5 : Int32) : Option ((Int32 × Int32) ⊕ (Int32)) :=
  (if v4 ≤ v5 then some (.inr v2)
  else (ldR σ v3 7 v5).bind fun x4 =>
  (if x4 = none then some (.inl ((v2 + (0 : Int32)), (v5 + (1 : Int32))))
  else ((x4).bind fun o => fV_is φ o v1 σ).bind fun y6 =>
  (if y6 = 0 then some (.inl ((v2 + (0 : Int32)), (v5 + (1 : Int32))))
  else some (.inl ((v2 + (1 : Int32)), (v5 + (1 : Int32)))))))
def fX0_wordCount (φ : Nat) (this : Nat) (v1 : Int32) (σ : St) : Option (Int32) :=
  (gfR σ (some this) 0 0 9).bind fun x1 =>
  (alen σ x1).bind fun x2 =>
  (it (fun s : Int32 × Int32 => fX0_wordCount_l14 φ v1 x1 x2 σ s.1 s.2) φ ((0 : Int32), (0 : Int32))).bind fun e8 =>
  some e8
def fX0_letterCount_l13 (φ : Nat) (v2 : Option Nat) (v3 : Int32) (σ : St) (v1 : Int32) (v4 : Int32) : Option ((Int32 × Int32) ⊕ (Int32)) :=
  (if v3 ≤ v4 then some (.inr v1)
  else (ldR σ v2 7 v4).bind fun x4 =>
  (if x4 = none then some (.inl ((v1 + (0 : Int32)), (v4 + (1 : Int32))))
  else (gfR σ x4 2 6 0).bind fun x6 =>
  (alen σ x6).bind fun x7 =>
  some (.inl ((v1 + x7), (v4 + (1 : Int32))))))
def fX0_letterCount (φ : Nat) (this : Nat) (σ : St) : Option (Int32) :=
  (gfR σ (some this) 0 0 9).bind fun x1 =>
  (alen σ x1).bind fun x2 =>
  (it (fun s : Int32 × Int32 => fX0_letterCount_l13 φ x1 x2 σ s.1 s.2) φ ((0 : Int32), (0 : Int32))).bind fun e8 =>
  some e8
def fX0_countsOf (φ : Nat) (this : Nat) (v1 : Int32) (σ : St) : Option (Int32) :=
  (if v1 = (0 : Int32) then (gfI σ (some this) 0 0 6).bind fun x2 =>
  some x2
  else if v1 = (1 : Int32) then (cV σ (some this) 0 fun o => fX0_rowCount φ o  σ).bind fun y4 =>
  some y4
  else if v1 = (2 : Int32) then (cV σ (some this) 0 fun o => fX0_textCount φ o  σ).bind fun y6 =>
  some y6
  else if v1 = (3 : Int32) then (cV σ (some this) 0 fun o => fX0_wordCount φ o (0 : Int32) σ).bind fun y8 =>
  some y8
  else if v1 = (4 : Int32) then (cV σ (some this) 0 fun o => fX0_wordCount φ o (2 : Int32) σ).bind fun y10 =>
  some y10
  else (cV σ (some this) 0 fun o => fX0_letterCount φ o  σ).bind fun y11 =>
  some y11)
def fX0_count (φ : Nat) (this : Nat) (v1 : Int32) (σ : St) : Option (Int32) :=
  (fX0_isIn φ v1 (0 : Int32) (5 : Int32) σ).bind fun y1 =>
  (if y1 = 0 then some (-1 : Int32)
  else (cV σ (some this) 0 fun o => fX0_countsOf φ o v1 σ).bind fun y3 =>
  some y3)
def fX0_finding (φ : Nat) (this : Nat) (σ : St) : Option (Int32) :=
  (gfI σ (some this) 0 0 0).bind fun x1 =>
  some x1
def fX0_findings (φ : Nat) (this : Nat) (v1 : Int32) (σ : St) : Option (Int32) :=
  (fX0_isIn φ v1 (1 : Int32) (5 : Int32) σ).bind fun y1 =>
  (if y1 = 0 then some (-1 : Int32)
  else (gfR σ (some this) 0 0 1).bind fun x3 =>
  (ldI σ x3 1 v1).bind fun x4 =>
  some x4)
def fX0_mix (φ : Nat) (this : Nat) (v1 : Int32) (σ : St) : Option (St) :=
  (gfL σ (some this) 0 0 32).bind fun x1 =>
  (pfL σ (some this) 0 0 32 (((31 : Int64) * x1) + (v1.toInt64))).bind fun s2 =>
  some s2
def fX0_mixWords_l76 (φ : Nat) (this : Nat) (v1 : Option Nat) (v2 : Int32) (v3 : Int32) (v5 : Option Nat) (v6 : Int32) (v7 : Int32) (σ : St) : Option ((Int32 × St) ⊕ (St)) :=
  (if v6 ≤ v7 then some (.inr σ)
  else (ldI σ v5 2 v7).bind fun x16 =>
  (cV σ (some this) 0 fun o => fX0_mix φ o x16 σ).bind fun y17 =>
  some (.inl ((v7 + (1 : Int32)), y17)))
def fX0_mixWords_l10 (φ : Nat) (this : Nat) (v1 : Option Nat) (v2 : Int32) (v3 : Int32) (σ : St) : Option ((Int32 × St) ⊕ (St)) :=
  (if v2 ≤ v3 then some (.inr σ)
  else (ldR σ v1 7 v3).bind fun x4 =>
  (if x4 = none then (cV σ (some this) 0 fun o => fX0_mix φ o (-1 : Int32) σ).bind fun y20 =>
  some (.inl ((v3 + (1 : Int32)), y20))
  else ((x4).bind fun o => fV_kind φ o  σ).bind fun y6 =>
  (cV σ (some this) 0 fun o => fX0_mix φ o y6 σ).bind fun y7 =>
  ((x4).bind fun o => fV_tells φ o  y7).bind fun y8 =>
  (cV y7 (some this) 0 fun o => fX0_mix φ o y8 y7).bind fun y9 =>
  (gfR y9 x4 2 6 0).bind fun x10 =>
  (alen y9 x10).bind fun x11 =>
  (cV y9 (some this) 0 fun o => fX0_mix φ o x11 y9).bind fun y12 =>
  (gfR y12 x4 2 6 0).bind fun x13 =>
  (alen y12 x13).bind fun x14 =>
  (it (fun s : Int32 × St => fX0_mixWords_l76 φ this v1 v2 v3 x13 x14 s.1 s.2) φ ((0 : Int32), y12)).bind fun e18 =>
  some (.inl ((v3 + (1 : Int32)), e18))))
def fX0_mixWords (φ : Nat) (this : Nat) (σ : St) : Option (St) :=
  (gfR σ (some this) 0 0 9).bind fun x1 =>
  (alen σ x1).bind fun x2 =>
  (it (fun s : Int32 × St => fX0_mixWords_l10 φ this x1 x2 s.1 s.2) φ ((0 : Int32), σ)).bind fun e21 =>
  some e21
def fX0_digest_l9 (φ : Nat) (this : Nat) (v1 : Int32) (σ : St) : Option ((Int32 × St) ⊕ (St)) :=
  (if (5 : Int32) < v1 then some (.inr σ)
  else (cV σ (some this) 0 fun o => fX0_countsOf φ o v1 σ).bind fun y3 =>
  (cV σ (some this) 0 fun o => fX0_mix φ o y3 σ).bind fun y4 =>
  some (.inl ((v1 + (1 : Int32)), y4)))
def fX0_digest_l76 (φ : Nat) (this : Nat) (v1 : Option Nat) (v2 : Int32) (v3 : Int32) (v4 : Option Nat) (v5 : Int32) (v6 : Int32) (σ : St) : Option ((Int32 × St) ⊕ (St)) :=
  (if v5 ≤ v6 then some (.inr σ)
  else (ldI σ v4 1 v6).bind fun x16 =>
  (cV σ (some this) 0 fun o => fX0_mix φ o x16 σ).bind fun y17 =>
  some (.inl ((v6 + (1 : Int32)), y17)))
def fX0_digest_b65 (φ : Nat) (this : Nat) (v1 : Option Nat) (v2 : Int32) (v3 : Int32) (v4 : Option Nat) (k0 : Int32) (σ : St) : Option ((Int32 × St) ⊕ (St)) :=
  (cV σ (some this) 0 fun o => fX0_mix φ o k0 σ).bind fun y14 =>
  (it (fun s : Int32 × St => fX0_digest_l76 φ this v1 v2 v3 v4 k0 s.1 s.2) φ ((0 : Int32), y14)).bind fun e18 =>
  some (.inl ((v3 + (1 : Int32)), e18))
def fX0_digest_l43 (φ : Nat) (this : Nat) (v1 : Option Nat) (v2 : Int32) (v3 : Int32) (σ : St) : Option ((Int32 × St) ⊕ (St)) :=
  (if v2 ≤ v3 then some (.inr σ)
  else (ldR σ v1 5 v3).bind fun x11 =>
  (if x11 = none then fX0_digest_b65 φ this v1 v2 v3 x11 (-1 : Int32) σ
  else (alen σ x11).bind fun x13 =>
  fX0_digest_b65 φ this v1 v2 v3 x11 x13 σ))
def fX0_digest_l147 (φ : Nat) (this : Nat) (v1 : Option Nat) (v2 : Int32) (v3 : Int32) (v4 : Option Nat) (v5 : Int32) (v6 : Int32) (σ : St) : Option ((Int32 × St) ⊕ (St)) :=
  (if v5 ≤ v6 then some (.inr σ)
  else (ldI σ v4 2 v6).bind fun x30 =>
  (cV σ (some this) 0 fun o => fX0_mix φ o x30 σ).bind fun y31 =>
  some (.inl ((v6 + (1 : Int32)), y31)))
def fX0_digest_b136 (φ : Nat) (this : Nat) (v1 : Option Nat) (v2 : Int32) (v3 : Int32) (v4 : Option Nat) (k0 : Int32) (σ : St) : Option ((Int32 × St) ⊕ (St)) :=
  (cV σ (some this) 0 fun o => fX0_mix φ o k0 σ).bind fun y28 =>
  (it (fun s : Int32 × St => fX0_digest_l147 φ this v1 v2 v3 v4 k0 s.1 s.2) φ ((0 : Int32), y28)).bind fun e32 =>
  some (.inl ((v3 + (1 : Int32)), e32))
def fX0_digest_l114 (φ : Nat) (this : Nat) (v1 : Option Nat) (v2 : Int32) (v3 : Int32) (σ : St) : Option ((Int32 × St) ⊕ (St)) :=
  (if v2 ≤ v3 then some (.inr σ)
  else (ldR σ v1 6 v3).bind fun x25 =>
  (if x25 = none then fX0_digest_b136 φ this v1 v2 v3 x25 (-1 : Int32) σ
  else (alen σ x25).bind fun x27 =>
  fX0_digest_b136 φ this v1 v2 v3 x25 x27 σ))
def fX0_digest (φ : Nat) (this : Nat) (σ : St) : Option (Int64 × St) :=
  (pfL σ (some this) 0 0 32 (17 : Int64)).bind fun s1 =>
  (it (fun s : Int32 × St => fX0_digest_l9 φ this s.1 s.2) φ ((0 : Int32), s1)).bind fun e5 =>
  (cV e5 (some this) 0 fun o => fX0_mixWords φ o  e5).bind fun y7 =>
  (gfR y7 (some this) 0 0 7).bind fun x8 =>
  (alen y7 x8).bind fun x9 =>
  (it (fun s : Int32 × St => fX0_digest_l43 φ this x8 x9 s.1 s.2) φ ((0 : Int32), y7)).bind fun e20 =>
  (gfR e20 (some this) 0 0 8).bind fun x22 =>
  (alen e20 x22).bind fun x23 =>
  (it (fun s : Int32 × St => fX0_digest_l114 φ this x22 x23 s.1 s.2) φ ((0 : Int32), e20)).bind fun e34 =>
  (gfL e34 (some this) 0 0 32).bind fun x36 =>
  some (x36, e34)
def fX1_init_l270 (φ : Nat) (this : Nat) (v1 : Int32) (σ : St) : Option ((Int32 × St) ⊕ (St)) :=
  (if (6 : Int32) ≤ v1 then some (.inr σ)
  else (gfR σ (some this) 1 1 6).bind fun x66 =>
  (stI σ x66 v1 (-1 : Int32)).bind fun s67 =>
  some (.inl ((v1 + (1 : Int32)), s67)))
def fX1_init_l291 (φ : Nat) (this : Nat) (v1 : Int32) (σ : St) : Option ((Int32 × St) ⊕ (St)) :=
  (if (4 : Int32) ≤ v1 then some (.inr σ)
  else (gfR σ (some this) 1 1 9).bind fun x71 =>
  (stI σ x71 v1 (-1 : Int32)).bind fun s72 =>
  some (.inl ((v1 + (1 : Int32)), s72)))
def fX1_init_l311 (φ : Nat) (this : Nat) (v1 : Int32) (σ : St) : Option ((Int32 × St) ⊕ (St)) :=
  (if (8 : Int32) ≤ v1 then some (.inr σ)
  else (gfR σ (some this) 1 1 12).bind fun x76 =>
  (stI σ x76 v1 (-1 : Int32)).bind fun s77 =>
  some (.inl ((v1 + (1 : Int32)), s77)))
def fX1_init (φ : Nat) (this : Nat) (σ : St) : Option (St) :=
  (newA σ 1 (6 : Int32)).bind fun n1 =>
  (pfR n1.2 (some this) 1 1 1 n1.1).bind fun s2 =>
  (newA s2 1 (6 : Int32)).bind fun n3 =>
  (pfR n3.2 (some this) 1 1 6 n3.1).bind fun s4 =>
  (newA s4 1 (240 : Int32)).bind fun n5 =>
  (pfR n5.2 (some this) 1 1 7 n5.1).bind fun s6 =>
  (newA s6 1 (40 : Int32)).bind fun n7 =>
  (pfR n7.2 (some this) 1 1 8 n7.1).bind fun s8 =>
  (newA s8 1 (4 : Int32)).bind fun n9 =>
  (pfR n9.2 (some this) 1 1 9 n9.1).bind fun s10 =>
  (newA s10 2 (240 : Int32)).bind fun n11 =>
  (pfR n11.2 (some this) 1 1 10 n11.1).bind fun s12 =>
  (newA s12 1 (8 : Int32)).bind fun n13 =>
  (pfR n13.2 (some this) 1 1 12 n13.1).bind fun s14 =>
  (newA s14 1 (320 : Int32)).bind fun n15 =>
  (pfR n15.2 (some this) 1 1 13 n15.1).bind fun s16 =>
  (newA s16 1 (8 : Int32)).bind fun n17 =>
  (pfR n17.2 (some this) 1 1 14 n17.1).bind fun s18 =>
  (newA s18 1 (8 : Int32)).bind fun n19 =>
  (pfR n19.2 (some this) 1 1 15 n19.1).bind fun s20 =>
  (newA s20 1 (8 : Int32)).bind fun n21 =>
  (pfR n21.2 (some this) 1 1 16 n21.1).bind fun s22 =>
  (newA s22 1 (40 : Int32)).bind fun n23 =>
  (pfR n23.2 (some this) 1 1 18 n23.1).bind fun s24 =>
  (newA s24 1 (5 : Int32)).bind fun n25 =>
  (pfR n25.2 (some this) 1 1 19 n25.1).bind fun s26 =>
  (newA s26 1 (5 : Int32)).bind fun n27 =>
  (pfR n27.2 (some this) 1 1 20 n27.1).bind fun s28 =>
  (newA s28 3 (41 : Int32)).bind fun n29 =>
  (pfR n29.2 (some this) 1 1 22 n29.1).bind fun s30 =>
  (newA s30 1 (40 : Int32)).bind fun n31 =>
  (pfR n31.2 (some this) 1 1 23 n31.1).bind fun s32 =>
  (newA s32 1 (40 : Int32)).bind fun n33 =>
  (pfR n33.2 (some this) 1 1 24 n33.1).bind fun s34 =>
  (newA s34 1 (41 : Int32)).bind fun n35 =>
  (pfR n35.2 (some this) 1 1 25 n35.1).bind fun s36 =>
  (newA s36 3 (1681 : Int32)).bind fun n37 =>
  (pfR n37.2 (some this) 1 1 26 n37.1).bind fun s38 =>
  (newA s38 1 (1700 : Int32)).bind fun n39 =>
  (pfR n39.2 (some this) 1 1 29 n39.1).bind fun s40 =>
  (newA s40 1 (1700 : Int32)).bind fun n41 =>
  (pfR n41.2 (some this) 1 1 30 n41.1).bind fun s42 =>
  (newA s42 1 (1700 : Int32)).bind fun n43 =>
  (pfR n43.2 (some this) 1 1 31 n43.1).bind fun s44 =>
  (newA s44 4 (1700 : Int32)).bind fun n45 =>
  (pfR n45.2 (some this) 1 1 32 n45.1).bind fun s46 =>
  (newA s46 1 (40 : Int32)).bind fun n47 =>
  (pfR n47.2 (some this) 1 1 34 n47.1).bind fun s48 =>
  (newA s48 1 (4 : Int32)).bind fun n49 =>
  (pfR n49.2 (some this) 1 1 36 n49.1).bind fun s50 =>
  (newA s50 1 (20001 : Int32)).bind fun n51 =>
  (pfR n51.2 (some this) 1 1 37 n51.1).bind fun s52 =>
  (newA s52 1 (4 : Int32)).bind fun n53 =>
  (pfR n53.2 (some this) 1 1 38 n53.1).bind fun s54 =>
  (newA s54 3 (1681 : Int32)).bind fun n55 =>
  (pfR n55.2 (some this) 1 1 39 n55.1).bind fun s56 =>
  (newA s56 3 (216 : Int32)).bind fun n57 =>
  (pfR n57.2 (some this) 1 1 40 n57.1).bind fun s58 =>
  (newA s58 3 (216 : Int32)).bind fun n59 =>
  (pfR n59.2 (some this) 1 1 41 n59.1).bind fun s60 =>
  (newA s60 3 (4 : Int32)).bind fun n61 =>
  (pfR n61.2 (some this) 1 1 42 n61.1).bind fun s62 =>
  (pfL s62 (some this) 1 1 5 (1 : Int64)).bind fun s63 =>
  (pfI s63 (some this) 1 1 11 (3 : Int32)).bind fun s64 =>
  (it (fun s : Int32 × St => fX1_init_l270 φ this s.1 s.2) φ ((0 : Int32), s64)).bind fun e68 =>
  (it (fun s : Int32 × St => fX1_init_l291 φ this s.1 s.2) φ ((0 : Int32), e68)).bind fun e73 =>
  (it (fun s : Int32 × St => fX1_init_l311 φ this s.1 s.2) φ ((0 : Int32), e73)).bind fun e78 =>
  some e78
def fX1_finding (φ : Nat) (this : Nat) (σ : St) : Option (Int32) :=
  (gfI σ (some this) 1 1 0).bind fun x1 =>
  some x1
def fX1_in (φ : Nat) (v0 : Int32) (v1 : Int32) (v2 : Int32) (σ : St) : Option (Int32) :=
  (if v0 < v1 then some (0 : Int32)
  else (if v2 < v0 then some (0 : Int32)
  else some (1 : Int32)))
def fX1_findings (φ : Nat) (this : Nat) (v1 : Int32) (σ : St) : Option (Int32) :=
  (fX1_in φ v1 (1 : Int32) (5 : Int32) σ).bind fun y1 =>
  (if y1 = 0 then some (-1 : Int32)
  else (gfR σ (some this) 1 1 1).bind fun x3 =>
  (ldI σ x3 1 v1).bind fun x4 =>
  some x4)
def fX1_asked (φ : Nat) (this : Nat) (σ : St) : Option (Int32) :=
  (gfI σ (some this) 1 1 2).bind fun x1 =>
  some x1
def fX1_many (φ : Nat) (this : Nat) (σ : St) : Option (Int64) :=
  (gfL σ (some this) 1 1 3).bind fun x1 =>
  some x1
def fX1_upper (φ : Nat) (this : Nat) (σ : St) : Option (Int64) :=
  (gfL σ (some this) 1 1 4).bind fun x1 =>
  some x1
def fX1_lower (φ : Nat) (this : Nat) (σ : St) : Option (Int64) :=
  (gfL σ (some this) 1 1 5).bind fun x1 =>
  some x1
def fX1_isRow (φ : Nat) (v0 : Int32) (σ : St) : Option (Int32) :=
  (fX1_in φ v0 (0 : Int32) (5 : Int32) σ).bind fun y1 =>
  chk (y1 = 0 ∨ y1 = 1) <|
  some y1
def fX1_meets (φ : Nat) (this : Nat) (v1 : Int32) (σ : St) : Option (Int32 × St) :=
  (pfI σ (some this) 1 1 0 v1).bind fun s1 =>
  (gfR s1 (some this) 1 1 1).bind fun x2 =>
  (ldI s1 x2 1 v1).bind fun x3 =>
  (stI s1 x2 v1 (x3 + (1 : Int32))).bind fun s4 =>
  some ((-3 : Int32), s4)
def fX1_row_l34 (φ : Nat) (this : Nat) (v1 : Int32) (v2 : Int32) (v3 : Int32) (σ : St) : Option ((Int32 × St) ⊕ (St)) :=
  (if (40 : Int32) ≤ v3 then some (.inr σ)
  else (gfR σ (some this) 1 1 7).bind fun x8 =>
  (stI σ x8 (((40 : Int32) * v1) + v3) (0 : Int32)).bind fun s9 =>
  some (.inl ((v3 + (1 : Int32)), s9)))
def fX1_row (φ : Nat) (this : Nat) (v1 : Int32) (v2 : Int32) (σ : St) : Option (Int32 × St) :=
  (fX1_isRow φ v1 σ).bind fun y1 =>
  (if y1 = 0 then some ((-1 : Int32), σ)
  else (if v2 ≤ (40 : Int32) then (if 0 ≤ v2 then (gfR σ (some this) 1 1 6).bind fun x5 =>
  (stI σ x5 v1 v2).bind fun s6 =>
  (it (fun s : Int32 × St => fX1_row_l34 φ this v1 v2 s.1 s.2) φ ((0 : Int32), s6)).bind fun e10 =>
  some (v2, e10)
  else (cV σ (some this) 1 fun o => fX1_meets φ o (5 : Int32) σ).bind fun y12 =>
  some (y12.1, y12.2))
  else some ((-1 : Int32), σ)))
def fX1_rowAt (φ : Nat) (this : Nat) (v1 : Int32) (v2 : Int32) (σ : St) : Option (Int32) :=
  (gfR σ (some this) 1 1 7).bind fun x1 =>
  (ldI σ x1 1 (((40 : Int32) * v1) + v2)).bind fun x2 =>
  some x2
def fX1_tells (φ : Nat) (this : Nat) (v1 : Int32) (v2 : Int32) (σ : St) : Option (Int32 × St) :=
  (pfI σ (some this) 1 1 2 v1).bind fun s1 =>
  some (v2, s1)
def fX1_lay (φ : Nat) (this : Nat) (v1 : Int32) (v2 : Int32) (v3 : Int32) (σ : St) : Option (Int32 × St) :=
  (fX1_isRow φ v1 σ).bind fun y1 =>
  (if y1 = 0 then some ((-1 : Int32), σ)
  else (gfR σ (some this) 1 1 6).bind fun x3 =>
  (ldI σ x3 1 v1).bind fun x4 =>
  (if 0 ≤ x4 then (gfR σ (some this) 1 1 6).bind fun x6 =>
  (ldI σ x6 1 v1).bind fun x7 =>
  (fX1_in φ v2 (0 : Int32) (x7 - (1 : Int32)) σ).bind fun y8 =>
  (if y8 = 0 then (cV σ (some this) 1 fun o => fX1_meets φ o (2 : Int32) σ).bind fun y14 =>
  some (y14.1, y14.2)
  else (cV σ (some this) 1 fun o => fX1_rowAt φ o v1 v2 σ).bind fun y10 =>
  (gfR σ (some this) 1 1 7).bind fun x11 =>
  (stI σ x11 (((40 : Int32) * v1) + v2) v3).bind fun s12 =>
  (cV s12 (some this) 1 fun o => fX1_tells φ o y10 (1 : Int32) s12).bind fun y13 =>
  some (y13.1, y13.2))
  else (cV σ (some this) 1 fun o => fX1_meets φ o (1 : Int32) σ).bind fun y15 =>
  some (y15.1, y15.2)))
def fX1_at (φ : Nat) (this : Nat) (v1 : Int32) (v2 : Int32) (σ : St) : Option (Int32 × St) :=
  (fX1_isRow φ v1 σ).bind fun y1 =>
  (if y1 = 0 then some ((-1 : Int32), σ)
  else (gfR σ (some this) 1 1 6).bind fun x3 =>
  (ldI σ x3 1 v1).bind fun x4 =>
  (if 0 ≤ x4 then (gfR σ (some this) 1 1 6).bind fun x6 =>
  (ldI σ x6 1 v1).bind fun x7 =>
  (fX1_in φ v2 (0 : Int32) (x7 - (1 : Int32)) σ).bind fun y8 =>
  (if y8 = 0 then (cV σ (some this) 1 fun o => fX1_meets φ o (2 : Int32) σ).bind fun y10 =>
  some (y10.1, y10.2)
  else (cV σ (some this) 1 fun o => fX1_rowAt φ o v1 v2 σ).bind fun y11 =>
  (cV σ (some this) 1 fun o => fX1_tells φ o y11 (1 : Int32) σ).bind fun y12 =>
  some (y12.1, y12.2))
  else (cV σ (some this) 1 fun o => fX1_meets φ o (1 : Int32) σ).bind fun y13 =>
  some (y13.1, y13.2)))
def fX1_tear (φ : Nat) (this : Nat) (v1 : Int32) (σ : St) : Option (Int32 × St) :=
  (fX1_isRow φ v1 σ).bind fun y1 =>
  (if y1 = 0 then some ((-1 : Int32), σ)
  else (gfR σ (some this) 1 1 6).bind fun x3 =>
  (ldI σ x3 1 v1).bind fun x4 =>
  (if 0 ≤ x4 then (gfR σ (some this) 1 1 6).bind fun x6 =>
  (stI σ x6 v1 (-1 : Int32)).bind fun s7 =>
  some ((1 : Int32), s7)
  else (cV σ (some this) 1 fun o => fX1_meets φ o (1 : Int32) σ).bind fun y8 =>
  some (y8.1, y8.2)))
def fX1_copy_b45 (φ : Nat) (this : Nat) (σ : St) : Option (Int32 × St) :=
  (cV σ (some this) 1 fun o => fX1_meets φ o (1 : Int32) σ).bind fun y9 =>
  some (y9.1, y9.2)
def fX1_copy_b95 (φ : Nat) (this : Nat) (σ : St) : Option (Int32 × St) :=
  (cV σ (some this) 1 fun o => fX1_meets φ o (2 : Int32) σ).bind fun y14 =>
  some (y14.1, y14.2)
def fX1_copy_l104 (φ : Nat) (this : Nat) (v1 : Int32) (v2 : Int32) (v3 : Int32) (v4 : Int32) (v5 : Int32) (v6 : Int32) (σ : St) : Option ((Int32 × St) ⊕ (St)) :=
  (if v5 ≤ v6 then some (.inr σ)
  else (gfR σ (some this) 1 1 8).bind fun x23 =>
  (cV σ (some this) 1 fun o => fX1_rowAt φ o v1 (v2 + v6) σ).bind fun y24 =>
  (stI σ x23 v6 y24).bind fun s25 =>
  some (.inl ((v6 + (1 : Int32)), s25)))
def fX1_copy_l136 (φ : Nat) (this : Nat) (v3 : Int32) (v4 : Int32) (v5 : Int32) (v6 : Int32) (σ : St) : Option ((Int32 × St) ⊕ (St)) :=
  (if v5 ≤ v6 then some (.inr σ)
  else (gfR σ (some this) 1 1 7).bind fun x29 =>
  (gfR σ (some this) 1 1 8).bind fun x30 =>
  (ldI σ x30 1 v6).bind fun x31 =>
  (stI σ x29 ((((40 : Int32) * v3) + v4) + v6) x31).bind fun s32 =>
  some (.inl ((v6 + (1 : Int32)), s32)))
def fX1_copy (φ : Nat) (this : Nat) (v1 : Int32) (v2 : Int32) (v3 : Int32) (v4 : Int32) (v5 : Int32) (σ : St) : Option (Int32 × St) :=
  (fX1_isRow φ v1 σ).bind fun y1 =>
  (if y1 = 0 then some ((-1 : Int32), σ)
  else (fX1_isRow φ v3 σ).bind fun y3 =>
  (if y3 = 0 then some ((-1 : Int32), σ)
  else (if 0 ≤ v5 then (gfR σ (some this) 1 1 6).bind fun x6 =>
  (ldI σ x6 1 v1).bind fun x7 =>
  (if x7 < 0 then fX1_copy_b45 φ this σ
  else (gfR σ (some this) 1 1 6).bind fun x10 =>
  (ldI σ x10 1 v3).bind fun x11 =>
  (if 0 ≤ x11 then (if v2 < 0 then fX1_copy_b95 φ this σ
  else (if v4 < 0 then fX1_copy_b95 φ this σ
  else (gfR σ (some this) 1 1 6).bind fun x16 =>
  (ldI σ x16 1 v1).bind fun x17 =>
  (if (x17.toInt64) < ((v2.toInt64) + (v5.toInt64)) then fX1_copy_b95 φ this σ
  else (gfR σ (some this) 1 1 6).bind fun x19 =>
  (ldI σ x19 1 v3).bind fun x20 =>
  (if ((v4.toInt64) + (v5.toInt64)) ≤ (x20.toInt64) then (it (fun s : Int32 × St => fX1_copy_l104 φ this v1 v2 v3 v4 v5 s.1 s.2) φ ((0 : Int32), σ)).bind fun e26 =>
  (it (fun s : Int32 × St => fX1_copy_l136 φ this v3 v4 v5 s.1 s.2) φ ((0 : Int32), e26)).bind fun e33 =>
  some ((1 : Int32), e33)
  else fX1_copy_b95 φ this σ))))
  else fX1_copy_b45 φ this σ))
  else (cV σ (some this) 1 fun o => fX1_meets φ o (5 : Int32) σ).bind fun y35 =>
  some (y35.1, y35.2))))
def fX1_mean_l44 (φ : Nat) (this : Nat) (v1 : Int32) (σ : St) (v2 : Int64) (v4 : Int32) : Option ((Int64 × Int32) ⊕ (Int64)) :=
  (gfR σ (some this) 1 1 6).bind fun x9 =>
  (ldI σ x9 1 v1).bind fun x10 =>
  (if x10 ≤ v4 then some (.inr v2)
  else (cV σ (some this) 1 fun o => fX1_rowAt φ o v1 v4 σ).bind fun y12 =>
  some (.inl ((v2 + (y12.toInt64)), (v4 + (1 : Int32)))))
def fX1_mean (φ : Nat) (this : Nat) (v1 : Int32) (σ : St) : Option (Int32 × St) :=
  (fX1_isRow φ v1 σ).bind fun y1 =>
  (if y1 = 0 then some ((-1 : Int32), σ)
  else (gfR σ (some this) 1 1 6).bind fun x3 =>
  (ldI σ x3 1 v1).bind fun x4 =>
  (if 0 ≤ x4 then (gfR σ (some this) 1 1 6).bind fun x6 =>
  (ldI σ x6 1 v1).bind fun x7 =>
  (if x7 = 0 then (cV σ (some this) 1 fun o => fX1_meets φ o (4 : Int32) σ).bind fun y19 =>
  some (y19.1, y19.2)
  else (it (fun s : Int64 × Int32 => fX1_mean_l44 φ this v1 σ s.1 s.2) φ ((0 : Int64), (0 : Int32))).bind fun e13 =>
  (gfR σ (some this) 1 1 6).bind fun x15 =>
  (ldI σ x15 1 v1).bind fun x16 =>
  chk (¬ (x16.toInt64) = 0) <|
  (cV σ (some this) 1 fun o => fX1_tells φ o ((e13 / (x16.toInt64)).toInt32) (1 : Int32) σ).bind fun y18 =>
  some (y18.1, y18.2))
  else (cV σ (some this) 1 fun o => fX1_meets φ o (1 : Int32) σ).bind fun y20 =>
  some (y20.1, y20.2)))
def fX1_isText (φ : Nat) (v0 : Int32) (σ : St) : Option (Int32) :=
  (fX1_in φ v0 (0 : Int32) (3 : Int32) σ).bind fun y1 =>
  chk (y1 = 0 ∨ y1 = 1) <|
  some y1
def fX1_text_l34 (φ : Nat) (this : Nat) (v1 : Int32) (v2 : Int32) (v3 : Int32) (σ : St) : Option ((Int32 × St) ⊕ (St)) :=
  (if (60 : Int32) ≤ v3 then some (.inr σ)
  else (gfR σ (some this) 1 1 10).bind fun x8 =>
  (stB σ x8 (((60 : Int32) * v1) + v3) (32 : Int32)).bind fun s9 =>
  some (.inl ((v3 + (1 : Int32)), s9)))
def fX1_text (φ : Nat) (this : Nat) (v1 : Int32) (v2 : Int32) (σ : St) : Option (Int32 × St) :=
  (fX1_isText φ v1 σ).bind fun y1 =>
  (if y1 = 0 then some ((-1 : Int32), σ)
  else (if v2 ≤ (60 : Int32) then (if 0 ≤ v2 then (gfR σ (some this) 1 1 9).bind fun x5 =>
  (stI σ x5 v1 v2).bind fun s6 =>
  (it (fun s : Int32 × St => fX1_text_l34 φ this v1 v2 s.1 s.2) φ ((0 : Int32), s6)).bind fun e10 =>
  some (v2, e10)
  else (cV σ (some this) 1 fun o => fX1_meets φ o (5 : Int32) σ).bind fun y12 =>
  some (y12.1, y12.2))
  else some ((-1 : Int32), σ)))
def fX1_put (φ : Nat) (this : Nat) (v1 : Int32) (v2 : Int32) (v3 : Int32) (σ : St) : Option (Int32 × St) :=
  (fX1_isText φ v1 σ).bind fun y1 =>
  (if y1 = 0 then some ((-1 : Int32), σ)
  else (gfR σ (some this) 1 1 9).bind fun x3 =>
  (ldI σ x3 1 v1).bind fun x4 =>
  (if 0 ≤ x4 then (gfR σ (some this) 1 1 9).bind fun x6 =>
  (ldI σ x6 1 v1).bind fun x7 =>
  (fX1_in φ v2 (0 : Int32) (x7 - (1 : Int32)) σ).bind fun y8 =>
  (if y8 = 0 then (cV σ (some this) 1 fun o => fX1_meets φ o (2 : Int32) σ).bind fun y14 =>
  some (y14.1, y14.2)
  else (gfR σ (some this) 1 1 10).bind fun x10 =>
  (ldI σ x10 2 (((60 : Int32) * v1) + v2)).bind fun x11 =>
  (gfR σ (some this) 1 1 10).bind fun x12 =>
  (stB σ x12 (((60 : Int32) * v1) + v2) (v3.toInt8.toInt32)).bind fun s13 =>
  some (((1000 : Int32) + x11), s13))
  else (cV σ (some this) 1 fun o => fX1_meets φ o (1 : Int32) σ).bind fun y15 =>
  some (y15.1, y15.2)))
def fX1_at0 (φ : Nat) (this : Nat) (v1 : Int32) (v2 : Int32) (σ : St) : Option (Int32) :=
  (gfR σ (some this) 1 1 13).bind fun x1 =>
  (ldI σ x1 1 (((40 : Int32) * v1) + v2)).bind fun x2 =>
  some x2
def fX1_letters_l22 (φ : Nat) (this : Nat) (v1 : Int32) (v2 : Int32) (σ : St) (v3 : Int32) : Option ((Int32) ⊕ ((Unit) ⊕ (Unit))) :=
  (gfR σ (some this) 1 1 12).bind fun x4 =>
  (ldI σ x4 1 v2).bind fun x5 =>
  (if x5 ≤ v3 then some (.inr (.inl ()))
  else (cV σ (some this) 1 fun o => fX1_at0 φ o v2 v3 σ).bind fun y7 =>
  (if y7 < v1 then some (.inl (v3 + (1 : Int32)))
  else some (.inr (.inr ()))))
def fX1_letters_l14 (φ : Nat) (this : Nat) (v1 : Int32) (σ : St) (v2 : Int32) : Option ((Int32) ⊕ ((Unit) ⊕ (Unit))) :=
  (if (8 : Int32) ≤ v2 then some (.inr (.inl ()))
  else ((it (fun s : Int32 => fX1_letters_l22 φ this v1 v2 σ s) φ (0 : Int32)).bind fun e9 =>
  match e9 with
  | (.inl e11) => some (.inl (v2 + (1 : Int32)))
  | (.inr e12) => some (.inr (.inr ()))))
def fX1_letters (φ : Nat) (this : Nat) (v1 : Int32) (σ : St) : Option (Int32 × St) :=
  (fX1_in φ v1 (1 : Int32) (6 : Int32) σ).bind fun y1 =>
  (if y1 = 0 then some ((-1 : Int32), σ)
  else ((it (fun s : Int32 => fX1_letters_l14 φ this v1 σ s) φ (0 : Int32)).bind fun e13 =>
  match e13 with
  | (.inl e15) => (gfI σ (some this) 1 1 11).bind fun x17 =>
  (pfI σ (some this) 1 1 11 v1).bind fun s18 =>
  some (x17, s18)
  | (.inr e16) => some ((-4 : Int32), σ)))
def fX1_isWord (φ : Nat) (v0 : Int32) (σ : St) : Option (Int32) :=
  (fX1_in φ v0 (0 : Int32) (7 : Int32) σ).bind fun y1 =>
  chk (y1 = 0 ∨ y1 = 1) <|
  some y1
def fX1_isLetter (φ : Nat) (this : Nat) (v1 : Int32) (σ : St) : Option (Int32) :=
  (gfI σ (some this) 1 1 11).bind fun x1 =>
  (fX1_in φ v1 (0 : Int32) (x1 - (1 : Int32)) σ).bind fun y2 =>
  chk (y2 = 0 ∨ y2 = 1) <|
  some y2
def fX1_comes_l13 (φ : Nat) (this : Nat) (v1 : Int32) (v2 : Int32) (v3 : Int32) (v4 : Int32) (v5 : Int32) (σ : St) : Option ((Int32 × St) ⊕ (St)) :=
  (gfI σ (some this) 1 1 17).bind fun x4 =>
  (if x4 ≤ v5 then some (.inr σ)
  else (gfR σ (some this) 1 1 13).bind fun x6 =>
  (gfR σ (some this) 1 1 18).bind fun x7 =>
  (ldI σ x7 1 v5).bind fun x8 =>
  (stI σ x6 (((40 : Int32) * v1) + v5) x8).bind fun s9 =>
  some (.inl ((v5 + (1 : Int32)), s9)))
def fX1_comes (φ : Nat) (this : Nat) (v1 : Int32) (v2 : Int32) (v3 : Int32) (v4 : Int32) (σ : St) : Option (Int32 × St) :=
  (gfR σ (some this) 1 1 12).bind fun x1 =>
  (gfI σ (some this) 1 1 17).bind fun x2 =>
  (stI σ x1 v1 x2).bind fun s3 =>
  (it (fun s : Int32 × St => fX1_comes_l13 φ this v1 v2 v3 v4 s.1 s.2) φ ((0 : Int32), s3)).bind fun e10 =>
  (gfR e10 (some this) 1 1 14).bind fun x12 =>
  (stI e10 x12 v1 v2).bind fun s13 =>
  (gfR s13 (some this) 1 1 15).bind fun x14 =>
  (stI s13 x14 v1 v3).bind fun s15 =>
  (gfR s15 (some this) 1 1 16).bind fun x16 =>
  (stI s15 x16 v1 v4).bind fun s17 =>
  (gfI s17 (some this) 1 1 17).bind fun x18 =>
  some (x18, s17)
def fX1_word_l36 (φ : Nat) (this : Nat) (v1 : Int32) (v2 : Int32) (v3 : Int32) (v4 : Int32) (σ : St) : Option ((Int32 × Int32 × St) ⊕ (Int32 × St)) :=
  (gfR σ (some this) 1 1 6).bind fun x8 =>
  (ldI σ x8 1 v2).bind fun x9 =>
  (if x9 ≤ v4 then some (.inr (v3, σ))
  else (gfR σ (some this) 1 1 18).bind fun x11 =>
  (cV σ (some this) 1 fun o => fX1_rowAt φ o v2 v4 σ).bind fun y12 =>
  (stI σ x11 v4 y12).bind fun s13 =>
  (if v3 = 0 then some (.inl ((0 : Int32), (v4 + (1 : Int32)), s13))
  else (gfR s13 (some this) 1 1 18).bind fun x15 =>
  (ldI s13 x15 1 v4).bind fun x16 =>
  (cV s13 (some this) 1 fun o => fX1_isLetter φ o x16 s13).bind fun y17 =>
  (if y17 = 0 then some (.inl ((0 : Int32), (v4 + (1 : Int32)), s13))
  else some (.inl ((1 : Int32), (v4 + (1 : Int32)), s13)))))
def fX1_word (φ : Nat) (this : Nat) (v1 : Int32) (v2 : Int32) (σ : St) : Option (Int32 × St) :=
  (fX1_isWord φ v1 σ).bind fun y1 =>
  (if y1 = 0 then some ((-1 : Int32), σ)
  else (fX1_isRow φ v2 σ).bind fun y3 =>
  (if y3 = 0 then some ((-1 : Int32), σ)
  else (gfR σ (some this) 1 1 6).bind fun x5 =>
  (ldI σ x5 1 v2).bind fun x6 =>
  (if 0 ≤ x6 then (it (fun s : Int32 × Int32 × St => fX1_word_l36 φ this v1 v2 s.1 s.2.1 s.2.2) φ ((1 : Int32), (0 : Int32), σ)).bind fun e19 =>
  (if e19.1 = 0 then (cV e19.2 (some this) 1 fun o => fX1_meets φ o (3 : Int32) e19.2).bind fun y26 =>
  some (y26.1, y26.2)
  else (gfR e19.2 (some this) 1 1 6).bind fun x22 =>
  (ldI e19.2 x22 1 v2).bind fun x23 =>
  (pfI e19.2 (some this) 1 1 17 x23).bind fun s24 =>
  (cV s24 (some this) 1 fun o => fX1_comes φ o v1 (0 : Int32) (0 : Int32) (0 : Int32) s24).bind fun y25 =>
  some (y25.1, y25.2))
  else (cV σ (some this) 1 fun o => fX1_meets φ o (1 : Int32) σ).bind fun y27 =>
  some (y27.1, y27.2))))
def fX1_byteAt (φ : Nat) (this : Nat) (v1 : Int32) (v2 : Int32) (σ : St) : Option (Int32) :=
  (gfR σ (some this) 1 1 9).bind fun x1 =>
  (ldI σ x1 1 v1).bind fun x2 =>
  (if x2 ≤ v2 then some (0 : Int32)
  else (gfR σ (some this) 1 1 10).bind fun x4 =>
  (ldI σ x4 2 (((60 : Int32) * v1) + v2)).bind fun x5 =>
  some x5)
def fX1_comesOn (φ : Nat) (this : Nat) (v1 : Int32) (σ : St) : Option (St) :=
  (gfI σ (some this) 1 1 17).bind fun x1 =>
  (if (40 : Int32) ≤ x1 then (pfZ σ (some this) 1 1 21 (1 : Int32)).bind fun s3 =>
  some s3
  else (gfR σ (some this) 1 1 18).bind fun x4 =>
  (gfI σ (some this) 1 1 17).bind fun x5 =>
  (stI σ x4 x5 v1).bind fun s6 =>
  (gfI s6 (some this) 1 1 17).bind fun x7 =>
  (pfI s6 (some this) 1 1 17 (x7 + (1 : Int32))).bind fun s8 =>
  some s8)
def fX1_figureAt (φ : Nat) (this : Nat) (v1 : Int32) (v2 : Int32) (σ : St) : Option (Int32) :=
  (cV σ (some this) 1 fun o => fX1_byteAt φ o v1 v2 σ).bind fun y1 =>
  (fX1_in φ y1 (49 : Int32) (57 : Int32) σ).bind fun y2 =>
  (if y2 = 0 then some (0 : Int32)
  else (cV σ (some this) 1 fun o => fX1_byteAt φ o v1 v2 σ).bind fun y4 =>
  some (y4 - (48 : Int32)))
def fX1_comesAgain_l17 (φ : Nat) (this : Nat) (v1 : Int32) (v2 : Int32) (v3 : Int32) (v4 : Int32) (v5 : Int32) (σ : St) : Option ((Int32 × St) ⊕ (St)) :=
  (if v3 ≤ v5 then some (.inr σ)
  else (gfR σ (some this) 1 1 18).bind fun x4 =>
  (ldI σ x4 1 v5).bind fun x5 =>
  (cV σ (some this) 1 fun o => fX1_comesOn φ o x5 σ).bind fun y6 =>
  some (.inl ((v5 + (1 : Int32)), y6)))
def fX1_comesAgain_l8 (φ : Nat) (this : Nat) (v1 : Int32) (v2 : Int32) (v3 : Int32) (v4 : Int32) (σ : St) : Option ((Int32 × St) ⊕ (St)) :=
  (if v2 ≤ v4 then some (.inr σ)
  else (it (fun s : Int32 × St => fX1_comesAgain_l17 φ this v1 v2 v3 v4 s.1 s.2) φ (v1, σ)).bind fun e7 =>
  some (.inl ((v4 + (1 : Int32)), e7)))
def fX1_comesAgain (φ : Nat) (this : Nat) (v1 : Int32) (v2 : Int32) (σ : St) : Option (St) :=
  (gfI σ (some this) 1 1 17).bind fun x1 =>
  (it (fun s : Int32 × St => fX1_comesAgain_l8 φ this v1 v2 x1 s.1 s.2) φ ((0 : Int32), σ)).bind fun e9 =>
  some e9
def fX1_faultOf_l21 (φ : Nat) (this : Nat) (v1 : Int32) (v2 : Int32) (σ : St) (v3 : Int32) : Option ((Int32) ⊕ (Int32)) :=
  (cV σ (some this) 1 fun o => fX1_byteAt φ o v1 v3 σ).bind fun y5 =>
  (if y5 = (32 : Int32) then some (.inl (v3 + (1 : Int32)))
  else some (.inr v3))
def fX1_faultOf_b202 (φ : Nat) (this : Nat) (v1 : Int32) (v2 : Int32) (v4 : Int32) (v6 : Int32) (v7 : Int32) (k0 : Int32) (k1 : Int32) (σ : St) : Option ((Int32 × Int32 × Int32 × St) ⊕ ((Int32 × Int32 × St) ⊕ (Int32 × St))) :=
  (cV σ (some this) 1 fun o => fX1_comesAgain φ o v6 (v7 - (1 : Int32)) σ).bind fun y28 =>
  some (.inl (v2, (k0 + k1), v4, y28))
def fX1_faultOf_b170 (φ : Nat) (this : Nat) (v1 : Int32) (v2 : Int32) (v3 : Int32) (v4 : Int32) (v6 : Int32) (σ : St) : Option ((Int32 × Int32 × Int32 × St) ⊕ ((Int32 × Int32 × St) ⊕ (Int32 × St))) :=
  (gfR σ (some this) 1 1 20).bind fun x23 =>
  (ldI σ x23 1 v2).bind fun x24 =>
  (stI σ x23 v2 (x24 + (1 : Int32))).bind fun s25 =>
  (cV s25 (some this) 1 fun o => fX1_figureAt φ o v1 (v3 + (1 : Int32)) s25).bind fun y26 =>
  (if y26 ≤ 0 then fX1_faultOf_b202 φ this v1 v2 v4 v6 y26 (v3 + (1 : Int32)) (0 : Int32) s25
  else fX1_faultOf_b202 φ this v1 v2 v4 v6 y26 (v3 + (1 : Int32)) (1 : Int32) s25)
def fX1_faultOf_b140 (φ : Nat) (this : Nat) (v1 : Int32) (v2 : Int32) (v3 : Int32) (v4 : Int32) (v5 : Int32) (v6 : Int32) (σ : St) : Option ((Int32 × Int32 × Int32 × St) ⊕ ((Int32 × Int32 × St) ⊕ (Int32 × St))) :=
  (if v5 = (41 : Int32) then (gfR σ (some this) 1 1 19).bind fun x29 =>
  (ldI σ x29 1 v2).bind fun x30 =>
  fX1_faultOf_b170 φ this v1 (v2 + (-1 : Int32)) v3 v4 x30 σ
  else (cV σ (some this) 1 fun o => fX1_comesOn φ o (v5 - (97 : Int32)) σ).bind fun y22 =>
  fX1_faultOf_b170 φ this v1 v2 v3 v4 v6 y22)
def fX1_faultOf_b128 (φ : Nat) (this : Nat) (v1 : Int32) (v2 : Int32) (v3 : Int32) (v4 : Int32) (v5 : Int32) (v6 : Int32) (σ : St) : Option ((Int32 × Int32 × Int32 × St) ⊕ ((Int32 × Int32 × St) ⊕ (Int32 × St))) :=
  (cV σ (some this) 1 fun o => fX1_isLetter φ o (v5 - (97 : Int32)) σ).bind fun y17 =>
  (if y17 = 0 then (if v5 = (32 : Int32) then (if v2 = 0 then some (.inl (v2, v3, (0 : Int32), σ))
  else some (.inr (.inr (v3, σ))))
  else some (.inr (.inr (v3, σ))))
  else fX1_faultOf_b140 φ this v1 v2 v3 v4 v5 v6 σ)
def fX1_faultOf_b108 (φ : Nat) (this : Nat) (v1 : Int32) (v2 : Int32) (v3 : Int32) (v4 : Int32) (v5 : Int32) (v6 : Int32) (σ : St) : Option ((Int32 × Int32 × Int32 × St) ⊕ ((Int32 × Int32 × St) ⊕ (Int32 × St))) :=
  (if v5 = (41 : Int32) then (if v2 ≤ 0 then fX1_faultOf_b128 φ this v1 v2 v3 v4 v5 v6 σ
  else (gfR σ (some this) 1 1 20).bind fun x32 =>
  (ldI σ x32 1 v2).bind fun x33 =>
  (if 0 < x33 then fX1_faultOf_b140 φ this v1 v2 v3 v4 v5 v6 σ
  else fX1_faultOf_b128 φ this v1 v2 v3 v4 v5 v6 σ))
  else fX1_faultOf_b128 φ this v1 v2 v3 v4 v5 v6 σ)
def fX1_faultOf_l41 (φ : Nat) (this : Nat) (v1 : Int32) (v2 : Int32) (v3 : Int32) (v4 : Int32) (σ : St) : Option ((Int32 × Int32 × Int32 × St) ⊕ ((Int32 × Int32 × St) ⊕ (Int32 × St))) :=
  (gfR σ (some this) 1 1 9).bind fun x9 =>
  (ldI σ x9 1 v1).bind fun x10 =>
  (if x10 ≤ v3 then some (.inr (.inl (v2, v3, σ)))
  else (if v4 = 0 then some (.inr (.inl (v2, v3, σ)))
  else (cV σ (some this) 1 fun o => fX1_byteAt φ o v1 v3 σ).bind fun y13 =>
  (gfI σ (some this) 1 1 17).bind fun x14 =>
  (if y13 = (40 : Int32) then (if (4 : Int32) ≤ v2 then fX1_faultOf_b108 φ this v1 v2 v3 v4 y13 x14 σ
  else (gfR σ (some this) 1 1 19).bind fun x36 =>
  (gfI σ (some this) 1 1 17).bind fun x37 =>
  (stI σ x36 (v2 + (1 : Int32)) x37).bind fun s38 =>
  (gfR s38 (some this) 1 1 20).bind fun x39 =>
  (stI s38 x39 (v2 + (1 : Int32)) (0 : Int32)).bind fun s40 =>
  some (.inl ((v2 + (1 : Int32)), (v3 + (1 : Int32)), v4, s40)))
  else fX1_faultOf_b108 φ this v1 v2 v3 v4 y13 x14 σ)))
def fX1_faultOf_l239 (φ : Nat) (this : Nat) (v1 : Int32) (v2 : Int32) (σ : St) (v3 : Int32) : Option ((Int32) ⊕ (Int32)) :=
  (cV σ (some this) 1 fun o => fX1_byteAt φ o v1 v3 σ).bind fun y45 =>
  (if y45 = (32 : Int32) then some (.inl (v3 + (1 : Int32)))
  else some (.inr v3))
def fX1_faultOf (φ : Nat) (this : Nat) (v1 : Int32) (σ : St) : Option (Int32 × St) :=
  (pfI σ (some this) 1 1 17 (0 : Int32)).bind fun s1 =>
  (pfZ s1 (some this) 1 1 21 (0 : Int32)).bind fun s2 =>
  (gfR s2 (some this) 1 1 20).bind fun x3 =>
  (stI s2 x3 (0 : Int32) (0 : Int32)).bind fun s4 =>
  (it (fun s : Int32 => fX1_faultOf_l21 φ this v1 (0 : Int32) s4 s) φ (0 : Int32)).bind fun e7 =>
  ((it (fun s : Int32 × Int32 × Int32 × St => fX1_faultOf_l41 φ this v1 s.1 s.2.1 s.2.2.1 s.2.2.2) φ ((0 : Int32), e7, (1 : Int32), s4)).bind fun e41 =>
  match e41 with
  | (.inl e43) => (it (fun s : Int32 => fX1_faultOf_l239 φ this v1 e43.1 e43.2.2 s) φ e43.2.1).bind fun e47 =>
  (gfR e43.2.2 (some this) 1 1 9).bind fun x49 =>
  (ldI e43.2.2 x49 1 v1).bind fun x50 =>
  (if e47 < x50 then some (e47, e43.2.2)
  else (if e43.1 ≤ 0 then some ((-9 : Int32), e43.2.2)
  else some (e47, e43.2.2)))
  | (.inr e44) => some (e44.1, e44.2))
def fX1_fault (φ : Nat) (this : Nat) (v1 : Int32) (σ : St) : Option (Int32 × St) :=
  (fX1_isText φ v1 σ).bind fun y1 =>
  (if y1 = 0 then some ((-1 : Int32), σ)
  else (gfR σ (some this) 1 1 9).bind fun x3 =>
  (ldI σ x3 1 v1).bind fun x4 =>
  (if 0 ≤ x4 then (cV σ (some this) 1 fun o => fX1_faultOf φ o v1 σ).bind fun y6 =>
  some (y6.1, y6.2)
  else (cV σ (some this) 1 fun o => fX1_meets φ o (1 : Int32) σ).bind fun y7 =>
  some (y7.1, y7.2)))
def fX1_tell (φ : Nat) (this : Nat) (v1 : Int32) (v2 : Int32) (σ : St) : Option (Int32 × St) :=
  (fX1_isWord φ v1 σ).bind fun y1 =>
  (if y1 = 0 then some ((-1 : Int32), σ)
  else (fX1_isText φ v2 σ).bind fun y3 =>
  (if y3 = 0 then some ((-1 : Int32), σ)
  else (gfR σ (some this) 1 1 9).bind fun x5 =>
  (ldI σ x5 1 v2).bind fun x6 =>
  (if 0 ≤ x6 then (cV σ (some this) 1 fun o => fX1_faultOf φ o v2 σ).bind fun y8 =>
  (if y8.1 = (-9 : Int32) then (gfI y8.2 (some this) 1 1 21).bind fun x10 =>
  (if x10 = 0 then (gfR y8.2 (some this) 1 1 9).bind fun x12 =>
  (ldI y8.2 x12 1 v2).bind fun x13 =>
  (cV y8.2 (some this) 1 fun o => fX1_comes φ o v1 (1 : Int32) (0 : Int32) x13 y8.2).bind fun y14 =>
  some (y14.1, y14.2)
  else some ((-2 : Int32), y8.2))
  else some ((-4 : Int32), y8.2))
  else (cV σ (some this) 1 fun o => fX1_meets φ o (1 : Int32) σ).bind fun y15 =>
  some (y15.1, y15.2))))
def fX1_isThere (φ : Nat) (this : Nat) (v1 : Int32) (σ : St) : Option (Int32) :=
  (gfR σ (some this) 1 1 12).bind fun x1 =>
  (ldI σ x1 1 v1).bind fun x2 =>
  (if x2 < 0 then some (0 : Int32)
  else some (1 : Int32))
def fX1_needTwo_b42 (φ : Nat) (this : Nat) (σ : St) : Option (Int32 × St) :=
  (cV σ (some this) 1 fun o => fX1_meets φ o (1 : Int32) σ).bind fun y8 =>
  some (y8.1, y8.2)
def fX1_needTwo (φ : Nat) (this : Nat) (v1 : Int32) (v2 : Int32) (v3 : Int32) (σ : St) : Option (Int32 × St) :=
  (fX1_isWord φ v2 σ).bind fun y1 =>
  (if y1 = 0 then some ((-1 : Int32), σ)
  else (fX1_isWord φ v3 σ).bind fun y3 =>
  (if y3 = 0 then some ((-1 : Int32), σ)
  else (if v1 = 0 then some ((-1 : Int32), σ)
  else (cV σ (some this) 1 fun o => fX1_isThere φ o v2 σ).bind fun y6 =>
  (if y6 = 0 then fX1_needTwo_b42 φ this σ
  else (cV σ (some this) 1 fun o => fX1_isThere φ o v3 σ).bind fun y9 =>
  (if y9 = 0 then fX1_needTwo_b42 φ this σ
  else some ((0 : Int32), σ))))))
def fX1_join_l48 (φ : Nat) (this : Nat) (v1 : Int32) (v2 : Int32) (v3 : Int32) (v5 : Int32) (v6 : Int32) (σ : St) : Option ((Int32 × St) ⊕ (St)) :=
  (if v5 ≤ v6 then some (.inr σ)
  else (gfR σ (some this) 1 1 18).bind fun x10 =>
  (gfR σ (some this) 1 1 12).bind fun x11 =>
  (ldI σ x11 1 v2).bind fun x12 =>
  (if x12 ≤ v6 then (gfR σ (some this) 1 1 12).bind fun x14 =>
  (ldI σ x14 1 v2).bind fun x15 =>
  (cV σ (some this) 1 fun o => fX1_at0 φ o v3 (v6 - x15) σ).bind fun y16 =>
  (stI σ x10 v6 y16).bind fun s17 =>
  some (.inl ((v6 + (1 : Int32)), s17))
  else (cV σ (some this) 1 fun o => fX1_at0 φ o v2 v6 σ).bind fun y18 =>
  (stI σ x10 v6 y18).bind fun s19 =>
  some (.inl ((v6 + (1 : Int32)), s19))))
def fX1_join (φ : Nat) (this : Nat) (v1 : Int32) (v2 : Int32) (v3 : Int32) (σ : St) : Option (Int32 × St) :=
  (fX1_isWord φ v1 σ).bind fun y1 =>
  (cV σ (some this) 1 fun o => fX1_needTwo φ o y1 v2 v3 σ).bind fun y2 =>
  (if 0 ≤ y2.1 then (gfR y2.2 (some this) 1 1 12).bind fun x4 =>
  (ldI y2.2 x4 1 v2).bind fun x5 =>
  (gfR y2.2 (some this) 1 1 12).bind fun x6 =>
  (ldI y2.2 x6 1 v3).bind fun x7 =>
  (if (x5 + x7) ≤ (40 : Int32) then (it (fun s : Int32 × St => fX1_join_l48 φ this v1 v2 v3 (x5 + x7) s.1 s.2) φ ((0 : Int32), y2.2)).bind fun e20 =>
  (pfI e20 (some this) 1 1 17 (x5 + x7)).bind fun s22 =>
  (cV s22 (some this) 1 fun o => fX1_comes φ o v1 (2 : Int32) v2 (0 : Int32) s22).bind fun y23 =>
  some (y23.1, y23.2)
  else some ((-2 : Int32), y2.2))
  else some (y2.1, y2.2))
def fX1_part_b62 (φ : Nat) (this : Nat) (σ : St) : Option (Int32 × St) :=
  (cV σ (some this) 1 fun o => fX1_meets φ o (2 : Int32) σ).bind fun y9 =>
  some (y9.1, y9.2)
def fX1_part_l71 (φ : Nat) (this : Nat) (v1 : Int32) (v2 : Int32) (v3 : Int32) (v4 : Int32) (v5 : Int32) (σ : St) : Option ((Int32 × St) ⊕ (St)) :=
  (if v4 ≤ v5 then some (.inr σ)
  else (gfR σ (some this) 1 1 18).bind fun x14 =>
  (cV σ (some this) 1 fun o => fX1_at0 φ o v2 (v3 + v5) σ).bind fun y15 =>
  (stI σ x14 v5 y15).bind fun s16 =>
  some (.inl ((v5 + (1 : Int32)), s16)))
def fX1_part (φ : Nat) (this : Nat) (v1 : Int32) (v2 : Int32) (v3 : Int32) (v4 : Int32) (σ : St) : Option (Int32 × St) :=
  (fX1_isWord φ v1 σ).bind fun y1 =>
  (if y1 = 0 then some ((-1 : Int32), σ)
  else (fX1_isWord φ v2 σ).bind fun y3 =>
  (if y3 = 0 then some ((-1 : Int32), σ)
  else (if 0 ≤ v4 then (cV σ (some this) 1 fun o => fX1_isThere φ o v2 σ).bind fun y6 =>
  (if y6 = 0 then (cV σ (some this) 1 fun o => fX1_meets φ o (1 : Int32) σ).bind fun y21 =>
  some (y21.1, y21.2)
  else (if v3 < 0 then fX1_part_b62 φ this σ
  else (gfR σ (some this) 1 1 12).bind fun x10 =>
  (ldI σ x10 1 v2).bind fun x11 =>
  (if ((v3.toInt64) + (v4.toInt64)) ≤ (x11.toInt64) then (it (fun s : Int32 × St => fX1_part_l71 φ this v1 v2 v3 v4 s.1 s.2) φ ((0 : Int32), σ)).bind fun e17 =>
  (pfI e17 (some this) 1 1 17 v4).bind fun s19 =>
  (cV s19 (some this) 1 fun o => fX1_comes φ o v1 (2 : Int32) v2 (0 : Int32) s19).bind fun y20 =>
  some (y20.1, y20.2)
  else fX1_part_b62 φ this σ)))
  else (cV σ (some this) 1 fun o => fX1_meets φ o (5 : Int32) σ).bind fun y22 =>
  some (y22.1, y22.2))))
def fX1_needWord (φ : Nat) (this : Nat) (v1 : Int32) (v2 : Int32) (σ : St) : Option (Int32 × St) :=
  (fX1_isWord φ v2 σ).bind fun y1 =>
  (if y1 = 0 then some ((-1 : Int32), σ)
  else (if v1 = 0 then some ((-1 : Int32), σ)
  else (cV σ (some this) 1 fun o => fX1_isThere φ o v2 σ).bind fun y4 =>
  (if y4 = 0 then (cV σ (some this) 1 fun o => fX1_meets φ o (1 : Int32) σ).bind fun y6 =>
  some (y6.1, y6.2)
  else some ((0 : Int32), σ))))
def fX1_turn_l49 (φ : Nat) (this : Nat) (v1 : Int32) (v2 : Int32) (v3 : Int32) (v5 : Int32) (σ : St) : Option ((Int32 × St) ⊕ (St)) :=
  (gfI σ (some this) 1 1 17).bind fun x8 =>
  (if x8 ≤ v5 then some (.inr σ)
  else (gfR σ (some this) 1 1 18).bind fun x10 =>
  (if v3 = 0 then (gfI σ (some this) 1 1 17).bind fun x15 =>
  (cV σ (some this) 1 fun o => fX1_at0 φ o v2 ((x15 - (1 : Int32)) - v5) σ).bind fun y16 =>
  (stI σ x10 v5 y16).bind fun s17 =>
  some (.inl ((v5 + (1 : Int32)), s17))
  else (gfI σ (some this) 1 1 11).bind fun x12 =>
  (cV σ (some this) 1 fun o => fX1_at0 φ o v2 v5 σ).bind fun y13 =>
  (stI σ x10 v5 ((x12 - (1 : Int32)) - y13)).bind fun s14 =>
  some (.inl ((v5 + (1 : Int32)), s14))))
def fX1_turn_b22 (φ : Nat) (this : Nat) (v1 : Int32) (v2 : Int32) (v3 : Int32) (k0 : Option Nat) (k1 : Int32) (σ : St) : Option (Int32 × St) :=
  (cV σ k0 1 fun o => fX1_needWord φ o k1 v2 σ).bind fun y3 =>
  (if 0 ≤ y3.1 then (gfR y3.2 (some this) 1 1 12).bind fun x5 =>
  (ldI y3.2 x5 1 v2).bind fun x6 =>
  (pfI y3.2 (some this) 1 1 17 x6).bind fun s7 =>
  (it (fun s : Int32 × St => fX1_turn_l49 φ this v1 v2 v3 s.1 s.2) φ ((0 : Int32), s7)).bind fun e18 =>
  (cV e18 (some this) 1 fun o => fX1_comes φ o v1 (3 : Int32) v2 v3 e18).bind fun y20 =>
  some (y20.1, y20.2)
  else some (y3.1, y3.2))
def fX1_turn_b21 (φ : Nat) (this : Nat) (v1 : Int32) (v2 : Int32) (v3 : Int32) (k0 : Option Nat) (σ : St) : Option (Int32 × St) :=
  fX1_turn_b22 φ this v1 v2 v3 k0 (0 : Int32) σ
def fX1_turn (φ : Nat) (this : Nat) (v1 : Int32) (v2 : Int32) (v3 : Int32) (σ : St) : Option (Int32 × St) :=
  (fX1_isWord φ v1 σ).bind fun y1 =>
  (if y1 = 0 then fX1_turn_b21 φ this v1 v2 v3 (some this) σ
  else (fX1_in φ v3 (0 : Int32) (1 : Int32) σ).bind fun y21 =>
  (if y21 = 0 then fX1_turn_b21 φ this v1 v2 v3 (some this) σ
  else fX1_turn_b22 φ this v1 v2 v3 (some this) (1 : Int32) σ))
def fX1_erase (φ : Nat) (this : Nat) (v1 : Int32) (σ : St) : Option (Int32 × St) :=
  (cV σ (some this) 1 fun o => fX1_needWord φ o (1 : Int32) v1 σ).bind fun y1 =>
  (if 0 ≤ y1.1 then (gfR y1.2 (some this) 1 1 12).bind fun x3 =>
  (stI y1.2 x3 v1 (-1 : Int32)).bind fun s4 =>
  some ((1 : Int32), s4)
  else some (y1.1, y1.2))
def fX1_size (φ : Nat) (this : Nat) (v1 : Int32) (σ : St) : Option (Int32 × St) :=
  (cV σ (some this) 1 fun o => fX1_needWord φ o (1 : Int32) v1 σ).bind fun y1 =>
  (if 0 ≤ y1.1 then (gfR y1.2 (some this) 1 1 12).bind fun x3 =>
  (ldI y1.2 x3 1 v1).bind fun x4 =>
  some (x4, y1.2)
  else some (y1.1, y1.2))
def fX1_letter (φ : Nat) (this : Nat) (v1 : Int32) (v2 : Int32) (σ : St) : Option (Int32 × St) :=
  (cV σ (some this) 1 fun o => fX1_needWord φ o (1 : Int32) v1 σ).bind fun y1 =>
  (if 0 ≤ y1.1 then (gfR y1.2 (some this) 1 1 12).bind fun x3 =>
  (ldI y1.2 x3 1 v1).bind fun x4 =>
  (fX1_in φ v2 (0 : Int32) (x4 - (1 : Int32)) y1.2).bind fun y5 =>
  (if y5 = 0 then (cV y1.2 (some this) 1 fun o => fX1_meets φ o (2 : Int32) y1.2).bind fun y7 =>
  some (y7.1, y7.2)
  else (cV y1.2 (some this) 1 fun o => fX1_at0 φ o v1 v2 y1.2).bind fun y8 =>
  some (y8, y1.2))
  else some (y1.1, y1.2))
def fX1_kind (φ : Nat) (this : Nat) (v1 : Int32) (σ : St) : Option (Int32 × St) :=
  (cV σ (some this) 1 fun o => fX1_needWord φ o (1 : Int32) v1 σ).bind fun y1 =>
  (if 0 ≤ y1.1 then (gfR y1.2 (some this) 1 1 14).bind fun x3 =>
  (ldI y1.2 x3 1 v1).bind fun x4 =>
  some (x4, y1.2)
  else some (y1.1, y1.2))
def fX1_markOf (φ : Nat) (this : Nat) (v1 : Int32) (v2 : Int32) (σ : St) : Option (Int32) :=
  (if v2 = 0 then some (0 : Int32)
  else (if v2 = (2 : Int32) then (gfR σ (some this) 1 1 15).bind fun x5 =>
  (ldI σ x5 1 v1).bind fun x6 =>
  some x6
  else (gfR σ (some this) 1 1 16).bind fun x3 =>
  (ldI σ x3 1 v1).bind fun x4 =>
  some x4))
def fX1_mark_b48 (φ : Nat) (this : Nat) (v1 : Int32) (v2 : Int32) (k0 : Int32) (σ : St) : Option (Int32 × St) :=
  (if k0 = 0 then (cV σ (some this) 1 fun o => fX1_meets φ o (3 : Int32) σ).bind fun y8 =>
  some (y8.1, y8.2)
  else (cV σ (some this) 1 fun o => fX1_markOf φ o v1 v2 σ).bind fun y9 =>
  some (y9, σ))
def fX1_mark_b43 (φ : Nat) (this : Nat) (v1 : Int32) (v2 : Int32) (σ : St) : Option (Int32 × St) :=
  fX1_mark_b48 φ this v1 v2 (1 : Int32) σ
def fX1_mark_b47 (φ : Nat) (this : Nat) (v1 : Int32) (v2 : Int32) (σ : St) : Option (Int32 × St) :=
  fX1_mark_b48 φ this v1 v2 (0 : Int32) σ
def fX1_mark (φ : Nat) (this : Nat) (v1 : Int32) (v2 : Int32) (σ : St) : Option (Int32 × St) :=
  (fX1_in φ v2 (1 : Int32) (4 : Int32) σ).bind fun y1 =>
  (cV σ (some this) 1 fun o => fX1_needWord φ o y1 v1 σ).bind fun y2 =>
  (if 0 ≤ y2.1 then (gfR y2.2 (some this) 1 1 14).bind fun x4 =>
  (ldI y2.2 x4 1 v1).bind fun x5 =>
  (if x5 = v2 then fX1_mark_b43 φ this v1 v2 y2.2
  else (if v2 = (2 : Int32) then (gfR y2.2 (some this) 1 1 14).bind fun x11 =>
  (ldI y2.2 x11 1 v1).bind fun x12 =>
  (if x12 ≤ (2 : Int32) then fX1_mark_b47 φ this v1 v2 y2.2
  else fX1_mark_b43 φ this v1 v2 y2.2)
  else fX1_mark_b47 φ this v1 v2 y2.2))
  else some (y2.1, y2.2))
def fX1_layWays_l2 (φ : Nat) (this : Nat) (v1 : Int32) (v2 : Int32) (v3 : Int32) (σ : St) : Option ((Int32 × St) ⊕ (St)) :=
  (if (40 : Int32) < v3 then some (.inr σ)
  else (gfR σ (some this) 1 1 22).bind fun x2 =>
  (if v3 = 0 then (stL σ x2 v3 (1 : Int64)).bind fun s5 =>
  some (.inl ((v3 + (1 : Int32)), s5))
  else (stL σ x2 v3 (0 : Int64)).bind fun s4 =>
  some (.inl ((v3 + (1 : Int32)), s4))))
def fX1_layWays_l49 (φ : Nat) (this : Nat) (v1 : Int32) (v2 : Int32) (v3 : Int32) (v4 : Int32) (σ : St) : Option ((Int32 × St) ⊕ (St)) :=
  (if v4 ≤ 0 then some (.inr σ)
  else (gfR σ (some this) 1 1 22).bind fun x14 =>
  (ldL σ x14 v4).bind fun x15 =>
  (cV σ (some this) 1 fun o => fX1_at0 φ o v1 v3 σ).bind fun y16 =>
  (cV σ (some this) 1 fun o => fX1_at0 φ o v2 (v4 - (1 : Int32)) σ).bind fun y17 =>
  (if y16 = y17 then (gfR σ (some this) 1 1 22).bind fun x20 =>
  (ldL σ x20 (v4 - (1 : Int32))).bind fun x21 =>
  (stL σ x14 v4 (x15 + x21)).bind fun s22 =>
  some (.inl ((v4 + (-1 : Int32)), s22))
  else (stL σ x14 v4 (x15 + (0 : Int64))).bind fun s19 =>
  some (.inl ((v4 + (-1 : Int32)), s19))))
def fX1_layWays_l31 (φ : Nat) (this : Nat) (v1 : Int32) (v2 : Int32) (v3 : Int32) (σ : St) : Option ((Int32 × St) ⊕ (St)) :=
  (gfR σ (some this) 1 1 12).bind fun x8 =>
  (ldI σ x8 1 v1).bind fun x9 =>
  (if x9 ≤ v3 then some (.inr σ)
  else (gfR σ (some this) 1 1 12).bind fun x11 =>
  (ldI σ x11 1 v2).bind fun x12 =>
  (it (fun s : Int32 × St => fX1_layWays_l49 φ this v1 v2 v3 s.1 s.2) φ (x12, σ)).bind fun e23 =>
  some (.inl ((v3 + (1 : Int32)), e23)))
def fX1_layWays (φ : Nat) (this : Nat) (v1 : Int32) (v2 : Int32) (σ : St) : Option (St) :=
  (it (fun s : Int32 × St => fX1_layWays_l2 φ this v1 v2 s.1 s.2) φ ((0 : Int32), σ)).bind fun e6 =>
  (it (fun s : Int32 × St => fX1_layWays_l31 φ this v1 v2 s.1 s.2) φ ((0 : Int32), e6)).bind fun e25 =>
  some e25
def fX1_tellsMany (φ : Nat) (this : Nat) (v1 : Int64) (v3 : Int32) (σ : St) : Option (Int32 × St) :=
  (pfL σ (some this) 1 1 3 v1).bind fun s1 =>
  some (v3, s1)
def fX1_ways_b48 (φ : Nat) (k0 : Option Nat) (k1 : Int64) (k2 : Int32) (σ : St) : Option (Int32 × St) :=
  (cV σ k0 1 fun o => fX1_tellsMany φ o k1 k2 σ).bind fun y9 =>
  some (y9.1, y9.2)
def fX1_ways (φ : Nat) (this : Nat) (v1 : Int32) (v2 : Int32) (σ : St) : Option (Int32 × St) :=
  (cV σ (some this) 1 fun o => fX1_needTwo φ o (1 : Int32) v1 v2 σ).bind fun y1 =>
  (if 0 ≤ y1.1 then (cV y1.2 (some this) 1 fun o => fX1_layWays φ o v1 v2 y1.2).bind fun y3 =>
  (gfR y3 (some this) 1 1 22).bind fun x4 =>
  (gfR y3 (some this) 1 1 12).bind fun x5 =>
  (ldI y3 x5 1 v2).bind fun x6 =>
  (ldL y3 x4 x6).bind fun x7 =>
  (if x7 ≤ (0 : Int64) then fX1_ways_b48 φ (some this) x7 (0 : Int32) y3
  else fX1_ways_b48 φ (some this) x7 (1 : Int32) y3)
  else some (y1.1, y1.2))
def fX1_next_l3 (φ : Nat) (this : Nat) (v1 : Int32) (v3 : Int32) (σ : St) (v4 : Int32) : Option ((Int32) ⊕ ((Unit) ⊕ (Int32))) :=
  (gfR σ (some this) 1 1 12).bind fun x1 =>
  (ldI σ x1 1 v1).bind fun x2 =>
  (if x2 ≤ v4 then some (.inr (.inl ()))
  else (cV σ (some this) 1 fun o => fX1_at0 φ o v1 v4 σ).bind fun y4 =>
  (if y4 = v3 then some (.inr (.inr v4))
  else some (.inl (v4 + (1 : Int32)))))
def fX1_next (φ : Nat) (this : Nat) (v1 : Int32) (v2 : Int32) (v3 : Int32) (σ : St) : Option (Int32) :=
  ((it (fun s : Int32 => fX1_next_l3 φ this v1 v3 σ s) φ v2).bind fun e6 =>
  match e6 with
  | (.inl e8) => some (-9 : Int32)
  | (.inr e9) => some e9)
def fX1_layPlaces_l13 (φ : Nat) (this : Nat) (v1 : Int32) (v2 : Int32) (v3 : Int32) (v4 : Int32) (v5 : Int32) (σ : St) : Option ((Int32 × Int32 × St) ⊕ ((St) ⊕ (St))) :=
  (if v3 ≤ v5 then some (.inr (.inl σ))
  else (cV σ (some this) 1 fun o => fX1_at0 φ o v2 v5 σ).bind fun y4 =>
  (cV σ (some this) 1 fun o => fX1_next φ o v1 v4 y4 σ).bind fun y5 =>
  (if y5 = (-9 : Int32) then some (.inr (.inr σ))
  else (gfR σ (some this) 1 1 23).bind fun x7 =>
  (stI σ x7 v5 y5).bind fun s8 =>
  some (.inl ((y5 + (1 : Int32)), (v5 + (1 : Int32)), s8))))
def fX1_layPlaces_l85 (φ : Nat) (this : Nat) (v1 : Int32) (v2 : Int32) (v6 : Int32) (σ : St) (v5 : Int32) : Option ((Int32) ⊕ (Int32)) :=
  (cV σ (some this) 1 fun o => fX1_at0 φ o v1 v5 σ).bind fun y16 =>
  (cV σ (some this) 1 fun o => fX1_at0 φ o v2 v6 σ).bind fun y17 =>
  (if y16 = y17 then some (.inr v5)
  else some (.inl (v5 + (-1 : Int32))))
def fX1_layPlaces_l80 (φ : Nat) (this : Nat) (v1 : Int32) (v2 : Int32) (v5 : Int32) (v6 : Int32) (σ : St) : Option ((Int32 × Int32 × St) ⊕ (St)) :=
  (if v6 < 0 then some (.inr σ)
  else (it (fun s : Int32 => fX1_layPlaces_l85 φ this v1 v2 v6 σ s) φ v5).bind fun e19 =>
  (gfR σ (some this) 1 1 24).bind fun x21 =>
  (stI σ x21 v6 e19).bind fun s22 =>
  some (.inl ((e19 + (-1 : Int32)), (v6 + (-1 : Int32)), s22)))
def fX1_layPlaces (φ : Nat) (this : Nat) (v1 : Int32) (v2 : Int32) (σ : St) : Option (Int32 × St) :=
  (gfR σ (some this) 1 1 12).bind fun x1 =>
  (ldI σ x1 1 v2).bind fun x2 =>
  ((it (fun s : Int32 × Int32 × St => fX1_layPlaces_l13 φ this v1 v2 x2 s.1 s.2.1 s.2.2) φ ((0 : Int32), (0 : Int32), σ)).bind fun e9 =>
  match e9 with
  | (.inl e11) => (gfR e11 (some this) 1 1 12).bind fun x13 =>
  (ldI e11 x13 1 v1).bind fun x14 =>
  (it (fun s : Int32 × Int32 × St => fX1_layPlaces_l80 φ this v1 v2 s.1 s.2.1 s.2.2) φ ((x14 - (1 : Int32)), (x2 - (1 : Int32)), e11)).bind fun e23 =>
  some ((1 : Int32), e23)
  | (.inr e12) => some ((0 : Int32), e12))
def fX1_comesToRow_l12 (φ : Nat) (this : Nat) (v1 : Int32) (v2 : Int32) (σ : St) : Option ((Int32 × St) ⊕ (St)) :=
  (if (40 : Int32) ≤ v2 then some (.inr σ)
  else (gfR σ (some this) 1 1 7).bind fun x5 =>
  (gfI σ (some this) 1 1 17).bind fun x6 =>
  (if x6 ≤ v2 then (stI σ x5 (((40 : Int32) * v1) + v2) (0 : Int32)).bind fun s8 =>
  some (.inl ((v2 + (1 : Int32)), s8))
  else (gfR σ (some this) 1 1 18).bind fun x9 =>
  (ldI σ x9 1 v2).bind fun x10 =>
  (stI σ x5 (((40 : Int32) * v1) + v2) x10).bind fun s11 =>
  some (.inl ((v2 + (1 : Int32)), s11))))
def fX1_comesToRow (φ : Nat) (this : Nat) (v1 : Int32) (σ : St) : Option (St) :=
  (gfR σ (some this) 1 1 6).bind fun x1 =>
  (gfI σ (some this) 1 1 17).bind fun x2 =>
  (stI σ x1 v1 x2).bind fun s3 =>
  (it (fun s : Int32 × St => fX1_comesToRow_l12 φ this v1 s.1 s.2) φ ((0 : Int32), s3)).bind fun e12 =>
  some e12
def fX1_way_l45 (φ : Nat) (this : Nat) (v3 : Int32) (v4 : Int32) (v6 : Int32) (σ : St) : Option ((Int32 × St) ⊕ (St)) :=
  (gfI σ (some this) 1 1 17).bind fun x9 =>
  (if x9 ≤ v6 then some (.inr σ)
  else (gfR σ (some this) 1 1 18).bind fun x11 =>
  (if v4 = 0 then (gfR σ (some this) 1 1 23).bind fun x13 =>
  (ldI σ x13 1 v6).bind fun x14 =>
  (stI σ x11 v6 x14).bind fun s15 =>
  some (.inl ((v6 + (1 : Int32)), s15))
  else (gfR σ (some this) 1 1 24).bind fun x16 =>
  (ldI σ x16 1 v6).bind fun x17 =>
  (stI σ x11 v6 x17).bind fun s18 =>
  some (.inl ((v6 + (1 : Int32)), s18))))
def fX1_way (φ : Nat) (this : Nat) (v1 : Int32) (v2 : Int32) (v3 : Int32) (v4 : Int32) (σ : St) : Option (Int32 × St) :=
  (fX1_isRow φ v3 σ).bind fun y1 =>
  (cV σ (some this) 1 fun o => fX1_needTwo φ o y1 v1 v2 σ).bind fun y2 =>
  (if 0 ≤ y2.1 then (cV y2.2 (some this) 1 fun o => fX1_layPlaces φ o v1 v2 y2.2).bind fun y4 =>
  (if y4.1 = 0 then some ((-9 : Int32), y4.2)
  else (gfR y4.2 (some this) 1 1 12).bind fun x6 =>
  (ldI y4.2 x6 1 v2).bind fun x7 =>
  (pfI y4.2 (some this) 1 1 17 x7).bind fun s8 =>
  (it (fun s : Int32 × St => fX1_way_l45 φ this v3 v4 s.1 s.2) φ ((0 : Int32), s8)).bind fun e19 =>
  (cV e19 (some this) 1 fun o => fX1_comesToRow φ o v3 e19).bind fun y21 =>
  (gfI y21 (some this) 1 1 17).bind fun x22 =>
  some (x22, y21))
  else some (y2.1, y2.2))
def fX1_places_b112 (φ : Nat) (this : Nat) (v1 : Int32) (v2 : Int32) (v3 : Int32) (v5 : Int64) (v7 : Int32) (v8 : Int32) (v9 : Int32) (v10 : Int32) (k0 : Int32) (σ : St) : Option ((Int32 × Int32) ⊕ (Int32)) :=
  (if v9 = 0 then (if v3 = 0 then (if k0 = 0 then some (.inl ((0 : Int32), (v10 + (1 : Int32))))
  else some (.inl ((1 : Int32), (v10 + (1 : Int32)))))
  else (if k0 = 0 then some (.inl ((0 : Int32), (v10 + (1 : Int32))))
  else (gfR σ (some this) 1 1 23).bind fun x18 =>
  (ldI σ x18 1 v10).bind fun x19 =>
  (gfR σ (some this) 1 1 24).bind fun x20 =>
  (ldI σ x20 1 v10).bind fun x21 =>
  (if x19 = x21 then some (.inl ((1 : Int32), (v10 + (1 : Int32))))
  else some (.inl ((0 : Int32), (v10 + (1 : Int32)))))))
  else some (.inl ((1 : Int32), (v10 + (1 : Int32)))))
def fX1_places_b111 (φ : Nat) (this : Nat) (v1 : Int32) (v2 : Int32) (v3 : Int32) (v5 : Int64) (v7 : Int32) (v8 : Int32) (v9 : Int32) (v10 : Int32) (σ : St) : Option ((Int32 × Int32) ⊕ (Int32)) :=
  fX1_places_b112 φ this v1 v2 v3 v5 v7 v8 v9 v10 (0 : Int32) σ
def fX1_places_l55 (φ : Nat) (this : Nat) (v1 : Int32) (v2 : Int32) (v3 : Int32) (v5 : Int64) (v7 : Int32) (v8 : Int32) (σ : St) (v9 : Int32) (v10 : Int32) : Option ((Int32 × Int32) ⊕ (Int32)) :=
  (gfR σ (some this) 1 1 12).bind fun x8 =>
  (ldI σ x8 1 v2).bind fun x9 =>
  (if x9 ≤ v10 then some (.inr v9)
  else (cV σ (some this) 1 fun o => fX1_at0 φ o v1 v8 σ).bind fun y11 =>
  (cV σ (some this) 1 fun o => fX1_at0 φ o v2 v10 σ).bind fun y12 =>
  (if y11 = y12 then (gfR σ (some this) 1 1 23).bind fun x23 =>
  (ldI σ x23 1 v10).bind fun x24 =>
  (if v8 < x24 then fX1_places_b111 φ this v1 v2 v3 v5 v7 v8 v9 v10 σ
  else (gfR σ (some this) 1 1 24).bind fun x26 =>
  (ldI σ x26 1 v10).bind fun x27 =>
  (if x27 < v8 then fX1_places_b111 φ this v1 v2 v3 v5 v7 v8 v9 v10 σ
  else fX1_places_b112 φ this v1 v2 v3 v5 v7 v8 v9 v10 (1 : Int32) σ))
  else fX1_places_b111 φ this v1 v2 v3 v5 v7 v8 v9 v10 σ))
def fX1_places_b181 (φ : Nat) (this : Nat) (v1 : Int32) (v2 : Int32) (v3 : Int32) (v7 : Int32) (v8 : Int32) (v9 : Int32) (k0 : Int64) (k1 : Int64) (σ : St) : Option ((Int64 × Int32 × Int32) ⊕ (Int64 × Int32)) :=
  (if v9 = 0 then some (.inl ((k0 ||| k1), (v7 + (0 : Int32)), (v8 + (1 : Int32))))
  else some (.inl ((k0 ||| k1), (v7 + (1 : Int32)), (v8 + (1 : Int32)))))
def fX1_places_l38 (φ : Nat) (this : Nat) (v1 : Int32) (v2 : Int32) (v3 : Int32) (σ : St) (v5 : Int64) (v7 : Int32) (v8 : Int32) : Option ((Int64 × Int32 × Int32) ⊕ (Int64 × Int32)) :=
  (gfR σ (some this) 1 1 12).bind fun x5 =>
  (ldI σ x5 1 v1).bind fun x6 =>
  (if x6 ≤ v8 then some (.inr (v5, v7))
  else (it (fun s : Int32 × Int32 => fX1_places_l55 φ this v1 v2 v3 v5 v7 v8 σ s.1 s.2) φ ((0 : Int32), (0 : Int32))).bind fun e29 =>
  (if e29 = 0 then fX1_places_b181 φ this v1 v2 v3 v7 v8 e29 v5 (0 : Int64) σ
  else fX1_places_b181 φ this v1 v2 v3 v7 v8 e29 v5 ((1 : Int64) <<< (v8.toInt64 &&& 63)) σ))
def fX1_places (φ : Nat) (this : Nat) (v1 : Int32) (v2 : Int32) (v3 : Int32) (σ : St) : Option (Int32 × St) :=
  (cV σ (some this) 1 fun o => fX1_needTwo φ o (1 : Int32) v1 v2 σ).bind fun y1 =>
  (if 0 ≤ y1.1 then (cV y1.2 (some this) 1 fun o => fX1_layPlaces φ o v1 v2 y1.2).bind fun y3 =>
  (if y3.1 = 0 then some ((-9 : Int32), y3.2)
  else (it (fun s : Int64 × Int32 × Int32 => fX1_places_l38 φ this v1 v2 v3 y3.2 s.1 s.2.1 s.2.2) φ ((0 : Int64), (0 : Int32), (0 : Int32))).bind fun e33 =>
  (cV y3.2 (some this) 1 fun o => fX1_tellsMany φ o e33.1 e33.2 y3.2).bind fun y35 =>
  some (y35.1, y35.2))
  else some (y1.1, y1.2))
def fX1_judge_b48 (φ : Nat) (this : Nat) (σ : St) : Option (Int32 × St) :=
  (cV σ (some this) 1 fun o => fX1_meets φ o (1 : Int32) σ).bind fun y9 =>
  some (y9.1, y9.2)
def fX1_judge_l82 (φ : Nat) (this : Nat) (v1 : Int32) (v2 : Int32) (v3 : Int32) (σ : St) (v4 : Int32) (v5 : Int32) (v6 : Int32) : Option ((Int32 × Int32 × Int32) ⊕ (Int32)) :=
  (gfR σ (some this) 1 1 6).bind fun x20 =>
  (ldI σ x20 1 v3).bind fun x21 =>
  (if x21 ≤ v6 then some (.inr v4)
  else (if v4 = 0 then some (.inr v4)
  else (cV σ (some this) 1 fun o => fX1_rowAt φ o v3 v6 σ).bind fun y24 =>
  (if y24 ≤ v5 then some (.inl ((0 : Int32), y24, (v6 + (1 : Int32))))
  else (gfR σ (some this) 1 1 12).bind fun x26 =>
  (ldI σ x26 1 v1).bind fun x27 =>
  (if x27 ≤ y24 then some (.inl ((0 : Int32), y24, (v6 + (1 : Int32))))
  else (cV σ (some this) 1 fun o => fX1_at0 φ o v1 y24 σ).bind fun y29 =>
  (cV σ (some this) 1 fun o => fX1_at0 φ o v2 v6 σ).bind fun y30 =>
  (if y29 = y30 then some (.inl ((1 : Int32), y24, (v6 + (1 : Int32))))
  else some (.inl ((0 : Int32), y24, (v6 + (1 : Int32)))))))))
def fX1_judge (φ : Nat) (this : Nat) (v1 : Int32) (v2 : Int32) (v3 : Int32) (σ : St) : Option (Int32 × St) :=
  (fX1_isWord φ v1 σ).bind fun y1 =>
  (if y1 = 0 then some ((-1 : Int32), σ)
  else (fX1_isWord φ v2 σ).bind fun y3 =>
  (if y3 = 0 then some ((-1 : Int32), σ)
  else (fX1_isRow φ v3 σ).bind fun y5 =>
  (if y5 = 0 then some ((-1 : Int32), σ)
  else (cV σ (some this) 1 fun o => fX1_isThere φ o v1 σ).bind fun y7 =>
  (if y7 = 0 then fX1_judge_b48 φ this σ
  else (cV σ (some this) 1 fun o => fX1_isThere φ o v2 σ).bind fun y10 =>
  (if y10 = 0 then fX1_judge_b48 φ this σ
  else (gfR σ (some this) 1 1 6).bind fun x12 =>
  (ldI σ x12 1 v3).bind fun x13 =>
  (if 0 ≤ x13 then (gfR σ (some this) 1 1 6).bind fun x15 =>
  (ldI σ x15 1 v3).bind fun x16 =>
  (gfR σ (some this) 1 1 12).bind fun x17 =>
  (ldI σ x17 1 v2).bind fun x18 =>
  (if x16 = x18 then (it (fun s : Int32 × Int32 × Int32 => fX1_judge_l82 φ this v1 v2 v3 σ s.1 s.2.1 s.2.2) φ ((1 : Int32), (-1 : Int32), (0 : Int32))).bind fun e35 =>
  (if e35 = 0 then some ((0 : Int32), σ)
  else some ((1 : Int32), σ))
  else (it (fun s : Int32 × Int32 × Int32 => fX1_judge_l82 φ this v1 v2 v3 σ s.1 s.2.1 s.2.2) φ ((0 : Int32), (-1 : Int32), (0 : Int32))).bind fun e32 =>
  (if e32 = 0 then some ((0 : Int32), σ)
  else some ((1 : Int32), σ)))
  else fX1_judge_b48 φ this σ))))))
def fX1_bar_l33 (φ : Nat) (this : Nat) (v1 : Int32) (v2 : Int32) (v4 : Int32) (v5 : Int32) (σ : St) : Option ((Int32 × St) ⊕ (St)) :=
  (if v4 < v5 then some (.inr σ)
  else (gfR σ (some this) 1 1 25).bind fun x7 =>
  (if v5 = 0 then (stI σ x7 v5 (0 : Int32)).bind fun s10 =>
  some (.inl ((v5 + (1 : Int32)), s10))
  else (stI σ x7 v5 (1000 : Int32)).bind fun s9 =>
  some (.inl ((v5 + (1 : Int32)), s9))))
def fX1_bar_b153 (φ : Nat) (this : Nat) (v1 : Int32) (v2 : Int32) (v4 : Int32) (v5 : Int32) (v6 : Int32) (k0 : Option Nat) (k1 : Int32) (k2 : Int32) (σ : St) : Option ((Int32 × St) ⊕ (St)) :=
  (stI σ k0 k1 k2).bind fun s28 =>
  (gfR s28 (some this) 1 1 25).bind fun x29 =>
  (ldI s28 x29 1 v6).bind fun x30 =>
  (stI s28 x29 v6 (x30 + (1 : Int32))).bind fun s31 =>
  some (.inl ((v6 + (-1 : Int32)), s31))
def fX1_bar_l85 (φ : Nat) (this : Nat) (v1 : Int32) (v2 : Int32) (v4 : Int32) (v5 : Int32) (v6 : Int32) (σ : St) : Option ((Int32 × St) ⊕ (St)) :=
  (if v6 < 0 then some (.inr σ)
  else (cV σ (some this) 1 fun o => fX1_at0 φ o v1 v5 σ).bind fun y17 =>
  (cV σ (some this) 1 fun o => fX1_at0 φ o v2 v6 σ).bind fun y18 =>
  (if y17 = y18 then (gfR σ (some this) 1 1 25).bind fun x20 =>
  (gfR σ (some this) 1 1 25).bind fun x21 =>
  (ldI σ x21 1 v6).bind fun x22 =>
  (gfR σ (some this) 1 1 25).bind fun x23 =>
  (ldI σ x23 1 (v6 + (1 : Int32))).bind fun x24 =>
  (if x24 ≤ x22 then (gfR σ (some this) 1 1 25).bind fun x26 =>
  (ldI σ x26 1 (v6 + (1 : Int32))).bind fun x27 =>
  fX1_bar_b153 φ this v1 v2 v4 v5 v6 x20 (v6 + (1 : Int32)) x27 σ
  else (gfR σ (some this) 1 1 25).bind fun x32 =>
  (ldI σ x32 1 v6).bind fun x33 =>
  fX1_bar_b153 φ this v1 v2 v4 v5 v6 x20 (v6 + (1 : Int32)) x33 σ)
  else some (.inl ((v6 + (-1 : Int32)), σ))))
def fX1_bar_l68 (φ : Nat) (this : Nat) (v1 : Int32) (v2 : Int32) (v4 : Int32) (v5 : Int32) (σ : St) : Option ((Int32 × St) ⊕ (St)) :=
  (gfR σ (some this) 1 1 12).bind fun x13 =>
  (ldI σ x13 1 v1).bind fun x14 =>
  (if x14 ≤ v5 then some (.inr σ)
  else (it (fun s : Int32 × St => fX1_bar_l85 φ this v1 v2 v4 v5 s.1 s.2) φ ((v4 - (1 : Int32)), σ)).bind fun e34 =>
  some (.inl ((v5 + (1 : Int32)), e34)))
def fX1_bar_l185 (φ : Nat) (this : Nat) (v4 : Int32) (σ : St) (v5 : Int32) (v6 : Int32) : Option ((Int32 × Int32) ⊕ (Int32)) :=
  (if v4 ≤ v6 then some (.inr v5)
  else (gfR σ (some this) 1 1 25).bind fun x39 =>
  (ldI σ x39 1 v6).bind fun x40 =>
  (if v5 ≤ x40 then some (.inl (v5, (v6 + (1 : Int32))))
  else (gfR σ (some this) 1 1 25).bind fun x42 =>
  (ldI σ x42 1 v6).bind fun x43 =>
  some (.inl (x43, (v6 + (1 : Int32))))))
def fX1_bar (φ : Nat) (this : Nat) (v1 : Int32) (v2 : Int32) (σ : St) : Option (Int32 × St) :=
  (cV σ (some this) 1 fun o => fX1_needTwo φ o (1 : Int32) v1 v2 σ).bind fun y1 =>
  (if 0 ≤ y1.1 then (gfR y1.2 (some this) 1 1 12).bind fun x3 =>
  (ldI y1.2 x3 1 v2).bind fun x4 =>
  (if x4 = 0 then some ((-4 : Int32), y1.2)
  else (it (fun s : Int32 × St => fX1_bar_l33 φ this v1 v2 x4 s.1 s.2) φ ((0 : Int32), y1.2)).bind fun e11 =>
  (it (fun s : Int32 × St => fX1_bar_l68 φ this v1 v2 x4 s.1 s.2) φ ((0 : Int32), e11)).bind fun e36 =>
  (it (fun s : Int32 × Int32 => fX1_bar_l185 φ this x4 e36 s.1 s.2) φ ((1000 : Int32), (0 : Int32))).bind fun e44 =>
  some (e44, e36))
  else some (y1.1, y1.2))
def fX1_layInner_l16 (φ : Nat) (this : Nat) (v1 : Int32) (v3 : Int32) (v4 : Int32) (σ : St) : Option ((Int32 × St) ⊕ (St)) :=
  (if (40 : Int32) < v4 then some (.inr σ)
  else (gfR σ (some this) 1 1 26).bind fun x5 =>
  (if v4 = 0 then (stL σ x5 (((41 : Int32) * v3) + v4) (1 : Int64)).bind fun s8 =>
  some (.inl ((v4 + (1 : Int32)), s8))
  else (stL σ x5 (((41 : Int32) * v3) + v4) (0 : Int64)).bind fun s7 =>
  some (.inl ((v4 + (1 : Int32)), s7))))
def fX1_layInner_l76 (φ : Nat) (this : Nat) (v1 : Int32) (v3 : Int32) (v4 : Int32) (v5 : Int32) (v6 : Int32) (σ : St) : Option ((Int32 × St) ⊕ (St)) :=
  (if (40 : Int32) < v6 then some (.inr σ)
  else (if v5 = (-9 : Int32) then some (.inr σ)
  else (gfR σ (some this) 1 1 26).bind fun x16 =>
  (ldL σ x16 (((41 : Int32) * v3) + v6)).bind fun x17 =>
  (gfR σ (some this) 1 1 26).bind fun x18 =>
  (ldL σ x18 ((((41 : Int32) * (v5 + (1 : Int32))) + v6) - (1 : Int32))).bind fun x19 =>
  (stL σ x16 (((41 : Int32) * v3) + v6) (x17 + x19)).bind fun s20 =>
  some (.inl ((v6 + (1 : Int32)), s20))))
def fX1_layInner_l54 (φ : Nat) (this : Nat) (v1 : Int32) (v3 : Int32) (v4 : Int32) (σ : St) : Option ((Int32 × St) ⊕ (St)) :=
  (gfI σ (some this) 1 1 11).bind fun x11 =>
  (if x11 ≤ v4 then some (.inr σ)
  else (cV σ (some this) 1 fun o => fX1_next φ o v1 v3 v4 σ).bind fun y13 =>
  (it (fun s : Int32 × St => fX1_layInner_l76 φ this v1 v3 v4 y13 s.1 s.2) φ ((1 : Int32), σ)).bind fun e21 =>
  some (.inl ((v4 + (1 : Int32)), e21)))
def fX1_layInner_l9 (φ : Nat) (this : Nat) (v1 : Int32) (v3 : Int32) (σ : St) : Option ((Int32 × St) ⊕ (St)) :=
  (if v3 < 0 then some (.inr σ)
  else (it (fun s : Int32 × St => fX1_layInner_l16 φ this v1 v3 s.1 s.2) φ ((0 : Int32), σ)).bind fun e9 =>
  (it (fun s : Int32 × St => fX1_layInner_l54 φ this v1 v3 s.1 s.2) φ ((0 : Int32), e9)).bind fun e23 =>
  some (.inl ((v3 + (-1 : Int32)), e23)))
def fX1_layInner (φ : Nat) (this : Nat) (v1 : Int32) (σ : St) : Option (St) :=
  (gfR σ (some this) 1 1 12).bind fun x1 =>
  (ldI σ x1 1 v1).bind fun x2 =>
  (it (fun s : Int32 × St => fX1_layInner_l9 φ this v1 s.1 s.2) φ (x2, σ)).bind fun e25 =>
  some e25
def fX1_inner_b65 (φ : Nat) (this : Nat) (v2 : Int32) (v6 : Int32) (k0 : Int64) (σ : St) : Option ((Int64 × Int32) ⊕ (Int64)) :=
  (gfR σ (some this) 1 1 26).bind fun x7 =>
  (ldL σ x7 v6).bind fun x8 =>
  some (.inl ((k0 + x8), (v6 + (1 : Int32))))
def fX1_inner_l44 (φ : Nat) (this : Nat) (v2 : Int32) (σ : St) (v4 : Int64) (v6 : Int32) : Option ((Int64 × Int32) ⊕ (Int64)) :=
  (if (40 : Int32) < v6 then some (.inr v4)
  else (if v2 = (-9 : Int32) then fX1_inner_b65 φ this v2 v6 v4 σ
  else (if v2 = v6 then fX1_inner_b65 φ this v2 v6 v4 σ
  else some (.inl ((v4 + (0 : Int64)), (v6 + (1 : Int32)))))))
def fX1_inner_b22 (φ : Nat) (this : Nat) (v1 : Int32) (v2 : Int32) (k0 : Option Nat) (k1 : Int32) (σ : St) : Option (Int32 × St) :=
  (cV σ k0 1 fun o => fX1_needWord φ o k1 v1 σ).bind fun y2 =>
  (if 0 ≤ y2.1 then (cV y2.2 (some this) 1 fun o => fX1_layInner φ o v1 y2.2).bind fun y4 =>
  (it (fun s : Int64 × Int32 => fX1_inner_l44 φ this v2 y4 s.1 s.2) φ ((0 : Int64), (0 : Int32))).bind fun e10 =>
  (cV y4 (some this) 1 fun o => fX1_tellsMany φ o e10 (1 : Int32) y4).bind fun y12 =>
  some (y12.1, y12.2)
  else some (y2.1, y2.2))
def fX1_inner_b17 (φ : Nat) (this : Nat) (v1 : Int32) (v2 : Int32) (k0 : Option Nat) (σ : St) : Option (Int32 × St) :=
  fX1_inner_b22 φ this v1 v2 k0 (1 : Int32) σ
def fX1_inner (φ : Nat) (this : Nat) (v1 : Int32) (v2 : Int32) (σ : St) : Option (Int32 × St) :=
  (if v2 = (-9 : Int32) then fX1_inner_b17 φ this v1 v2 (some this) σ
  else (fX1_in φ v2 (0 : Int32) (40 : Int32) σ).bind fun y13 =>
  (if y13 = 0 then fX1_inner_b22 φ this v1 v2 (some this) (0 : Int32) σ
  else fX1_inner_b17 φ this v1 v2 (some this) σ))
def fX1_rank_l55 (φ : Nat) (this : Nat) (v1 : Int32) (v2 : Int32) (v6 : Int32) (v7 : Int32) (v8 : Int32) (σ : St) (v4 : Int64) (v9 : Int32) : Option ((Int64 × Int32) ⊕ (Int64)) :=
  (cV σ (some this) 1 fun o => fX1_at0 φ o v2 v7 σ).bind fun y9 =>
  (if y9 ≤ v9 then some (.inr v4)
  else (cV σ (some this) 1 fun o => fX1_next φ o v1 v6 v9 σ).bind fun y11 =>
  (if y11 = (-9 : Int32) then some (.inl ((v4 + (0 : Int64)), (v9 + (1 : Int32))))
  else (gfR σ (some this) 1 1 26).bind fun x13 =>
  (ldL σ x13 (((41 : Int32) * (y11 + (1 : Int32))) + v8)).bind fun x14 =>
  some (.inl ((v4 + x14), (v9 + (1 : Int32))))))
def fX1_rank_l28 (φ : Nat) (this : Nat) (v1 : Int32) (v2 : Int32) (σ : St) (v4 : Int64) (v6 : Int32) (v7 : Int32) : Option ((Int64 × Int32 × Int32) ⊕ ((Int64) ⊕ (Unit))) :=
  (gfR σ (some this) 1 1 12).bind fun x4 =>
  (ldI σ x4 1 v2).bind fun x5 =>
  (if x5 ≤ v7 then some (.inr (.inl v4))
  else (gfR σ (some this) 1 1 12).bind fun x7 =>
  (ldI σ x7 1 v2).bind fun x8 =>
  (it (fun s : Int64 × Int32 => fX1_rank_l55 φ this v1 v2 v6 v7 ((x8 - (1 : Int32)) - v7) σ s.1 s.2) φ (v4, (0 : Int32))).bind fun e15 =>
  (cV σ (some this) 1 fun o => fX1_at0 φ o v2 v7 σ).bind fun y17 =>
  (cV σ (some this) 1 fun o => fX1_next φ o v1 v6 y17 σ).bind fun y18 =>
  (if y18 = (-9 : Int32) then some (.inr (.inr ()))
  else some (.inl (e15, (y18 + (1 : Int32)), (v7 + (1 : Int32))))))
def fX1_rank (φ : Nat) (this : Nat) (v1 : Int32) (v2 : Int32) (σ : St) : Option (Int32 × St) :=
  (cV σ (some this) 1 fun o => fX1_needTwo φ o (1 : Int32) v1 v2 σ).bind fun y1 =>
  (if 0 ≤ y1.1 then (cV y1.2 (some this) 1 fun o => fX1_layInner φ o v1 y1.2).bind fun y3 =>
  ((it (fun s : Int64 × Int32 × Int32 => fX1_rank_l28 φ this v1 v2 y3 s.1 s.2.1 s.2.2) φ ((0 : Int64), (0 : Int32), (0 : Int32))).bind fun e20 =>
  match e20 with
  | (.inl e22) => (cV y3 (some this) 1 fun o => fX1_tellsMany φ o e22 (1 : Int32) y3).bind fun y24 =>
  some (y24.1, y24.2)
  | (.inr e23) => some ((-9 : Int32), y3))
  else some (y1.1, y1.2))
def fX1_innersBy (φ : Nat) (this : Nat) (v1 : Int32) (v2 : Int32) (v3 : Int32) (v4 : Int32) (σ : St) : Option (Int64) :=
  (cV σ (some this) 1 fun o => fX1_next φ o v1 v2 v3 σ).bind fun y1 =>
  (if y1 = (-9 : Int32) then some (0 : Int64)
  else (gfR σ (some this) 1 1 26).bind fun x3 =>
  (ldL σ x3 ((((41 : Int32) * (y1 + (1 : Int32))) + v4) - (1 : Int32))).bind fun x4 =>
  some x4)
def fX1_byRank_l102 (φ : Nat) (this : Nat) (v1 : Int32) (v2 : Int32) (v4 : Int32) (v8 : Int32) (σ : St) (v6 : Int64) (v9 : Int32) (v10 : Int64) : Option ((Int64 × Int32 × Int64) ⊕ (Int64 × Int32)) :=
  (if v6 < v10 then some (.inr (v6, v9))
  else (gfI σ (some this) 1 1 17).bind fun x15 =>
  (cV σ (some this) 1 fun o => fX1_innersBy φ o v1 v8 (v9 + (1 : Int32)) (v2 - x15) σ).bind fun y16 =>
  some (.inl ((v6 - v10), (v9 + (1 : Int32)), y16)))
def fX1_byRank_l74 (φ : Nat) (this : Nat) (v1 : Int32) (v2 : Int32) (v4 : Int32) (v6 : Int64) (v8 : Int32) (σ : St) : Option ((Int64 × Int32 × St) ⊕ (St)) :=
  (gfI σ (some this) 1 1 17).bind fun x10 =>
  (if v2 ≤ x10 then some (.inr σ)
  else (gfI σ (some this) 1 1 17).bind fun x12 =>
  (cV σ (some this) 1 fun o => fX1_innersBy φ o v1 v8 (0 : Int32) (v2 - x12) σ).bind fun y13 =>
  (it (fun s : Int64 × Int32 × Int64 => fX1_byRank_l102 φ this v1 v2 v4 v8 σ s.1 s.2.1 s.2.2) φ (v6, (0 : Int32), y13)).bind fun e17 =>
  (cV σ (some this) 1 fun o => fX1_next φ o v1 v8 e17.2 σ).bind fun y19 =>
  (gfR σ (some this) 1 1 18).bind fun x20 =>
  (gfI σ (some this) 1 1 17).bind fun x21 =>
  (stI σ x20 x21 e17.2).bind fun s22 =>
  (gfI s22 (some this) 1 1 17).bind fun x23 =>
  (pfI s22 (some this) 1 1 17 (x23 + (1 : Int32))).bind fun s24 =>
  some (.inl (e17.1, (y19 + (1 : Int32)), s24)))
def fX1_byRank_b28 (φ : Nat) (this : Nat) (v1 : Int32) (v2 : Int32) (v3 : Int32) (v4 : Int32) (k0 : Option Nat) (k1 : Int32) (σ : St) : Option (Int32 × St) :=
  (cV σ k0 1 fun o => fX1_needWord φ o k1 v1 σ).bind fun y3 =>
  (if 0 ≤ y3.1 then (cV y3.2 (some this) 1 fun o => fX1_layInner φ o v1 y3.2).bind fun y5 =>
  (gfR y5 (some this) 1 1 26).bind fun x6 =>
  (ldL y5 x6 v2).bind fun x7 =>
  (if (v3.toInt64) < x7 then (pfI y5 (some this) 1 1 17 (0 : Int32)).bind fun s9 =>
  (it (fun s : Int64 × Int32 × St => fX1_byRank_l74 φ this v1 v2 v4 s.1 s.2.1 s.2.2) φ ((v3.toInt64), (0 : Int32), s9)).bind fun e25 =>
  (cV e25 (some this) 1 fun o => fX1_comesToRow φ o v4 e25).bind fun y27 =>
  some (v2, y27)
  else some ((-9 : Int32), y5))
  else some (y3.1, y3.2))
def fX1_byRank_b27 (φ : Nat) (this : Nat) (v1 : Int32) (v2 : Int32) (v3 : Int32) (v4 : Int32) (k0 : Option Nat) (σ : St) : Option (Int32 × St) :=
  fX1_byRank_b28 φ this v1 v2 v3 v4 k0 (0 : Int32) σ
def fX1_byRank (φ : Nat) (this : Nat) (v1 : Int32) (v2 : Int32) (v3 : Int32) (v4 : Int32) (σ : St) : Option (Int32 × St) :=
  (fX1_in φ v2 (0 : Int32) (40 : Int32) σ).bind fun y1 =>
  (if y1 = 0 then fX1_byRank_b27 φ this v1 v2 v3 v4 (some this) σ
  else (if v3 < 0 then fX1_byRank_b27 φ this v1 v2 v3 v4 (some this) σ
  else (fX1_isRow φ v4 σ).bind fun y29 =>
  (if y29 = 0 then fX1_byRank_b27 φ this v1 v2 v3 v4 (some this) σ
  else fX1_byRank_b28 φ this v1 v2 v3 v4 (some this) (1 : Int32) σ)))
def fX1_archesFrom_l15 (φ : Nat) (this : Nat) (v1 : Int32) (v3 : Int32) (v4 : Int32) (σ : St) : Option ((Int32 × Int32 × St) ⊕ (Int32 × St)) :=
  (gfR σ (some this) 1 1 12).bind fun x3 =>
  (ldI σ x3 1 v1).bind fun x4 =>
  (if x4 ≤ v4 then some (.inr (v3, σ))
  else (gfI σ (some this) 1 1 28).bind fun x6 =>
  (cV σ (some this) 1 fun o => fX1_at0 φ o v1 v4 σ).bind fun y7 =>
  (pfI σ (some this) 1 1 28 (x6 ||| ((1 : Int32) <<< (y7 &&& 31)))).bind fun s8 =>
  (gfI s8 (some this) 1 1 28).bind fun x9 =>
  (gfI s8 (some this) 1 1 11).bind fun x10 =>
  (if x9 = (((1 : Int32) <<< (x10 &&& 31)) - (1 : Int32)) then (pfI s8 (some this) 1 1 27 (v4 + (1 : Int32))).bind fun s12 =>
  (pfI s12 (some this) 1 1 28 (0 : Int32)).bind fun s13 =>
  some (.inl ((v3 + (1 : Int32)), (v4 + (1 : Int32)), s13))
  else some (.inl (v3, (v4 + (1 : Int32)), s8))))
def fX1_archesFrom (φ : Nat) (this : Nat) (v1 : Int32) (v2 : Int32) (σ : St) : Option (Int32 × St) :=
  (pfI σ (some this) 1 1 27 v2).bind fun s1 =>
  (pfI s1 (some this) 1 1 28 (0 : Int32)).bind fun s2 =>
  (it (fun s : Int32 × Int32 × St => fX1_archesFrom_l15 φ this v1 s.1 s.2.1 s.2.2) φ ((0 : Int32), v2, s2)).bind fun e14 =>
  some (e14.1, e14.2)
def fX1_arches (φ : Nat) (this : Nat) (v1 : Int32) (σ : St) : Option (Int32 × St) :=
  (cV σ (some this) 1 fun o => fX1_needWord φ o (1 : Int32) v1 σ).bind fun y1 =>
  (if 0 ≤ y1.1 then (cV y1.2 (some this) 1 fun o => fX1_archesFrom φ o v1 (0 : Int32) y1.2).bind fun y3 =>
  (gfR y3.2 (some this) 1 1 12).bind fun x4 =>
  (ldI y3.2 x4 1 v1).bind fun x5 =>
  (gfI y3.2 (some this) 1 1 27).bind fun x6 =>
  (cV y3.2 (some this) 1 fun o => fX1_tells φ o (x5 - x6) y3.1 y3.2).bind fun y7 =>
  some (y7.1, y7.2)
  else some (y1.1, y1.2))
def fX1_hasAll (φ : Nat) (this : Nat) (v1 : Int32) (v2 : Int32) (v3 : Int32) (σ : St) : Option (Int32 × St) :=
  (if v2 = (-9 : Int32) then some ((0 : Int32), σ)
  else (cV σ (some this) 1 fun o => fX1_archesFrom φ o v1 (v2 + (1 : Int32)) σ).bind fun y2 =>
  (if y2.1 < v3 then some ((0 : Int32), y2.2)
  else some ((1 : Int32), y2.2)))
def fX1_layAbsent_l21 (φ : Nat) (this : Nat) (v1 : Int32) (v2 : Int32) (v3 : Int32) (v4 : Int32) (v5 : Int32) (σ : St) : Option ((Int32 × St) ⊕ (Int32 × St)) :=
  (if v4 = 0 then (cV σ (some this) 1 fun o => fX1_next φ o v1 v3 v5 σ).bind fun y5 =>
  (gfI σ (some this) 1 1 17).bind fun x6 =>
  (cV σ (some this) 1 fun o => fX1_hasAll φ o v1 y5 ((v2 - (1 : Int32)) - x6) σ).bind fun y7 =>
  (if y7.1 = 0 then some (.inr (v5, y7.2))
  else some (.inl ((v5 + (1 : Int32)), y7.2)))
  else some (.inr (v5, σ)))
def fX1_layAbsent_b124 (φ : Nat) (this : Nat) (v1 : Int32) (v2 : Int32) (v3 : Int32) (v4 : Int32) (σ : St) : Option ((Int32 × Int32 × St) ⊕ (St)) :=
  (gfI σ (some this) 1 1 17).bind fun x17 =>
  (pfI σ (some this) 1 1 17 (x17 + (1 : Int32))).bind fun s18 =>
  some (.inl (v3, v4, s18))
def fX1_layAbsent_b103 (φ : Nat) (this : Nat) (v1 : Int32) (v2 : Int32) (v4 : Int32) (v5 : Int32) (k0 : Int32) (σ : St) : Option ((Int32 × Int32 × St) ⊕ (St)) :=
  (gfI σ (some this) 1 1 17).bind fun x15 =>
  (if (40 : Int32) ≤ x15 then fX1_layAbsent_b124 φ this v1 v2 k0 v4 σ
  else (gfR σ (some this) 1 1 18).bind fun x19 =>
  (gfI σ (some this) 1 1 17).bind fun x20 =>
  (stI σ x19 x20 v5).bind fun s21 =>
  fX1_layAbsent_b124 φ this v1 v2 k0 v4 s21)
def fX1_layAbsent_b88 (φ : Nat) (this : Nat) (v1 : Int32) (v2 : Int32) (v3 : Int32) (v5 : Int32) (v6 : Int32) (k0 : Int32) (σ : St) : Option ((Int32 × Int32 × St) ⊕ (St)) :=
  (if k0 = 0 then fX1_layAbsent_b103 φ this v1 v2 k0 v5 (v6 + (1 : Int32)) σ
  else fX1_layAbsent_b103 φ this v1 v2 k0 v5 v3 σ)
def fX1_layAbsent_b74 (φ : Nat) (this : Nat) (v1 : Int32) (v2 : Int32) (v3 : Int32) (v5 : Int32) (k0 : Int32) (σ : St) : Option ((Int32 × Int32 × St) ⊕ (St)) :=
  (if k0 = (-9 : Int32) then fX1_layAbsent_b88 φ this v1 v2 v3 v5 k0 (1 : Int32) σ
  else fX1_layAbsent_b88 φ this v1 v2 v3 v5 k0 (0 : Int32) σ)
def fX1_layAbsent_l10 (φ : Nat) (this : Nat) (v1 : Int32) (v2 : Int32) (v3 : Int32) (v4 : Int32) (σ : St) : Option ((Int32 × Int32 × St) ⊕ (St)) :=
  (gfI σ (some this) 1 1 17).bind fun x2 =>
  (if v2 ≤ x2 then some (.inr σ)
  else (it (fun s : Int32 × St => fX1_layAbsent_l21 φ this v1 v2 v3 v4 s.1 s.2) φ ((0 : Int32), σ)).bind fun e9 =>
  (if v4 = 0 then (cV e9.2 (some this) 1 fun o => fX1_next φ o v1 v3 e9.1 e9.2).bind fun y12 =>
  fX1_layAbsent_b74 φ this v1 v2 v3 e9.1 y12 e9.2
  else fX1_layAbsent_b74 φ this v1 v2 v3 e9.1 (-9 : Int32) e9.2))
def fX1_layAbsent (φ : Nat) (this : Nat) (v1 : Int32) (v2 : Int32) (σ : St) : Option (St) :=
  (pfI σ (some this) 1 1 17 (0 : Int32)).bind fun s1 =>
  (it (fun s : Int32 × Int32 × St => fX1_layAbsent_l10 φ this v1 v2 s.1 s.2.1 s.2.2) φ ((0 : Int32), (0 : Int32), s1)).bind fun e22 =>
  some e22
def fX1_powerOf_l5 (φ : Nat) (v0 : Int64) (v2 : Int32) (σ : St) (v3 : Int64) (v5 : Int32) : Option ((Int64 × Int32) ⊕ (Int64)) :=
  (if v2 ≤ v5 then some (.inr v3)
  else some (.inl ((v3 * v0), (v5 + (1 : Int32)))))
def fX1_powerOf (φ : Nat) (v0 : Int64) (v2 : Int32) (σ : St) : Option (Int64) :=
  (it (fun s : Int64 × Int32 => fX1_powerOf_l5 φ v0 v2 σ s.1 s.2) φ ((1 : Int64), (0 : Int32))).bind fun e2 =>
  some e2
def fX1_absent_b73 (φ : Nat) (this : Nat) (v2 : Int32) (v4 : Int32) (v5 : Int64) (k0 : Option Nat) (k1 : Int32) (σ : St) : Option (Int32 × St) :=
  (pfI σ k0 1 1 17 k1).bind fun s11 =>
  (cV s11 (some this) 1 fun o => fX1_comesToRow φ o v2 s11).bind fun y12 =>
  (gfI y12 (some this) 1 1 11).bind fun x13 =>
  (fX1_powerOf φ (x13.toInt64) v4 y12).bind fun y14 =>
  (cV y12 (some this) 1 fun o => fX1_tellsMany φ o (y14 - v5) v4 y12).bind fun y15 =>
  some (y15.1, y15.2)
def fX1_absent_b49 (φ : Nat) (this : Nat) (v1 : Int32) (v2 : Int32) (v4 : Int32) (k0 : Int64) (σ : St) : Option (Int32 × St) :=
  (cV σ (some this) 1 fun o => fX1_layAbsent φ o v1 v4 σ).bind fun y9 =>
  (if v4 ≤ (40 : Int32) then fX1_absent_b73 φ this v2 v4 k0 (some this) v4 y9
  else fX1_absent_b73 φ this v2 v4 k0 (some this) (40 : Int32) y9)
def fX1_absent (φ : Nat) (this : Nat) (v1 : Int32) (v2 : Int32) (σ : St) : Option (Int32 × St) :=
  (fX1_isRow φ v2 σ).bind fun y1 =>
  (cV σ (some this) 1 fun o => fX1_needWord φ o y1 v1 σ).bind fun y2 =>
  (if 0 ≤ y2.1 then (cV y2.2 (some this) 1 fun o => fX1_archesFrom φ o v1 (0 : Int32) y2.2).bind fun y4 =>
  (cV y4.2 (some this) 1 fun o => fX1_layInner φ o v1 y4.2).bind fun y5 =>
  (if (y4.1 + (1 : Int32)) ≤ (40 : Int32) then (gfR y5 (some this) 1 1 26).bind fun x7 =>
  (ldL y5 x7 (y4.1 + (1 : Int32))).bind fun x8 =>
  fX1_absent_b49 φ this v1 v2 (y4.1 + (1 : Int32)) x8 y5
  else fX1_absent_b49 φ this v1 v2 (y4.1 + (1 : Int32)) (0 : Int64) y5)
  else some (y2.1, y2.2))
def fX1_has (φ : Nat) (v0 : Int32) (v1 : Int32) (σ : St) : Option (Int32) :=
  (if ((v0 >>> (v1 &&& 31)) &&& (1 : Int32)) = (1 : Int32) then some (1 : Int32)
  else some (0 : Int32))
def fX1_added_l36 (φ : Nat) (this : Nat) (v2 : Int32) (v4 : Int32) (σ : St) (v5 : Int32) (v6 : Int32) : Option ((Int32 × Int32) ⊕ (Int32)) :=
  (gfI σ (some this) 1 1 11).bind fun x6 =>
  (if x6 ≤ v6 then some (.inr v5)
  else (gfI σ (some this) 1 1 28).bind fun x8 =>
  (fX1_has φ x8 v6 σ).bind fun y9 =>
  (if y9 = 0 then some (.inl ((v5 - (0 : Int32)), (v6 + (1 : Int32))))
  else some (.inl ((v5 - (1 : Int32)), (v6 + (1 : Int32))))))
def fX1_added (φ : Nat) (this : Nat) (v1 : Int32) (v2 : Int32) (σ : St) : Option (Int32 × St) :=
  (fX1_in φ v2 (0 : Int32) (40 : Int32) σ).bind fun y1 =>
  (cV σ (some this) 1 fun o => fX1_needWord φ o y1 v1 σ).bind fun y2 =>
  (if 0 ≤ y2.1 then (cV y2.2 (some this) 1 fun o => fX1_archesFrom φ o v1 (0 : Int32) y2.2).bind fun y4 =>
  (gfI y4.2 (some this) 1 1 11).bind fun x5 =>
  (it (fun s : Int32 × Int32 => fX1_added_l36 φ this v2 y4.1 y4.2 s.1 s.2) φ (x5, (0 : Int32))).bind fun e11 =>
  (if y4.1 < v2 then (gfI y4.2 (some this) 1 1 11).bind fun x14 =>
  some ((e11 + (((v2 - y4.1) - (1 : Int32)) * x14)), y4.2)
  else some ((0 : Int32), y4.2))
  else some (y2.1, y2.2))
def fX1_layOther_l12 (φ : Nat) (this : Nat) (v1 : Int32) (v2 : Int32) (σ : St) : Option ((Int32 × St) ⊕ (St)) :=
  (gfI σ (some this) 1 1 33).bind fun x4 =>
  (if x4 ≤ v2 then some (.inr σ)
  else (gfR σ (some this) 1 1 34).bind fun x6 =>
  (cV σ (some this) 1 fun o => fX1_at0 φ o v1 v2 σ).bind fun y7 =>
  (stI σ x6 v2 y7).bind fun s8 =>
  some (.inl ((v2 + (1 : Int32)), s8)))
def fX1_layOther (φ : Nat) (this : Nat) (v1 : Int32) (σ : St) : Option (St) :=
  (gfR σ (some this) 1 1 12).bind fun x1 =>
  (ldI σ x1 1 v1).bind fun x2 =>
  (pfI σ (some this) 1 1 33 x2).bind fun s3 =>
  (it (fun s : Int32 × St => fX1_layOther_l12 φ this v1 s.1 s.2) φ ((0 : Int32), s3)).bind fun e9 =>
  some e9
def fX1_nextOther_l2 (φ : Nat) (this : Nat) (v2 : Int32) (σ : St) (v3 : Int32) : Option ((Int32) ⊕ ((Unit) ⊕ (Int32))) :=
  (gfI σ (some this) 1 1 33).bind fun x1 =>
  (if x1 ≤ v3 then some (.inr (.inl ()))
  else (gfR σ (some this) 1 1 34).bind fun x3 =>
  (ldI σ x3 1 v3).bind fun x4 =>
  (if x4 = v2 then some (.inr (.inr v3))
  else some (.inl (v3 + (1 : Int32)))))
def fX1_nextOther (φ : Nat) (this : Nat) (v1 : Int32) (v2 : Int32) (σ : St) : Option (Int32) :=
  ((it (fun s : Int32 => fX1_nextOther_l2 φ this v2 σ s) φ v1).bind fun e6 =>
  match e6 with
  | (.inl e8) => some (-9 : Int32)
  | (.inr e9) => some e9)
def fX1_layPart_l5 (φ : Nat) (this : Nat) (v1 : Int32) (v2 : Int32) (σ : St) (v3 : Int32) (v4 : Int32) : Option ((Int32 × Int32) ⊕ (Int32)) :=
  (gfR σ (some this) 1 1 30).bind fun x1 =>
  (ldI σ x1 1 v4).bind fun x2 =>
  (if x2 = (-9 : Int32) then some (.inr v3)
  else (gfR σ (some this) 1 1 30).bind fun x4 =>
  (ldI σ x4 1 v4).bind fun x5 =>
  some (.inl ((v3 + (1 : Int32)), x5)))
def fX1_layPart_l60 (φ : Nat) (this : Nat) (v3 : Int32) (v4 : Int32) (v5 : Int32) (σ : St) : Option ((Int32 × Int32 × St) ⊕ (St)) :=
  (gfR σ (some this) 1 1 30).bind fun x10 =>
  (ldI σ x10 1 v5).bind fun x11 =>
  (if x11 = (-9 : Int32) then some (.inr σ)
  else (gfR σ (some this) 1 1 18).bind fun x13 =>
  (gfR σ (some this) 1 1 31).bind fun x14 =>
  (ldI σ x14 1 v5).bind fun x15 =>
  (stI σ x13 (v4 + (-1 : Int32)) x15).bind fun s16 =>
  (gfR s16 (some this) 1 1 30).bind fun x17 =>
  (ldI s16 x17 1 v5).bind fun x18 =>
  some (.inl ((v4 + (-1 : Int32)), x18, s16)))
def fX1_layPart (φ : Nat) (this : Nat) (v1 : Int32) (v2 : Int32) (σ : St) : Option (Int32 × St) :=
  (it (fun s : Int32 × Int32 => fX1_layPart_l5 φ this v1 v2 σ s.1 s.2) φ ((1 : Int32), v1)).bind fun e6 =>
  (pfI σ (some this) 1 1 17 e6).bind fun s8 =>
  (if (40 : Int32) ≤ (e6 - (1 : Int32)) then (it (fun s : Int32 × Int32 × St => fX1_layPart_l60 φ this e6 s.1 s.2.1 s.2.2) φ ((e6 - (1 : Int32)), v1, s8)).bind fun e19 =>
  some (e6, e19)
  else (gfR s8 (some this) 1 1 18).bind fun x21 =>
  (stI s8 x21 (e6 - (1 : Int32)) v2).bind fun s22 =>
  (it (fun s : Int32 × Int32 × St => fX1_layPart_l60 φ this e6 s.1 s.2.1 s.2.2) φ ((e6 - (1 : Int32)), v1, s22)).bind fun e23 =>
  some (e6, e23))
def fX1_partsFrom_l2 (φ : Nat) (this : Nat) (v1 : Int32) (v2 : Int32) (σ : St) : Option ((Int32 × St) ⊕ (St)) :=
  (if (1700 : Int32) ≤ v2 then some (.inr σ)
  else (gfR σ (some this) 1 1 32).bind fun x2 =>
  (stZ σ x2 v2 (0 : Int32)).bind fun s3 =>
  some (.inl ((v2 + (1 : Int32)), s3)))
def fX1_partsFrom_b166 (φ : Nat) (this : Nat) (v1 : Int32) (v2 : Int32) (v3 : Int32) (v4 : Int32) (v5 : Int32) (v6 : Int32) (v7 : Int32) (k0 : Int32) (σ : St) : Option ((Int32 × Int32 × St) ⊕ ((Int32 × St) ⊕ (Int32 × St))) :=
  (if v7 = (-9 : Int32) then some (.inl (v2, (v6 + (1 : Int32)), σ))
  else (gfR σ (some this) 1 1 32).bind fun x26 =>
  (ldI σ x26 4 k0).bind fun x27 =>
  (if x27 = 0 then (gfR σ (some this) 1 1 32).bind fun x29 =>
  (stZ σ x29 k0 (1 : Int32)).bind fun s30 =>
  (gfR s30 (some this) 1 1 29).bind fun x31 =>
  (stI s30 x31 v2 k0).bind fun s32 =>
  (gfR s32 (some this) 1 1 30).bind fun x33 =>
  (stI s32 x33 v2 v3).bind fun s34 =>
  (gfR s34 (some this) 1 1 31).bind fun x35 =>
  (stI s34 x35 v2 v6).bind fun s36 =>
  some (.inl ((v2 + (1 : Int32)), (v6 + (1 : Int32)), s36))
  else some (.inl (v2, (v6 + (1 : Int32)), σ))))
def fX1_partsFrom_b132 (φ : Nat) (this : Nat) (v1 : Int32) (v2 : Int32) (v3 : Int32) (v4 : Int32) (v5 : Int32) (v6 : Int32) (v7 : Int32) (v8 : Int32) (k0 : Int32) (k1 : Int32) (σ : St) : Option ((Int32 × Int32 × St) ⊕ ((Int32 × St) ⊕ (Int32 × St))) :=
  (if k0 = k1 then (if v7 = (-9 : Int32) then fX1_partsFrom_b166 φ this v1 v2 v3 v4 v5 v6 v7 (0 : Int32) σ
  else fX1_partsFrom_b166 φ this v1 v2 v3 v4 v5 v6 v7 ((((41 : Int32) * (v7 + (1 : Int32))) + v8) + (1 : Int32)) σ)
  else some (.inr (.inr (v6, σ))))
def fX1_partsFrom_b120 (φ : Nat) (this : Nat) (v1 : Int32) (v2 : Int32) (v3 : Int32) (v4 : Int32) (v5 : Int32) (v6 : Int32) (v7 : Int32) (v8 : Int32) (k0 : Int32) (σ : St) : Option ((Int32 × Int32 × St) ⊕ ((Int32 × St) ⊕ (Int32 × St))) :=
  (if v8 = (-9 : Int32) then fX1_partsFrom_b132 φ this v1 v2 v3 v4 v5 v6 v7 v8 k0 (1 : Int32) σ
  else fX1_partsFrom_b132 φ this v1 v2 v3 v4 v5 v6 v7 v8 k0 (0 : Int32) σ)
def fX1_partsFrom_l78 (φ : Nat) (this : Nat) (v1 : Int32) (v3 : Int32) (v4 : Int32) (v5 : Int32) (v2 : Int32) (v6 : Int32) (σ : St) : Option ((Int32 × Int32 × St) ⊕ ((Int32 × St) ⊕ (Int32 × St))) :=
  (gfI σ (some this) 1 1 11).bind fun x17 =>
  (if x17 ≤ v6 then some (.inr (.inl (v2, σ)))
  else (cV σ (some this) 1 fun o => fX1_next φ o v1 v4 v6 σ).bind fun y19 =>
  (cV σ (some this) 1 fun o => fX1_nextOther φ o v5 v6 σ).bind fun y20 =>
  (if y19 = (-9 : Int32) then fX1_partsFrom_b120 φ this v1 v2 v3 v4 v5 v6 y19 y20 (1 : Int32) σ
  else fX1_partsFrom_b120 φ this v1 v2 v3 v4 v5 v6 y19 y20 (0 : Int32) σ))
def fX1_partsFrom_l48 (φ : Nat) (this : Nat) (v1 : Int32) (v2 : Int32) (v3 : Int32) (σ : St) : Option ((Int32 × Int32 × St) ⊕ ((St) ⊕ (Int32 × Int32 × St))) :=
  (if v2 ≤ v3 then some (.inr (.inl σ))
  else (gfR σ (some this) 1 1 29).bind fun x13 =>
  (ldI σ x13 1 v3).bind fun x14 =>
  (gfR σ (some this) 1 1 29).bind fun x15 =>
  (ldI σ x15 1 v3).bind fun x16 =>
  ((it (fun s : Int32 × Int32 × St => fX1_partsFrom_l78 φ this v1 v3 (x14 / (41 : Int32)) (x16 % (41 : Int32)) s.1 s.2.1 s.2.2) φ (v2, (0 : Int32), σ)).bind fun e37 =>
  match e37 with
  | (.inl e39) => some (.inl (e39.1, (v3 + (1 : Int32)), e39.2))
  | (.inr e40) => some (.inr (.inr (v3, e40.1, e40.2)))))
def fX1_partsFrom (φ : Nat) (this : Nat) (v1 : Int32) (σ : St) : Option (Int32 × St) :=
  (it (fun s : Int32 × St => fX1_partsFrom_l2 φ this v1 s.1 s.2) φ ((0 : Int32), σ)).bind fun e4 =>
  (gfR e4 (some this) 1 1 29).bind fun x6 =>
  (stI e4 x6 (0 : Int32) (0 : Int32)).bind fun s7 =>
  (gfR s7 (some this) 1 1 30).bind fun x8 =>
  (stI s7 x8 (0 : Int32) (-9 : Int32)).bind fun s9 =>
  (gfR s9 (some this) 1 1 32).bind fun x10 =>
  (stZ s9 x10 (0 : Int32) (1 : Int32)).bind fun s11 =>
  ((it (fun s : Int32 × Int32 × St => fX1_partsFrom_l48 φ this v1 s.1 s.2.1 s.2.2) φ ((1 : Int32), (0 : Int32), s11)).bind fun e41 =>
  match e41 with
  | (.inl e43) => some ((-9 : Int32), e43)
  | (.inr e44) => (cV e44.2.2 (some this) 1 fun o => fX1_layPart φ o e44.1 e44.2.1 e44.2.2).bind fun y45 =>
  some (y45.1, y45.2))
def fX1_alike (φ : Nat) (this : Nat) (v1 : Int32) (v2 : Int32) (v3 : Int32) (σ : St) : Option (Int32 × St) :=
  (fX1_in φ v3 (0 : Int32) (40 : Int32) σ).bind fun y1 =>
  (cV σ (some this) 1 fun o => fX1_needTwo φ o y1 v1 v2 σ).bind fun y2 =>
  (if 0 ≤ y2.1 then (cV y2.2 (some this) 1 fun o => fX1_layOther φ o v2 y2.2).bind fun y4 =>
  (cV y4 (some this) 1 fun o => fX1_partsFrom φ o v1 y4).bind fun y5 =>
  (if y5.1 = (-9 : Int32) then some ((1 : Int32), y5.2)
  else (if y5.1 ≤ v3 then some ((0 : Int32), y5.2)
  else some ((1 : Int32), y5.2)))
  else some (y2.1, y2.2))
def fX1_parting_b57 (φ : Nat) (this : Nat) (v3 : Int32) (v5 : Int32) (k0 : Option Nat) (k1 : Int32) (σ : St) : Option (Int32 × St) :=
  (pfI σ k0 1 1 17 k1).bind fun s8 =>
  (cV s8 (some this) 1 fun o => fX1_comesToRow φ o v3 s8).bind fun y9 =>
  some (v5, y9)
def fX1_parting (φ : Nat) (this : Nat) (v1 : Int32) (v2 : Int32) (v3 : Int32) (σ : St) : Option (Int32 × St) :=
  (fX1_isRow φ v3 σ).bind fun y1 =>
  (cV σ (some this) 1 fun o => fX1_needTwo φ o y1 v1 v2 σ).bind fun y2 =>
  (if 0 ≤ y2.1 then (cV y2.2 (some this) 1 fun o => fX1_layOther φ o v2 y2.2).bind fun y4 =>
  (cV y4 (some this) 1 fun o => fX1_partsFrom φ o v1 y4).bind fun y5 =>
  (if y5.1 = (-9 : Int32) then some ((-9 : Int32), y5.2)
  else (if y5.1 ≤ (40 : Int32) then fX1_parting_b57 φ this v3 y5.1 (some this) y5.1 y5.2
  else fX1_parting_b57 φ this v3 y5.1 (some this) (40 : Int32) y5.2))
  else some (y2.1, y2.2))
def fX1_dropOther_l12 (φ : Nat) (this : Nat) (v2 : Int32) (σ : St) : Option ((Int32 × St) ⊕ (St)) :=
  (gfI σ (some this) 1 1 33).bind fun x3 =>
  (if x3 ≤ v2 then some (.inr σ)
  else (gfR σ (some this) 1 1 34).bind fun x5 =>
  (gfR σ (some this) 1 1 34).bind fun x6 =>
  (ldI σ x6 1 (v2 + (1 : Int32))).bind fun x7 =>
  (stI σ x5 v2 x7).bind fun s8 =>
  some (.inl ((v2 + (1 : Int32)), s8)))
def fX1_dropOther (φ : Nat) (this : Nat) (v1 : Int32) (σ : St) : Option (St) :=
  (gfI σ (some this) 1 1 33).bind fun x1 =>
  (pfI σ (some this) 1 1 33 (x1 - (1 : Int32))).bind fun s2 =>
  (it (fun s : Int32 × St => fX1_dropOther_l12 φ this s.1 s.2) φ (v1, s2)).bind fun e9 =>
  some e9
def fX1_backOther_l5 (φ : Nat) (this : Nat) (v1 : Int32) (v2 : Int32) (v3 : Int32) (σ : St) : Option ((Int32 × St) ⊕ (St)) :=
  (if v3 ≤ v1 then some (.inr σ)
  else (gfR σ (some this) 1 1 34).bind fun x3 =>
  (gfR σ (some this) 1 1 34).bind fun x4 =>
  (ldI σ x4 1 (v3 - (1 : Int32))).bind fun x5 =>
  (stI σ x3 v3 x5).bind fun s6 =>
  some (.inl ((v3 + (-1 : Int32)), s6)))
def fX1_backOther (φ : Nat) (this : Nat) (v1 : Int32) (v2 : Int32) (σ : St) : Option (St) :=
  (gfI σ (some this) 1 1 33).bind fun x1 =>
  (it (fun s : Int32 × St => fX1_backOther_l5 φ this v1 v2 s.1 s.2) φ (x1, σ)).bind fun e7 =>
  (gfR e7 (some this) 1 1 34).bind fun x9 =>
  (stI e7 x9 v1 v2).bind fun s10 =>
  (gfI s10 (some this) 1 1 33).bind fun x11 =>
  (pfI s10 (some this) 1 1 33 (x11 + (1 : Int32))).bind fun s12 =>
  some s12
def fX1_drop_l45 (φ : Nat) (this : Nat) (v1 : Int32) (v2 : Int32) (v3 : Int32) (v5 : Int32) (σ : St) : Option ((Int32 × St) ⊕ (St)) :=
  (gfI σ (some this) 1 1 33).bind fun x6 =>
  (if x6 ≤ v5 then some (.inr σ)
  else (gfR σ (some this) 1 1 34).bind fun x8 =>
  (ldI σ x8 1 v5).bind fun x9 =>
  (cV σ (some this) 1 fun o => fX1_dropOther φ o v5 σ).bind fun y10 =>
  (cV y10 (some this) 1 fun o => fX1_partsFrom φ o v2 y10).bind fun y11 =>
  (if y11.1 = (-9 : Int32) then some (.inl (v5, y11.2))
  else (if v3 < y11.1 then some (.inl (v5, y11.2))
  else (cV y11.2 (some this) 1 fun o => fX1_backOther φ o v5 x9 y11.2).bind fun y14 =>
  some (.inl ((v5 + (1 : Int32)), y14)))))
def fX1_drop_l114 (φ : Nat) (this : Nat) (v1 : Int32) (v2 : Int32) (v3 : Int32) (v6 : Int32) (σ : St) : Option ((Int32 × St) ⊕ (St)) :=
  (gfI σ (some this) 1 1 33).bind fun x19 =>
  (if x19 ≤ v6 then some (.inr σ)
  else (gfR σ (some this) 1 1 18).bind fun x21 =>
  (gfR σ (some this) 1 1 34).bind fun x22 =>
  (ldI σ x22 1 v6).bind fun x23 =>
  (stI σ x21 v6 x23).bind fun s24 =>
  some (.inl ((v6 + (1 : Int32)), s24)))
def fX1_drop_b23 (φ : Nat) (this : Nat) (v1 : Int32) (v2 : Int32) (v3 : Int32) (k0 : Option Nat) (k1 : Int32) (σ : St) : Option (Int32 × St) :=
  (cV σ k0 1 fun o => fX1_needWord φ o k1 v2 σ).bind fun y3 =>
  (if 0 ≤ y3.1 then (cV y3.2 (some this) 1 fun o => fX1_layOther φ o v2 y3.2).bind fun y5 =>
  (it (fun s : Int32 × St => fX1_drop_l45 φ this v1 v2 v3 s.1 s.2) φ ((0 : Int32), y5)).bind fun e15 =>
  (gfI e15 (some this) 1 1 33).bind fun x17 =>
  (pfI e15 (some this) 1 1 17 x17).bind fun s18 =>
  (it (fun s : Int32 × St => fX1_drop_l114 φ this v1 v2 v3 s.1 s.2) φ ((0 : Int32), s18)).bind fun e25 =>
  (cV e25 (some this) 1 fun o => fX1_comes φ o v1 (4 : Int32) v2 v3 e25).bind fun y27 =>
  some (y27.1, y27.2)
  else some (y3.1, y3.2))
def fX1_drop_b22 (φ : Nat) (this : Nat) (v1 : Int32) (v2 : Int32) (v3 : Int32) (k0 : Option Nat) (σ : St) : Option (Int32 × St) :=
  fX1_drop_b23 φ this v1 v2 v3 k0 (0 : Int32) σ
def fX1_drop (φ : Nat) (this : Nat) (v1 : Int32) (v2 : Int32) (v3 : Int32) (σ : St) : Option (Int32 × St) :=
  (fX1_isWord φ v1 σ).bind fun y1 =>
  (if y1 = 0 then fX1_drop_b22 φ this v1 v2 v3 (some this) σ
  else (fX1_in φ v3 (0 : Int32) (40 : Int32) σ).bind fun y28 =>
  (if y28 = 0 then fX1_drop_b22 φ this v1 v2 v3 (some this) σ
  else fX1_drop_b23 φ this v1 v2 v3 (some this) (1 : Int32) σ))
def fX1_bits_l4 (φ : Nat) (v0 : Int32) (σ : St) (v1 : Int32) (v2 : Int32) : Option ((Int32 × Int32) ⊕ (Int32)) :=
  (if (8 : Int32) ≤ v2 then some (.inr v1)
  else some (.inl ((v1 + ((v0 >>> (v2 &&& 31)) &&& (1 : Int32))), (v2 + (1 : Int32)))))
def fX1_bits (φ : Nat) (v0 : Int32) (σ : St) : Option (Int32) :=
  (it (fun s : Int32 × Int32 => fX1_bits_l4 φ v0 σ s.1 s.2) φ ((0 : Int32), (0 : Int32))).bind fun e2 =>
  some e2
def fX1_needSeveral_b76 (φ : Nat) (this : Nat) (v1 : Int32) (v3 : Int32) (v5 : Int32) (k0 : Int32) (σ : St) : Option ((Int32 × Int32 × Int32 × St) ⊕ (Int32 × Int32 × St)) :=
  (gfR σ (some this) 1 1 36).bind fun x12 =>
  (gfI σ (some this) 1 1 35).bind fun x13 =>
  (stI σ x12 x13 v5).bind fun s14 =>
  (gfR s14 (some this) 1 1 12).bind fun x15 =>
  (ldI s14 x15 1 v5).bind fun x16 =>
  (gfI s14 (some this) 1 1 35).bind fun x17 =>
  (pfI s14 (some this) 1 1 35 (x17 + (1 : Int32))).bind fun s18 =>
  some (.inl ((v3 * (x16 + (1 : Int32))), k0, (v5 + (1 : Int32)), s18))
def fX1_needSeveral_b75 (φ : Nat) (this : Nat) (v1 : Int32) (v3 : Int32) (v5 : Int32) (σ : St) : Option ((Int32 × Int32 × Int32 × St) ⊕ (Int32 × Int32 × St)) :=
  fX1_needSeveral_b76 φ this v1 v3 v5 (0 : Int32) σ
def fX1_needSeveral_l41 (φ : Nat) (this : Nat) (v1 : Int32) (v3 : Int32) (v4 : Int32) (v5 : Int32) (σ : St) : Option ((Int32 × Int32 × Int32 × St) ⊕ (Int32 × Int32 × St)) :=
  (if (8 : Int32) ≤ v5 then some (.inr (v3, v4, σ))
  else (fX1_has φ v1 v5 σ).bind fun y9 =>
  (if y9 = 0 then some (.inl (v3, v4, (v5 + (1 : Int32)), σ))
  else (if v4 = 0 then fX1_needSeveral_b75 φ this v1 v3 v5 σ
  else (cV σ (some this) 1 fun o => fX1_isThere φ o v5 σ).bind fun y19 =>
  (if y19 = 0 then fX1_needSeveral_b75 φ this v1 v3 v5 σ
  else fX1_needSeveral_b76 φ this v1 v3 v5 (1 : Int32) σ))))
def fX1_needSeveral (φ : Nat) (this : Nat) (v1 : Int32) (v2 : Int32) (σ : St) : Option (Int32 × St) :=
  (fX1_in φ v1 (1 : Int32) (255 : Int32) σ).bind fun y1 =>
  (if y1 = 0 then some ((-1 : Int32), σ)
  else (fX1_bits φ v1 σ).bind fun y3 =>
  (if (4 : Int32) < y3 then some ((-1 : Int32), σ)
  else (fX1_isRow φ v2 σ).bind fun y5 =>
  (if y5 = 0 then some ((-1 : Int32), σ)
  else (pfI σ (some this) 1 1 35 (0 : Int32)).bind fun s7 =>
  (it (fun s : Int32 × Int32 × Int32 × St => fX1_needSeveral_l41 φ this v1 s.1 s.2.1 s.2.2.1 s.2.2.2) φ ((1 : Int32), (1 : Int32), (0 : Int32), s7)).bind fun e21 =>
  (if e21.2.1 = 0 then (cV e21.2.2 (some this) 1 fun o => fX1_meets φ o (1 : Int32) e21.2.2).bind fun y25 =>
  some (y25.1, y25.2)
  else (if e21.1 ≤ (20000 : Int32) then some ((0 : Int32), e21.2.2)
  else some ((-6 : Int32), e21.2.2))))))
def fX1_allCodes_l4 (φ : Nat) (this : Nat) (σ : St) (v1 : Int32) (v2 : Int32) : Option ((Int32 × Int32) ⊕ (Int32)) :=
  (gfI σ (some this) 1 1 35).bind fun x1 =>
  (if x1 ≤ v2 then some (.inr v1)
  else (gfR σ (some this) 1 1 12).bind fun x3 =>
  (gfR σ (some this) 1 1 36).bind fun x4 =>
  (ldI σ x4 1 v2).bind fun x5 =>
  (ldI σ x3 1 x5).bind fun x6 =>
  some (.inl ((v1 * (x6 + (1 : Int32))), (v2 + (1 : Int32)))))
def fX1_allCodes (φ : Nat) (this : Nat) (σ : St) : Option (Int32) :=
  (it (fun s : Int32 × Int32 => fX1_allCodes_l4 φ this σ s.1 s.2) φ ((1 : Int32), (0 : Int32))).bind fun e7 =>
  some e7
def fX1_layAt_l9 (φ : Nat) (this : Nat) (v2 : Int32) (v3 : Int32) (σ : St) : Option ((Int32 × Int32 × St) ⊕ (St)) :=
  (if v3 < 0 then some (.inr σ)
  else (gfR σ (some this) 1 1 38).bind fun x3 =>
  (gfR σ (some this) 1 1 12).bind fun x4 =>
  (gfR σ (some this) 1 1 36).bind fun x5 =>
  (ldI σ x5 1 v3).bind fun x6 =>
  (ldI σ x4 1 x6).bind fun x7 =>
  chk (¬ (x7 + (1 : Int32)) = 0) <|
  (stI σ x3 v3 (v2 % (x7 + (1 : Int32)))).bind fun s9 =>
  (gfR s9 (some this) 1 1 12).bind fun x10 =>
  (gfR s9 (some this) 1 1 36).bind fun x11 =>
  (ldI s9 x11 1 v3).bind fun x12 =>
  (ldI s9 x10 1 x12).bind fun x13 =>
  chk (¬ (x13 + (1 : Int32)) = 0) <|
  some (.inl ((v2 / (x13 + (1 : Int32))), (v3 + (-1 : Int32)), s9)))
def fX1_layAt (φ : Nat) (this : Nat) (v1 : Int32) (σ : St) : Option (St) :=
  (gfI σ (some this) 1 1 35).bind fun x1 =>
  (it (fun s : Int32 × Int32 × St => fX1_layAt_l9 φ this s.1 s.2.1 s.2.2) φ (v1, (x1 - (1 : Int32)), σ)).bind fun e15 =>
  some e15
def fX1_code_l4 (φ : Nat) (this : Nat) (σ : St) (v1 : Int32) (v2 : Int32) : Option ((Int32 × Int32) ⊕ (Int32)) :=
  (gfI σ (some this) 1 1 35).bind fun x1 =>
  (if x1 ≤ v2 then some (.inr v1)
  else (gfR σ (some this) 1 1 12).bind fun x3 =>
  (gfR σ (some this) 1 1 36).bind fun x4 =>
  (ldI σ x4 1 v2).bind fun x5 =>
  (ldI σ x3 1 x5).bind fun x6 =>
  (gfR σ (some this) 1 1 38).bind fun x7 =>
  (ldI σ x7 1 v2).bind fun x8 =>
  some (.inl (((v1 * (x6 + (1 : Int32))) + x8), (v2 + (1 : Int32)))))
def fX1_code (φ : Nat) (this : Nat) (σ : St) : Option (Int32) :=
  (it (fun s : Int32 × Int32 => fX1_code_l4 φ this σ s.1 s.2) φ ((0 : Int32), (0 : Int32))).bind fun e9 =>
  some e9
def fX1_behindNext_b56 (φ : Nat) (this : Nat) (v2 : Int32) (v4 : Int32) (v5 : Int32) (k0 : Int32) (σ : St) : Option ((Int32 × Int32 × St) ⊕ (Int32 × St)) :=
  (gfR σ (some this) 1 1 38).bind fun x11 =>
  (stI σ x11 v4 (v5 + (1 : Int32))).bind fun s12 =>
  some (.inl (k0, (v4 + (1 : Int32)), s12))
def fX1_behindNext_l10 (φ : Nat) (this : Nat) (v2 : Int32) (v3 : Int32) (v4 : Int32) (σ : St) : Option ((Int32 × Int32 × St) ⊕ (Int32 × St)) :=
  (gfI σ (some this) 1 1 35).bind fun x2 =>
  (if x2 ≤ v4 then some (.inr (v3, σ))
  else (if v3 = 0 then some (.inr (v3, σ))
  else (gfR σ (some this) 1 1 36).bind fun x5 =>
  (ldI σ x5 1 v4).bind fun x6 =>
  (gfR σ (some this) 1 1 38).bind fun x7 =>
  (ldI σ x7 1 v4).bind fun x8 =>
  (cV σ (some this) 1 fun o => fX1_next φ o x6 x8 v2 σ).bind fun y9 =>
  (if y9 = (-9 : Int32) then fX1_behindNext_b56 φ this v2 v4 y9 (0 : Int32) σ
  else fX1_behindNext_b56 φ this v2 v4 y9 (1 : Int32) σ)))
def fX1_behindNext (φ : Nat) (this : Nat) (v1 : Int32) (v2 : Int32) (σ : St) : Option (Int32 × St) :=
  (cV σ (some this) 1 fun o => fX1_layAt φ o v1 σ).bind fun y1 =>
  (it (fun s : Int32 × Int32 × St => fX1_behindNext_l10 φ this v2 s.1 s.2.1 s.2.2) φ ((1 : Int32), (0 : Int32), y1)).bind fun e13 =>
  (if e13.1 = 0 then some ((-1 : Int32), e13.2)
  else (cV e13.2 (some this) 1 fun o => fX1_code φ o  e13.2).bind fun y16 =>
  some (y16, e13.2))
def fX1_common_b98 (φ : Nat) (this : Nat) (v2 : Int32) (v4 : Int32) (v5 : Int32) (k0 : Option Nat) (k1 : Int32) (σ : St) : Option ((Int32 × St) ⊕ (St)) :=
  (gfR σ (some this) 1 1 37).bind fun x12 =>
  (ldI σ x12 1 v4).bind fun x13 =>
  (stI σ k0 k1 x13).bind fun s14 =>
  some (.inl ((v5 + (1 : Int32)), s14))
def fX1_common_l37 (φ : Nat) (this : Nat) (v2 : Int32) (v4 : Int32) (v5 : Int32) (σ : St) : Option ((Int32 × St) ⊕ (St)) :=
  (gfI σ (some this) 1 1 11).bind fun x7 =>
  (if x7 ≤ v5 then some (.inr σ)
  else (cV σ (some this) 1 fun o => fX1_behindNext φ o v4 v5 σ).bind fun y9 =>
  (gfR y9.2 (some this) 1 1 37).bind fun x10 =>
  (if y9.1 < 0 then fX1_common_b98 φ this v2 v4 v5 x10 v4 y9.2
  else (gfR y9.2 (some this) 1 1 37).bind fun x15 =>
  (ldI y9.2 x15 1 y9.1).bind fun x16 =>
  (gfR y9.2 (some this) 1 1 37).bind fun x17 =>
  (ldI y9.2 x17 1 v4).bind fun x18 =>
  (if (x16 + (1 : Int32)) ≤ x18 then fX1_common_b98 φ this v2 v4 v5 x10 v4 y9.2
  else (gfR y9.2 (some this) 1 1 37).bind fun x20 =>
  (ldI y9.2 x20 1 y9.1).bind fun x21 =>
  (stI y9.2 x10 v4 (x21 + (1 : Int32))).bind fun s22 =>
  some (.inl ((v5 + (1 : Int32)), s22)))))
def fX1_common_l21 (φ : Nat) (this : Nat) (v2 : Int32) (v4 : Int32) (σ : St) : Option ((Int32 × St) ⊕ (St)) :=
  (if v4 < 0 then some (.inr σ)
  else (gfR σ (some this) 1 1 37).bind fun x5 =>
  (stI σ x5 v4 (0 : Int32)).bind fun s6 =>
  (it (fun s : Int32 × St => fX1_common_l37 φ this v2 v4 s.1 s.2) φ ((0 : Int32), s6)).bind fun e23 =>
  some (.inl ((v4 + (-1 : Int32)), e23)))
def fX1_common_b180 (φ : Nat) (this : Nat) (v2 : Int32) (v4 : Int32) (v5 : Int32) (v6 : Int32) (σ : St) : Option ((Int32 × Int32 × St) ⊕ (Int32 × Int32 × St)) :=
  (cV σ (some this) 1 fun o => fX1_behindNext φ o v5 (v6 + (1 : Int32)) σ).bind fun y34 =>
  some (.inl ((v6 + (1 : Int32)), y34.1, y34.2))
def fX1_common_l156 (φ : Nat) (this : Nat) (v2 : Int32) (v4 : Int32) (v5 : Int32) (v6 : Int32) (v7 : Int32) (σ : St) : Option ((Int32 × Int32 × St) ⊕ (Int32 × Int32 × St)) :=
  (if v7 < 0 then fX1_common_b180 φ this v2 v4 v5 v6 σ
  else (gfR σ (some this) 1 1 37).bind fun x35 =>
  (ldI σ x35 1 v7).bind fun x36 =>
  (gfR σ (some this) 1 1 37).bind fun x37 =>
  (ldI σ x37 1 v5).bind fun x38 =>
  (if x38 ≤ (x36 + (1 : Int32)) then some (.inr (v6, v7, σ))
  else fX1_common_b180 φ this v2 v4 v5 v6 σ))
def fX1_common_l134 (φ : Nat) (this : Nat) (v2 : Int32) (v4 : Int32) (v5 : Int32) (σ : St) : Option ((Int32 × St) ⊕ (St)) :=
  (gfI σ (some this) 1 1 17).bind fun x30 =>
  (if v4 ≤ x30 then some (.inr σ)
  else (cV σ (some this) 1 fun o => fX1_behindNext φ o v5 (0 : Int32) σ).bind fun y32 =>
  (it (fun s : Int32 × Int32 × St => fX1_common_l156 φ this v2 v4 v5 s.1 s.2.1 s.2.2) φ ((0 : Int32), y32.1, y32.2)).bind fun e40 =>
  (gfR e40.2.2 (some this) 1 1 18).bind fun x42 =>
  (gfI e40.2.2 (some this) 1 1 17).bind fun x43 =>
  (stI e40.2.2 x42 x43 e40.1).bind fun s44 =>
  (gfI s44 (some this) 1 1 17).bind fun x45 =>
  (pfI s44 (some this) 1 1 17 (x45 + (1 : Int32))).bind fun s46 =>
  some (.inl (e40.2.1, s46)))
def fX1_common (φ : Nat) (this : Nat) (v1 : Int32) (v2 : Int32) (σ : St) : Option (Int32 × St) :=
  (cV σ (some this) 1 fun o => fX1_needSeveral φ o v1 v2 σ).bind fun y1 =>
  (if 0 ≤ y1.1 then (cV y1.2 (some this) 1 fun o => fX1_allCodes φ o  y1.2).bind fun y3 =>
  (it (fun s : Int32 × St => fX1_common_l21 φ this v2 s.1 s.2) φ ((y3 - (1 : Int32)), y1.2)).bind fun e25 =>
  (gfR e25 (some this) 1 1 37).bind fun x27 =>
  (ldI e25 x27 1 (0 : Int32)).bind fun x28 =>
  (pfI e25 (some this) 1 1 17 (0 : Int32)).bind fun s29 =>
  (it (fun s : Int32 × St => fX1_common_l134 φ this v2 x28 s.1 s.2) φ ((0 : Int32), s29)).bind fun e47 =>
  (cV e47 (some this) 1 fun o => fX1_comesToRow φ o v2 e47).bind fun y49 =>
  some (x28, y49)
  else some (y1.1, y1.2))
def fX1_behindHere_b88 (φ : Nat) (this : Nat) (v2 : Int32) (v3 : Int32) (v4 : Int32) (v5 : Int32) (k0 : Option Nat) (k1 : Int32) (k2 : Int32) (k3 : Int32) (σ : St) : Option ((Int32 × Int32 × St) ⊕ (Int32 × St)) :=
  (stI σ k0 k1 (k2 + k3)).bind fun s14 =>
  (if v3 = 0 then (if v5 = 0 then some (.inl ((0 : Int32), (v4 + (1 : Int32)), s14))
  else some (.inl ((1 : Int32), (v4 + (1 : Int32)), s14)))
  else some (.inl ((1 : Int32), (v4 + (1 : Int32)), s14)))
def fX1_behindHere_b68 (φ : Nat) (this : Nat) (v2 : Int32) (v3 : Int32) (v4 : Int32) (k0 : Int32) (σ : St) : Option ((Int32 × Int32 × St) ⊕ (Int32 × St)) :=
  (gfR σ (some this) 1 1 38).bind fun x11 =>
  (ldI σ x11 1 v4).bind fun x12 =>
  (if k0 = 0 then fX1_behindHere_b88 φ this v2 v3 v4 k0 x11 v4 x12 (0 : Int32) σ
  else fX1_behindHere_b88 φ this v2 v3 v4 k0 x11 v4 x12 (1 : Int32) σ)
def fX1_behindHere_b67 (φ : Nat) (this : Nat) (v2 : Int32) (v3 : Int32) (v4 : Int32) (σ : St) : Option ((Int32 × Int32 × St) ⊕ (Int32 × St)) :=
  fX1_behindHere_b68 φ this v2 v3 v4 (0 : Int32) σ
def fX1_behindHere_l10 (φ : Nat) (this : Nat) (v2 : Int32) (v3 : Int32) (v4 : Int32) (σ : St) : Option ((Int32 × Int32 × St) ⊕ (Int32 × St)) :=
  (gfI σ (some this) 1 1 35).bind fun x2 =>
  (if x2 ≤ v4 then some (.inr (v3, σ))
  else (gfR σ (some this) 1 1 38).bind fun x4 =>
  (ldI σ x4 1 v4).bind fun x5 =>
  (gfR σ (some this) 1 1 12).bind fun x6 =>
  (gfR σ (some this) 1 1 36).bind fun x7 =>
  (ldI σ x7 1 v4).bind fun x8 =>
  (ldI σ x6 1 x8).bind fun x9 =>
  (if x9 ≤ x5 then fX1_behindHere_b67 φ this v2 v3 v4 σ
  else (gfR σ (some this) 1 1 36).bind fun x17 =>
  (ldI σ x17 1 v4).bind fun x18 =>
  (gfR σ (some this) 1 1 38).bind fun x19 =>
  (ldI σ x19 1 v4).bind fun x20 =>
  (cV σ (some this) 1 fun o => fX1_at0 φ o x18 x20 σ).bind fun y21 =>
  (if y21 = v2 then fX1_behindHere_b68 φ this v2 v3 v4 (1 : Int32) σ
  else fX1_behindHere_b67 φ this v2 v3 v4 σ)))
def fX1_behindHere (φ : Nat) (this : Nat) (v1 : Int32) (v2 : Int32) (σ : St) : Option (Int32 × St) :=
  (cV σ (some this) 1 fun o => fX1_layAt φ o v1 σ).bind fun y1 =>
  (it (fun s : Int32 × Int32 × St => fX1_behindHere_l10 φ this v2 s.1 s.2.1 s.2.2) φ ((0 : Int32), (0 : Int32), y1)).bind fun e23 =>
  (if e23.1 = 0 then some ((-1 : Int32), e23.2)
  else (cV e23.2 (some this) 1 fun o => fX1_code φ o  e23.2).bind fun y26 =>
  some (y26, e23.2))
def fX1_cover_b115 (φ : Nat) (this : Nat) (v2 : Int32) (v4 : Int32) (v5 : Int32) (v6 : Int32) (k0 : Option Nat) (k1 : Int32) (σ : St) : Option ((Int32 × St) ⊕ (St)) :=
  (gfR σ (some this) 1 1 37).bind fun x13 =>
  (ldI σ x13 1 v5).bind fun x14 =>
  (stI σ k0 k1 x14).bind fun s15 =>
  some (.inl ((v6 + (1 : Int32)), s15))
def fX1_cover_l54 (φ : Nat) (this : Nat) (v2 : Int32) (v4 : Int32) (v5 : Int32) (v6 : Int32) (σ : St) : Option ((Int32 × St) ⊕ (St)) :=
  (gfI σ (some this) 1 1 11).bind fun x8 =>
  (if x8 ≤ v6 then some (.inr σ)
  else (cV σ (some this) 1 fun o => fX1_behindHere φ o v5 v6 σ).bind fun y10 =>
  (gfR y10.2 (some this) 1 1 37).bind fun x11 =>
  (if y10.1 < 0 then fX1_cover_b115 φ this v2 v4 v5 v6 x11 v5 y10.2
  else (gfR y10.2 (some this) 1 1 37).bind fun x16 =>
  (ldI y10.2 x16 1 y10.1).bind fun x17 =>
  (gfR y10.2 (some this) 1 1 37).bind fun x18 =>
  (ldI y10.2 x18 1 v5).bind fun x19 =>
  (if x19 ≤ (x17 + (1 : Int32)) then fX1_cover_b115 φ this v2 v4 v5 v6 x11 v5 y10.2
  else (gfR y10.2 (some this) 1 1 37).bind fun x21 =>
  (ldI y10.2 x21 1 y10.1).bind fun x22 =>
  (stI y10.2 x11 v5 (x22 + (1 : Int32))).bind fun s23 =>
  some (.inl ((v6 + (1 : Int32)), s23)))))
def fX1_cover_l25 (φ : Nat) (this : Nat) (v2 : Int32) (v4 : Int32) (v5 : Int32) (σ : St) : Option ((Int32 × St) ⊕ (St)) :=
  (if v5 < 0 then some (.inr σ)
  else (gfR σ (some this) 1 1 37).bind fun x5 =>
  (if v5 = v4 then (stI σ x5 v5 (0 : Int32)).bind fun s26 =>
  (it (fun s : Int32 × St => fX1_cover_l54 φ this v2 v4 v5 s.1 s.2) φ ((0 : Int32), s26)).bind fun e27 =>
  some (.inl ((v5 + (-1 : Int32)), e27))
  else (stI σ x5 v5 (1000 : Int32)).bind fun s7 =>
  (it (fun s : Int32 × St => fX1_cover_l54 φ this v2 v4 v5 s.1 s.2) φ ((0 : Int32), s7)).bind fun e24 =>
  some (.inl ((v5 + (-1 : Int32)), e24))))
def fX1_cover_b193 (φ : Nat) (this : Nat) (v2 : Int32) (v5 : Int32) (v6 : Int32) (v7 : Int32) (v8 : Int32) (σ : St) : Option ((Int32 × Int32 × St) ⊕ (Int32 × Int32 × St)) :=
  (cV σ (some this) 1 fun o => fX1_behindHere φ o v6 (v8 + (1 : Int32)) σ).bind fun y36 =>
  some (.inl ((v8 + (1 : Int32)), y36.1, y36.2))
def fX1_cover_l169 (φ : Nat) (this : Nat) (v2 : Int32) (v5 : Int32) (v6 : Int32) (v7 : Int32) (v8 : Int32) (v9 : Int32) (σ : St) : Option ((Int32 × Int32 × St) ⊕ (Int32 × Int32 × St)) :=
  (if v9 < 0 then fX1_cover_b193 φ this v2 v5 v6 v7 v8 σ
  else (gfR σ (some this) 1 1 37).bind fun x37 =>
  (ldI σ x37 1 v9).bind fun x38 =>
  (gfR σ (some this) 1 1 37).bind fun x39 =>
  (ldI σ x39 1 v6).bind fun x40 =>
  (if (x38 + (1 : Int32)) ≤ x40 then some (.inr (v8, v9, σ))
  else fX1_cover_b193 φ this v2 v5 v6 v7 v8 σ))
def fX1_cover_l149 (φ : Nat) (this : Nat) (v2 : Int32) (v5 : Int32) (v6 : Int32) (v7 : Int32) (σ : St) : Option ((Int32 × Int32 × St) ⊕ (St)) :=
  (if v5 ≤ v7 then some (.inr σ)
  else (cV σ (some this) 1 fun o => fX1_behindHere φ o v6 (0 : Int32) σ).bind fun y34 =>
  (it (fun s : Int32 × Int32 × St => fX1_cover_l169 φ this v2 v5 v6 v7 s.1 s.2.1 s.2.2) φ ((0 : Int32), y34.1, y34.2)).bind fun e42 =>
  (if (40 : Int32) ≤ v7 then some (.inl (e42.2.1, (v7 + (1 : Int32)), e42.2.2))
  else (gfR e42.2.2 (some this) 1 1 18).bind fun x45 =>
  (stI e42.2.2 x45 v7 e42.1).bind fun s46 =>
  some (.inl (e42.2.1, (v7 + (1 : Int32)), s46))))
def fX1_cover_b250 (φ : Nat) (this : Nat) (v2 : Int32) (v5 : Int32) (k0 : Option Nat) (k1 : Int32) (σ : St) : Option (Int32 × St) :=
  (pfI σ k0 1 1 17 k1).bind fun s50 =>
  (cV s50 (some this) 1 fun o => fX1_comesToRow φ o v2 s50).bind fun y51 =>
  some (v5, y51)
def fX1_cover (φ : Nat) (this : Nat) (v1 : Int32) (v2 : Int32) (σ : St) : Option (Int32 × St) :=
  (cV σ (some this) 1 fun o => fX1_needSeveral φ o v1 v2 σ).bind fun y1 =>
  (if 0 ≤ y1.1 then (cV y1.2 (some this) 1 fun o => fX1_allCodes φ o  y1.2).bind fun y3 =>
  (it (fun s : Int32 × St => fX1_cover_l25 φ this v2 (y3 - (1 : Int32)) s.1 s.2) φ ((y3 - (1 : Int32)), y1.2)).bind fun e29 =>
  (gfR e29 (some this) 1 1 37).bind fun x31 =>
  (ldI e29 x31 1 (0 : Int32)).bind fun x32 =>
  (it (fun s : Int32 × Int32 × St => fX1_cover_l149 φ this v2 x32 s.1 s.2.1 s.2.2) φ ((0 : Int32), (0 : Int32), e29)).bind fun e47 =>
  (if x32 ≤ (40 : Int32) then fX1_cover_b250 φ this v2 x32 (some this) x32 e47
  else fX1_cover_b250 φ this v2 x32 (some this) (40 : Int32) e47)
  else some (y1.1, y1.2))
def fX1_both_l57 (φ : Nat) (this : Nat) (v1 : Int32) (v2 : Int32) (v4 : Int32) (v5 : Int32) (v6 : Int32) (σ : St) : Option ((Int32 × St) ⊕ (St)) :=
  (gfI σ (some this) 1 1 11).bind fun x11 =>
  (if x11 ≤ v6 then some (.inr σ)
  else (cV σ (some this) 1 fun o => fX1_next φ o v1 v4 v6 σ).bind fun y13 =>
  (cV σ (some this) 1 fun o => fX1_next φ o v2 v5 v6 σ).bind fun y14 =>
  (gfR σ (some this) 1 1 39).bind fun x15 =>
  (ldL σ x15 (((41 : Int32) * v4) + v5)).bind fun x16 =>
  (if y13 = (-9 : Int32) then (stL σ x15 (((41 : Int32) * v4) + v5) (x16 + (0 : Int64))).bind fun s18 =>
  some (.inl ((v6 + (1 : Int32)), s18))
  else (if y14 = (-9 : Int32) then (stL σ x15 (((41 : Int32) * v4) + v5) (x16 + (0 : Int64))).bind fun s23 =>
  some (.inl ((v6 + (1 : Int32)), s23))
  else (gfR σ (some this) 1 1 39).bind fun x20 =>
  (ldL σ x20 ((((41 : Int32) * (y13 + (1 : Int32))) + y14) + (1 : Int32))).bind fun x21 =>
  (stL σ x15 (((41 : Int32) * v4) + v5) (x16 + x21)).bind fun s22 =>
  some (.inl ((v6 + (1 : Int32)), s22)))))
def fX1_both_l35 (φ : Nat) (this : Nat) (v1 : Int32) (v2 : Int32) (v4 : Int32) (v5 : Int32) (σ : St) : Option ((Int32 × St) ⊕ (St)) :=
  (if v5 < 0 then some (.inr σ)
  else (gfR σ (some this) 1 1 39).bind fun x9 =>
  (stL σ x9 (((41 : Int32) * v4) + v5) (1 : Int64)).bind fun s10 =>
  (it (fun s : Int32 × St => fX1_both_l57 φ this v1 v2 v4 v5 s.1 s.2) φ ((0 : Int32), s10)).bind fun e24 =>
  some (.inl ((v5 + (-1 : Int32)), e24)))
def fX1_both_l22 (φ : Nat) (this : Nat) (v1 : Int32) (v2 : Int32) (v4 : Int32) (σ : St) : Option ((Int32 × St) ⊕ (St)) :=
  (if v4 < 0 then some (.inr σ)
  else (gfR σ (some this) 1 1 12).bind fun x6 =>
  (ldI σ x6 1 v2).bind fun x7 =>
  (it (fun s : Int32 × St => fX1_both_l35 φ this v1 v2 v4 s.1 s.2) φ (x7, σ)).bind fun e26 =>
  some (.inl ((v4 + (-1 : Int32)), e26)))
def fX1_both (φ : Nat) (this : Nat) (v1 : Int32) (v2 : Int32) (σ : St) : Option (Int32 × St) :=
  (cV σ (some this) 1 fun o => fX1_needTwo φ o (1 : Int32) v1 v2 σ).bind fun y1 =>
  (if 0 ≤ y1.1 then (gfR y1.2 (some this) 1 1 12).bind fun x3 =>
  (ldI y1.2 x3 1 v1).bind fun x4 =>
  (it (fun s : Int32 × St => fX1_both_l22 φ this v1 v2 s.1 s.2) φ (x4, y1.2)).bind fun e28 =>
  (gfR e28 (some this) 1 1 39).bind fun x30 =>
  (ldL e28 x30 (0 : Int32)).bind fun x31 =>
  (cV e28 (some this) 1 fun o => fX1_tellsMany φ o x31 (1 : Int32) e28).bind fun y32 =>
  some (y32.1, y32.2)
  else some (y1.1, y1.2))
def fX1_oftenIn_l3 (φ : Nat) (this : Nat) (v1 : Int32) (v2 : Int32) (v3 : Int32) (v4 : Int32) (σ : St) : Option ((Int32 × St) ⊕ (St)) :=
  (if v3 < v4 then some (.inr σ)
  else (gfR σ (some this) 1 1 42).bind fun x2 =>
  (if v4 = 0 then (stL σ x2 v4 (1 : Int64)).bind fun s5 =>
  some (.inl ((v4 + (1 : Int32)), s5))
  else (stL σ x2 v4 (0 : Int64)).bind fun s4 =>
  some (.inl ((v4 + (1 : Int32)), s4))))
def fX1_oftenIn_b90 (φ : Nat) (this : Nat) (v1 : Int32) (v2 : Int32) (v3 : Int32) (v4 : Int32) (v5 : Int32) (v6 : Int32) (k0 : Option Nat) (k1 : Int32) (k2 : Int64) (k3 : Int64) (σ : St) : Option ((Int32 × Int32 × St) ⊕ (St)) :=
  (stL σ k0 k1 (k2 + k3)).bind fun s17 =>
  (gfI s17 (some this) 1 1 11).bind fun x18 =>
  chk (¬ x18 = 0) <|
  some (.inl ((v5 / x18), (v6 + (-1 : Int32)), s17))
def fX1_oftenIn_l47 (φ : Nat) (this : Nat) (v1 : Int32) (v2 : Int32) (v3 : Int32) (v4 : Int32) (v5 : Int32) (v6 : Int32) (σ : St) : Option ((Int32 × Int32 × St) ⊕ (St)) :=
  (if v6 ≤ 0 then some (.inr σ)
  else (gfR σ (some this) 1 1 42).bind fun x10 =>
  (ldL σ x10 v6).bind fun x11 =>
  (gfR σ (some this) 1 1 34).bind fun x12 =>
  (ldI σ x12 1 v4).bind fun x13 =>
  (gfI σ (some this) 1 1 11).bind fun x14 =>
  chk (¬ x14 = 0) <|
  (if x13 = (v5 % x14) then (gfR σ (some this) 1 1 42).bind fun x20 =>
  (ldL σ x20 (v6 - (1 : Int32))).bind fun x21 =>
  fX1_oftenIn_b90 φ this v1 v2 v3 v4 v5 v6 x10 v6 x11 x21 σ
  else fX1_oftenIn_b90 φ this v1 v2 v3 v4 v5 v6 x10 v6 x11 (0 : Int64) σ))
def fX1_oftenIn_l35 (φ : Nat) (this : Nat) (v1 : Int32) (v2 : Int32) (v3 : Int32) (v4 : Int32) (σ : St) : Option ((Int32 × St) ⊕ (St)) :=
  (if v1 ≤ v4 then some (.inr σ)
  else (it (fun s : Int32 × Int32 × St => fX1_oftenIn_l47 φ this v1 v2 v3 v4 s.1 s.2.1 s.2.2) φ (v2, v3, σ)).bind fun e22 =>
  some (.inl ((v4 + (1 : Int32)), e22)))
def fX1_oftenIn (φ : Nat) (this : Nat) (v1 : Int32) (v2 : Int32) (v3 : Int32) (σ : St) : Option (Int64 × St) :=
  (it (fun s : Int32 × St => fX1_oftenIn_l3 φ this v1 v2 v3 s.1 s.2) φ ((0 : Int32), σ)).bind fun e6 =>
  (it (fun s : Int32 × St => fX1_oftenIn_l35 φ this v1 v2 v3 s.1 s.2) φ ((0 : Int32), e6)).bind fun e24 =>
  (gfR e24 (some this) 1 1 42).bind fun x26 =>
  (ldL e24 x26 v3).bind fun x27 =>
  some (x27, e24)
def fX1_layOtherBy_l7 (φ : Nat) (this : Nat) (v3 : Int32) (v4 : Int32) (σ : St) : Option ((Int32 × Int32 × St) ⊕ (St)) :=
  (if v4 < 0 then some (.inr σ)
  else (gfR σ (some this) 1 1 34).bind fun x2 =>
  (gfI σ (some this) 1 1 11).bind fun x3 =>
  chk (¬ x3 = 0) <|
  (stI σ x2 v4 (v3 % x3)).bind fun s5 =>
  (gfI s5 (some this) 1 1 11).bind fun x6 =>
  chk (¬ x6 = 0) <|
  some (.inl ((v3 / x6), (v4 + (-1 : Int32)), s5)))
def fX1_layOtherBy (φ : Nat) (this : Nat) (v1 : Int32) (v2 : Int32) (σ : St) : Option (St) :=
  (it (fun s : Int32 × Int32 × St => fX1_layOtherBy_l7 φ this s.1 s.2.1 s.2.2) φ (v1, (v2 - (1 : Int32)), σ)).bind fun e8 =>
  some e8
def fX1_isTwin_l6 (φ : Nat) (this : Nat) (v1 : Int32) (v2 : Int32) (v3 : Int32) (v4 : Int32) (v5 : Int32) (σ : St) : Option ((Int32 × Int32 × St) ⊕ (Int32 × St)) :=
  (if v3 ≤ v5 then some (.inr (v4, σ))
  else (if v4 = 0 then some (.inr (v4, σ))
  else (cV σ (some this) 1 fun o => fX1_oftenIn φ o v1 v5 v2 σ).bind fun y3 =>
  (gfR y3.2 (some this) 1 1 40).bind fun x4 =>
  (ldL y3.2 x4 v5).bind fun x5 =>
  (if y3.1 = x5 then some (.inl ((1 : Int32), (v5 + (1 : Int32)), y3.2))
  else some (.inl ((0 : Int32), (v5 + (1 : Int32)), y3.2)))))
def fX1_isTwin (φ : Nat) (this : Nat) (v1 : Int32) (v2 : Int32) (v3 : Int32) (σ : St) : Option (Int32 × St) :=
  (it (fun s : Int32 × Int32 × St => fX1_isTwin_l6 φ this v1 v2 v3 s.1 s.2.1 s.2.2) φ ((1 : Int32), (0 : Int32), σ)).bind fun e7 =>
  chk (e7.1 = 0 ∨ e7.1 = 1) <|
  some (e7.1, e7.2)
def fX1_twins_l50 (φ : Nat) (this : Nat) (v1 : Int32) (v2 : Int32) (v3 : Int32) (v5 : Int32) (σ : St) (v6 : Int64) (v8 : Int32) : Option ((Int64 × Int32) ⊕ (Int64)) :=
  (if v5 ≤ v8 then some (.inr v6)
  else (if (10000 : Int64) < v6 then some (.inr v6)
  else (gfI σ (some this) 1 1 11).bind fun x9 =>
  some (.inl ((v6 * (x9.toInt64)), (v8 + (1 : Int32))))))
def fX1_twins_l114 (φ : Nat) (this : Nat) (v2 : Int32) (v3 : Int32) (v5 : Int32) (v6 : Int64) (v8 : Int32) (v9 : Int32) (σ : St) : Option ((Int32 × St) ⊕ (St)) :=
  (if v8 ≤ v9 then some (.inr σ)
  else (gfR σ (some this) 1 1 40).bind fun x17 =>
  (cV σ (some this) 1 fun o => fX1_oftenIn φ o v5 v9 v2 σ).bind fun y18 =>
  (stL y18.2 x17 v9 y18.1).bind fun s19 =>
  some (.inl ((v9 + (1 : Int32)), s19)))
def fX1_twins_l187 (φ : Nat) (this : Nat) (v2 : Int32) (v3 : Int32) (v5 : Int32) (v6 : Int64) (v8 : Int32) (v9 : Int32) (v10 : Int32) (v11 : Int32) (σ : St) : Option ((Int32 × St) ⊕ (St)) :=
  (if v5 ≤ v11 then some (.inr σ)
  else (if v9 = 0 then (gfR σ (some this) 1 1 18).bind fun x29 =>
  (gfR σ (some this) 1 1 34).bind fun x30 =>
  (ldI σ x30 1 v11).bind fun x31 =>
  (stI σ x29 v11 x31).bind fun s32 =>
  some (.inl ((v11 + (1 : Int32)), s32))
  else some (.inr σ)))
def fX1_twins_l149 (φ : Nat) (this : Nat) (v2 : Int32) (v3 : Int32) (v5 : Int32) (v6 : Int64) (v8 : Int32) (v9 : Int32) (v10 : Int32) (σ : St) : Option ((Int32 × Int32 × St) ⊕ (Int32 × St)) :=
  (if v6 ≤ (v10.toInt64) then some (.inr (v9, σ))
  else (cV σ (some this) 1 fun o => fX1_layOtherBy φ o v10 v5 σ).bind fun y23 =>
  (cV y23 (some this) 1 fun o => fX1_isTwin φ o v5 v2 v8 y23).bind fun y24 =>
  (if y24.1 = 0 then some (.inl (v9, (v10 + (1 : Int32)), y24.2))
  else (pfI y24.2 (some this) 1 1 17 v5).bind fun s26 =>
  (it (fun s : Int32 × St => fX1_twins_l187 φ this v2 v3 v5 v6 v8 v9 v10 s.1 s.2) φ ((0 : Int32), s26)).bind fun e33 =>
  some (.inl ((v9 + (1 : Int32)), (v10 + (1 : Int32)), e33))))
def fX1_twins_b22 (φ : Nat) (this : Nat) (v1 : Int32) (v2 : Int32) (v3 : Int32) (k0 : Option Nat) (k1 : Int32) (σ : St) : Option (Int32 × St) :=
  (cV σ k0 1 fun o => fX1_needWord φ o k1 v1 σ).bind fun y3 =>
  (if 0 ≤ y3.1 then (gfR y3.2 (some this) 1 1 12).bind fun x5 =>
  (ldI y3.2 x5 1 v1).bind fun x6 =>
  (it (fun s : Int64 × Int32 => fX1_twins_l50 φ this v1 v2 v3 x6 y3.2 s.1 s.2) φ ((1 : Int64), (0 : Int32))).bind fun e10 =>
  (if e10 ≤ (10000 : Int64) then (gfI y3.2 (some this) 1 1 11).bind fun x13 =>
  (fX1_powerOf φ (x13.toInt64) v2 y3.2).bind fun y14 =>
  (cV y3.2 (some this) 1 fun o => fX1_layOther φ o v1 y3.2).bind fun y15 =>
  (it (fun s : Int32 × St => fX1_twins_l114 φ this v2 v3 x6 e10 (y14.toInt32) s.1 s.2) φ ((0 : Int32), y15)).bind fun e20 =>
  (it (fun s : Int32 × Int32 × St => fX1_twins_l149 φ this v2 v3 x6 e10 (y14.toInt32) s.1 s.2.1 s.2.2) φ ((0 : Int32), (0 : Int32), e20)).bind fun e35 =>
  (pfI e35.2 (some this) 1 1 17 x6).bind fun s37 =>
  (cV s37 (some this) 1 fun o => fX1_comesToRow φ o v3 s37).bind fun y38 =>
  some (e35.1, y38)
  else some ((-6 : Int32), y3.2))
  else some (y3.1, y3.2))
def fX1_twins_b21 (φ : Nat) (this : Nat) (v1 : Int32) (v2 : Int32) (v3 : Int32) (k0 : Option Nat) (σ : St) : Option (Int32 × St) :=
  fX1_twins_b22 φ this v1 v2 v3 k0 (0 : Int32) σ
def fX1_twins (φ : Nat) (this : Nat) (v1 : Int32) (v2 : Int32) (v3 : Int32) (σ : St) : Option (Int32 × St) :=
  (fX1_in φ v2 (1 : Int32) (3 : Int32) σ).bind fun y1 =>
  (if y1 = 0 then fX1_twins_b21 φ this v1 v2 v3 (some this) σ
  else (fX1_isRow φ v3 σ).bind fun y39 =>
  (if y39 = 0 then fX1_twins_b21 φ this v1 v2 v3 (some this) σ
  else fX1_twins_b22 φ this v1 v2 v3 (some this) (1 : Int32) σ))
def fX1_chosen_l5 (φ : Nat) (v0 : Int32) (v1 : Int32) (σ : St) (v2 : Int64) (v4 : Int32) : Option ((Int64 × Int32) ⊕ (Int64)) :=
  (if v1 < v4 then some (.inr v2)
  else chk (¬ (v4.toInt64) = 0) <|
  some (.inl (((v2 * (((v0 - v4) + (1 : Int32)).toInt64)) / (v4.toInt64)), (v4 + (1 : Int32)))))
def fX1_chosen (φ : Nat) (v0 : Int32) (v1 : Int32) (σ : St) : Option (Int64) :=
  (it (fun s : Int64 × Int32 => fX1_chosen_l5 φ v0 v1 σ s.1 s.2) φ ((1 : Int64), (1 : Int32))).bind fun e3 =>
  some e3
def fX1_fraction_l6 (φ : Nat) (this : Nat) (v1 : Int64) (v3 : Int64) (v5 : Int32) (σ : St) (v6 : Int64) (v8 : Int64) : Option ((Int64 × Int64) ⊕ (Int64)) :=
  (if v8 = (0 : Int64) then some (.inr v6)
  else chk (¬ v8 = 0) <|
  some (.inl (v8, (v6 - v6 / v8 * v8))))
def fX1_fraction (φ : Nat) (this : Nat) (v1 : Int64) (v3 : Int64) (v5 : Int32) (σ : St) : Option (Int32 × St) :=
  (it (fun s : Int64 × Int64 => fX1_fraction_l6 φ this v1 v3 v5 σ s.1 s.2) φ (v1, v3)).bind fun e3 =>
  chk (¬ e3 = 0) <|
  (pfL σ (some this) 1 1 4 (v1 / e3)).bind fun s6 =>
  chk (¬ e3 = 0) <|
  (pfL s6 (some this) 1 1 5 (v3 / e3)).bind fun s8 =>
  some (v5, s8)
def fX1_odds (φ : Nat) (this : Nat) (v1 : Int32) (v2 : Int32) (σ : St) : Option (Int32 × St) :=
  (cV σ (some this) 1 fun o => fX1_needTwo φ o (1 : Int32) v1 v2 σ).bind fun y1 =>
  (if 0 ≤ y1.1 then (gfR y1.2 (some this) 1 1 12).bind fun x3 =>
  (ldI y1.2 x3 1 v1).bind fun x4 =>
  (gfR y1.2 (some this) 1 1 12).bind fun x5 =>
  (ldI y1.2 x5 1 v2).bind fun x6 =>
  (if x6 ≤ x4 then (cV y1.2 (some this) 1 fun o => fX1_layWays φ o v1 v2 y1.2).bind fun y8 =>
  (gfR y8 (some this) 1 1 22).bind fun x9 =>
  (ldL y8 x9 x6).bind fun x10 =>
  (fX1_chosen φ x4 x6 y8).bind fun y11 =>
  (cV y8 (some this) 1 fun o => fX1_fraction φ o x10 y11 (1 : Int32) y8).bind fun y12 =>
  some (y12.1, y12.2)
  else (cV y1.2 (some this) 1 fun o => fX1_meets φ o (4 : Int32) y1.2).bind fun y13 =>
  some (y13.1, y13.2))
  else some (y1.1, y1.2))
def fX1_byChance_l30 (φ : Nat) (this : Nat) (v2 : Int32) (σ : St) (v4 : Int64) (v6 : Int32) : Option ((Int64 × Int32) ⊕ (Int64)) :=
  (if v2 < v6 then some (.inr v4)
  else (fX1_chosen φ v2 v6 σ).bind fun y7 =>
  (gfI σ (some this) 1 1 11).bind fun x8 =>
  (fX1_powerOf φ ((x8 - (1 : Int32)).toInt64) (v2 - v6) σ).bind fun y9 =>
  some (.inl ((v4 + (y7 * y9)), (v6 + (1 : Int32)))))
def fX1_byChance (φ : Nat) (this : Nat) (v1 : Int32) (v2 : Int32) (σ : St) : Option (Int32 × St) :=
  (fX1_in φ v2 (0 : Int32) (20 : Int32) σ).bind fun y1 =>
  (cV σ (some this) 1 fun o => fX1_needWord φ o y1 v1 σ).bind fun y2 =>
  (if 0 ≤ y2.1 then (gfR y2.2 (some this) 1 1 12).bind fun x4 =>
  (ldI y2.2 x4 1 v1).bind fun x5 =>
  (it (fun s : Int64 × Int32 => fX1_byChance_l30 φ this v2 y2.2 s.1 s.2) φ ((0 : Int64), x5)).bind fun e10 =>
  (gfI y2.2 (some this) 1 1 11).bind fun x12 =>
  (fX1_powerOf φ (x12.toInt64) v2 y2.2).bind fun y13 =>
  (cV y2.2 (some this) 1 fun o => fX1_fraction φ o e10 y13 (1 : Int32) y2.2).bind fun y14 =>
  some (y14.1, y14.2)
  else some (y2.1, y2.2))
def fX1_counted_l4 (φ : Nat) (this : Nat) (v1 : Int32) (σ : St) (v2 : Int32) (v3 : Int32) : Option ((Int32 × Int32) ⊕ (Int32)) :=
  (if (6 : Int32) ≤ v3 then some (.inr v2)
  else (if v1 = (1 : Int32) then (gfR σ (some this) 1 1 6).bind fun x3 =>
  (ldI σ x3 1 v3).bind fun x4 =>
  (if x4 < 0 then some (.inl ((v2 + (0 : Int32)), (v3 + (1 : Int32))))
  else some (.inl ((v2 + (1 : Int32)), (v3 + (1 : Int32)))))
  else some (.inl ((v2 + (0 : Int32)), (v3 + (1 : Int32))))))
def fX1_counted_l40 (φ : Nat) (this : Nat) (v1 : Int32) (σ : St) (v2 : Int32) (v3 : Int32) : Option ((Int32 × Int32) ⊕ (Int32)) :=
  (if (4 : Int32) ≤ v3 then some (.inr v2)
  else (if v1 = (2 : Int32) then (gfR σ (some this) 1 1 9).bind fun x10 =>
  (ldI σ x10 1 v3).bind fun x11 =>
  (if x11 < 0 then some (.inl ((v2 + (0 : Int32)), (v3 + (1 : Int32))))
  else some (.inl ((v2 + (1 : Int32)), (v3 + (1 : Int32)))))
  else some (.inl ((v2 + (0 : Int32)), (v3 + (1 : Int32))))))
def fX1_counted_b123 (φ : Nat) (this : Nat) (v1 : Int32) (v3 : Int32) (v4 : Int32) (k0 : Int32) (σ : St) : Option ((Int32 × Int32) ⊕ (Int32)) :=
  (if v1 = (5 : Int32) then (if v4 = 0 then some (.inl ((k0 + (0 : Int32)), (v3 + (1 : Int32))))
  else (gfR σ (some this) 1 1 12).bind fun x21 =>
  (ldI σ x21 1 v3).bind fun x22 =>
  some (.inl ((k0 + x22), (v3 + (1 : Int32)))))
  else some (.inl ((k0 + (0 : Int32)), (v3 + (1 : Int32)))))
def fX1_counted_b99 (φ : Nat) (this : Nat) (v1 : Int32) (v3 : Int32) (v4 : Int32) (k0 : Int32) (σ : St) : Option ((Int32 × Int32) ⊕ (Int32)) :=
  (if v1 = (4 : Int32) then (if v4 = 0 then fX1_counted_b123 φ this v1 v3 v4 k0 σ
  else (gfR σ (some this) 1 1 14).bind fun x24 =>
  (ldI σ x24 1 v3).bind fun x25 =>
  (if x25 ≤ (1 : Int32) then fX1_counted_b123 φ this v1 v3 v4 k0 σ
  else some (.inl ((k0 + (1 : Int32)), (v3 + (1 : Int32))))))
  else fX1_counted_b123 φ this v1 v3 v4 k0 σ)
def fX1_counted_l75 (φ : Nat) (this : Nat) (v1 : Int32) (σ : St) (v2 : Int32) (v3 : Int32) : Option ((Int32 × Int32) ⊕ (Int32)) :=
  (if (8 : Int32) ≤ v3 then some (.inr v2)
  else (cV σ (some this) 1 fun o => fX1_isThere φ o v3 σ).bind fun y16 =>
  (if v1 = (3 : Int32) then (if y16 = 0 then fX1_counted_b99 φ this v1 v3 y16 v2 σ
  else some (.inl ((v2 + (1 : Int32)), (v3 + (1 : Int32)))))
  else fX1_counted_b99 φ this v1 v3 y16 v2 σ))
def fX1_counted (φ : Nat) (this : Nat) (v1 : Int32) (σ : St) : Option (Int32) :=
  (it (fun s : Int32 × Int32 => fX1_counted_l4 φ this v1 σ s.1 s.2) φ ((0 : Int32), (0 : Int32))).bind fun e6 =>
  (it (fun s : Int32 × Int32 => fX1_counted_l40 φ this v1 σ s.1 s.2) φ (e6, (0 : Int32))).bind fun e13 =>
  (it (fun s : Int32 × Int32 => fX1_counted_l75 φ this v1 σ s.1 s.2) φ (e13, (0 : Int32))).bind fun e28 =>
  (if v1 = 0 then (gfI σ (some this) 1 1 11).bind fun x31 =>
  some x31
  else some e28)
def fX1_count (φ : Nat) (this : Nat) (v1 : Int32) (σ : St) : Option (Int32) :=
  (fX1_in φ v1 (0 : Int32) (5 : Int32) σ).bind fun y1 =>
  (if y1 = 0 then some (-1 : Int32)
  else (cV σ (some this) 1 fun o => fX1_counted φ o v1 σ).bind fun y3 =>
  some y3)
def fX1_mix (φ : Nat) (this : Nat) (v1 : Int64) (σ : St) : Option (St) :=
  (gfL σ (some this) 1 1 43).bind fun x1 =>
  (pfL σ (some this) 1 1 43 (((31 : Int64) * x1) + v1)).bind fun s2 =>
  some s2
def fX1_mixWord_l48 (φ : Nat) (this : Nat) (v1 : Int32) (v2 : Int32) (σ : St) : Option ((Int32 × St) ⊕ (St)) :=
  (gfR σ (some this) 1 1 12).bind fun x14 =>
  (ldI σ x14 1 v1).bind fun x15 =>
  (if x15 ≤ v2 then some (.inr σ)
  else (cV σ (some this) 1 fun o => fX1_at0 φ o v1 v2 σ).bind fun y17 =>
  (cV σ (some this) 1 fun o => fX1_mix φ o (y17.toInt64) σ).bind fun y18 =>
  some (.inl ((v2 + (1 : Int32)), y18)))
def fX1_mixWord (φ : Nat) (this : Nat) (v1 : Int32) (σ : St) : Option (St) :=
  (cV σ (some this) 1 fun o => fX1_isThere φ o v1 σ).bind fun y1 =>
  (if y1 = 0 then (cV σ (some this) 1 fun o => fX1_mix φ o (-1 : Int64) σ).bind fun y3 =>
  some y3
  else (gfR σ (some this) 1 1 14).bind fun x4 =>
  (ldI σ x4 1 v1).bind fun x5 =>
  (cV σ (some this) 1 fun o => fX1_mix φ o (x5.toInt64) σ).bind fun y6 =>
  (gfR y6 (some this) 1 1 14).bind fun x7 =>
  (ldI y6 x7 1 v1).bind fun x8 =>
  (cV y6 (some this) 1 fun o => fX1_markOf φ o v1 x8 y6).bind fun y9 =>
  (cV y6 (some this) 1 fun o => fX1_mix φ o (y9.toInt64) y6).bind fun y10 =>
  (gfR y10 (some this) 1 1 12).bind fun x11 =>
  (ldI y10 x11 1 v1).bind fun x12 =>
  (cV y10 (some this) 1 fun o => fX1_mix φ o (x12.toInt64) y10).bind fun y13 =>
  (it (fun s : Int32 × St => fX1_mixWord_l48 φ this v1 s.1 s.2) φ ((0 : Int32), y13)).bind fun e19 =>
  some e19)
def fX1_digest_l9 (φ : Nat) (this : Nat) (v1 : Int32) (σ : St) : Option ((Int32 × St) ⊕ (St)) :=
  (if (6 : Int32) ≤ v1 then some (.inr σ)
  else (cV σ (some this) 1 fun o => fX1_counted φ o v1 σ).bind fun y3 =>
  (cV σ (some this) 1 fun o => fX1_mix φ o (y3.toInt64) σ).bind fun y4 =>
  some (.inl ((v1 + (1 : Int32)), y4)))
def fX1_digest_l33 (φ : Nat) (this : Nat) (v1 : Int32) (σ : St) : Option ((Int32 × St) ⊕ (St)) :=
  (if (8 : Int32) ≤ v1 then some (.inr σ)
  else (cV σ (some this) 1 fun o => fX1_mixWord φ o v1 σ).bind fun y8 =>
  some (.inl ((v1 + (1 : Int32)), y8)))
def fX1_digest_l71 (φ : Nat) (this : Nat) (v1 : Int32) (v2 : Int32) (σ : St) : Option ((Int32 × St) ⊕ (St)) :=
  (gfR σ (some this) 1 1 6).bind fun x15 =>
  (ldI σ x15 1 v1).bind fun x16 =>
  (if x16 ≤ v2 then some (.inr σ)
  else (cV σ (some this) 1 fun o => fX1_rowAt φ o v1 v2 σ).bind fun y18 =>
  (cV σ (some this) 1 fun o => fX1_mix φ o (y18.toInt64) σ).bind fun y19 =>
  some (.inl ((v2 + (1 : Int32)), y19)))
def fX1_digest_l52 (φ : Nat) (this : Nat) (v1 : Int32) (σ : St) : Option ((Int32 × St) ⊕ (St)) :=
  (if (6 : Int32) ≤ v1 then some (.inr σ)
  else (gfR σ (some this) 1 1 6).bind fun x12 =>
  (ldI σ x12 1 v1).bind fun x13 =>
  (cV σ (some this) 1 fun o => fX1_mix φ o (x13.toInt64) σ).bind fun y14 =>
  (it (fun s : Int32 × St => fX1_digest_l71 φ this v1 s.1 s.2) φ ((0 : Int32), y14)).bind fun e20 =>
  some (.inl ((v1 + (1 : Int32)), e20)))
def fX1_digest_l124 (φ : Nat) (this : Nat) (v1 : Int32) (v2 : Int32) (σ : St) : Option ((Int32 × St) ⊕ (St)) :=
  (gfR σ (some this) 1 1 9).bind fun x28 =>
  (ldI σ x28 1 v1).bind fun x29 =>
  (if x29 ≤ v2 then some (.inr σ)
  else (cV σ (some this) 1 fun o => fX1_byteAt φ o v1 v2 σ).bind fun y31 =>
  (cV σ (some this) 1 fun o => fX1_mix φ o (y31.toInt64) σ).bind fun y32 =>
  some (.inl ((v2 + (1 : Int32)), y32)))
def fX1_digest_l106 (φ : Nat) (this : Nat) (v1 : Int32) (σ : St) : Option ((Int32 × St) ⊕ (St)) :=
  (if (4 : Int32) ≤ v1 then some (.inr σ)
  else (gfR σ (some this) 1 1 9).bind fun x25 =>
  (ldI σ x25 1 v1).bind fun x26 =>
  (cV σ (some this) 1 fun o => fX1_mix φ o (x26.toInt64) σ).bind fun y27 =>
  (it (fun s : Int32 × St => fX1_digest_l124 φ this v1 s.1 s.2) φ ((0 : Int32), y27)).bind fun e33 =>
  some (.inl ((v1 + (1 : Int32)), e33)))
def fX1_digest (φ : Nat) (this : Nat) (σ : St) : Option (Int64 × St) :=
  (pfL σ (some this) 1 1 43 (17 : Int64)).bind fun s1 =>
  (it (fun s : Int32 × St => fX1_digest_l9 φ this s.1 s.2) φ ((0 : Int32), s1)).bind fun e5 =>
  (it (fun s : Int32 × St => fX1_digest_l33 φ this s.1 s.2) φ ((0 : Int32), e5)).bind fun e9 =>
  (it (fun s : Int32 × St => fX1_digest_l52 φ this s.1 s.2) φ ((0 : Int32), e9)).bind fun e22 =>
  (it (fun s : Int32 × St => fX1_digest_l106 φ this s.1 s.2) φ ((0 : Int32), e22)).bind fun e35 =>
  (gfL e35 (some this) 1 1 43).bind fun x37 =>
  some (x37, e35)
