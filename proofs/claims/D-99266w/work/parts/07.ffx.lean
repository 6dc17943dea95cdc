/-! the functional forms, printed by gen/gen.py out of the bytecode -/
set_option linter.unusedVariables false
/-- MissedTrains.in(II)Z -/
def fX0_in (a0 : Int32) (a1 : Int32) : Option Int32 :=
  if a0 < 0 then
    some (0 : Int32)
  else
  if a1 ≤ a0 then
    some (0 : Int32)
  else
  some (1 : Int32)

/-- MissedTrains.within(III)Z -/
def fX0_within (a0 : Int32) (a1 : Int32) (a2 : Int32) : Option Int32 :=
  if a0 < a1 then
    some (0 : Int32)
  else
  if a2 < a0 then
    some (0 : Int32)
  else
  some (1 : Int32)

/-- MissedTrains.has(II)Z -/
def fX0_has (a0 : Int32) (a1 : Int32) : Option Int32 :=
  if ((jshr a0 a1) &&& (1 : Int32)) = (1 : Int32) then
    some (1 : Int32)
  else
  some (0 : Int32)

/-- MissedTrains.held(II)I -/
def fX0_held (a0 : Int32) (a1 : Int32) : Option Int32 :=
  some (jmax (0 : Int32) (jmin a1 a0))

/-- MissedTrains.isTrain(I)Z -/
def fX0_isTrain (m : Hp) (a0 : Option Nat) (a1 : Int32) : Option Int32 :=
  (hp_gI m a0 0 3).bind fun v1 =>
  (fX0_in a1 v1).bind fun v2 =>
  (hp_z v2).bind fun z3 =>
  some z3

/-- MissedTrains.isStation(I)Z -/
def fX0_isStation (a0 : Int32) : Option Int32 :=
  (fX0_in a0 (10 : Int32)).bind fun v1 =>
  (hp_z v1).bind fun z2 =>
  some z2

/-- MissedTrains.areTwo(II)Z -/
def fX0_areTwo (a0 : Int32) (a1 : Int32) : Option Int32 :=
  (fX0_isStation a0).bind fun v1 =>
  if v1 = 0 then
    some (0 : Int32)
  else
  (fX0_isStation a1).bind fun v3 =>
  if v3 = 0 then
    some (0 : Int32)
  else
  if a0 = a1 then
    some (0 : Int32)
  else
  some (1 : Int32)

/-- MissedTrains.minuteOf(I)I -/
def fX0_minuteOf (m : Hp) (a0 : Option Nat) (a1 : Int32) : Option Int32 :=
  (hp_gR m a0 0 0).bind fun v1 =>
  (hp_gR m a0 0 1).bind fun v2 =>
  (hp_aI m v2 0 a1).bind fun v3 =>
  (hp_aR m v1 5 v3).bind fun v4 =>
  (hp_gR m v4 5 1).bind fun v5 =>
  (hp_gR m a0 0 2).bind fun v6 =>
  (hp_aI m v6 0 a1).bind fun v7 =>
  (hp_aI m v5 0 v7).bind fun v8 =>
  some v8

/-- MissedTrains.laysEvents()V -/
def fX0_laysEvents_L35 (b0 : Option Nat) (b1 : Int32) (b2 : Int32) : (Int32 × Hp) → Option ((Int32 × Hp) ⊕ (Int32 × Hp)) := fun (s3_11, m11) =>
  if s3_11 ≤ 0 then
    some (.inr (s3_11, m11))
  else
  (hp_on m11 b0 0 (fX0_minuteOf m11 b0 (s3_11 - (1 : Int32)))).bind fun v13 =>
  (hp_gR m11 b0 0 0).bind fun v14 =>
  (hp_aR m11 v14 5 b1).bind fun v15 =>
  (hp_gR m11 v15 5 1).bind fun v16 =>
  (hp_aI m11 v16 0 b2).bind fun v17 =>
  if v13 ≤ v17 then
    some (.inr (s3_11, m11))
  else
  (hp_gR m11 b0 0 1).bind fun v19 =>
  (hp_gR m11 b0 0 1).bind fun v20 =>
  (hp_aI m11 v20 0 (s3_11 - (1 : Int32))).bind fun v21 =>
  (hp_sI m11 v19 0 s3_11 v21).bind fun m22 =>
  (hp_gR m22 b0 0 2).bind fun v23 =>
  (hp_gR m22 b0 0 2).bind fun v24 =>
  (hp_aI m22 v24 0 (s3_11 - (1 : Int32))).bind fun v25 =>
  (hp_sI m22 v23 0 s3_11 v25).bind fun m26 =>
  some (.inl ((s3_11 + (-1 : Int32)), m26))
def fX0_laysEvents_L17 (b0 : Option Nat) (b1 : Int32) : (Int32 × Hp) → Option ((Int32 × Hp) ⊕ Hp) := fun (s2_5, m5) =>
  (hp_gR m5 b0 0 0).bind fun v6 =>
  (hp_aR m5 v6 5 b1).bind fun v7 =>
  (hp_gI m5 v7 5 2).bind fun v8 =>
  if v8 ≤ s2_5 then
    some (.inr m5)
  else
  (hp_gI m5 b0 0 4).bind fun v10 =>
  (iter (fX0_laysEvents_L35 b0 b1 s2_5) FUEL (v10, m5)).bind fun r11 =>
  (
  match r11 with
  | (v27, m28) =>
    (hp_gR m28 b0 0 1).bind fun v29 =>
    (hp_sI m28 v29 0 v27 b1).bind fun m30 =>
    (hp_gR m30 b0 0 2).bind fun v31 =>
    (hp_sI m30 v31 0 v27 s2_5).bind fun m32 =>
    (hp_gI m32 b0 0 4).bind fun v33 =>
    (hp_pI m32 b0 0 4 (v33 + (1 : Int32))).bind fun m34 =>
    some (.inl ((s2_5 + (1 : Int32)), m34))
  )
def fX0_laysEvents_L7 (b0 : Option Nat) : (Int32 × Hp) → Option ((Int32 × Hp) ⊕ Hp) := fun (s1_2, m2) =>
  (hp_gI m2 b0 0 3).bind fun v3 =>
  if v3 ≤ s1_2 then
    some (.inr m2)
  else
  (iter (fX0_laysEvents_L17 b0 s1_2) FUEL ((0 : Int32), m2)).bind fun r5 =>
  (
  match r5 with
  | m35 =>
    some (.inl ((s1_2 + (1 : Int32)), m35))
  )
def fX0_laysEvents (m : Hp) (a0 : Option Nat) : Option Hp :=
  (hp_pI m a0 0 4 (0 : Int32)).bind fun m1 =>
  (iter (fX0_laysEvents_L7 a0) FUEL ((0 : Int32), m1)).bind fun r2 =>
  (
  match r2 with
  | m36 =>
    some m36
  )

/-- MissedTrains$Number.worth(LMissedTrains$Asked;)I -/
def fX11_worth (m : Hp) (a0 : Option Nat) (a1 : Option Nat) : Option Int32 :=
  (hp_gI m a0 9 0).bind fun v1 =>
  some v1

/-- MissedTrains$Moment.value(I)I -/
def fX2_value (m : Hp) (a0 : Option Nat) (a1 : Int32) : Option Int32 :=
  if a1 = (102 : Int32) then
    (hp_gI m a0 1 7).bind fun v2 =>
    some v2
  else
  if a1 = (107 : Int32) then
    (hp_gI m a0 1 3).bind fun v4 =>
    some v4
  else
  if a1 = (108 : Int32) then
    (hp_gI m a0 1 4).bind fun v6 =>
    some v6
  else
  if a1 = (110 : Int32) then
    (hp_gI m a0 1 5).bind fun v8 =>
    some v8
  else
  if a1 = (112 : Int32) then
    (hp_gI m a0 1 6).bind fun v10 =>
    some v10
  else
  if a1 = (114 : Int32) then
    (hp_gI m a0 1 1).bind fun v12 =>
    some v12
  else
  if a1 = (115 : Int32) then
    (hp_gI m a0 1 2).bind fun v14 =>
    some v14
  else
  if a1 = (121 : Int32) then
    (hp_gI m a0 1 8).bind fun v16 =>
    some v16
  else
  (hp_gI m a0 1 9).bind fun v17 =>
  some v17

/-- MissedTrains$Letter.worth(LMissedTrains$Asked;)I -/
def fX12_worth (m : Hp) (a0 : Option Nat) (a1 : Option Nat) : Option Int32 :=
  (hp_gI m a0 10 0).bind fun v1 =>
  (hp_on m a1 1 (fX2_value m a1 v1)).bind fun v2 =>
  some v2

/-- MissedTrains$Row.worked(IIILMissedTrains$Asked;)I -/
def fX10_worked (m : Hp) (a0 : Int32) (a1 : Int32) (a2 : Int32) (a3 : Option Nat) : Option (Int32 × Hp) :=
  if a0 = (42 : Int32) then
    some ((a1 * a2), m)
  else
  if a0 = (43 : Int32) then
    some ((a1 + a2), m)
  else
  if a0 = (45 : Int32) then
    some ((a1 - a2), m)
  else
  ((if a2 = 0 then
    (hp_pZ m a3 1 0 (1 : Int32)).bind fun m11 =>
    some m11
  else
  some m : Option Hp)).bind fun m4 =>
  if a2 = 0 then
    some ((0 : Int32), m4)
  else
  if a0 = (47 : Int32) then
    if a2 = 0 then none else
    some ((a1 / a2), m4)
  else
  if a2 = 0 then none else
  some ((jrem a1 a2), m4)

/-- MissedTrains$Row.worth(LMissedTrains$Asked;)I -/
def fX10_worth_L14 (rec : Hp → Option Nat → Option Nat → Option (Int32 × Hp)) (b1 : Option Nat) : (Int32 × Option Nat × Hp) → Option ((Int32 × Option Nat × Hp) ⊕ (Int32 × Hp)) := fun (s2_5, s3_5, m5) =>
  if s3_5 = none then
    some (.inr (s2_5, m5))
  else
  (hp_gI m5 s3_5 8 0).bind fun v7 =>
  (hp_gR m5 s3_5 8 1).bind fun v8 =>
  (rec m5 v8 b1).bind fun (v9, m10) =>
  (fX10_worked m10 v7 s2_5 v9 b1).bind fun (v11, m12) =>
  (hp_gR m12 s3_5 8 2).bind fun v13 =>
  some (.inl (v11, v13, m12))
def fX10_worth (rec : Hp → Option Nat → Option Nat → Option (Int32 × Hp)) (m : Hp) (a0 : Option Nat) (a1 : Option Nat) : Option (Int32 × Hp) :=
  (hp_gR m a0 8 1).bind fun v1 =>
  (rec m v1 a1).bind fun (v2, m3) =>
  (hp_gR m3 a0 8 2).bind fun v4 =>
  (iter (fX10_worth_L14 rec a1) FUEL (v2, v4, m3)).bind fun r5 =>
  (
  match r5 with
  | (v14, m15) =>
    some (v14, m15)
  )

def fX9_worth : Nat → Hp → Option Nat → Option Nat → Option (Int32 × Hp)
  | 0, _, _, _ => none
  | n + 1, m, a0, a1 => if hp_cls m a0 = some 8 then fX10_worth (fX9_worth n) m a0 a1 else if hp_cls m a0 = some 9 then (fX11_worth m a0 a1).map fun v => (v, m) else if hp_cls m a0 = some 10 then (fX12_worth m a0 a1).map fun v => (v, m) else none

/-- MissedTrains$Compared.holds(LMissedTrains$Asked;)I -/
def fX16_holds (m : Hp) (a0 : Option Nat) (a1 : Option Nat) : Option (Int32 × Hp) :=
  (hp_pZ m a1 1 0 (0 : Int32)).bind fun m1 =>
  (hp_gR m1 a0 13 0).bind fun v2 =>
  (fX9_worth 60 m1 v2 a1).bind fun (v3, m4) =>
  (hp_gR m4 a0 13 1).bind fun v5 =>
  (fX9_worth 60 m4 v5 a1).bind fun (v6, m7) =>
  (hp_gI m7 a0 13 2).bind fun v8 =>
  ((if v8 = (60 : Int32) then
    if v6 ≤ v3 then
      some (0 : Int32)
    else
    some (1 : Int32)
  else
  (hp_gI m7 a0 13 2).bind fun v15 =>
  if v15 = (62 : Int32) then
    if v3 ≤ v6 then
      some (0 : Int32)
    else
    some (1 : Int32)
  else
  if v3 = v6 then
    some (1 : Int32)
  else
  some (0 : Int32) : Option Int32)).bind fun v9 =>
  (hp_gI m7 a1 1 0).bind fun v11 =>
  if v11 = 0 then
    if v9 = 0 then
      some ((0 : Int32), m7)
    else
    some ((1 : Int32), m7)
  else
  some ((2 : Int32), m7)

/-- MissedTrains$Not.holds(LMissedTrains$Asked;)I -/
def fX15_holds (rec : Hp → Option Nat → Option Nat → Option (Int32 × Hp)) (m : Hp) (a0 : Option Nat) (a1 : Option Nat) : Option (Int32 × Hp) :=
  (hp_gR m a0 12 0).bind fun v1 =>
  (rec m v1 a1).bind fun (v2, m3) =>
  if v2 = (2 : Int32) then
    some ((2 : Int32), m3)
  else
  some (((1 : Int32) - v2), m3)

/-- MissedTrains$Some.holds(LMissedTrains$Asked;)I -/
def fX14_holds_L2 (rec : Hp → Option Nat → Option Nat → Option (Int32 × Hp)) (b0 : Option Nat) (b1 : Option Nat) : (Option Nat × Hp) → Option ((Option Nat × Hp) ⊕ (Hp ⊕ (Int32 × Hp))) := fun (s2_1, m1) =>
  if s2_1 = none then
    some (.inr (.inl m1))
  else
  (hp_gR m1 s2_1 11 0).bind fun v3 =>
  (rec m1 v3 b1).bind fun (v4, m5) =>
  if v4 = (2 : Int32) then
    some (.inr (.inr (v4, m5)))
  else
  (hp_gI m5 b0 11 1).bind fun v7 =>
  if v4 = v7 then
    some (.inr (.inr (v4, m5)))
  else
  (hp_gR m5 s2_1 11 2).bind fun v9 =>
  some (.inl (v9, m5))
def fX14_holds (rec : Hp → Option Nat → Option Nat → Option (Int32 × Hp)) (m : Hp) (a0 : Option Nat) (a1 : Option Nat) : Option (Int32 × Hp) :=
  (iter (fX14_holds_L2 rec a0 a1) FUEL (a0, m)).bind fun r1 =>
  (
  match r1 with
  | .inl m10 =>
    (hp_gI m10 a0 11 1).bind fun v11 =>
    some (((1 : Int32) - v11), m10)
  | .inr o => some o
  )

def fX13_holds : Nat → Hp → Option Nat → Option Nat → Option (Int32 × Hp)
  | 0, _, _, _ => none
  | n + 1, m, a0, a1 => if hp_cls m a0 = some 11 then fX14_holds (fX13_holds n) m a0 a1 else if hp_cls m a0 = some 12 then fX15_holds (fX13_holds n) m a0 a1 else if hp_cls m a0 = some 13 then fX16_holds m a0 a1 else none

/-- MissedTrains$Sum.told(LMissedTrains$Asked;)I -/
def fX9_told (m : Hp) (a0 : Option Nat) (a1 : Option Nat) : Option (Int32 × Hp) :=
  (hp_pZ m a1 1 0 (0 : Int32)).bind fun m1 =>
  (fX9_worth 60 m1 a0 a1).bind fun (v2, m3) =>
  (hp_gI m3 a1 1 0).bind fun v4 =>
  if v4 = 0 then
    some (v2, m3)
  else
  some ((0 : Int32), m3)

/-- MissedTrains$Text.tells(ILMissedTrains$Asked;)I -/
def fX5_tells_L2 (b0 : Option Nat) (b1 : Int32) (b2 : Option Nat) : (Int32 × Hp) → Option ((Int32 × Hp) ⊕ (Hp ⊕ (Int32 × Hp))) := fun (s3_1, m1) =>
  (hp_gI m1 b0 4 3).bind fun v2 =>
  if v2 ≤ s3_1 then
    some (.inr (.inl m1))
  else
  (hp_gR m1 b0 4 0).bind fun v4 =>
  (hp_aI m1 v4 0 s3_1).bind fun v5 =>
  if v5 = b1 then
    (hp_gR m1 b0 4 2).bind fun v7 =>
    (hp_aR m1 v7 4 s3_1).bind fun v8 =>
    (fX13_holds 60 m1 v8 b2).bind fun (v9, m10) =>
    if v9 = (1 : Int32) then
      (hp_gR m10 b0 4 1).bind fun v12 =>
      (hp_aR m10 v12 3 s3_1).bind fun v13 =>
      (hp_onS m10 v13 (fX9_told m10 v13 b2)).bind fun (v14, m15) =>
      some (.inr (.inr (v14, m15)))
    else
    some (.inl ((s3_1 + (1 : Int32)), m10))
  else
  some (.inl ((s3_1 + (1 : Int32)), m1))
def fX5_tells (m : Hp) (a0 : Option Nat) (a1 : Int32) (a2 : Option Nat) : Option (Int32 × Hp) :=
  (iter (fX5_tells_L2 a0 a1 a2) FUEL ((0 : Int32), m)).bind fun r1 =>
  (
  match r1 with
  | .inl m16 =>
    some ((0 : Int32), m16)
  | .inr o => some o
  )

/-- MissedTrains.tells(II)I -/
def fX0_tells (m : Hp) (a0 : Option Nat) (a1 : Int32) (a2 : Int32) : Option (Int32 × Hp) :=
  (hp_gR m a0 0 11).bind fun v1 =>
  (hp_gR m a0 0 6).bind fun v2 =>
  (hp_on m v1 4 (fX5_tells m v1 a1 v2)).bind fun (v3, m4) =>
  (fX0_held v3 a2).bind fun v5 =>
  some (v5, m4)

/-- MissedTrains$Moment.<init>()V -/
def fX2_init (a0 : Nat) : Option Unit :=
  some ()

/-- MissedTrains$Person.<init>()V -/
def fX4_init (a0 : Nat) : Option Unit :=
  some ()

/-- MissedTrains$Platform.<init>(LMissedTrains;)V -/
def fX3_init_L36 (b0 : Option Nat) : (Int32 × Hp) → Nat → Option (((Int32 × Hp) ⊕ Hp) × Nat × Nat) := fun (s2_11, m11) nx11 =>
  if (12 : Int32) ≤ s2_11 then
    some ((.inr m11), 0, 0)
  else
  (hp_gR m11 b0 2 0).bind fun v13 =>
  (some (hp_set m11 (nx11) (.inr (3, dfX4)))).bind fun m14 =>
  andA 1 6 (
  (fX4_init (nx11)).bind fun _u =>
  (hp_sR m14 v13 6 s2_11 (some (nx11))).bind fun m16 =>
  some ((.inl ((s2_11 + (1 : Int32)), m16)), 0, 0))
def fX3_init (m : Hp) (nx : Nat) (a0 : Nat) (a1 : Option Nat) : Option (Hp × Nat × Nat) :=
  (hp_pR m (some a0) 2 8 a1).bind fun m1 =>
  (some (hp_newr m1 (nx) 6 12)).bind fun m2 =>
  andA 1 12 (
  (hp_pR m2 (some a0) 2 0 (some (nx))).bind fun m4 =>
  (some (hp_newa m4 (nx + 1) 0 48)).bind fun m5 =>
  andA 1 48 (
  (hp_pR m5 (some a0) 2 1 (some (nx + 1))).bind fun m7 =>
  (some (hp_newa m7 (nx + 1 + 1) 0 12)).bind fun m8 =>
  andA 1 12 (
  (hp_pR m8 (some a0) 2 2 (some (nx + 1 + 1))).bind fun m10 =>
  (iterA (fX3_init_L36 (some a0)) FUEL ((0 : Int32), m10) (nx + 1 + 1 + 1)).bind fun (r11, e11, f11) =>
  andA e11 f11 (
  match r11 with
  | m17 =>
    some (m17, 0, 0)))))

/-- MissedTrains$Text.<init>()V -/
def fX5_init (m : Hp) (nx : Nat) (a0 : Nat) : Option (Hp × Nat × Nat) :=
  (some (hp_newa m (nx) 0 16)).bind fun m1 =>
  andA 1 16 (
  (hp_pR m1 (some a0) 4 0 (some (nx))).bind fun m3 =>
  (some (hp_newr m3 (nx + 1) 3 16)).bind fun m4 =>
  andA 1 16 (
  (hp_pR m4 (some a0) 4 1 (some (nx + 1))).bind fun m6 =>
  (some (hp_newr m6 (nx + 1 + 1) 4 16)).bind fun m7 =>
  andA 1 16 (
  (hp_pR m7 (some a0) 4 2 (some (nx + 1 + 1))).bind fun m9 =>
  some (m9, 0, 0))))

/-- MissedTrains$Train.<init>()V -/
def fX6_init (m : Hp) (nx : Nat) (a0 : Nat) : Option (Hp × Nat × Nat) :=
  (some (hp_newa m (nx) 0 8)).bind fun m1 =>
  andA 1 8 (
  (hp_pR m1 (some a0) 5 0 (some (nx))).bind fun m3 =>
  (some (hp_newa m3 (nx + 1) 0 8)).bind fun m4 =>
  andA 1 8 (
  (hp_pR m4 (some a0) 5 1 (some (nx + 1))).bind fun m6 =>
  (hp_pZ m6 (some a0) 5 4 (1 : Int32)).bind fun m7 =>
  some (m7, 0, 0)))

/-- MissedTrains.<init>()V -/
def fX0_init_L173 (b0 : Option Nat) : (Int32 × Hp) → Nat → Option (((Int32 × Hp) ⊕ Hp) × Nat × Nat) := fun (s1_69, m69) nx69 =>
  if (48 : Int32) ≤ s1_69 then
    some ((.inr m69), 0, 0)
  else
  (hp_gR m69 b0 0 0).bind fun v71 =>
  (some (hp_set m69 (nx69) (.inr (5, dfX6)))).bind fun m72 =>
  andA 1 5 (
  (fX6_init m72 (nx69 + 1) (nx69)).bind fun (m74, d75, c76) =>
  andA d75 c76 (
  (hp_sR m74 v71 5 s1_69 (some (nx69))).bind fun m78 =>
  some ((.inl ((s1_69 + (1 : Int32)), m78)), 0, 0)))
def fX0_init (m : Hp) (nx : Nat) (a0 : Nat) : Option (Hp × Nat × Nat) :=
  (some (hp_newr m (nx) 5 48)).bind fun m1 =>
  andA 1 48 (
  (hp_pR m1 (some a0) 0 0 (some (nx))).bind fun m3 =>
  (some (hp_newa m3 (nx + 1) 0 384)).bind fun m4 =>
  andA 1 384 (
  (hp_pR m4 (some a0) 0 1 (some (nx + 1))).bind fun m6 =>
  (some (hp_newa m6 (nx + 1 + 1) 0 384)).bind fun m7 =>
  andA 1 384 (
  (hp_pR m7 (some a0) 0 2 (some (nx + 1 + 1))).bind fun m9 =>
  (hp_pI m9 (some a0) 0 5 (5 : Int32)).bind fun m10 =>
  (some (hp_set m10 (nx + 1 + 1 + 1) (.inr (1, dfX2)))).bind fun m11 =>
  andA 1 10 (
  (fX2_init (nx + 1 + 1 + 1)).bind fun _u =>
  (hp_pR m11 (some a0) 0 6 (some (nx + 1 + 1 + 1))).bind fun m13 =>
  (some (hp_set m13 (nx + 1 + 1 + 1 + 1) (.inr (2, dfX3)))).bind fun m14 =>
  andA 1 9 (
  (fX3_init m14 (nx + 1 + 1 + 1 + 1 + 1) (nx + 1 + 1 + 1 + 1) (some a0)).bind fun (m16, d17, c18) =>
  andA d17 c18 (
  (hp_pR m16 (some a0) 0 7 (some (nx + 1 + 1 + 1 + 1))).bind fun m20 =>
  (some (hp_set m20 (nx + 1 + 1 + 1 + 1 + 1 + d17) (.inr (2, dfX3)))).bind fun m21 =>
  andA 1 9 (
  (fX3_init m21 (nx + 1 + 1 + 1 + 1 + 1 + d17 + 1) (nx + 1 + 1 + 1 + 1 + 1 + d17) (some a0)).bind fun (m23, d24, c25) =>
  andA d24 c25 (
  (hp_pR m23 (some a0) 0 8 (some (nx + 1 + 1 + 1 + 1 + 1 + d17))).bind fun m27 =>
  (some (hp_set m27 (nx + 1 + 1 + 1 + 1 + 1 + d17 + 1 + d24) (.inr (2, dfX3)))).bind fun m28 =>
  andA 1 9 (
  (fX3_init m28 (nx + 1 + 1 + 1 + 1 + 1 + d17 + 1 + d24 + 1) (nx + 1 + 1 + 1 + 1 + 1 + d17 + 1 + d24) (some a0)).bind fun (m30, d31, c32) =>
  andA d31 c32 (
  (hp_pR m30 (some a0) 0 9 (some (nx + 1 + 1 + 1 + 1 + 1 + d17 + 1 + d24))).bind fun m34 =>
  (some (hp_newa m34 (nx + 1 + 1 + 1 + 1 + 1 + d17 + 1 + d24 + 1 + d31) 1 260)).bind fun m35 =>
  andA 1 260 (
  (hp_pR m35 (some a0) 0 10 (some (nx + 1 + 1 + 1 + 1 + 1 + d17 + 1 + d24 + 1 + d31))).bind fun m37 =>
  (some (hp_set m37 (nx + 1 + 1 + 1 + 1 + 1 + d17 + 1 + d24 + 1 + d31 + 1) (.inr (4, dfX5)))).bind fun m38 =>
  andA 1 4 (
  (fX5_init m38 (nx + 1 + 1 + 1 + 1 + 1 + d17 + 1 + d24 + 1 + d31 + 1 + 1) (nx + 1 + 1 + 1 + 1 + 1 + d17 + 1 + d24 + 1 + d31 + 1)).bind fun (m40, d41, c42) =>
  andA d41 c42 (
  (hp_pR m40 (some a0) 0 11 (some (nx + 1 + 1 + 1 + 1 + 1 + d17 + 1 + d24 + 1 + d31 + 1))).bind fun m44 =>
  (some (hp_newa m44 (nx + 1 + 1 + 1 + 1 + 1 + d17 + 1 + d24 + 1 + d31 + 1 + 1 + d41) 0 10)).bind fun m45 =>
  andA 1 10 (
  (hp_pR m45 (some a0) 0 14 (some (nx + 1 + 1 + 1 + 1 + 1 + d17 + 1 + d24 + 1 + d31 + 1 + 1 + d41))).bind fun m47 =>
  (some (hp_newa m47 (nx + 1 + 1 + 1 + 1 + 1 + d17 + 1 + d24 + 1 + d31 + 1 + 1 + d41 + 1) 0 10)).bind fun m48 =>
  andA 1 10 (
  (hp_pR m48 (some a0) 0 15 (some (nx + 1 + 1 + 1 + 1 + 1 + d17 + 1 + d24 + 1 + d31 + 1 + 1 + d41 + 1))).bind fun m50 =>
  (some (hp_newa m50 (nx + 1 + 1 + 1 + 1 + 1 + d17 + 1 + d24 + 1 + d31 + 1 + 1 + d41 + 1 + 1) 0 48)).bind fun m51 =>
  andA 1 48 (
  (hp_pR m51 (some a0) 0 16 (some (nx + 1 + 1 + 1 + 1 + 1 + d17 + 1 + d24 + 1 + d31 + 1 + 1 + d41 + 1 + 1))).bind fun m53 =>
  (some (hp_newa m53 (nx + 1 + 1 + 1 + 1 + 1 + d17 + 1 + d24 + 1 + d31 + 1 + 1 + d41 + 1 + 1 + 1) 0 48)).bind fun m54 =>
  andA 1 48 (
  (hp_pR m54 (some a0) 0 17 (some (nx + 1 + 1 + 1 + 1 + 1 + d17 + 1 + d24 + 1 + d31 + 1 + 1 + d41 + 1 + 1 + 1))).bind fun m56 =>
  (some (hp_newa m56 (nx + 1 + 1 + 1 + 1 + 1 + d17 + 1 + d24 + 1 + d31 + 1 + 1 + d41 + 1 + 1 + 1 + 1) 0 48)).bind fun m57 =>
  andA 1 48 (
  (hp_pR m57 (some a0) 0 18 (some (nx + 1 + 1 + 1 + 1 + 1 + d17 + 1 + d24 + 1 + d31 + 1 + 1 + d41 + 1 + 1 + 1 + 1))).bind fun m59 =>
  (some (hp_newa m59 (nx + 1 + 1 + 1 + 1 + 1 + d17 + 1 + d24 + 1 + d31 + 1 + 1 + d41 + 1 + 1 + 1 + 1 + 1) 2 48)).bind fun m60 =>
  andA 1 48 (
  (hp_pR m60 (some a0) 0 19 (some (nx + 1 + 1 + 1 + 1 + 1 + d17 + 1 + d24 + 1 + d31 + 1 + 1 + d41 + 1 + 1 + 1 + 1 + 1))).bind fun m62 =>
  (some (hp_newg m62 (nx + 1 + 1 + 1 + 1 + 1 + d17 + 1 + d24 + 1 + d31 + 1 + 1 + d41 + 1 + 1 + 1 + 1 + 1 + 1) 48 8)).bind fun m63 =>
  andA 49 432 (
  (hp_pR m63 (some a0) 0 20 (some (nx + 1 + 1 + 1 + 1 + 1 + d17 + 1 + d24 + 1 + d31 + 1 + 1 + d41 + 1 + 1 + 1 + 1 + 1 + 1))).bind fun m65 =>
  (some (hp_newa m65 (nx + 1 + 1 + 1 + 1 + 1 + d17 + 1 + d24 + 1 + d31 + 1 + 1 + d41 + 1 + 1 + 1 + 1 + 1 + 1 + 49) 0 31)).bind fun m66 =>
  andA 1 31 (
  (hp_pR m66 (some a0) 0 21 (some (nx + 1 + 1 + 1 + 1 + 1 + d17 + 1 + d24 + 1 + d31 + 1 + 1 + d41 + 1 + 1 + 1 + 1 + 1 + 1 + 49))).bind fun m68 =>
  (iterA (fX0_init_L173 (some a0)) FUEL ((0 : Int32), m68) (nx + 1 + 1 + 1 + 1 + 1 + d17 + 1 + d24 + 1 + d31 + 1 + 1 + d41 + 1 + 1 + 1 + 1 + 1 + 1 + 49 + 1)).bind fun (r69, e69, f69) =>
  andA e69 f69 (
  match r69 with
  | m79 =>
    (hp_gR m79 (some a0) 0 7).bind fun v81 =>
    (hp_pI m79 v81 2 4 (1 : Int32)).bind fun m82 =>
    some (m82, 0, 0)))))))))))))))))))))))

/-- MissedTrains.isTold(I)Z -/
def fX0_isTold (m : Hp) (a0 : Option Nat) (a1 : Int32) : Option Int32 :=
  (fX0_in a1 (12 : Int32)).bind fun v1 =>
  if v1 = 0 then
    some (0 : Int32)
  else
  (hp_gR m a0 0 7).bind fun v3 =>
  (hp_gR m v3 2 0).bind fun v4 =>
  (hp_aR m v4 6 a1).bind fun v5 =>
  (hp_gI m v5 3 5).bind fun v6 =>
  if v6 = 0 then
    some (0 : Int32)
  else
  some (1 : Int32)

/-- MissedTrains.person(IIII)Z -/
def fX0_person (m : Hp) (a0 : Option Nat) (a1 : Int32) (a2 : Int32) (a3 : Int32) (a4 : Int32) : Option (Int32 × Hp) :=
  (fX0_in a1 (12 : Int32)).bind fun v1 =>
  if v1 = 0 then
    some ((0 : Int32), m)
  else
  (fX0_areTwo a2 a3).bind fun v3 =>
  if v3 = 0 then
    some ((0 : Int32), m)
  else
  (fX0_in a4 (1440 : Int32)).bind fun v5 =>
  if v5 = 0 then
    some ((0 : Int32), m)
  else
  (hp_gR m a0 0 7).bind fun v7 =>
  (hp_gR m v7 2 0).bind fun v8 =>
  (hp_aR m v8 6 a1).bind fun v9 =>
  (hp_pZ m v9 3 5 (1 : Int32)).bind fun m10 =>
  (hp_pI m10 v9 3 0 a2).bind fun m11 =>
  (hp_pI m11 v9 3 1 a3).bind fun m12 =>
  (hp_pI m12 v9 3 2 a4).bind fun m13 =>
  (hp_pI m13 v9 3 3 (0 : Int32)).bind fun m14 =>
  (hp_pI m14 v9 3 4 (0 : Int32)).bind fun m15 =>
  some ((1 : Int32), m15)

/-- MissedTrains.changing(I)Z -/
def fX0_changing (m : Hp) (a0 : Option Nat) (a1 : Int32) : Option (Int32 × Hp) :=
  (fX0_within a1 (0 : Int32) (60 : Int32)).bind fun v1 =>
  if v1 = 0 then
    some ((0 : Int32), m)
  else
  (hp_pI m a0 0 5 a1).bind fun m3 =>
  some ((1 : Int32), m3)

/-- MissedTrains.push(I)V -/
def fX0_push_L3 (b0 : Option Nat) (b1 : Int32) : (Int32 × Hp) → Option ((Int32 × Hp) ⊕ Hp) := fun (s2_1, m1) =>
  if s2_1 < 0 then
    some (.inr m1)
  else
  (hp_gR m1 b0 0 10).bind fun v3 =>
  (hp_gI m1 b0 0 12).bind fun v4 =>
  (hp_sI m1 v3 1 v4 (j2b (jshr b1 s2_1))).bind fun m5 =>
  (hp_gI m5 b0 0 12).bind fun v6 =>
  (hp_pI m5 b0 0 12 (v6 + (1 : Int32))).bind fun m7 =>
  some (.inl ((s2_1 + (-8 : Int32)), m7))
def fX0_push (m : Hp) (a0 : Option Nat) (a1 : Int32) : Option Hp :=
  (iter (fX0_push_L3 a0 a1) FUEL ((24 : Int32), m)).bind fun r1 =>
  (
  match r1 with
  | m8 =>
    some m8
  )

/-- MissedTrains.feed(IIIII)I -/
def fX0_feed (m : Hp) (a0 : Option Nat) (a1 : Int32) (a2 : Int32) (a3 : Int32) (a4 : Int32) (a5 : Int32) : Option (Int32 × Hp) :=
  (hp_gI m a0 0 12).bind fun v1 =>
  if (v1 + (20 : Int32)) ≤ (260 : Int32) then
    (hp_on m a0 0 (fX0_push m a0 a1)).bind fun m3 =>
    (hp_on m3 a0 0 (fX0_push m3 a0 a2)).bind fun m4 =>
    (hp_on m4 a0 0 (fX0_push m4 a0 a3)).bind fun m5 =>
    (hp_on m5 a0 0 (fX0_push m5 a0 a4)).bind fun m6 =>
    (hp_on m6 a0 0 (fX0_push m6 a0 a5)).bind fun m7 =>
    (hp_gI m7 a0 0 12).bind fun v8 =>
    some (v8, m7)
  else
  some ((-1 : Int32), m)

/-- MissedTrains$Reader.<init>(LMissedTrains;I)V -/
def fX8_init (m : Hp) (nx : Nat) (a0 : Nat) (a1 : Option Nat) (a2 : Int32) : Option (Hp × Nat × Nat) :=
  (hp_pR m (some a0) 7 6 a1).bind fun m1 =>
  (some (hp_set m1 (nx) (.inr (4, dfX5)))).bind fun m2 =>
  andA 1 4 (
  (fX5_init m2 (nx + 1) (nx)).bind fun (m4, d5, c6) =>
  andA d5 c6 (
  (hp_pR m4 (some a0) 7 1 (some (nx))).bind fun m8 =>
  (hp_pI m8 (some a0) 7 0 a2).bind fun m9 =>
  some (m9, 0, 0)))

/-- MissedTrains$Reader.isGood()Z -/
def fX8_isGood (m : Hp) (a0 : Option Nat) : Option Int32 :=
  (hp_gI m a0 7 4).bind fun v1 =>
  if v1 = 0 then
    some (1 : Int32)
  else
  some (0 : Int32)

/-- MissedTrains$Reader.here()I -/
def fX8_here (m : Hp) (a0 : Option Nat) : Option Int32 :=
  (hp_gI m a0 7 2).bind fun v1 =>
  (hp_gI m a0 7 0).bind fun v2 =>
  if v2 ≤ v1 then
    some (0 : Int32)
  else
  (hp_gR m a0 7 6).bind fun v4 =>
  (hp_gR m v4 0 10).bind fun v5 =>
  (hp_gI m a0 7 2).bind fun v6 =>
  (hp_aI m v5 1 v6).bind fun v7 =>
  some (v7 &&& (255 : Int32))

/-- MissedTrains$Reader.bad(II)V -/
def fX8_bad (m : Hp) (a0 : Option Nat) (a1 : Int32) (a2 : Int32) : Option Hp :=
  (hp_gI m a0 7 4).bind fun v1 =>
  if v1 ≤ 0 then
    (hp_pI m a0 7 4 a1).bind fun m3 =>
    (hp_pI m3 a0 7 5 a2).bind fun m4 =>
    some m4
  else
  some m

/-- MissedTrains$Reader.opens()V -/
def fX8_opens (m : Hp) (a0 : Option Nat) : Option Hp :=
  (hp_gI m a0 7 3).bind fun v1 =>
  ((if v1 = (6 : Int32) then
    (hp_gI m a0 7 2).bind fun v9 =>
    (hp_on m a0 7 (fX8_bad m a0 (5 : Int32) v9)).bind fun m10 =>
    some m10
  else
  some m : Option Hp)).bind fun m2 =>
  (hp_gI m2 a0 7 3).bind fun v4 =>
  (hp_pI m2 a0 7 3 (v4 + (1 : Int32))).bind fun m5 =>
  (hp_gI m5 a0 7 2).bind fun v6 =>
  (hp_pI m5 a0 7 2 (v6 + (1 : Int32))).bind fun m7 =>
  some m7

/-- MissedTrains$Reader.must(I)V -/
def fX8_must (m : Hp) (a0 : Option Nat) (a1 : Int32) : Option Hp :=
  (hp_on m a0 7 (fX8_here m a0)).bind fun v1 =>
  if v1 = a1 then
    (hp_gI m a0 7 2).bind fun v3 =>
    (hp_pI m a0 7 2 (v3 + (1 : Int32))).bind fun m4 =>
    some m4
  else
  (hp_gI m a0 7 2).bind fun v5 =>
  (hp_on m a0 7 (fX8_bad m a0 (1 : Int32) v5)).bind fun m6 =>
  (hp_gI m6 a0 7 2).bind fun v7 =>
  (hp_pI m6 a0 7 2 (v7 + (1 : Int32))).bind fun m8 =>
  some m8

/-- MissedTrains$Reader.seesDigit()Z -/
def fX8_seesDigit (m : Hp) (a0 : Option Nat) : Option Int32 :=
  (hp_on m a0 7 (fX8_here m a0)).bind fun v1 =>
  if v1 < (48 : Int32) then
    some (0 : Int32)
  else
  (hp_on m a0 7 (fX8_here m a0)).bind fun v3 =>
  if (57 : Int32) < v3 then
    some (0 : Int32)
  else
  some (1 : Int32)

/-- MissedTrains$Reader.number()I -/
def fX8_number_L7 (b0 : Option Nat) (b1 : Int32) : (Int32 × Hp) → Option ((Int32 × Hp) ⊕ (Int32 × Hp)) := fun (s2_2, m2) =>
  (hp_on m2 b0 7 (fX8_isGood m2 b0)).bind fun v3 =>
  if v3 = 0 then
    some (.inr (s2_2, m2))
  else
  (hp_on m2 b0 7 (fX8_seesDigit m2 b0)).bind fun v5 =>
  if v5 = 0 then
    some (.inr (s2_2, m2))
  else
  (hp_gI m2 b0 7 2).bind fun v7 =>
  ((if v7 = (b1 + (5 : Int32)) then
    (hp_gI m2 b0 7 2).bind fun v14 =>
    (hp_on m2 b0 7 (fX8_bad m2 b0 (2 : Int32) v14)).bind fun m15 =>
    some m15
  else
  some m2 : Option Hp)).bind fun m8 =>
  (hp_on m8 b0 7 (fX8_here m8 b0)).bind fun v10 =>
  (hp_gI m8 b0 7 2).bind fun v11 =>
  (hp_pI m8 b0 7 2 (v11 + (1 : Int32))).bind fun m12 =>
  some (.inl (((((10 : Int32) * s2_2) + v10) - (48 : Int32)), m12))
def fX8_number (m : Hp) (a0 : Option Nat) : Option (Int32 × Hp) :=
  (hp_gI m a0 7 2).bind fun v1 =>
  (iter (fX8_number_L7 a0 v1) FUEL ((0 : Int32), m)).bind fun r2 =>
  (
  match r2 with
  | (v16, m17) =>
    some (v16, m17)
  )

/-- MissedTrains$Number.<init>(I)V -/
def fX11_init (m : Hp) (a0 : Nat) (a1 : Int32) : Option Hp :=
  (hp_pI m (some a0) 9 0 a1).bind fun m1 =>
  some m1

/-- MissedTrains$Letter.<init>(I)V -/
def fX12_init (m : Hp) (a0 : Nat) (a1 : Int32) : Option Hp :=
  (hp_pI m (some a0) 10 0 a1).bind fun m1 =>
  some m1

/-- MissedTrains$Reader.factor()LMissedTrains$Sum; -/
def fX8_factor (rec : Hp → Nat → Option Nat → Option ((Option Nat × Hp) × Nat × Nat)) (m : Hp) (nx : Nat) (a0 : Option Nat) : Option ((Option Nat × Hp) × Nat × Nat) :=
  (hp_on m a0 7 (fX8_here m a0)).bind fun v1 =>
  if v1 = (91 : Int32) then
    (hp_on m a0 7 (fX8_opens m a0)).bind fun m24 =>
    (hp_on m24 a0 7 (fX8_isGood m24 a0)).bind fun v25 =>
    ((if v25 = 0 then
      some ((none, m24), 0, 0)
    else
    (hp_on m24 a0 7 (rec m24 (nx) a0)).bind fun ((v39, m40), d41, c42) =>
    andA d41 c42 (
    some ((v39, m40), 0, 0)) : Option ((Option Nat × Hp) × Nat × Nat))).bind fun ((v26, m27), d28, c28) =>
    andA d28 c28 (
    (hp_on m27 a0 7 (fX8_isGood m27 a0)).bind fun v30 =>
    ((if v30 = 0 then
      some (m27, 0, 0)
    else
    (hp_on m27 a0 7 (fX8_must m27 a0 (93 : Int32))).bind fun m37 =>
    some (m37, 0, 0) : Option (Hp × Nat × Nat))).bind fun (m31, d32, c32) =>
    andA d32 c32 (
    (hp_gI m31 a0 7 3).bind fun v34 =>
    (hp_pI m31 a0 7 3 (v34 - (1 : Int32))).bind fun m35 =>
    some ((v26, m35), 0, 0)))
  else
  (hp_on m a0 7 (fX8_seesDigit m a0)).bind fun v3 =>
  if v3 = 0 then
    ((if v1 = 0 then
      (hp_gI m a0 7 2).bind fun v14 =>
      (hp_on m a0 7 (fX8_bad m a0 (1 : Int32) v14)).bind fun m15 =>
      some (m15, 0, 0)
    else
    if 0 ≤ (strS v1) then
      some (m, 0, 0)
    else
    (hp_gI m a0 7 2).bind fun v17 =>
    (hp_on m a0 7 (fX8_bad m a0 (1 : Int32) v17)).bind fun m18 =>
    some (m18, 0, 0) : Option (Hp × Nat × Nat))).bind fun (m5, d6, c6) =>
    andA d6 c6 (
    (hp_gI m5 a0 7 2).bind fun v8 =>
    (hp_pI m5 a0 7 2 (v8 + (1 : Int32))).bind fun m9 =>
    (some (hp_set m9 (nx + d6) (.inr (10, dfX12)))).bind fun m10 =>
    andA 1 1 (
    (fX12_init m10 (nx + d6) v1).bind fun m12 =>
    some (((some (nx + d6)), m12), 0, 0)))
  else
  (some (hp_set m (nx) (.inr (9, dfX11)))).bind fun m19 =>
  andA 1 1 (
  (hp_on m19 a0 7 (fX8_number m19 a0)).bind fun (v21, m22) =>
  (fX11_init m22 (nx) v21).bind fun m23 =>
  some (((some (nx)), m23), 0, 0))

/-- MissedTrains$Row.<init>(ILMissedTrains$Sum;)V -/
def fX10_init (m : Hp) (a0 : Nat) (a1 : Int32) (a2 : Option Nat) : Option Hp :=
  (hp_pI m (some a0) 8 0 a1).bind fun m1 =>
  (hp_pR m1 (some a0) 8 1 a2).bind fun m2 =>
  some m2

/-- MissedTrains$Reader.product()LMissedTrains$Sum; -/
def fX8_product_L15 (rec : Hp → Nat → Option Nat → Option ((Option Nat × Hp) × Nat × Nat)) (b0 : Option Nat) (b1 : Option Nat) : (Option Nat × Hp) → Nat → Option (((Option Nat × Hp) ⊕ Hp) × Nat × Nat) := fun (s2_9, m9) nx9 =>
  (hp_on m9 b0 7 (fX8_isGood m9 b0)).bind fun v10 =>
  if v10 = 0 then
    some ((.inr m9), 0, 0)
  else
  (hp_on m9 b0 7 (fX8_here m9 b0)).bind fun v12 =>
  ((if v12 = (42 : Int32) then
    some ((.inl ()), 0, 0)
  else
  (hp_on m9 b0 7 (fX8_here m9 b0)).bind fun v29 =>
  if v29 = (47 : Int32) then
    some ((.inl ()), 0, 0)
  else
  (hp_on m9 b0 7 (fX8_here m9 b0)).bind fun v31 =>
  if v31 = (37 : Int32) then
    some ((.inl ()), 0, 0)
  else
  some ((.inr (.inr m9)), 0, 0) : Option ((Unit ⊕ ((Option Nat × Hp) ⊕ Hp)) × Nat × Nat))).bind fun (p13, d13, c13) =>
  andA d13 c13 (
  match p13 with
  | .inl _ =>
    (hp_on m9 b0 7 (fX8_here m9 b0)).bind fun v15 =>
    (hp_gI m9 b0 7 2).bind fun v16 =>
    (hp_pI m9 b0 7 2 (v16 + (1 : Int32))).bind fun m17 =>
    (some (hp_set m17 (nx9 + d13) (.inr (8, dfX10)))).bind fun m18 =>
    andA 1 3 (
    (hp_on m18 b0 7 (fX8_factor rec m18 (nx9 + d13 + 1) b0)).bind fun ((v20, m21), d22, c23) =>
    andA d22 c23 (
    (fX10_init m21 (nx9 + d13) v15 v20).bind fun m25 =>
    (hp_pR m25 s2_9 8 2 (some (nx9 + d13))).bind fun m26 =>
    (hp_gR m26 s2_9 8 2).bind fun v27 =>
    some ((.inl (v27, m26)), 0, 0)))
  | .inr o => some (o, 0, 0))
def fX8_product (rec : Hp → Nat → Option Nat → Option ((Option Nat × Hp) × Nat × Nat)) (m : Hp) (nx : Nat) (a0 : Option Nat) : Option ((Option Nat × Hp) × Nat × Nat) :=
  (some (hp_set m (nx) (.inr (8, dfX10)))).bind fun m1 =>
  andA 1 3 (
  (hp_on m1 a0 7 (fX8_factor rec m1 (nx + 1) a0)).bind fun ((v3, m4), d5, c6) =>
  andA d5 c6 (
  (fX10_init m4 (nx) (0 : Int32) v3).bind fun m8 =>
  (iterA (fX8_product_L15 rec a0 (some (nx))) FUEL ((some (nx)), m8) (nx + 1 + d5)).bind fun (r9, e9, f9) =>
  andA e9 f9 (
  match r9 with
  | m33 =>
    some (((some (nx)), m33), 0, 0))))

/-- MissedTrains$Reader.sum()LMissedTrains$Sum; -/
def fX8_sumB_L15 (rec : Hp → Nat → Option Nat → Option ((Option Nat × Hp) × Nat × Nat)) (b0 : Option Nat) (b1 : Option Nat) : (Option Nat × Hp) → Nat → Option (((Option Nat × Hp) ⊕ Hp) × Nat × Nat) := fun (s2_9, m9) nx9 =>
  (hp_on m9 b0 7 (fX8_isGood m9 b0)).bind fun v10 =>
  if v10 = 0 then
    some ((.inr m9), 0, 0)
  else
  (hp_on m9 b0 7 (fX8_here m9 b0)).bind fun v12 =>
  ((if v12 = (43 : Int32) then
    some ((.inl ()), 0, 0)
  else
  (hp_on m9 b0 7 (fX8_here m9 b0)).bind fun v29 =>
  if v29 = (45 : Int32) then
    some ((.inl ()), 0, 0)
  else
  some ((.inr (.inr m9)), 0, 0) : Option ((Unit ⊕ ((Option Nat × Hp) ⊕ Hp)) × Nat × Nat))).bind fun (p13, d13, c13) =>
  andA d13 c13 (
  match p13 with
  | .inl _ =>
    (hp_on m9 b0 7 (fX8_here m9 b0)).bind fun v15 =>
    (hp_gI m9 b0 7 2).bind fun v16 =>
    (hp_pI m9 b0 7 2 (v16 + (1 : Int32))).bind fun m17 =>
    (some (hp_set m17 (nx9 + d13) (.inr (8, dfX10)))).bind fun m18 =>
    andA 1 3 (
    (hp_on m18 b0 7 (fX8_product rec m18 (nx9 + d13 + 1) b0)).bind fun ((v20, m21), d22, c23) =>
    andA d22 c23 (
    (fX10_init m21 (nx9 + d13) v15 v20).bind fun m25 =>
    (hp_pR m25 s2_9 8 2 (some (nx9 + d13))).bind fun m26 =>
    (hp_gR m26 s2_9 8 2).bind fun v27 =>
    some ((.inl (v27, m26)), 0, 0)))
  | .inr o => some (o, 0, 0))
def fX8_sumB (rec : Hp → Nat → Option Nat → Option ((Option Nat × Hp) × Nat × Nat)) (m : Hp) (nx : Nat) (a0 : Option Nat) : Option ((Option Nat × Hp) × Nat × Nat) :=
  (some (hp_set m (nx) (.inr (8, dfX10)))).bind fun m1 =>
  andA 1 3 (
  (hp_on m1 a0 7 (fX8_product rec m1 (nx + 1) a0)).bind fun ((v3, m4), d5, c6) =>
  andA d5 c6 (
  (fX10_init m4 (nx) (0 : Int32) v3).bind fun m8 =>
  (iterA (fX8_sumB_L15 rec a0 (some (nx))) FUEL ((some (nx)), m8) (nx + 1 + d5)).bind fun (r9, e9, f9) =>
  andA e9 f9 (
  match r9 with
  | m31 =>
    some (((some (nx)), m31), 0, 0))))

def fX8_sum : Nat → Hp → Nat → Option Nat → Option ((Option Nat × Hp) × Nat × Nat)
  | 0, _, _, _ => none
  | n + 1, m, nx, a0 => fX8_sumB (fX8_sum n) m nx a0

/-- MissedTrains$Some.<init>(LMissedTrains$Condition;I)V -/
def fX14_init (m : Hp) (a0 : Nat) (a1 : Option Nat) (a2 : Int32) : Option Hp :=
  (hp_pR m (some a0) 11 0 a1).bind fun m1 =>
  (hp_pI m1 (some a0) 11 1 a2).bind fun m2 =>
  some m2

/-- MissedTrains$Reader.pieces()LMissedTrains$Condition; -/
def fX8_pieces_L15 (rec : Hp → Nat → Option Nat → Option ((Option Nat × Hp) × Nat × Nat)) (b0 : Option Nat) (b1 : Option Nat) : (Option Nat × Hp) → Nat → Option (((Option Nat × Hp) ⊕ Hp) × Nat × Nat) := fun (s2_9, m9) nx9 =>
  (hp_on m9 b0 7 (fX8_isGood m9 b0)).bind fun v10 =>
  if v10 = 0 then
    some ((.inr m9), 0, 0)
  else
  (hp_on m9 b0 7 (fX8_here m9 b0)).bind fun v12 =>
  if v12 = (38 : Int32) then
    (hp_gI m9 b0 7 2).bind fun v14 =>
    (hp_pI m9 b0 7 2 (v14 + (1 : Int32))).bind fun m15 =>
    (some (hp_set m15 (nx9) (.inr (11, dfX14)))).bind fun m16 =>
    andA 1 3 (
    (hp_on m16 b0 7 (rec m16 (nx9 + 1) b0)).bind fun ((v18, m19), d20, c21) =>
    andA d20 c21 (
    (fX14_init m19 (nx9) v18 (0 : Int32)).bind fun m23 =>
    (hp_pR m23 s2_9 11 2 (some (nx9))).bind fun m24 =>
    (hp_gR m24 s2_9 11 2).bind fun v25 =>
    some ((.inl (v25, m24)), 0, 0)))
  else
  some ((.inr m9), 0, 0)
def fX8_pieces (rec : Hp → Nat → Option Nat → Option ((Option Nat × Hp) × Nat × Nat)) (m : Hp) (nx : Nat) (a0 : Option Nat) : Option ((Option Nat × Hp) × Nat × Nat) :=
  (some (hp_set m (nx) (.inr (11, dfX14)))).bind fun m1 =>
  andA 1 3 (
  (hp_on m1 a0 7 (rec m1 (nx + 1) a0)).bind fun ((v3, m4), d5, c6) =>
  andA d5 c6 (
  (fX14_init m4 (nx) v3 (0 : Int32)).bind fun m8 =>
  (iterA (fX8_pieces_L15 rec a0 (some (nx))) FUEL ((some (nx)), m8) (nx + 1 + d5)).bind fun (r9, e9, f9) =>
  andA e9 f9 (
  match r9 with
  | m26 =>
    some (((some (nx)), m26), 0, 0))))

/-- MissedTrains$Reader.condition()LMissedTrains$Condition; -/
def fX8_condition_L30 (rec : Hp → Nat → Option Nat → Option ((Option Nat × Hp) × Nat × Nat)) (b0 : Option Nat) (b1 : Option Nat) : (Option Nat × Hp) → Nat → Option (((Option Nat × Hp) ⊕ Hp) × Nat × Nat) := fun (s2_7, m7) nx7 =>
  (hp_on m7 b0 7 (fX8_isGood m7 b0)).bind fun v8 =>
  if v8 = 0 then
    some ((.inr m7), 0, 0)
  else
  (hp_on m7 b0 7 (fX8_here m7 b0)).bind fun v10 =>
  if v10 = (124 : Int32) then
    (hp_gI m7 b0 7 2).bind fun v12 =>
    (hp_pI m7 b0 7 2 (v12 + (1 : Int32))).bind fun m13 =>
    (some (hp_set m13 (nx7) (.inr (11, dfX14)))).bind fun m14 =>
    andA 1 3 (
    (hp_on m14 b0 7 (fX8_pieces rec m14 (nx7 + 1) b0)).bind fun ((v16, m17), d18, c19) =>
    andA d18 c19 (
    (fX14_init m17 (nx7) v16 (1 : Int32)).bind fun m21 =>
    (hp_pR m21 s2_7 11 2 (some (nx7))).bind fun m22 =>
    (hp_gR m22 s2_7 11 2).bind fun v23 =>
    some ((.inl (v23, m22)), 0, 0)))
  else
  some ((.inr m7), 0, 0)
def fX8_condition (rec : Hp → Nat → Option Nat → Option ((Option Nat × Hp) × Nat × Nat)) (m : Hp) (nx : Nat) (a0 : Option Nat) : Option ((Option Nat × Hp) × Nat × Nat) :=
  (hp_on m a0 7 (fX8_opens m a0)).bind fun m1 =>
  (hp_on m1 a0 7 (fX8_isGood m1 a0)).bind fun v2 =>
  ((if v2 = 0 then
    some ((none, m1), 0, 0)
  else
  (some (hp_set m1 (nx) (.inr (11, dfX14)))).bind fun m35 =>
  andA 1 3 (
  (hp_on m35 a0 7 (fX8_pieces rec m35 (nx + 1) a0)).bind fun ((v37, m38), d39, c40) =>
  andA d39 c40 (
  (fX14_init m38 (nx) v37 (1 : Int32)).bind fun m42 =>
  some (((some (nx)), m42), 0, 0))) : Option ((Option Nat × Hp) × Nat × Nat))).bind fun ((v3, m4), d5, c5) =>
  andA d5 c5 (
  (iterA (fX8_condition_L30 rec a0 v3) FUEL (v3, m4) (nx + d5)).bind fun (r7, e7, f7) =>
  andA e7 f7 (
  match r7 with
  | m24 =>
    (hp_on m24 a0 7 (fX8_isGood m24 a0)).bind fun v26 =>
    ((if v26 = 0 then
      some (m24, 0, 0)
    else
    (hp_on m24 a0 7 (fX8_must m24 a0 (41 : Int32))).bind fun m33 =>
    some (m33, 0, 0) : Option (Hp × Nat × Nat))).bind fun (m27, d28, c28) =>
    andA d28 c28 (
    (hp_gI m27 a0 7 3).bind fun v30 =>
    (hp_pI m27 a0 7 3 (v30 - (1 : Int32))).bind fun m31 =>
    some ((v3, m31), 0, 0))))

/-- MissedTrains$Not.<init>(LMissedTrains$Condition;)V -/
def fX15_init (m : Hp) (a0 : Nat) (a1 : Option Nat) : Option Hp :=
  (hp_pR m (some a0) 12 0 a1).bind fun m1 =>
  some m1

/-- MissedTrains$Compared.<init>(LMissedTrains$Sum;ILMissedTrains$Sum;)V -/
def fX16_init (m : Hp) (a0 : Nat) (a1 : Option Nat) (a2 : Int32) (a3 : Option Nat) : Option Hp :=
  (hp_pR m (some a0) 13 0 a1).bind fun m1 =>
  (hp_pI m1 (some a0) 13 2 a2).bind fun m2 =>
  (hp_pR m2 (some a0) 13 1 a3).bind fun m3 =>
  some m3

/-- MissedTrains$Reader.piece()LMissedTrains$Condition; -/
def fX8_pieceB (rec : Hp → Nat → Option Nat → Option ((Option Nat × Hp) × Nat × Nat)) (m : Hp) (nx : Nat) (a0 : Option Nat) : Option ((Option Nat × Hp) × Nat × Nat) :=
  (hp_on m a0 7 (fX8_here m a0)).bind fun v1 =>
  if v1 = (33 : Int32) then
    (hp_on m a0 7 (fX8_opens m a0)).bind fun m36 =>
    (hp_on m36 a0 7 (fX8_isGood m36 a0)).bind fun v37 =>
    ((if v37 = 0 then
      some ((none, m36), 0, 0)
    else
    (hp_on m36 a0 7 (rec m36 (nx) a0)).bind fun ((v48, m49), d50, c51) =>
    andA d50 c51 (
    some ((v48, m49), 0, 0)) : Option ((Option Nat × Hp) × Nat × Nat))).bind fun ((v38, m39), d40, c40) =>
    andA d40 c40 (
    (hp_gI m39 a0 7 3).bind fun v42 =>
    (hp_pI m39 a0 7 3 (v42 - (1 : Int32))).bind fun m43 =>
    (some (hp_set m43 (nx + d40) (.inr (12, dfX15)))).bind fun m44 =>
    andA 1 1 (
    (fX15_init m44 (nx + d40) v38).bind fun m46 =>
    some (((some (nx + d40)), m46), 0, 0)))
  else
  if v1 = (40 : Int32) then
    (hp_on m a0 7 (fX8_condition rec m (nx) a0)).bind fun ((v31, m32), d33, c34) =>
    andA d33 c34 (
    some ((v31, m32), 0, 0))
  else
  (hp_on m a0 7 (fX8_sum 60 m (nx) a0)).bind fun ((v4, m5), d6, c7) =>
  andA d6 c7 (
  (hp_on m5 a0 7 (fX8_here m5 a0)).bind fun v9 =>
  ((if v9 = (60 : Int32) then
    some (m5, 0, 0)
  else
  if v9 = (62 : Int32) then
    some (m5, 0, 0)
  else
  if v9 = (61 : Int32) then
    some (m5, 0, 0)
  else
  (hp_gI m5 a0 7 2).bind fun v29 =>
  (hp_on m5 a0 7 (fX8_bad m5 a0 (1 : Int32) v29)).bind fun m30 =>
  some (m30, 0, 0) : Option (Hp × Nat × Nat))).bind fun (m10, d11, c11) =>
  andA d11 c11 (
  (hp_gI m10 a0 7 2).bind fun v13 =>
  (hp_pI m10 a0 7 2 (v13 + (1 : Int32))).bind fun m14 =>
  (some (hp_set m14 (nx + d6 + d11) (.inr (13, dfX16)))).bind fun m15 =>
  andA 1 3 (
  (hp_on m15 a0 7 (fX8_isGood m15 a0)).bind fun v17 =>
  if v17 = 0 then
    (fX16_init m15 (nx + d6 + d11) v4 v9 none).bind fun m19 =>
    some (((some (nx + d6 + d11)), m19), 0, 0)
  else
  (hp_on m15 a0 7 (fX8_sum 60 m15 (nx + d6 + d11 + 1) a0)).bind fun ((v20, m21), d22, c23) =>
  andA d22 c23 (
  (fX16_init m21 (nx + d6 + d11) v4 v9 v20).bind fun m25 =>
  some (((some (nx + d6 + d11)), m25), 0, 0)))))

def fX8_piece : Nat → Hp → Nat → Option Nat → Option ((Option Nat × Hp) × Nat × Nat)
  | 0, _, _, _ => none
  | n + 1, m, nx, a0 => fX8_pieceB (fX8_piece n) m nx a0

/-- MissedTrains$Reader.clause()V -/
def fX8_clause (m : Hp) (nx : Nat) (a0 : Option Nat) : Option (Hp × Nat × Nat) :=
  (hp_on m a0 7 (fX8_here m a0)).bind fun v1 =>
  ((if v1 = 0 then
    (hp_gI m a0 7 2).bind fun v59 =>
    (hp_on m a0 7 (fX8_bad m a0 (1 : Int32) v59)).bind fun m60 =>
    some (m60, 0, 0)
  else
  if 0 ≤ (strC v1) then
    (hp_gR m a0 7 1).bind fun v62 =>
    (hp_gI m v62 4 3).bind fun v63 =>
    if v63 = (16 : Int32) then
      (hp_gI m a0 7 2).bind fun v65 =>
      (hp_on m a0 7 (fX8_bad m a0 (4 : Int32) v65)).bind fun m66 =>
      some (m66, 0, 0)
    else
    some (m, 0, 0)
  else
  (hp_gI m a0 7 2).bind fun v67 =>
  (hp_on m a0 7 (fX8_bad m a0 (1 : Int32) v67)).bind fun m68 =>
  some (m68, 0, 0) : Option (Hp × Nat × Nat))).bind fun (m2, d3, c3) =>
  andA d3 c3 (
  (hp_on m2 a0 7 (fX8_isGood m2 a0)).bind fun v5 =>
  if v5 = 0 then
    some (m2, 0, 0)
  else
  (hp_gI m2 a0 7 2).bind fun v7 =>
  (hp_pI m2 a0 7 2 (v7 + (1 : Int32))).bind fun m8 =>
  (hp_pI m8 a0 7 3 (0 : Int32)).bind fun m9 =>
  ((if v1 = (109 : Int32) then
    some ((none, m9), 0, 0)
  else
  (hp_on m9 a0 7 (fX8_sum 60 m9 (nx + d3) a0)).bind fun ((v53, m54), d55, c56) =>
  andA d55 c56 (
  some ((v53, m54), 0, 0)) : Option ((Option Nat × Hp) × Nat × Nat))).bind fun ((v10, m11), d12, c12) =>
  andA d12 c12 (
  (hp_on m11 a0 7 (fX8_isGood m11 a0)).bind fun v14 =>
  ((if v14 = 0 then
    some (m11, 0, 0)
  else
  (hp_on m11 a0 7 (fX8_here m11 a0)).bind fun v48 =>
  if v48 = (40 : Int32) then
    some (m11, 0, 0)
  else
  (hp_gI m11 a0 7 2).bind fun v50 =>
  (hp_on m11 a0 7 (fX8_bad m11 a0 (1 : Int32) v50)).bind fun m51 =>
  some (m51, 0, 0) : Option (Hp × Nat × Nat))).bind fun (m15, d16, c16) =>
  andA d16 c16 (
  (hp_on m15 a0 7 (fX8_isGood m15 a0)).bind fun v18 =>
  ((if v18 = 0 then
    some ((none, m15), 0, 0)
  else
  (hp_on m15 a0 7 (fX8_condition (fX8_piece 60) m15 (nx + d3 + d12 + d16) a0)).bind fun ((v42, m43), d44, c45) =>
  andA d44 c45 (
  some ((v42, m43), 0, 0)) : Option ((Option Nat × Hp) × Nat × Nat))).bind fun ((v19, m20), d21, c21) =>
  andA d21 c21 (
  (hp_gR m20 a0 7 1).bind fun v23 =>
  (hp_gR m20 v23 4 0).bind fun v24 =>
  (hp_gR m20 a0 7 1).bind fun v25 =>
  (hp_gI m20 v25 4 3).bind fun v26 =>
  (hp_sI m20 v24 0 v26 v1).bind fun m27 =>
  (hp_gR m27 a0 7 1).bind fun v28 =>
  (hp_gR m27 v28 4 1).bind fun v29 =>
  (hp_gR m27 a0 7 1).bind fun v30 =>
  (hp_gI m27 v30 4 3).bind fun v31 =>
  (hp_sR m27 v29 3 v31 v10).bind fun m32 =>
  (hp_gR m32 a0 7 1).bind fun v33 =>
  (hp_gR m32 v33 4 2).bind fun v34 =>
  (hp_gR m32 a0 7 1).bind fun v35 =>
  (hp_gI m32 v35 4 3).bind fun v36 =>
  (hp_sR m32 v34 4 v36 v19).bind fun m37 =>
  (hp_gR m37 a0 7 1).bind fun v38 =>
  (hp_gI m37 v38 4 3).bind fun v39 =>
  (hp_pI m37 v38 4 3 (v39 + (1 : Int32))).bind fun m40 =>
  some (m40, 0, 0)))))

/-- MissedTrains$Reader.read()I -/
def fX8_read_L2 (b0 : Option Nat) : (Int32 × Hp) → Nat → Option (((Int32 × Hp) ⊕ Hp) × Nat × Nat) := fun (s1_1, m1) nx1 =>
  if s1_1 = 0 then
    some ((.inr m1), 0, 0)
  else
  (hp_on m1 b0 7 (fX8_isGood m1 b0)).bind fun v3 =>
  if v3 = 0 then
    some ((.inr m1), 0, 0)
  else
  (hp_on m1 b0 7 (fX8_clause m1 (nx1) b0)).bind fun (m5, d6, c7) =>
  andA d6 c7 (
  (hp_on m5 b0 7 (fX8_isGood m5 b0)).bind fun v9 =>
  ((if v9 = 0 then
    some ((0 : Int32), 0, 0)
  else
  (hp_gI m5 b0 7 2).bind fun v16 =>
  (hp_gI m5 b0 7 0).bind fun v17 =>
  if v17 ≤ v16 then
    some ((0 : Int32), 0, 0)
  else
  some ((1 : Int32), 0, 0) : Option (Int32 × Nat × Nat))).bind fun (v10, d11, c11) =>
  andA d11 c11 (
  if v10 = 0 then
    some ((.inl (v10, m5)), 0, 0)
  else
  (hp_on m5 b0 7 (fX8_must m5 b0 (59 : Int32))).bind fun m14 =>
  some ((.inl (v10, m14)), 0, 0)))
def fX8_read (m : Hp) (nx : Nat) (a0 : Option Nat) : Option ((Int32 × Hp) × Nat × Nat) :=
  (iterA (fX8_read_L2 a0) FUEL ((1 : Int32), m) (nx)).bind fun (r1, e1, f1) =>
  andA e1 f1 (
  match r1 with
  | m19 =>
    (hp_on m19 a0 7 (fX8_isGood m19 a0)).bind fun v21 =>
    if v21 = 0 then
      (hp_gI m19 a0 7 4).bind fun v23 =>
      (hp_gI m19 a0 7 5).bind fun v24 =>
      some (((((-1000 : Int32) * v23) - v24), m19), 0, 0)
    else
    (hp_gR m19 a0 7 1).bind fun v25 =>
    (hp_gI m19 v25 4 3).bind fun v26 =>
    some ((v26, m19), 0, 0))

/-- MissedTrains.law(I)I -/
def fX0_law (m : Hp) (nx : Nat) (a0 : Option Nat) (a1 : Int32) : Option ((Int32 × Hp) × Nat × Nat) :=
  (fX0_within a1 (1 : Int32) (240 : Int32)).bind fun v1 =>
  if v1 = 0 then
    some (((-1 : Int32), m), 0, 0)
  else
  (hp_gI m a0 0 12).bind fun v3 =>
  if a1 ≤ v3 then
    (hp_pI m a0 0 12 (0 : Int32)).bind fun m5 =>
    (some (hp_set m5 (nx) (.inr (7, dfX8)))).bind fun m6 =>
    andA 1 7 (
    (fX8_init m6 (nx + 1) (nx) a0 a1).bind fun (m8, d9, c10) =>
    andA d9 c10 (
    (hp_on m8 (some (nx)) 7 (fX8_read m8 (nx + 1 + d9) (some (nx)))).bind fun ((v12, m13), d14, c15) =>
    andA d14 c15 (
    if v12 < 0 then
      some ((v12, m13), 0, 0)
    else
    (hp_gR m13 (some (nx)) 7 1).bind fun v18 =>
    (hp_pR m13 a0 0 11 v18).bind fun m19 =>
    some ((v12, m19), 0, 0))))
  else
  some (((-1 : Int32), m), 0, 0)

/-- MissedTrains$Scribe.<init>(LMissedTrains;I)V -/
def fX17_init (ci : Nat) (m : Hp) (a0 : Nat) (a1 : Option Nat) (a2 : Int32) : Option Hp :=
  (hp_pR m (some a0) ci 4 a1).bind fun m1 =>
  (hp_pI m1 (some a0) ci 0 a2).bind fun m2 =>
  some m2

/-- MissedTrains$Clerk.<init>(LMissedTrains;I)V -/
def fX18_init (m : Hp) (nx : Nat) (a0 : Nat) (a1 : Option Nat) (a2 : Int32) : Option (Hp × Nat × Nat) :=
  (hp_pR m (some a0) 14 9 a1).bind fun m1 =>
  (fX17_init 14 m1 a0 a1 a2).bind fun m2 =>
  (some (hp_newr m2 (nx) 5 16)).bind fun m3 =>
  andA 1 16 (
  (hp_pR m3 (some a0) 14 5 (some (nx))).bind fun m5 =>
  (some (hp_newa m5 (nx + 1) 0 16)).bind fun m6 =>
  andA 1 16 (
  (hp_pR m6 (some a0) 14 6 (some (nx + 1))).bind fun m8 =>
  (some (hp_newa m8 (nx + 1 + 1) 0 16)).bind fun m9 =>
  andA 1 16 (
  (hp_pR m9 (some a0) 14 7 (some (nx + 1 + 1))).bind fun m11 =>
  some (m11, 0, 0))))

/-- MissedTrains$Scribe.place()I -/
def fX17_place (ci : Nat) (m : Hp) (a0 : Option Nat) : Option Int32 :=
  (hp_gI m a0 ci 1).bind fun v1 =>
  some v1

/-- MissedTrains$Scribe.here()I -/
def fX17_here (ci : Nat) (m : Hp) (a0 : Option Nat) : Option Int32 :=
  (hp_gI m a0 ci 1).bind fun v1 =>
  (hp_gI m a0 ci 0).bind fun v2 =>
  if v2 ≤ v1 then
    some (0 : Int32)
  else
  (hp_gR m a0 ci 4).bind fun v4 =>
  (hp_gR m v4 0 10).bind fun v5 =>
  (hp_gI m a0 ci 1).bind fun v6 =>
  (hp_aI m v5 1 v6).bind fun v7 =>
  some (v7 &&& (255 : Int32))

/-- MissedTrains$Scribe.sees(II)Z -/
def fX17_sees (ci : Nat) (m : Hp) (a0 : Option Nat) (a1 : Int32) (a2 : Int32) : Option Int32 :=
  (hp_on m a0 ci (fX17_here ci m a0)).bind fun v1 =>
  if v1 < a1 then
    some (0 : Int32)
  else
  (hp_on m a0 ci (fX17_here ci m a0)).bind fun v3 =>
  if a2 < v3 then
    some (0 : Int32)
  else
  some (1 : Int32)

/-- MissedTrains$Clerk.seesStation()Z -/
def fX18_seesStation (m : Hp) (a0 : Option Nat) : Option Int32 :=
  (hp_on m a0 14 (fX17_sees 14 m a0 (97 : Int32) (106 : Int32))).bind fun v1 =>
  (hp_z v1).bind fun z2 =>
  some z2

/-- MissedTrains$Scribe.bad(II)V -/
def fX17_bad (ci : Nat) (m : Hp) (a0 : Option Nat) (a1 : Int32) (a2 : Int32) : Option Hp :=
  (hp_gI m a0 ci 2).bind fun v1 =>
  if v1 ≤ 0 then
    (hp_pI m a0 ci 2 a1).bind fun m3 =>
    (hp_pI m3 a0 ci 3 a2).bind fun m4 =>
    some m4
  else
  some m

/-- MissedTrains$Scribe.isGood()Z -/
def fX17_isGood (ci : Nat) (m : Hp) (a0 : Option Nat) : Option Int32 :=
  (hp_gI m a0 ci 2).bind fun v1 =>
  if v1 = 0 then
    some (1 : Int32)
  else
  some (0 : Int32)

/-- MissedTrains$Train.stopAt(I)I -/
def fX6_stopAt_L2 (bm : Hp) (b0 : Option Nat) (b1 : Int32) : Int32 → Option (Int32 ⊕ (Unit ⊕ Int32)) := fun s2_1 =>
  (hp_gI bm b0 5 2).bind fun v2 =>
  if v2 ≤ s2_1 then
    some (.inr (.inl ()))
  else
  (hp_gR bm b0 5 0).bind fun v4 =>
  (hp_aI bm v4 0 s2_1).bind fun v5 =>
  if v5 = b1 then
    some (.inr (.inr s2_1))
  else
  some (.inl (s2_1 + (1 : Int32)))
def fX6_stopAt (m : Hp) (a0 : Option Nat) (a1 : Int32) : Option Int32 :=
  (iter (fX6_stopAt_L2 m a0 a1) FUEL (0 : Int32)).bind fun r1 =>
  (
  match r1 with
  | .inl _ =>
    some (-1 : Int32)
  | .inr o => some o
  )

/-- MissedTrains$Scribe.goes()V -/
def fX17_goes (ci : Nat) (m : Hp) (a0 : Option Nat) : Option Hp :=
  (hp_gI m a0 ci 1).bind fun v1 =>
  (hp_pI m a0 ci 1 (v1 + (1 : Int32))).bind fun m2 =>
  some m2

/-- MissedTrains$Scribe.number(III)I -/
def fX17_number_L34 (ci : Nat) (b0 : Option Nat) (b1 : Int32) (b2 : Int32) (b3 : Int32) (b5 : Int32) : (Int32 × Hp) → Option ((Int32 × Hp) ⊕ (Int32 × Hp)) := fun (s4_5, m5) =>
  (hp_on m5 b0 ci (fX17_isGood ci m5 b0)).bind fun v6 =>
  if v6 = 0 then
    some (.inr (s4_5, m5))
  else
  (hp_on m5 b0 ci (fX17_sees ci m5 b0 (48 : Int32) (57 : Int32))).bind fun v8 =>
  if v8 = 0 then
    some (.inr (s4_5, m5))
  else
  (hp_gI m5 b0 ci 1).bind fun v10 =>
  ((if v10 = (b5 + b1) then
    (hp_gI m5 b0 ci 1).bind fun v17 =>
    (hp_on m5 b0 ci (fX17_bad ci m5 b0 (2 : Int32) v17)).bind fun m18 =>
    some m18
  else
  some m5 : Option Hp)).bind fun m11 =>
  (hp_on m11 b0 ci (fX17_here ci m11 b0)).bind fun v13 =>
  (hp_gI m11 b0 ci 1).bind fun v14 =>
  (hp_pI m11 b0 ci 1 (v14 + (1 : Int32))).bind fun m15 =>
  some (.inl (((((10 : Int32) * s4_5) + v13) - (48 : Int32)), m15))
def fX17_number (ci : Nat) (m : Hp) (a0 : Option Nat) (a1 : Int32) (a2 : Int32) (a3 : Int32) : Option (Int32 × Hp) :=
  (hp_gI m a0 ci 1).bind fun v1 =>
  (hp_on m a0 ci (fX17_isGood ci m a0)).bind fun v2 =>
  ((if v2 = 0 then
    some m
  else
  (hp_on m a0 ci (fX17_sees ci m a0 (48 : Int32) (57 : Int32))).bind fun v27 =>
  if v27 = 0 then
    (hp_on m a0 ci (fX17_bad ci m a0 (1 : Int32) v1)).bind fun m29 =>
    some m29
  else
  some m : Option Hp)).bind fun m3 =>
  (iter (fX17_number_L34 ci a0 a1 a2 a3 v1) FUEL ((0 : Int32), m3)).bind fun r5 =>
  (
  match r5 with
  | (v19, m20) =>
    (hp_on m20 a0 ci (fX17_isGood ci m20 a0)).bind fun v21 =>
    if v21 = 0 then
      some (v19, m20)
    else
    (fX0_within v19 a2 a3).bind fun v23 =>
    if v23 = 0 then
      (hp_on m20 a0 ci (fX17_bad ci m20 a0 (3 : Int32) v1)).bind fun m25 =>
      some (v19, m25)
    else
    some (v19, m20)
  )

/-- MissedTrains$Clerk.stop(LMissedTrains$Train;)V -/
def fX18_stop (m : Hp) (a0 : Option Nat) (a1 : Option Nat) : Option Hp :=
  (hp_on m a0 14 (fX17_place 14 m a0)).bind fun v1 =>
  (hp_on m a0 14 (fX17_here 14 m a0)).bind fun v2 =>
  (hp_on m a0 14 (fX18_seesStation m a0)).bind fun v3 =>
  ((if v3 = 0 then
    (hp_on m a0 14 (fX17_bad 14 m a0 (1 : Int32) v1)).bind fun m33 =>
    some m33
  else
  (hp_on m a1 5 (fX6_stopAt m a1 (v2 - (97 : Int32)))).bind fun v27 =>
  if v27 = (-1 : Int32) then
    (hp_gI m a1 5 2).bind fun v29 =>
    if v29 = (8 : Int32) then
      (hp_on m a0 14 (fX17_bad 14 m a0 (5 : Int32) v1)).bind fun m31 =>
      some m31
    else
    some m
  else
  (hp_on m a0 14 (fX17_bad 14 m a0 (6 : Int32) v1)).bind fun m32 =>
  some m32 : Option Hp)).bind fun m4 =>
  (hp_on m4 a0 14 (fX17_goes 14 m4 a0)).bind fun m6 =>
  (hp_gI m6 a1 5 2).bind fun v7 =>
  ((if v7 = 0 then
    some (0 : Int32)
  else
  (hp_gR m6 a1 5 1).bind fun v23 =>
  (hp_gI m6 a1 5 2).bind fun v24 =>
  (hp_aI m6 v23 0 (v24 - (1 : Int32))).bind fun v25 =>
  some (v25 + (1 : Int32)) : Option Int32)).bind fun v8 =>
  (hp_on m6 a0 14 (fX17_number 14 m6 a0 (4 : Int32) v8 (1439 : Int32))).bind fun (v10, m11) =>
  (hp_on m11 a0 14 (fX17_isGood 14 m11 a0)).bind fun v12 =>
  if v12 = 0 then
    some m11
  else
  (hp_gR m11 a1 5 0).bind fun v14 =>
  (hp_gI m11 a1 5 2).bind fun v15 =>
  (hp_sI m11 v14 0 v15 (v2 - (97 : Int32))).bind fun m16 =>
  (hp_gR m16 a1 5 1).bind fun v17 =>
  (hp_gI m16 a1 5 2).bind fun v18 =>
  (hp_sI m16 v17 0 v18 v10).bind fun m19 =>
  (hp_gI m19 a1 5 2).bind fun v20 =>
  (hp_pI m19 a1 5 2 (v20 + (1 : Int32))).bind fun m21 =>
  some m21

/-- MissedTrains$Train.ends()I -/
def fX6_ends (m : Hp) (a0 : Option Nat) : Option Int32 :=
  (hp_gR m a0 5 1).bind fun v1 =>
  (hp_gI m a0 5 2).bind fun v2 =>
  (hp_aI m v1 0 (v2 - (1 : Int32))).bind fun v3 =>
  some v3

/-- MissedTrains$Clerk.repeats(I)V -/
def fX18_repeats (m : Hp) (a0 : Option Nat) (a1 : Int32) : Option Hp :=
  (hp_on m a0 14 (fX17_goes 14 m a0)).bind fun m1 =>
  (hp_gR m1 a0 14 6).bind fun v2 =>
  (hp_on m1 a0 14 (fX17_number 14 m1 a0 (2 : Int32) (2 : Int32) (24 : Int32))).bind fun (v3, m4) =>
  (hp_sI m4 v2 0 a1 v3).bind fun m5 =>
  (hp_on m5 a0 14 (fX17_isGood 14 m5 a0)).bind fun v6 =>
  ((if v6 = 0 then
    some m5
  else
  (hp_on m5 a0 14 (fX17_here 14 m5 a0)).bind fun v27 =>
  if v27 = (43 : Int32) then
    some m5
  else
  (hp_on m5 a0 14 (fX17_place 14 m5 a0)).bind fun v29 =>
  (hp_on m5 a0 14 (fX17_bad 14 m5 a0 (1 : Int32) v29)).bind fun m30 =>
  some m30 : Option Hp)).bind fun m7 =>
  (hp_on m7 a0 14 (fX17_goes 14 m7 a0)).bind fun m9 =>
  (hp_on m9 a0 14 (fX17_place 14 m9 a0)).bind fun v10 =>
  (hp_gR m9 a0 14 7).bind fun v11 =>
  (hp_on m9 a0 14 (fX17_number 14 m9 a0 (3 : Int32) (1 : Int32) (720 : Int32))).bind fun (v12, m13) =>
  (hp_sI m13 v11 0 a1 v12).bind fun m14 =>
  (hp_on m14 a0 14 (fX17_isGood 14 m14 a0)).bind fun v15 =>
  if v15 = 0 then
    some m14
  else
  (hp_gR m14 a0 14 5).bind fun v17 =>
  (hp_aR m14 v17 5 a1).bind fun v18 =>
  (hp_on m14 v18 5 (fX6_ends m14 v18)).bind fun v19 =>
  (hp_gR m14 a0 14 6).bind fun v20 =>
  (hp_aI m14 v20 0 a1).bind fun v21 =>
  (hp_gR m14 a0 14 7).bind fun v22 =>
  (hp_aI m14 v22 0 a1).bind fun v23 =>
  if (v19 + ((v21 - (1 : Int32)) * v23)) < (1440 : Int32) then
    some m14
  else
  (hp_on m14 a0 14 (fX17_bad 14 m14 a0 (3 : Int32) v10)).bind fun m25 =>
  some m25

/-- MissedTrains$Clerk.line(I)V -/
def fX18_line_L57 (b0 : Option Nat) (b1 : Int32) (b2 : Int32) (b3 : Option Nat) : Hp → Nat → Option ((Hp ⊕ Hp) × Nat × Nat) := fun m19 nx19 =>
  (hp_on m19 b0 14 (fX17_isGood 14 m19 b0)).bind fun v20 =>
  if v20 = 0 then
    some ((.inr m19), 0, 0)
  else
  (hp_on m19 b0 14 (fX18_seesStation m19 b0)).bind fun v22 =>
  if v22 = 0 then
    some ((.inr m19), 0, 0)
  else
  (hp_on m19 b0 14 (fX18_stop m19 b0 b3)).bind fun m24 =>
  some ((.inl m24), 0, 0)
def fX18_line (m : Hp) (nx : Nat) (a0 : Option Nat) (a1 : Int32) : Option (Hp × Nat × Nat) :=
  (hp_on m a0 14 (fX17_place 14 m a0)).bind fun v1 =>
  (hp_on m a0 14 (fX18_seesStation m a0)).bind fun v2 =>
  ((if v2 = 0 then
    some (m, 0, 0)
  else
  if a1 = (16 : Int32) then
    (hp_on m a0 14 (fX17_bad 14 m a0 (4 : Int32) v1)).bind fun m54 =>
    some (m54, 0, 0)
  else
  some (m, 0, 0) : Option (Hp × Nat × Nat))).bind fun (m3, d4, c4) =>
  andA d4 c4 (
  (hp_on m3 a0 14 (fX17_isGood 14 m3 a0)).bind fun v6 =>
  if v6 = 0 then
    some (m3, 0, 0)
  else
  (some (hp_set m3 (nx + d4) (.inr (5, dfX6)))).bind fun m8 =>
  andA 1 5 (
  (fX6_init m8 (nx + d4 + 1) (nx + d4)).bind fun (m10, d11, c12) =>
  andA d11 c12 (
  (hp_on m10 a0 14 (fX18_stop m10 a0 (some (nx + d4)))).bind fun m14 =>
  (hp_on m14 a0 14 (fX17_isGood 14 m14 a0)).bind fun v15 =>
  ((if v15 = 0 then
    some (m14, 0, 0)
  else
  (hp_on m14 a0 14 (fX18_stop m14 a0 (some (nx + d4)))).bind fun m51 =>
  some (m51, 0, 0) : Option (Hp × Nat × Nat))).bind fun (m16, d17, c17) =>
  andA d17 c17 (
  (iterA (fX18_line_L57 a0 a1 v1 (some (nx + d4))) FUEL m16 (nx + d4 + 1 + d11 + d17)).bind fun (r19, e19, f19) =>
  andA e19 f19 (
  match r19 with
  | m25 =>
    (hp_on m25 a0 14 (fX17_isGood 14 m25 a0)).bind fun v27 =>
    if v27 = 0 then
      some (m25, 0, 0)
    else
    (hp_gR m25 a0 14 5).bind fun v29 =>
    (hp_sR m25 v29 5 a1 (some (nx + d4))).bind fun m30 =>
    (hp_gR m30 a0 14 6).bind fun v31 =>
    (hp_sI m30 v31 0 a1 (1 : Int32)).bind fun m32 =>
    (hp_on m32 a0 14 (fX17_isGood 14 m32 a0)).bind fun v33 =>
    ((if v33 = 0 then
      some (m32, 0, 0)
    else
    (hp_on m32 a0 14 (fX17_here 14 m32 a0)).bind fun v47 =>
    if v47 = (120 : Int32) then
      (hp_on m32 a0 14 (fX18_repeats m32 a0 a1)).bind fun m49 =>
      some (m49, 0, 0)
    else
    some (m32, 0, 0) : Option (Hp × Nat × Nat))).bind fun (m34, d35, c35) =>
    andA d35 c35 (
    (hp_gI m34 a0 14 8).bind fun v37 =>
    (hp_gR m34 a0 14 6).bind fun v38 =>
    (hp_aI m34 v38 0 a1).bind fun v39 =>
    (hp_pI m34 a0 14 8 (v37 + v39)).bind fun m40 =>
    (hp_on m40 a0 14 (fX17_isGood 14 m40 a0)).bind fun v41 =>
    if v41 = 0 then
      some (m40, 0, 0)
    else
    (hp_gI m40 a0 14 8).bind fun v43 =>
    if v43 ≤ (48 : Int32) then
      some (m40, 0, 0)
    else
    (hp_on m40 a0 14 (fX17_bad 14 m40 a0 (8 : Int32) v1)).bind fun m45 =>
    some (m45, 0, 0)))))))

/-- MissedTrains$Porter.line(I)V -/
def fX19_line (m : Hp) (a0 : Option Nat) (a1 : Int32) : Option Hp :=
  (hp_on m a0 15 (fX17_place 15 m a0)).bind fun v1 =>
  (hp_on m a0 15 (fX17_sees 15 m a0 (48 : Int32) (57 : Int32))).bind fun v2 =>
  ((if v2 = 0 then
    some m
  else
  if a1 = (20 : Int32) then
    (hp_on m a0 15 (fX17_bad 15 m a0 (4 : Int32) v1)).bind fun m45 =>
    some m45
  else
  some m : Option Hp)).bind fun m3 =>
  (hp_on m3 a0 15 (fX17_number 15 m3 a0 (2 : Int32) (0 : Int32) (10059 : Int32))).bind fun (v5, m6) =>
  (hp_on m6 a0 15 (fX17_isGood 15 m6 a0)).bind fun v7 =>
  ((if v7 = 0 then
    some m6
  else
  (hp_gR m6 a0 15 7).bind fun v39 =>
  (hp_on m6 v39 0 (fX0_isTrain m6 v39 v5)).bind fun v40 =>
  if v40 = 0 then
    (hp_on m6 a0 15 (fX17_bad 15 m6 a0 (7 : Int32) v1)).bind fun m42 =>
    some m42
  else
  some m6 : Option Hp)).bind fun m8 =>
  (hp_on m8 a0 15 (fX17_here 15 m8 a0)).bind fun v10 =>
  (hp_on m8 a0 15 (fX17_isGood 15 m8 a0)).bind fun v11 =>
  ((if v11 = 0 then
    some m8
  else
  if v10 = (33 : Int32) then
    some m8
  else
  if v10 = (63 : Int32) then
    some m8
  else
  if v10 = (43 : Int32) then
    some m8
  else
  (hp_on m8 a0 15 (fX17_place 15 m8 a0)).bind fun v36 =>
  (hp_on m8 a0 15 (fX17_bad 15 m8 a0 (1 : Int32) v36)).bind fun m37 =>
  some m37 : Option Hp)).bind fun m12 =>
  (hp_on m12 a0 15 (fX17_goes 15 m12 a0)).bind fun m14 =>
  (hp_on m14 a0 15 (fX17_isGood 15 m14 a0)).bind fun v15 =>
  ((if v15 = 0 then
    some ((0 : Int32), m14)
  else
  if v10 = (43 : Int32) then
    (hp_on m14 a0 15 (fX17_number 15 m14 a0 (2 : Int32) (0 : Int32) (9999 : Int32))).bind fun (v30, m31) =>
    some (v30, m31)
  else
  some ((0 : Int32), m14) : Option (Int32 × Hp))).bind fun (v16, m17) =>
  (hp_on m17 a0 15 (fX17_isGood 15 m17 a0)).bind fun v19 =>
  if v19 = 0 then
    some m17
  else
  if v10 = (43 : Int32) then
    (hp_gR m17 a0 15 5).bind fun v26 =>
    (hp_sI m17 v26 0 v5 v16).bind fun m27 =>
    some m27
  else
  (hp_gR m17 a0 15 6).bind fun v22 =>
  if v10 = (63 : Int32) then
    (hp_sI m17 v22 2 v5 (1 : Int32)).bind fun m25 =>
    some m25
  else
  (hp_sI m17 v22 2 v5 (0 : Int32)).bind fun m24 =>
  some m24

/-- Scribe.line, by the class of the scribe: Clerk 14, Porter 15 -/
def fX17_line (ci : Nat) (m : Hp) (nx : Nat) (a0 : Option Nat) (a1 : Int32) : Option (Hp × Nat × Nat) := if ci = 14 then fX18_line m nx a0 a1 else (fX19_line m a0 a1).map fun q => (q, 0, 0)
theorem lineC_of {m m_ : Hp} {nx dc ds : Nat} {a0 : Option Nat} {a1 : Int32} (h : fX17_line 14 m nx a0 a1 = some (m_, dc, ds)) : fX18_line m nx a0 a1 = some (m_, dc, ds) := h
theorem lineP_of {m m_ : Hp} {nx dc ds : Nat} {a0 : Option Nat} {a1 : Int32} (h : fX17_line 15 m nx a0 a1 = some (m_, dc, ds)) : fX19_line m a0 a1 = some m_ ∧ dc = 0 ∧ ds = 0 := by
  have h : ((fX19_line m a0 a1).map fun q => (q, 0, 0)) = some (m_, dc, ds) := h
  cases hq : fX19_line m a0 a1 with
  | none => rw [hq] at h; cases h
  | some q => rw [hq] at h; cases h; exact ⟨rfl, rfl, rfl⟩

/-- MissedTrains$Scribe.read()I -/
def fX17_read_L7 (ci : Nat) (b0 : Option Nat) : (Int32 × Hp) → Nat → Option (((Int32 × Hp) ⊕ (Int32 × Hp)) × Nat × Nat) := fun (s1_5, m5) nx5 =>
  (hp_on m5 b0 ci (fX17_isGood ci m5 b0)).bind fun v6 =>
  if v6 = 0 then
    some ((.inr (s1_5, m5)), 0, 0)
  else
  (hp_gI m5 b0 ci 1).bind fun v8 =>
  (hp_gI m5 b0 ci 0).bind fun v9 =>
  if v9 ≤ v8 then
    some ((.inr (s1_5, m5)), 0, 0)
  else
  (hp_on m5 b0 ci (fX17_here ci m5 b0)).bind fun v11 =>
  ((if v11 = (59 : Int32) then
    some (m5, 0, 0)
  else
  (hp_gI m5 b0 ci 1).bind fun v24 =>
  (hp_on m5 b0 ci (fX17_bad ci m5 b0 (1 : Int32) v24)).bind fun m25 =>
  some (m25, 0, 0) : Option (Hp × Nat × Nat))).bind fun (m12, d13, c13) =>
  andA d13 c13 (
  (hp_gI m12 b0 ci 1).bind fun v15 =>
  (hp_pI m12 b0 ci 1 (v15 + (1 : Int32))).bind fun m16 =>
  (hp_on m16 b0 ci (fX17_isGood ci m16 b0)).bind fun v17 =>
  if v17 = 0 then
    some ((.inl ((s1_5 + (1 : Int32)), m16)), 0, 0)
  else
  (hp_on m16 b0 ci (fX17_line ci m16 (nx5 + d13) b0 s1_5)).bind fun (m19, d20, c21) =>
  andA d20 c21 (
  some ((.inl ((s1_5 + (1 : Int32)), m19)), 0, 0)))
def fX17_read (ci : Nat) (m : Hp) (nx : Nat) (a0 : Option Nat) : Option ((Int32 × Hp) × Nat × Nat) :=
  (hp_on m a0 ci (fX17_line ci m (nx) a0 (0 : Int32))).bind fun (m1, d2, c3) =>
  andA d2 c3 (
  (iterA (fX17_read_L7 ci a0) FUEL ((1 : Int32), m1) (nx + d2)).bind fun (r5, e5, f5) =>
  andA e5 f5 (
  match r5 with
  | (v26, m27) =>
    (hp_on m27 a0 ci (fX17_isGood ci m27 a0)).bind fun v29 =>
    if v29 = 0 then
      (hp_gI m27 a0 ci 2).bind fun v31 =>
      (hp_gI m27 a0 ci 3).bind fun v32 =>
      some (((((-1000 : Int32) * v31) - v32), m27), 0, 0)
    else
    some ((v26, m27), 0, 0)))

/-- MissedTrains$Train.takes(LMissedTrains$Train;I)V -/
def fX6_takes_L10 (b0 : Option Nat) (b1 : Option Nat) (b2 : Int32) : (Int32 × Hp) → Option ((Int32 × Hp) ⊕ Hp) := fun (s3_3, m3) =>
  (hp_gI m3 b0 5 2).bind fun v4 =>
  if v4 ≤ s3_3 then
    some (.inr m3)
  else
  (hp_gR m3 b0 5 0).bind fun v6 =>
  (hp_gR m3 b1 5 0).bind fun v7 =>
  (hp_aI m3 v7 0 s3_3).bind fun v8 =>
  (hp_sI m3 v6 0 s3_3 v8).bind fun m9 =>
  (hp_gR m9 b0 5 1).bind fun v10 =>
  (hp_gR m9 b1 5 1).bind fun v11 =>
  (hp_aI m9 v11 0 s3_3).bind fun v12 =>
  (hp_sI m9 v10 0 s3_3 (v12 + b2)).bind fun m13 =>
  some (.inl ((s3_3 + (1 : Int32)), m13))
def fX6_takes (m : Hp) (a0 : Option Nat) (a1 : Option Nat) (a2 : Int32) : Option Hp :=
  (hp_gI m a1 5 2).bind fun v1 =>
  (hp_pI m a0 5 2 v1).bind fun m2 =>
  (iter (fX6_takes_L10 a0 a1 a2) FUEL ((0 : Int32), m2)).bind fun r3 =>
  (
  match r3 with
  | m14 =>
    (hp_pI m14 a0 5 3 (0 : Int32)).bind fun m15 =>
    (hp_pZ m15 a0 5 4 (1 : Int32)).bind fun m16 =>
    some m16
  )

/-- MissedTrains$Clerk.stands(I)I -/
def fX18_stands_L12 (b0 : Option Nat) (b1 : Int32) (b3 : Int32) : (Int32 × Int32 × Hp) → Option ((Int32 × Int32 × Hp) ⊕ (Int32 × Hp)) := fun (s2_3, s4_3, m3) =>
  (hp_gR m3 b0 14 6).bind fun v4 =>
  (hp_aI m3 v4 0 b3).bind fun v5 =>
  if v5 ≤ s4_3 then
    some (.inr (s2_3, m3))
  else
  (hp_gR m3 b0 14 9).bind fun v7 =>
  (hp_gR m3 v7 0 0).bind fun v8 =>
  (hp_aR m3 v8 5 s2_3).bind fun v9 =>
  (hp_gR m3 b0 14 5).bind fun v10 =>
  (hp_aR m3 v10 5 b3).bind fun v11 =>
  (hp_gR m3 b0 14 7).bind fun v12 =>
  (hp_aI m3 v12 0 b3).bind fun v13 =>
  (hp_on m3 v9 5 (fX6_takes m3 v9 v11 (s4_3 * v13))).bind fun m14 =>
  some (.inl ((s2_3 + (1 : Int32)), (s4_3 + (1 : Int32)), m14))
def fX18_stands_L4 (b0 : Option Nat) (b1 : Int32) : (Int32 × Int32 × Hp) → Option ((Int32 × Int32 × Hp) ⊕ (Int32 × Hp)) := fun (s2_1, s3_1, m1) =>
  if b1 ≤ s3_1 then
    some (.inr (s2_1, m1))
  else
  (iter (fX18_stands_L12 b0 b1 s3_1) FUEL (s2_1, (0 : Int32), m1)).bind fun r3 =>
  (
  match r3 with
  | (v15, m16) =>
    some (.inl (v15, (s3_1 + (1 : Int32)), m16))
  )
def fX18_stands (m : Hp) (a0 : Option Nat) (a1 : Int32) : Option (Int32 × Hp) :=
  (iter (fX18_stands_L4 a0 a1) FUEL ((0 : Int32), (0 : Int32), m)).bind fun r1 =>
  (
  match r1 with
  | (v17, m18) =>
    some (v17, m18)
  )

/-- MissedTrains.timetable(I)I -/
def fX0_timetable (m : Hp) (nx : Nat) (a0 : Option Nat) (a1 : Int32) : Option ((Int32 × Hp) × Nat × Nat) :=
  (fX0_within a1 (1 : Int32) (160 : Int32)).bind fun v1 =>
  if v1 = 0 then
    some (((-1 : Int32), m), 0, 0)
  else
  (hp_gI m a0 0 12).bind fun v3 =>
  if a1 ≤ v3 then
    (hp_pI m a0 0 12 (0 : Int32)).bind fun m5 =>
    (some (hp_set m5 (nx) (.inr (14, dfX18)))).bind fun m6 =>
    andA 1 10 (
    (fX18_init m6 (nx + 1) (nx) a0 a1).bind fun (m8, d9, c10) =>
    andA d9 c10 (
    (hp_on m8 (some (nx)) 14 (fX17_read 14 m8 (nx + 1 + d9) (some (nx)))).bind fun ((v12, m13), d14, c15) =>
    andA d14 c15 (
    if 0 ≤ v12 then
      (hp_on m13 (some (nx)) 14 (fX18_stands m13 (some (nx)) v12)).bind fun (v18, m19) =>
      (hp_pI m19 a0 0 3 v18).bind fun m20 =>
      (hp_on m20 a0 0 (fX0_laysEvents m20 a0)).bind fun m21 =>
      (hp_gI m21 a0 0 3).bind fun v22 =>
      some ((v22, m21), 0, 0)
    else
    some ((v12, m13), 0, 0))))
  else
  some (((-1 : Int32), m), 0, 0)

/-- MissedTrains$Porter.<init>(LMissedTrains;I)V -/
def fX19_init_L29 (b0 : Option Nat) (b1 : Option Nat) : (Int32 × Hp) → Nat → Option (((Int32 × Hp) ⊕ Hp) × Nat × Nat) := fun (s3_9, m9) nx9 =>
  (hp_gI m9 b1 0 3).bind fun v10 =>
  if v10 ≤ s3_9 then
    some ((.inr m9), 0, 0)
  else
  (hp_gR m9 b0 15 5).bind fun v12 =>
  (hp_gR m9 b1 0 0).bind fun v13 =>
  (hp_aR m9 v13 5 s3_9).bind fun v14 =>
  (hp_gI m9 v14 5 3).bind fun v15 =>
  (hp_sI m9 v12 0 s3_9 v15).bind fun m16 =>
  (hp_gR m16 b0 15 6).bind fun v17 =>
  (hp_gR m16 b1 0 0).bind fun v18 =>
  (hp_aR m16 v18 5 s3_9).bind fun v19 =>
  (hp_gI m16 v19 5 4).bind fun v20 =>
  (hp_sI m16 v17 2 s3_9 v20).bind fun m21 =>
  some ((.inl ((s3_9 + (1 : Int32)), m21)), 0, 0)
def fX19_init (m : Hp) (nx : Nat) (a0 : Nat) (a1 : Option Nat) (a2 : Int32) : Option (Hp × Nat × Nat) :=
  (hp_pR m (some a0) 15 7 a1).bind fun m1 =>
  (fX17_init 15 m1 a0 a1 a2).bind fun m2 =>
  (some (hp_newa m2 (nx) 0 48)).bind fun m3 =>
  andA 1 48 (
  (hp_pR m3 (some a0) 15 5 (some (nx))).bind fun m5 =>
  (some (hp_newa m5 (nx + 1) 2 48)).bind fun m6 =>
  andA 1 48 (
  (hp_pR m6 (some a0) 15 6 (some (nx + 1))).bind fun m8 =>
  (iterA (fX19_init_L29 (some a0) a1) FUEL ((0 : Int32), m8) (nx + 1 + 1)).bind fun (r9, e9, f9) =>
  andA e9 f9 (
  match r9 with
  | m22 =>
    some (m22, 0, 0))))

/-- MissedTrains$Porter.stands()V -/
def fX19_stands_L2 (b0 : Option Nat) : (Int32 × Hp) → Option ((Int32 × Hp) ⊕ Hp) := fun (s1_1, m1) =>
  (hp_gR m1 b0 15 7).bind fun v2 =>
  (hp_gI m1 v2 0 3).bind fun v3 =>
  if v3 ≤ s1_1 then
    some (.inr m1)
  else
  (hp_gR m1 b0 15 7).bind fun v5 =>
  (hp_gR m1 v5 0 0).bind fun v6 =>
  (hp_aR m1 v6 5 s1_1).bind fun v7 =>
  (hp_gR m1 b0 15 5).bind fun v8 =>
  (hp_aI m1 v8 0 s1_1).bind fun v9 =>
  (hp_pI m1 v7 5 3 v9).bind fun m10 =>
  (hp_gR m10 b0 15 7).bind fun v11 =>
  (hp_gR m10 v11 0 0).bind fun v12 =>
  (hp_aR m10 v12 5 s1_1).bind fun v13 =>
  (hp_gR m10 b0 15 6).bind fun v14 =>
  (hp_aI m10 v14 2 s1_1).bind fun v15 =>
  (hp_pZ m10 v13 5 4 v15).bind fun m16 =>
  some (.inl ((s1_1 + (1 : Int32)), m16))
def fX19_stands (m : Hp) (a0 : Option Nat) : Option Hp :=
  (iter (fX19_stands_L2 a0) FUEL ((0 : Int32), m)).bind fun r1 =>
  (
  match r1 with
  | m17 =>
    some m17
  )

/-- MissedTrains.orders(I)I -/
def fX0_orders (m : Hp) (nx : Nat) (a0 : Option Nat) (a1 : Int32) : Option ((Int32 × Hp) × Nat × Nat) :=
  (fX0_within a1 (1 : Int32) (120 : Int32)).bind fun v1 =>
  if v1 = 0 then
    some (((-1 : Int32), m), 0, 0)
  else
  (hp_gI m a0 0 12).bind fun v3 =>
  if a1 ≤ v3 then
    (hp_pI m a0 0 12 (0 : Int32)).bind fun m5 =>
    (some (hp_set m5 (nx) (.inr (15, dfX19)))).bind fun m6 =>
    andA 1 8 (
    (fX19_init m6 (nx + 1) (nx) a0 a1).bind fun (m8, d9, c10) =>
    andA d9 c10 (
    (hp_on m8 (some (nx)) 15 (fX17_read 15 m8 (nx + 1 + d9) (some (nx)))).bind fun ((v12, m13), d14, c15) =>
    andA d14 c15 (
    if v12 < 0 then
      some ((v12, m13), 0, 0)
    else
    (hp_on m13 (some (nx)) 15 (fX19_stands m13 (some (nx)))).bind fun m18 =>
    some ((v12, m18), 0, 0))))
  else
  some (((-1 : Int32), m), 0, 0)

/-- MissedTrains$Platform.draw()I -/
def fX3_draw (m : Hp) (a0 : Option Nat) : Option (Int32 × Hp) :=
  (hp_gI m a0 2 4).bind fun v1 =>
  (hp_pI m a0 2 4 (jrem (((25173 : Int32) * v1) + (13849 : Int32)) (65536 : Int32))).bind fun m2 =>
  (hp_gI m2 a0 2 4).bind fun v3 =>
  some ((jrem v3 (10 : Int32)), m2)

/-- MissedTrains$Platform.waiting(I)I -/
def fX3_waiting_L4 (bm : Hp) (b0 : Option Nat) (b1 : Int32) : (Int32 × Int32) → Option ((Int32 × Int32) ⊕ Int32) := fun (s2_1, s3_1) =>
  if (12 : Int32) ≤ s3_1 then
    some (.inr s2_1)
  else
  (hp_gR bm b0 2 0).bind fun v3 =>
  (hp_aR bm v3 6 s3_1).bind fun v4 =>
  (hp_gI bm v4 3 5).bind fun v5 =>
  if v5 = 0 then
    some (.inl ((s2_1 + (0 : Int32)), (s3_1 + (1 : Int32))))
  else
  (hp_gR bm b0 2 0).bind fun v7 =>
  (hp_aR bm v7 6 s3_1).bind fun v8 =>
  (hp_gI bm v8 3 0).bind fun v9 =>
  if v9 = b1 then
    (hp_gR bm b0 2 2).bind fun v11 =>
    (hp_aI bm v11 0 s3_1).bind fun v12 =>
    if v12 = (-1 : Int32) then
      some (.inl ((s2_1 + (1 : Int32)), (s3_1 + (1 : Int32))))
    else
    some (.inl ((s2_1 + (0 : Int32)), (s3_1 + (1 : Int32))))
  else
  some (.inl ((s2_1 + (0 : Int32)), (s3_1 + (1 : Int32))))
def fX3_waiting (m : Hp) (a0 : Option Nat) (a1 : Int32) : Option Int32 :=
  (iter (fX3_waiting_L4 m a0 a1) FUEL ((0 : Int32), (0 : Int32))).bind fun r1 =>
  (
  match r1 with
  | v14 =>
    some v14
  )

/-- MissedTrains$Moment.of(IIIIIII)LMissedTrains$Moment; -/
def fX2_of (m : Hp) (a0 : Option Nat) (a1 : Int32) (a2 : Int32) (a3 : Int32) (a4 : Int32) (a5 : Int32) (a6 : Int32) (a7 : Int32) : Option (Option Nat × Hp) :=
  (hp_pI m a0 1 1 a1).bind fun m1 =>
  (hp_pI m1 a0 1 2 a2).bind fun m2 =>
  (hp_pI m2 a0 1 3 a3).bind fun m3 =>
  (hp_pI m3 a0 1 4 a4).bind fun m4 =>
  (hp_pI m4 a0 1 5 a5).bind fun m5 =>
  (hp_pI m5 a0 1 6 (0 : Int32)).bind fun m6 =>
  (hp_pI m6 a0 1 7 (0 : Int32)).bind fun m7 =>
  (hp_pI m7 a0 1 8 (jrem a6 (7 : Int32))).bind fun m8 =>
  (hp_pI m8 a0 1 9 a7).bind fun m9 =>
  some (a0, m9)

/-- MissedTrains$Platform.arrives(II)V -/
def fX3_arrives_L2 (b0 : Option Nat) (b1 : Int32) (b2 : Int32) : (Int32 × Hp) → Option ((Int32 × Hp) ⊕ Hp) := fun (s3_1, m1) =>
  if (12 : Int32) ≤ s3_1 then
    some (.inr m1)
  else
  (hp_gR m1 b0 2 0).bind fun v3 =>
  (hp_aR m1 v3 6 s3_1).bind fun v4 =>
  (hp_gI m1 v4 3 5).bind fun v5 =>
  if v5 = 0 then
    some (.inl ((s3_1 + (1 : Int32)), m1))
  else
  (hp_gR m1 b0 2 2).bind fun v7 =>
  (hp_aI m1 v7 0 s3_1).bind fun v8 =>
  if v8 = b1 then
    (hp_gI m1 v4 3 1).bind fun v10 =>
    if v10 = b2 then
      (hp_gR m1 b0 2 2).bind fun v12 =>
      (hp_sI m1 v12 0 s3_1 (48 : Int32)).bind fun m13 =>
      (hp_gI m13 v4 3 3).bind fun v14 =>
      (hp_pI m13 v4 3 3 (jmin (9999 : Int32) (v14 + (1 : Int32)))).bind fun m15 =>
      (hp_gI m15 b0 2 5).bind fun v16 =>
      (hp_pI m15 b0 2 5 (v16 + (1 : Int32))).bind fun m17 =>
      some (.inl ((s3_1 + (1 : Int32)), m17))
    else
    some (.inl ((s3_1 + (1 : Int32)), m1))
  else
  some (.inl ((s3_1 + (1 : Int32)), m1))
def fX3_arrives (m : Hp) (a0 : Option Nat) (a1 : Int32) (a2 : Int32) : Option Hp :=
  (iter (fX3_arrives_L2 a0 a1 a2) FUEL ((0 : Int32), m)).bind fun r1 =>
  (
  match r1 with
  | m18 =>
    some m18
  )

/-- MissedTrains$Moment.with(II)LMissedTrains$Moment; -/
def fX2_with (m : Hp) (a0 : Option Nat) (a1 : Int32) (a2 : Int32) : Option (Option Nat × Hp) :=
  (hp_pI m a0 1 6 a1).bind fun m1 =>
  (hp_pI m1 a0 1 7 a2).bind fun m2 =>
  some (a0, m2)

/-- MissedTrains$Text.says(ILMissedTrains$Asked;)Z -/
def fX5_says_L2 (b0 : Option Nat) (b1 : Int32) (b2 : Option Nat) : (Int32 × Hp) → Option ((Int32 × Hp) ⊕ (Hp ⊕ (Int32 × Hp))) := fun (s3_1, m1) =>
  (hp_gI m1 b0 4 3).bind fun v2 =>
  if v2 ≤ s3_1 then
    some (.inr (.inl m1))
  else
  (hp_gR m1 b0 4 0).bind fun v4 =>
  (hp_aI m1 v4 0 s3_1).bind fun v5 =>
  if v5 = b1 then
    (hp_gR m1 b0 4 2).bind fun v7 =>
    (hp_aR m1 v7 4 s3_1).bind fun v8 =>
    (fX13_holds 60 m1 v8 b2).bind fun (v9, m10) =>
    if v9 = (1 : Int32) then
      some (.inr (.inr ((1 : Int32), m10)))
    else
    some (.inl ((s3_1 + (1 : Int32)), m10))
  else
  some (.inl ((s3_1 + (1 : Int32)), m1))
def fX5_says (m : Hp) (a0 : Option Nat) (a1 : Int32) (a2 : Option Nat) : Option (Int32 × Hp) :=
  (iter (fX5_says_L2 a0 a1 a2) FUEL ((0 : Int32), m)).bind fun r1 =>
  (
  match r1 with
  | .inl m12 =>
    some ((0 : Int32), m12)
  | .inr o => some o
  )

/-- MissedTrains$Platform.boards(IIIII)V -/
def fX3_boards (m : Hp) (a0 : Option Nat) (a1 : Int32) (a2 : Int32) (a3 : Int32) (a4 : Int32) (a5 : Int32) : Option Hp :=
  (hp_gR m a0 2 0).bind fun v1 =>
  (hp_aR m v1 6 a1).bind fun v2 =>
  (hp_gR m a0 2 8).bind fun v3 =>
  (hp_gR m v3 0 6).bind fun v4 =>
  (hp_gR m a0 2 1).bind fun v5 =>
  (hp_aI m v5 0 a2).bind fun v6 =>
  (hp_on m a0 2 (fX3_waiting m a0 a3)).bind fun v7 =>
  (hp_gI m a0 2 3).bind fun v8 =>
  (hp_on m v4 1 (fX2_of m v4 a2 a3 a4 v6 v7 v8 a5)).bind fun (v9, m10) =>
  (hp_gI m10 v2 3 4).bind fun v11 =>
  (hp_on m10 v9 1 (fX2_with m10 v9 a1 v11)).bind fun (v12, m13) =>
  (hp_gR m13 a0 2 8).bind fun v14 =>
  (hp_gR m13 v14 0 11).bind fun v15 =>
  (hp_gR m13 a0 2 8).bind fun v16 =>
  (hp_gR m13 v16 0 6).bind fun v17 =>
  (hp_on m13 v15 4 (fX5_says m13 v15 (109 : Int32) v17)).bind fun (v18, m19) =>
  if v18 = 0 then
    (hp_gR m19 a0 2 2).bind fun v21 =>
    (hp_sI m19 v21 0 a1 a2).bind fun m22 =>
    some m22
  else
  (hp_gI m19 v2 3 4).bind fun v23 =>
  (hp_pI m19 v2 3 4 (jmin (9999 : Int32) (v23 + (1 : Int32)))).bind fun m24 =>
  (hp_gI m24 a0 2 6).bind fun v25 =>
  (hp_pI m24 a0 2 6 (v25 + (1 : Int32))).bind fun m26 =>
  some m26

/-- MissedTrains$Platform.stops(II)V -/
def fX3_stops_L134 (b0 : Option Nat) (b1 : Int32) (b2 : Int32) (b3 : Option Nat) (b4 : Int32) (b5 : Int32) : (Int32 × Hp) → Option ((Int32 × Hp) ⊕ Hp) := fun (s8_32, m32) =>
  if (12 : Int32) ≤ s8_32 then
    some (.inr m32)
  else
  (hp_gR m32 b0 2 0).bind fun v34 =>
  (hp_aR m32 v34 6 s8_32).bind fun v35 =>
  (hp_gI m32 v35 3 5).bind fun v36 =>
  if v36 = 0 then
    some (.inl ((s8_32 + (1 : Int32)), m32))
  else
  (hp_gI m32 v35 3 0).bind fun v38 =>
  if v38 = b4 then
    (hp_gR m32 b0 2 2).bind fun v40 =>
    (hp_aI m32 v40 0 s8_32).bind fun v41 =>
    if v41 = (-1 : Int32) then
      (hp_gI m32 v35 3 2).bind fun v43 =>
      (hp_gR m32 b3 5 1).bind fun v44 =>
      (hp_aI m32 v44 0 b2).bind fun v45 =>
      (hp_gR m32 b0 2 1).bind fun v46 =>
      (hp_aI m32 v46 0 b1).bind fun v47 =>
      if (v45 + v47) < v43 then
        some (.inl ((s8_32 + (1 : Int32)), m32))
      else
      (hp_gI m32 v35 3 1).bind fun v49 =>
      (hp_on m32 b3 5 (fX6_stopAt m32 b3 v49)).bind fun v50 =>
      if v50 ≤ b2 then
        some (.inl ((s8_32 + (1 : Int32)), m32))
      else
      (hp_on m32 b0 2 (fX3_boards m32 b0 s8_32 b1 b4 b2 b5)).bind fun m52 =>
      some (.inl ((s8_32 + (1 : Int32)), m52))
    else
    some (.inl ((s8_32 + (1 : Int32)), m32))
  else
  some (.inl ((s8_32 + (1 : Int32)), m32))
def fX3_stops (m : Hp) (a0 : Option Nat) (a1 : Int32) (a2 : Int32) : Option Hp :=
  (hp_gR m a0 2 8).bind fun v1 =>
  (hp_gR m v1 0 0).bind fun v2 =>
  (hp_aR m v2 5 a1).bind fun v3 =>
  (hp_gR m v3 5 0).bind fun v4 =>
  (hp_aI m v4 0 a2).bind fun v5 =>
  (hp_on m a0 2 (fX3_draw m a0)).bind fun (v6, m7) =>
  (hp_gR m7 a0 2 8).bind fun v8 =>
  (hp_gR m7 v8 0 6).bind fun v9 =>
  (hp_gR m7 a0 2 1).bind fun v10 =>
  (hp_aI m7 v10 0 a1).bind fun v11 =>
  (hp_on m7 a0 2 (fX3_waiting m7 a0 v5)).bind fun v12 =>
  (hp_gI m7 a0 2 3).bind fun v13 =>
  (hp_on m7 v9 1 (fX2_of m7 v9 a1 v5 a2 v11 v12 v13 v6)).bind fun (v14, m15) =>
  (hp_gR m15 a0 2 8).bind fun v16 =>
  (hp_on m15 v16 0 (fX0_tells m15 v16 (100 : Int32) (60 : Int32))).bind fun (v17, m18) =>
  (hp_gR m18 a0 2 8).bind fun v19 =>
  (hp_on m18 v19 0 (fX0_tells m18 v19 (99 : Int32) (60 : Int32))).bind fun (v20, m21) =>
  (hp_gR m21 a0 2 1).bind fun v22 =>
  (hp_gR m21 a0 2 1).bind fun v23 =>
  (hp_aI m21 v23 0 a1).bind fun v24 =>
  (fX0_held ((v24 + v17) - v20) (240 : Int32)).bind fun v25 =>
  (hp_sI m21 v22 0 a1 v25).bind fun m26 =>
  (hp_gI m26 a0 2 7).bind fun v27 =>
  (hp_gR m26 a0 2 1).bind fun v28 =>
  (hp_aI m26 v28 0 a1).bind fun v29 =>
  (hp_pI m26 a0 2 7 (jmax v27 v29)).bind fun m30 =>
  (hp_on m30 a0 2 (fX3_arrives m30 a0 a1 v5)).bind fun m31 =>
  (iter (fX3_stops_L134 a0 a1 a2 v3 v5 v6) FUEL ((0 : Int32), m31)).bind fun r32 =>
  (
  match r32 with
  | m53 =>
    some m53
  )

/-- MissedTrains$Platform.dayGoes()V -/
def fX3_dayGoes_L2 (b0 : Option Nat) : (Int32 × Hp) → Option ((Int32 × Hp) ⊕ Hp) := fun (s1_1, m1) =>
  if (12 : Int32) ≤ s1_1 then
    some (.inr m1)
  else
  (hp_gR m1 b0 2 2).bind fun v3 =>
  (hp_sI m1 v3 0 s1_1 (-1 : Int32)).bind fun m4 =>
  some (.inl ((s1_1 + (1 : Int32)), m4))
def fX3_dayGoes_L23 (b0 : Option Nat) : (Int32 × Hp) → Option ((Int32 × Hp) ⊕ Hp) := fun (s1_6, m6) =>
  (hp_gR m6 b0 2 8).bind fun v7 =>
  (hp_gI m6 v7 0 3).bind fun v8 =>
  if v8 ≤ s1_6 then
    some (.inr m6)
  else
  (hp_gR m6 b0 2 1).bind fun v10 =>
  (hp_gR m6 b0 2 8).bind fun v11 =>
  (hp_gR m6 v11 0 0).bind fun v12 =>
  (hp_aR m6 v12 5 s1_6).bind fun v13 =>
  (hp_gI m6 v13 5 3).bind fun v14 =>
  (hp_sI m6 v10 0 s1_6 v14).bind fun m15 =>
  some (.inl ((s1_6 + (1 : Int32)), m15))
def fX3_dayGoes_L60 (b0 : Option Nat) : (Int32 × Hp) → Option ((Int32 × Hp) ⊕ Hp) := fun (s1_17, m17) =>
  (hp_gR m17 b0 2 8).bind fun v18 =>
  (hp_gI m17 v18 0 4).bind fun v19 =>
  if v19 ≤ s1_17 then
    some (.inr m17)
  else
  (hp_gR m17 b0 2 8).bind fun v21 =>
  (hp_gR m17 v21 0 0).bind fun v22 =>
  (hp_gR m17 b0 2 8).bind fun v23 =>
  (hp_gR m17 v23 0 1).bind fun v24 =>
  (hp_aI m17 v24 0 s1_17).bind fun v25 =>
  (hp_aR m17 v22 5 v25).bind fun v26 =>
  (hp_gI m17 v26 5 4).bind fun v27 =>
  if v27 = 0 then
    some (.inl ((s1_17 + (1 : Int32)), m17))
  else
  (hp_gR m17 b0 2 8).bind fun v29 =>
  (hp_gR m17 v29 0 1).bind fun v30 =>
  (hp_aI m17 v30 0 s1_17).bind fun v31 =>
  (hp_gR m17 b0 2 8).bind fun v32 =>
  (hp_gR m17 v32 0 2).bind fun v33 =>
  (hp_aI m17 v33 0 s1_17).bind fun v34 =>
  (hp_on m17 b0 2 (fX3_stops m17 b0 v31 v34)).bind fun m35 =>
  some (.inl ((s1_17 + (1 : Int32)), m35))
def fX3_dayGoes (m : Hp) (a0 : Option Nat) : Option Hp :=
  (iter (fX3_dayGoes_L2 a0) FUEL ((0 : Int32), m)).bind fun r1 =>
  (
  match r1 with
  | m5 =>
    (iter (fX3_dayGoes_L23 a0) FUEL ((0 : Int32), m5)).bind fun r6 =>
    (
    match r6 with
    | m16 =>
      (iter (fX3_dayGoes_L60 a0) FUEL ((0 : Int32), m16)).bind fun r17 =>
      (
      match r17 with
      | m36 =>
        (hp_gI m36 a0 2 3).bind fun v37 =>
        (hp_pI m36 a0 2 3 (v37 + (1 : Int32))).bind fun m38 =>
        some m38
      )
    )
  )

/-- MissedTrains$Platform.goes(I)LMissedTrains$Platform; -/
def fX3_goes_L17 (b0 : Option Nat) (b1 : Int32) : (Int32 × Hp) → Option ((Int32 × Hp) ⊕ Hp) := fun (s2_4, m4) =>
  if b1 ≤ s2_4 then
    some (.inr m4)
  else
  (hp_gI m4 b0 2 3).bind fun v6 =>
  if (9999 : Int32) ≤ v6 then
    some (.inr m4)
  else
  (hp_on m4 b0 2 (fX3_dayGoes m4 b0)).bind fun m8 =>
  some (.inl ((s2_4 + (1 : Int32)), m8))
def fX3_goes (m : Hp) (a0 : Option Nat) (a1 : Int32) : Option (Option Nat × Hp) :=
  (hp_pI m a0 2 5 (0 : Int32)).bind fun m1 =>
  (hp_pI m1 a0 2 6 (0 : Int32)).bind fun m2 =>
  (hp_pI m2 a0 2 7 (0 : Int32)).bind fun m3 =>
  (iter (fX3_goes_L17 a0 a1) FUEL ((0 : Int32), m3)).bind fun r4 =>
  (
  match r4 with
  | m9 =>
    some (a0, m9)
  )

/-- MissedTrains.days(I)I -/
def fX0_days (m : Hp) (a0 : Option Nat) (a1 : Int32) : Option (Int32 × Hp) :=
  (fX0_within a1 (1 : Int32) (30 : Int32)).bind fun v1 =>
  if v1 = 0 then
    some ((-1 : Int32), m)
  else
  (hp_gR m a0 0 7).bind fun v3 =>
  (hp_on m v3 2 (fX3_goes m v3 a1)).bind fun (v4, m5) =>
  (hp_gI m5 v4 2 5).bind fun v6 =>
  some (v6, m5)

/-- MissedTrains$Person.takes(LMissedTrains$Person;)V -/
def fX4_takes (m : Hp) (a0 : Option Nat) (a1 : Option Nat) : Option Hp :=
  (hp_gI m a1 3 0).bind fun v1 =>
  (hp_pI m a0 3 0 v1).bind fun m2 =>
  (hp_gI m2 a1 3 1).bind fun v3 =>
  (hp_pI m2 a0 3 1 v3).bind fun m4 =>
  (hp_gI m4 a1 3 2).bind fun v5 =>
  (hp_pI m4 a0 3 2 v5).bind fun m6 =>
  (hp_gI m6 a1 3 3).bind fun v7 =>
  (hp_pI m6 a0 3 3 v7).bind fun m8 =>
  (hp_gI m8 a1 3 4).bind fun v9 =>
  (hp_pI m8 a0 3 4 v9).bind fun m10 =>
  (hp_gI m10 a1 3 5).bind fun v11 =>
  (hp_pZ m10 a0 3 5 v11).bind fun m12 =>
  some m12

/-- MissedTrains$Platform.takes(LMissedTrains$Platform;)LMissedTrains$Platform; -/
def fX3_takes_L2 (b0 : Option Nat) (b1 : Option Nat) : (Int32 × Hp) → Option ((Int32 × Hp) ⊕ Hp) := fun (s2_1, m1) =>
  if (12 : Int32) ≤ s2_1 then
    some (.inr m1)
  else
  (hp_gR m1 b0 2 0).bind fun v3 =>
  (hp_aR m1 v3 6 s2_1).bind fun v4 =>
  (hp_gR m1 b1 2 0).bind fun v5 =>
  (hp_aR m1 v5 6 s2_1).bind fun v6 =>
  (hp_on m1 v4 3 (fX4_takes m1 v4 v6)).bind fun m7 =>
  some (.inl ((s2_1 + (1 : Int32)), m7))
def fX3_takes (m : Hp) (a0 : Option Nat) (a1 : Option Nat) : Option (Option Nat × Hp) :=
  (iter (fX3_takes_L2 a0 a1) FUEL ((0 : Int32), m)).bind fun r1 =>
  (
  match r1 with
  | m8 =>
    (hp_gI m8 a1 2 3).bind fun v9 =>
    (hp_pI m8 a0 2 3 v9).bind fun m10 =>
    (hp_gI m10 a1 2 4).bind fun v11 =>
    (hp_pI m10 a0 2 4 v11).bind fun m12 =>
    some (a0, m12)
  )

/-- MissedTrains.tried(II)I -/
def fX0_tried (m : Hp) (a0 : Option Nat) (a1 : Int32) (a2 : Int32) : Option (Int32 × Hp) :=
  (fX0_within a1 (1 : Int32) (30 : Int32)).bind fun v1 =>
  if v1 = 0 then
    some ((-1 : Int32), m)
  else
  (fX0_in a2 (3 : Int32)).bind fun v3 =>
  ((if v3 = 0 then
    (hp_on m a0 0 (fX0_isTold m a0 (a2 - (100 : Int32)))).bind fun v30 =>
    if v30 = 0 then
      (hp_on m a0 0 (fX0_isTold m a0 (a2 - (200 : Int32)))).bind fun v32 =>
      if v32 = 0 then
        some (.inr ((-1 : Int32), m))
      else
      some (.inl ())
    else
    some (.inl ())
  else
  some (.inl ()) : Option (Unit ⊕ (Int32 × Hp)))).bind fun p4 =>
  (
  match p4 with
  | .inl _ =>
    (hp_gR m a0 0 8).bind fun v5 =>
    (hp_gR m a0 0 7).bind fun v6 =>
    (hp_on m v5 2 (fX3_takes m v5 v6)).bind fun (v7, m8) =>
    (hp_on m8 v7 2 (fX3_goes m8 v7 a1)).bind fun (v9, m10) =>
    if a2 = (0 : Int32) then
      (hp_gR m10 a0 0 8).bind fun v12 =>
      (hp_gI m10 v12 2 5).bind fun v13 =>
      some (v13, m10)
    else
    if a2 = (1 : Int32) then
      (hp_gR m10 a0 0 8).bind fun v15 =>
      (hp_gI m10 v15 2 6).bind fun v16 =>
      some (v16, m10)
    else
    if a2 = (2 : Int32) then
      (hp_gR m10 a0 0 8).bind fun v18 =>
      (hp_gI m10 v18 2 7).bind fun v19 =>
      some (v19, m10)
    else
    if (200 : Int32) ≤ a2 then
      (hp_gR m10 a0 0 8).bind fun v21 =>
      (hp_gR m10 v21 2 0).bind fun v22 =>
      (hp_aR m10 v22 6 (a2 - (200 : Int32))).bind fun v23 =>
      (hp_gI m10 v23 3 3).bind fun v24 =>
      some (v24, m10)
    else
    (hp_gR m10 a0 0 8).bind fun v25 =>
    (hp_gR m10 v25 2 0).bind fun v26 =>
    (hp_aR m10 v26 6 (a2 - (100 : Int32))).bind fun v27 =>
    (hp_gI m10 v27 3 4).bind fun v28 =>
    some (v28, m10)
  | .inr o => some o
  )

/-- MissedTrains.personIs(II)I -/
def fX0_personIs (m : Hp) (a0 : Option Nat) (a1 : Int32) (a2 : Int32) : Option Int32 :=
  (hp_on m a0 0 (fX0_isTold m a0 a1)).bind fun v1 =>
  if v1 = 0 then
    some (-1 : Int32)
  else
  (hp_gR m a0 0 7).bind fun v3 =>
  (hp_gR m v3 2 0).bind fun v4 =>
  (hp_aR m v4 6 a1).bind fun v5 =>
  if a2 = (0 : Int32) then
    (hp_gI m v5 3 0).bind fun v7 =>
    some v7
  else
  if a2 = (1 : Int32) then
    (hp_gI m v5 3 1).bind fun v9 =>
    some v9
  else
  if a2 = (2 : Int32) then
    (hp_gI m v5 3 2).bind fun v11 =>
    some v11
  else
  if a2 = (3 : Int32) then
    (hp_gI m v5 3 3).bind fun v13 =>
    some v13
  else
  if a2 = (4 : Int32) then
    (hp_gI m v5 3 4).bind fun v15 =>
    some v15
  else
  some (-1 : Int32)

/-- MissedTrains$Train.first()I -/
def fX6_first (m : Hp) (a0 : Option Nat) : Option Int32 :=
  (hp_gR m a0 5 0).bind fun v1 =>
  (hp_aI m v1 0 (0 : Int32)).bind fun v2 =>
  some v2

/-- MissedTrains$Train.last()I -/
def fX6_last (m : Hp) (a0 : Option Nat) : Option Int32 :=
  (hp_gR m a0 5 0).bind fun v1 =>
  (hp_gI m a0 5 2).bind fun v2 =>
  (hp_aI m v1 0 (v2 - (1 : Int32))).bind fun v3 =>
  some v3

/-- MissedTrains.trainIs(II)I -/
def fX0_trainIs (m : Hp) (a0 : Option Nat) (a1 : Int32) (a2 : Int32) : Option Int32 :=
  (hp_on m a0 0 (fX0_isTrain m a0 a1)).bind fun v1 =>
  if v1 = 0 then
    some (-1 : Int32)
  else
  (hp_gR m a0 0 0).bind fun v3 =>
  (hp_aR m v3 5 a1).bind fun v4 =>
  if a2 = (0 : Int32) then
    (hp_gI m v4 5 2).bind fun v6 =>
    some v6
  else
  if a2 = (1 : Int32) then
    (hp_gI m v4 5 4).bind fun v8 =>
    if v8 = 0 then
      some (0 : Int32)
    else
    some (1 : Int32)
  else
  if a2 = (2 : Int32) then
    (hp_gI m v4 5 3).bind fun v11 =>
    some v11
  else
  if a2 = (3 : Int32) then
    (hp_on m v4 5 (fX6_first m v4)).bind fun v13 =>
    some v13
  else
  if a2 = (4 : Int32) then
    (hp_on m v4 5 (fX6_last m v4)).bind fun v15 =>
    some v15
  else
  if a2 = (5 : Int32) then
    (hp_gR m v4 5 1).bind fun v17 =>
    (hp_aI m v17 0 (0 : Int32)).bind fun v18 =>
    some v18
  else
  if a2 = (6 : Int32) then
    (hp_on m v4 5 (fX6_ends m v4)).bind fun v20 =>
    some v20
  else
  some (-1 : Int32)

/-- MissedTrains.stopIs(III)I -/
def fX0_stopIs (m : Hp) (a0 : Option Nat) (a1 : Int32) (a2 : Int32) (a3 : Int32) : Option Int32 :=
  (hp_on m a0 0 (fX0_isTrain m a0 a1)).bind fun v1 =>
  if v1 = 0 then
    some (-1 : Int32)
  else
  (hp_gR m a0 0 0).bind fun v3 =>
  (hp_aR m v3 5 a1).bind fun v4 =>
  (hp_gI m v4 5 2).bind fun v5 =>
  (fX0_in a2 v5).bind fun v6 =>
  if v6 = 0 then
    some (-1 : Int32)
  else
  (fX0_in a3 (2 : Int32)).bind fun v8 =>
  if v8 = 0 then
    some (-1 : Int32)
  else
  if a3 = 0 then
    (hp_gR m a0 0 0).bind fun v15 =>
    (hp_aR m v15 5 a1).bind fun v16 =>
    (hp_gR m v16 5 0).bind fun v17 =>
    (hp_aI m v17 0 a2).bind fun v18 =>
    some v18
  else
  (hp_gR m a0 0 0).bind fun v11 =>
  (hp_aR m v11 5 a1).bind fun v12 =>
  (hp_gR m v12 5 1).bind fun v13 =>
  (hp_aI m v13 0 a2).bind fun v14 =>
  some v14

/-- MissedTrains.ridesIn(LMissedTrains$Train;I)V -/
def fX0_ridesIn_L5 (b0 : Option Nat) (b1 : Option Nat) (b2 : Int32) : (Int32 × Int32 × Hp) → Option ((Int32 × Int32 × Hp) ⊕ Hp) := fun (s3_1, s4_1, m1) =>
  (hp_gI m1 b1 5 2).bind fun v2 =>
  if v2 ≤ s4_1 then
    some (.inr m1)
  else
  (hp_gI m1 b1 5 4).bind fun v4 =>
  if v4 = 0 then
    some (.inr m1)
  else
  (hp_gR m1 b1 5 0).bind fun v6 =>
  (hp_aI m1 v6 0 s4_1).bind fun v7 =>
  ((if s3_1 = 0 then
    some m1
  else
  (hp_gR m1 b0 0 14).bind fun v17 =>
  (hp_gR m1 b0 0 14).bind fun v18 =>
  (hp_aI m1 v18 0 v7).bind fun v19 =>
  (hp_gR m1 b1 5 1).bind fun v20 =>
  (hp_aI m1 v20 0 s4_1).bind fun v21 =>
  (hp_sI m1 v17 0 v7 (jmin v19 v21)).bind fun m22 =>
  some m22 : Option Hp)).bind fun m8 =>
  if s3_1 = 0 then
    (hp_gR m8 b0 0 15).bind fun v11 =>
    (hp_aI m8 v11 0 v7).bind fun v12 =>
    (hp_gR m8 b1 5 1).bind fun v13 =>
    (hp_aI m8 v13 0 s4_1).bind fun v14 =>
    if v14 < (v12 + b2) then
      some (.inl ((0 : Int32), (s4_1 + (1 : Int32)), m8))
    else
    some (.inl ((1 : Int32), (s4_1 + (1 : Int32)), m8))
  else
  some (.inl ((1 : Int32), (s4_1 + (1 : Int32)), m8))
def fX0_ridesIn (m : Hp) (a0 : Option Nat) (a1 : Option Nat) (a2 : Int32) : Option Hp :=
  (iter (fX0_ridesIn_L5 a0 a1 a2) FUEL ((0 : Int32), (0 : Int32), m)).bind fun r1 =>
  (
  match r1 with
  | m23 =>
    some m23
  )

/-- MissedTrains.laysThere(III)I -/
def fX0_laysThere_L3 (b0 : Option Nat) (b1 : Int32) (b2 : Int32) (b3 : Int32) : (Int32 × Hp) → Option ((Int32 × Hp) ⊕ Hp) := fun (s4_1, m1) =>
  if (10 : Int32) ≤ s4_1 then
    some (.inr m1)
  else
  (hp_gR m1 b0 0 14).bind fun v3 =>
  if s4_1 = b1 then
    (hp_sI m1 v3 0 s4_1 b2).bind fun m6 =>
    some (.inl ((s4_1 + (1 : Int32)), m6))
  else
  (hp_sI m1 v3 0 s4_1 (268435456 : Int32)).bind fun m5 =>
  some (.inl ((s4_1 + (1 : Int32)), m5))
def fX0_laysThere_L51 (b0 : Option Nat) (b3 : Int32) (b4 : Int32) (b5 : Int32) : (Int32 × Hp) → Option ((Int32 × Hp) ⊕ Hp) := fun (s6_10, m10) =>
  if (10 : Int32) ≤ s6_10 then
    some (.inr m10)
  else
  (hp_gR m10 b0 0 15).bind fun v12 =>
  (hp_gR m10 b0 0 14).bind fun v13 =>
  (hp_aI m10 v13 0 s6_10).bind fun v14 =>
  (hp_sI m10 v12 0 s6_10 v14).bind fun m15 =>
  some (.inl ((s6_10 + (1 : Int32)), m15))
def fX0_laysThere_L81 (b0 : Option Nat) (b3 : Int32) (b4 : Int32) (b5 : Int32) : (Int32 × Hp) → Option ((Int32 × Hp) ⊕ Hp) := fun (s6_17, m17) =>
  (hp_gI m17 b0 0 3).bind fun v18 =>
  if v18 ≤ s6_17 then
    some (.inr m17)
  else
  (hp_gR m17 b0 0 0).bind fun v20 =>
  (hp_aR m17 v20 5 s6_17).bind fun v21 =>
  if b5 = (1 : Int32) then
    (hp_on m17 b0 0 (fX0_ridesIn m17 b0 v21 (0 : Int32))).bind fun m25 =>
    some (.inl ((s6_17 + (1 : Int32)), m25))
  else
  (hp_gI m17 b0 0 5).bind fun v23 =>
  (hp_on m17 b0 0 (fX0_ridesIn m17 b0 v21 v23)).bind fun m24 =>
  some (.inl ((s6_17 + (1 : Int32)), m24))
def fX0_laysThere_L41 (b0 : Option Nat) (b3 : Int32) : (Int32 × Int32 × Hp) → Option ((Int32 × Int32 × Hp) ⊕ (Int32 × Hp)) := fun (s4_8, s5_8, m8) =>
  if (10 : Int32) < s5_8 then
    some (.inr (s4_8, m8))
  else
  (iter (fX0_laysThere_L51 b0 b3 s4_8 s5_8) FUEL ((0 : Int32), m8)).bind fun r10 =>
  (
  match r10 with
  | m16 =>
    (iter (fX0_laysThere_L81 b0 b3 s4_8 s5_8) FUEL ((0 : Int32), m16)).bind fun r17 =>
    (
    match r17 with
    | m26 =>
      (hp_gR m26 b0 0 14).bind fun v27 =>
      (hp_aI m26 v27 0 b3).bind fun v28 =>
      (hp_gR m26 b0 0 15).bind fun v29 =>
      (hp_aI m26 v29 0 b3).bind fun v30 =>
      if v30 ≤ v28 then
        some (.inl (s4_8, (s5_8 + (1 : Int32)), m26))
      else
      some (.inl (s5_8, (s5_8 + (1 : Int32)), m26))
    )
  )
def fX0_laysThere (m : Hp) (a0 : Option Nat) (a1 : Int32) (a2 : Int32) (a3 : Int32) : Option (Int32 × Hp) :=
  (iter (fX0_laysThere_L3 a0 a1 a2 a3) FUEL ((0 : Int32), m)).bind fun r1 =>
  (
  match r1 with
  | m7 =>
    (iter (fX0_laysThere_L41 a0 a3) FUEL ((0 : Int32), (1 : Int32), m7)).bind fun r8 =>
    (
    match r8 with
    | (v32, m33) =>
      some (v32, m33)
    )
  )

/-- MissedTrains.earliest(IIII)I -/
def fX0_earliest (m : Hp) (a0 : Option Nat) (a1 : Int32) (a2 : Int32) (a3 : Int32) (a4 : Int32) : Option (Int32 × Hp) :=
  (fX0_areTwo a1 a2).bind fun v1 =>
  if v1 = 0 then
    some ((-1 : Int32), m)
  else
  (fX0_in a3 (1440 : Int32)).bind fun v3 =>
  if v3 = 0 then
    some ((-1 : Int32), m)
  else
  (fX0_in a4 (2 : Int32)).bind fun v5 =>
  if v5 = 0 then
    some ((-1 : Int32), m)
  else
  (hp_on m a0 0 (fX0_laysThere m a0 a1 a3 a2)).bind fun (v7, m8) =>
  (hp_gR m8 a0 0 14).bind fun v9 =>
  (hp_aI m8 v9 0 a2).bind fun v10 =>
  if v10 = (268435456 : Int32) then
    some ((-2 : Int32), m8)
  else
  if a4 = 0 then
    (hp_gR m8 a0 0 14).bind fun v13 =>
    (hp_aI m8 v13 0 a2).bind fun v14 =>
    some (v14, m8)
  else
  some (v7, m8)

/-- MissedTrains.arrivalFrom(III)I -/
def fX0_arrivalFrom (m : Hp) (a0 : Option Nat) (a1 : Int32) (a2 : Int32) (a3 : Int32) : Option (Int32 × Hp) :=
  (hp_on m a0 0 (fX0_laysThere m a0 a1 a3 a2)).bind fun (v1, m2) =>
  (hp_gR m2 a0 0 14).bind fun v3 =>
  (hp_aI m2 v3 0 a2).bind fun v4 =>
  some (v4, m2)

/-- MissedTrains$Train.leaves(I)Z -/
def fX6_leaves (m : Hp) (a0 : Option Nat) (a1 : Int32) : Option Int32 :=
  (hp_gI m a0 5 4).bind fun v1 =>
  if v1 = 0 then
    some (0 : Int32)
  else
  (hp_on m a0 5 (fX6_stopAt m a0 a1)).bind fun v3 =>
  if v3 = (-1 : Int32) then
    some (0 : Int32)
  else
  (hp_on m a0 5 (fX6_stopAt m a0 a1)).bind fun v5 =>
  (hp_gI m a0 5 2).bind fun v6 =>
  if (v6 - (1 : Int32)) ≤ v5 then
    some (0 : Int32)
  else
  some (1 : Int32)

/-- MissedTrains$Train.minuteAt(I)I -/
def fX6_minuteAt (m : Hp) (a0 : Option Nat) (a1 : Int32) : Option Int32 :=
  (hp_gR m a0 5 1).bind fun v1 =>
  (hp_on m a0 5 (fX6_stopAt m a0 a1)).bind fun v2 =>
  (hp_aI m v1 0 v2).bind fun v3 =>
  some v3

/-- MissedTrains.latest(III)I -/
def fX0_latest_L27 (b0 : Option Nat) (b1 : Int32) (b2 : Int32) (b3 : Int32) : (Int32 × Int32 × Hp) → Option ((Int32 × Int32 × Hp) ⊕ (Int32 × Hp)) := fun (s4_5, s5_5, m5) =>
  (hp_gI m5 b0 0 3).bind fun v6 =>
  if v6 ≤ s5_5 then
    some (.inr (s4_5, m5))
  else
  (hp_gR m5 b0 0 0).bind fun v8 =>
  (hp_aR m5 v8 5 s5_5).bind fun v9 =>
  (hp_on m5 v9 5 (fX6_leaves m5 v9 b1)).bind fun v10 =>
  ((if v10 = 0 then
    some (-1 : Int32)
  else
  (hp_gR m5 b0 0 0).bind fun v18 =>
  (hp_aR m5 v18 5 s5_5).bind fun v19 =>
  (hp_on m5 v19 5 (fX6_minuteAt m5 v19 b1)).bind fun v20 =>
  some v20 : Option Int32)).bind fun v11 =>
  if v11 ≤ s4_5 then
    some (.inl (s4_5, (s5_5 + (1 : Int32)), m5))
  else
  (hp_on m5 b0 0 (fX0_arrivalFrom m5 b0 b1 b2 v11)).bind fun (v14, m15) =>
  if b3 < v14 then
    some (.inl (s4_5, (s5_5 + (1 : Int32)), m15))
  else
  some (.inl (v11, (s5_5 + (1 : Int32)), m15))
def fX0_latest (m : Hp) (a0 : Option Nat) (a1 : Int32) (a2 : Int32) (a3 : Int32) : Option (Int32 × Hp) :=
  (fX0_areTwo a1 a2).bind fun v1 =>
  if v1 = 0 then
    some ((-1 : Int32), m)
  else
  (fX0_in a3 (1440 : Int32)).bind fun v3 =>
  if v3 = 0 then
    some ((-1 : Int32), m)
  else
  (iter (fX0_latest_L27 a0 a1 a2 a3) FUEL ((-2 : Int32), (0 : Int32), m)).bind fun r5 =>
  (
  match r5 with
  | (v21, m22) =>
    some (v21, m22)
  )

/-- MissedTrains.fastest(II)I -/
def fX0_fastest_L16 (b0 : Option Nat) (b1 : Int32) (b2 : Int32) : (Int32 × Int32 × Hp) → Option ((Int32 × Int32 × Hp) ⊕ (Int32 × Hp)) := fun (s3_3, s4_3, m3) =>
  (hp_gI m3 b0 0 3).bind fun v4 =>
  if v4 ≤ s4_3 then
    some (.inr (s3_3, m3))
  else
  (hp_gR m3 b0 0 0).bind fun v6 =>
  (hp_aR m3 v6 5 s4_3).bind fun v7 =>
  (hp_on m3 v7 5 (fX6_leaves m3 v7 b1)).bind fun v8 =>
  if v8 = 0 then
    some (.inl (s3_3, (s4_3 + (1 : Int32)), m3))
  else
  (hp_gR m3 b0 0 0).bind fun v10 =>
  (hp_aR m3 v10 5 s4_3).bind fun v11 =>
  (hp_on m3 v11 5 (fX6_minuteAt m3 v11 b1)).bind fun v12 =>
  (hp_on m3 b0 0 (fX0_arrivalFrom m3 b0 b1 b2 v12)).bind fun (v13, m14) =>
  (hp_gR m14 b0 0 0).bind fun v15 =>
  (hp_aR m14 v15 5 s4_3).bind fun v16 =>
  (hp_on m14 v16 5 (fX6_minuteAt m14 v16 b1)).bind fun v17 =>
  some (.inl ((jmin s3_3 (v13 - v17)), (s4_3 + (1 : Int32)), m14))
def fX0_fastest (m : Hp) (a0 : Option Nat) (a1 : Int32) (a2 : Int32) : Option (Int32 × Hp) :=
  (fX0_areTwo a1 a2).bind fun v1 =>
  if v1 = 0 then
    some ((-1 : Int32), m)
  else
  (iter (fX0_fastest_L16 a0 a1 a2) FUEL ((268435456 : Int32), (0 : Int32), m)).bind fun r3 =>
  (
  match r3 with
  | (v18, m19) =>
    if v18 < (1440 : Int32) then
      some (v18, m19)
    else
    some ((-2 : Int32), m19)
  )

/-- MissedTrains.laysBest(II)I -/
def fX0_laysBest_L22 (bm : Hp) (b0 : Option Nat) (b1 : Int32) (b2 : Int32) (b3 : Int32) (b4 : Int32) (b5 : Int32) : (Int32 × Int32) → Option ((Int32 × Int32) ⊕ Int32) := fun (s6_3, s7_3) =>
  (hp_gI bm b0 0 3).bind fun v4 =>
  if v4 ≤ s7_3 then
    some (.inr s6_3)
  else
  if s6_3 = 0 then
    (hp_gR bm b0 0 0).bind fun v7 =>
    (hp_aR bm v7 5 s7_3).bind fun v8 =>
    (hp_on bm v8 5 (fX6_leaves bm v8 b1)).bind fun v9 =>
    if v9 = 0 then
      some (.inl ((0 : Int32), (s7_3 + (1 : Int32))))
    else
    (hp_gR bm b0 0 0).bind fun v11 =>
    (hp_aR bm v11 5 s7_3).bind fun v12 =>
    (hp_on bm v12 5 (fX6_minuteAt bm v12 b1)).bind fun v13 =>
    if v13 = b5 then
      some (.inl ((1 : Int32), (s7_3 + (1 : Int32))))
    else
    some (.inl ((0 : Int32), (s7_3 + (1 : Int32))))
  else
  some (.inl ((1 : Int32), (s7_3 + (1 : Int32))))
def fX0_laysBest_L11 (b0 : Option Nat) (b1 : Int32) (b2 : Int32) : (Int32 × Int32 × Int32 × Hp) → Option ((Int32 × Int32 × Int32 × Hp) ⊕ (Int32 × Hp)) := fun (s3_1, s4_1, s5_1, m1) =>
  if s5_1 < 0 then
    some (.inr (s3_1, m1))
  else
  (iter (fX0_laysBest_L22 m1 b0 b1 b2 s3_1 s4_1 s5_1) FUEL ((0 : Int32), (0 : Int32))).bind fun r3 =>
  (
  match r3 with
  | v15 =>
    if v15 = 0 then
      some (.inl (s3_1, s4_1, (s5_1 + (-1 : Int32)), m1))
    else
    (hp_on m1 b0 0 (fX0_arrivalFrom m1 b0 b1 b2 s5_1)).bind fun (v17, m18) =>
    if v17 < s4_1 then
      (hp_gR m18 b0 0 14).bind fun v20 =>
      (hp_aI m18 v20 0 b2).bind fun v21 =>
      (hp_gR m18 b0 0 16).bind fun v22 =>
      (hp_sI m18 v22 0 s3_1 s5_1).bind fun m23 =>
      (hp_gR m23 b0 0 17).bind fun v24 =>
      (hp_sI m23 v24 0 s3_1 v21).bind fun m25 =>
      some (.inl ((s3_1 + (1 : Int32)), v21, (s5_1 + (-1 : Int32)), m25))
    else
    some (.inl (s3_1, s4_1, (s5_1 + (-1 : Int32)), m18))
  )
def fX0_laysBest (m : Hp) (a0 : Option Nat) (a1 : Int32) (a2 : Int32) : Option (Int32 × Hp) :=
  (iter (fX0_laysBest_L11 a0 a1 a2) FUEL ((0 : Int32), (268435456 : Int32), (1439 : Int32), m)).bind fun r1 =>
  (
  match r1 with
  | (v26, m27) =>
    some (v26, m27)
  )

/-- MissedTrains.best(III)I -/
def fX0_best (m : Hp) (a0 : Option Nat) (a1 : Int32) (a2 : Int32) (a3 : Int32) : Option (Int32 × Hp) :=
  (fX0_areTwo a1 a2).bind fun v1 =>
  if v1 = 0 then
    some ((-1 : Int32), m)
  else
  ((if a3 = (100 : Int32) then
    some (.inl ())
  else
  (fX0_in (a3 - (1000 : Int32)) (48 : Int32)).bind fun v14 =>
  if v14 = 0 then
    (fX0_in (a3 - (2000 : Int32)) (48 : Int32)).bind fun v16 =>
    if v16 = 0 then
      some (.inr ((-1 : Int32), m))
    else
    some (.inl ())
  else
  some (.inl ()) : Option (Unit ⊕ (Int32 × Hp)))).bind fun p3 =>
  (
  match p3 with
  | .inl _ =>
    (hp_on m a0 0 (fX0_laysBest m a0 a1 a2)).bind fun (v4, m5) =>
    if a3 = (100 : Int32) then
      some (v4, m5)
    else
    if 0 ≤ ((v4 - (1 : Int32)) - (jrem a3 (1000 : Int32))) then
      if (2000 : Int32) ≤ a3 then
        (hp_gR m5 a0 0 17).bind fun v9 =>
        (hp_aI m5 v9 0 ((v4 - (1 : Int32)) - (jrem a3 (1000 : Int32)))).bind fun v10 =>
        some (v10, m5)
      else
      (hp_gR m5 a0 0 16).bind fun v11 =>
      (hp_aI m5 v11 0 ((v4 - (1 : Int32)) - (jrem a3 (1000 : Int32)))).bind fun v12 =>
      some (v12, m5)
    else
    some ((-4 : Int32), m5)
  | .inr o => some o
  )

/-- MissedTrains.comeTo(II)I -/
def fX0_comeTo_L33 (bm : Hp) (b0 : Option Nat) : (Int32 × Int32) → Option ((Int32 × Int32) ⊕ Int32) := fun (s4_7, s5_7) =>
  if (10 : Int32) ≤ s5_7 then
    some (.inr s4_7)
  else
  (hp_gR bm b0 0 14).bind fun v9 =>
  (hp_aI bm v9 0 s5_7).bind fun v10 =>
  if (268435456 : Int32) ≤ v10 then
    some (.inl ((s4_7 ||| (0 : Int32)), (s5_7 + (1 : Int32))))
  else
  some (.inl ((s4_7 ||| (jshl (1 : Int32) s5_7)), (s5_7 + (1 : Int32))))
def fX0_comeTo (m : Hp) (a0 : Option Nat) (a1 : Int32) (a2 : Int32) : Option (Int32 × Hp) :=
  (fX0_isStation a1).bind fun v1 =>
  if v1 = 0 then
    some ((-1 : Int32), m)
  else
  (fX0_in a2 (1440 : Int32)).bind fun v3 =>
  if v3 = 0 then
    some ((-1 : Int32), m)
  else
  (hp_on m a0 0 (fX0_laysThere m a0 a1 a2 a1)).bind fun (v5, m6) =>
  (iter (fX0_comeTo_L33 m6 a0) FUEL ((0 : Int32), (0 : Int32))).bind fun r7 =>
  (
  match r7 with
  | v12 =>
    some (v12, m6)
  )

/-- MissedTrains$Train.goes(II)Z -/
def fX6_goes (m : Hp) (a0 : Option Nat) (a1 : Int32) (a2 : Int32) : Option Int32 :=
  (hp_gI m a0 5 4).bind fun v1 =>
  if v1 = 0 then
    some (0 : Int32)
  else
  (hp_on m a0 5 (fX6_stopAt m a0 a1)).bind fun v3 =>
  if v3 = (-1 : Int32) then
    some (0 : Int32)
  else
  (hp_on m a0 5 (fX6_stopAt m a0 a2)).bind fun v5 =>
  (hp_on m a0 5 (fX6_stopAt m a0 a1)).bind fun v6 =>
  if v5 ≤ v6 then
    some (0 : Int32)
  else
  some (1 : Int32)

/-- MissedTrains.direct(III)I -/
def fX0_direct_L30 (bm : Hp) (b0 : Option Nat) (b1 : Int32) (b2 : Int32) (b3 : Int32) : (Int32 × Int32 × Int32 × Int32) → Option ((Int32 × Int32 × Int32 × Int32) ⊕ (Int32 × Int32)) := fun (s4_5, s5_5, s6_5, s7_5) =>
  (hp_gI bm b0 0 4).bind fun v6 =>
  if v6 ≤ s7_5 then
    some (.inr (s4_5, s5_5))
  else
  (hp_gR bm b0 0 0).bind fun v8 =>
  (hp_gR bm b0 0 1).bind fun v9 =>
  (hp_aI bm v9 0 s7_5).bind fun v10 =>
  (hp_aR bm v8 5 v10).bind fun v11 =>
  (hp_on bm v11 5 (fX6_goes bm v11 b1 b2)).bind fun v12 =>
  if v12 = 0 then
    some (.inl (s4_5, s5_5, s6_5, (s7_5 + (1 : Int32))))
  else
  (hp_gR bm v11 5 0).bind fun v14 =>
  (hp_gR bm b0 0 2).bind fun v15 =>
  (hp_aI bm v15 0 s7_5).bind fun v16 =>
  (hp_aI bm v14 0 v16).bind fun v17 =>
  if v17 = b1 then
    ((if s6_5 = (-1 : Int32) then
      some (0 : Int32)
    else
    (hp_on bm b0 0 (fX0_minuteOf bm b0 s7_5)).bind fun v23 =>
    some (jmax s5_5 (v23 - s6_5)) : Option Int32)).bind fun v19 =>
    (hp_on bm b0 0 (fX0_minuteOf bm b0 s7_5)).bind fun v21 =>
    some (.inl ((s4_5 + (1 : Int32)), v19, v21, (s7_5 + (1 : Int32))))
  else
  some (.inl (s4_5, s5_5, s6_5, (s7_5 + (1 : Int32))))
def fX0_direct (m : Hp) (a0 : Option Nat) (a1 : Int32) (a2 : Int32) (a3 : Int32) : Option Int32 :=
  (fX0_areTwo a1 a2).bind fun v1 =>
  if v1 = 0 then
    some (-1 : Int32)
  else
  (fX0_in a3 (2 : Int32)).bind fun v3 =>
  if v3 = 0 then
    some (-1 : Int32)
  else
  (iter (fX0_direct_L30 m a0 a1 a2 a3) FUEL ((0 : Int32), (0 : Int32), (-1 : Int32), (0 : Int32))).bind fun r5 =>
  (
  match r5 with
  | (v24, v25) =>
    if a3 = 0 then
      some v24
    else
    some v25
  )

/-- MissedTrains$Train.comes(I)Z -/
def fX6_comes (m : Hp) (a0 : Option Nat) (a1 : Int32) : Option Int32 :=
  (hp_gI m a0 5 4).bind fun v1 =>
  if v1 = 0 then
    some (0 : Int32)
  else
  (hp_on m a0 5 (fX6_stopAt m a0 a1)).bind fun v3 =>
  if v3 ≤ 0 then
    some (0 : Int32)
  else
  some (1 : Int32)

/-- MissedTrains.justMissed(II)I -/
def fX0_justMissed_L36 (bm : Hp) (b0 : Option Nat) (b1 : Int32) (b2 : Int32) (b4 : Int32) : (Int32 × Int32) → Option ((Int32 × Int32) ⊕ Int32) := fun (s3_8, s5_8) =>
  (hp_gI bm b0 0 3).bind fun v9 =>
  if v9 ≤ s5_8 then
    some (.inr s3_8)
  else
  if b4 = s5_8 then
    some (.inl (s3_8, (s5_8 + (1 : Int32))))
  else
  (hp_gR bm b0 0 0).bind fun v12 =>
  (hp_aR bm v12 5 b4).bind fun v13 =>
  (hp_on bm v13 5 (fX6_comes bm v13 b1)).bind fun v14 =>
  if v14 = 0 then
    some (.inl (s3_8, (s5_8 + (1 : Int32))))
  else
  (hp_gR bm b0 0 0).bind fun v16 =>
  (hp_aR bm v16 5 s5_8).bind fun v17 =>
  (hp_on bm v17 5 (fX6_leaves bm v17 b1)).bind fun v18 =>
  if v18 = 0 then
    some (.inl (s3_8, (s5_8 + (1 : Int32))))
  else
  (hp_gR bm b0 0 0).bind fun v20 =>
  (hp_aR bm v20 5 s5_8).bind fun v21 =>
  (hp_on bm v21 5 (fX6_minuteAt bm v21 b1)).bind fun v22 =>
  (hp_gR bm b0 0 0).bind fun v23 =>
  (hp_aR bm v23 5 b4).bind fun v24 =>
  (hp_on bm v24 5 (fX6_minuteAt bm v24 b1)).bind fun v25 =>
  if (v22 - v25) < (-b2) then
    some (.inl ((s3_8 + (0 : Int32)), (s5_8 + (1 : Int32))))
  else
  (hp_gI bm b0 0 5).bind fun v27 =>
  if v27 ≤ (v22 - v25) then
    some (.inl ((s3_8 + (0 : Int32)), (s5_8 + (1 : Int32))))
  else
  some (.inl ((s3_8 + (1 : Int32)), (s5_8 + (1 : Int32))))
def fX0_justMissed_L24 (bm : Hp) (b0 : Option Nat) (b1 : Int32) (b2 : Int32) : (Int32 × Int32) → Option ((Int32 × Int32) ⊕ Int32) := fun (s3_5, s4_5) =>
  (hp_gI bm b0 0 3).bind fun v6 =>
  if v6 ≤ s4_5 then
    some (.inr s3_5)
  else
  (iter (fX0_justMissed_L36 bm b0 b1 b2 s4_5) FUEL (s3_5, (0 : Int32))).bind fun r8 =>
  (
  match r8 with
  | v29 =>
    some (.inl (v29, (s4_5 + (1 : Int32))))
  )
def fX0_justMissed (m : Hp) (a0 : Option Nat) (a1 : Int32) (a2 : Int32) : Option Int32 :=
  (fX0_isStation a1).bind fun v1 =>
  if v1 = 0 then
    some (-1 : Int32)
  else
  (fX0_within a2 (0 : Int32) (60 : Int32)).bind fun v3 =>
  if v3 = 0 then
    some (-1 : Int32)
  else
  (iter (fX0_justMissed_L24 m a0 a1 a2) FUEL ((0 : Int32), (0 : Int32))).bind fun r5 =>
  (
  match r5 with
  | v30 =>
    some v30
  )

/-- MissedTrains.isAt(II)Z -/
def fX0_isAt (m : Hp) (a0 : Option Nat) (a1 : Int32) (a2 : Int32) : Option Int32 :=
  (hp_gR m a0 0 0).bind fun v1 =>
  (hp_aR m v1 5 a1).bind fun v2 =>
  (hp_gI m v2 5 4).bind fun v3 =>
  if v3 = 0 then
    some (0 : Int32)
  else
  (hp_gR m a0 0 0).bind fun v5 =>
  (hp_aR m v5 5 a1).bind fun v6 =>
  (hp_on m v6 5 (fX6_stopAt m v6 a2)).bind fun v7 =>
  if v7 = (-1 : Int32) then
    some (0 : Int32)
  else
  some (1 : Int32)

/-- MissedTrains.platforms(II)I -/
def fX0_platforms_L52 (bm : Hp) (b0 : Option Nat) (b1 : Int32) (b2 : Int32) (b3 : Int32) (b4 : Int32) : (Int32 × Int32) → Option ((Int32 × Int32) ⊕ Int32) := fun (s5_10, s6_10) =>
  (hp_gI bm b0 0 3).bind fun v11 =>
  if v11 ≤ s6_10 then
    some (.inr s5_10)
  else
  (hp_on bm b0 0 (fX0_isAt bm b0 s6_10 b1)).bind fun v13 =>
  if v13 = 0 then
    some (.inl ((s5_10 + (0 : Int32)), (s6_10 + (1 : Int32))))
  else
  (hp_gR bm b0 0 0).bind fun v15 =>
  (hp_aR bm v15 5 b4).bind fun v16 =>
  (hp_on bm v16 5 (fX6_minuteAt bm v16 b1)).bind fun v17 =>
  (hp_gR bm b0 0 0).bind fun v18 =>
  (hp_aR bm v18 5 s6_10).bind fun v19 =>
  (hp_on bm v19 5 (fX6_minuteAt bm v19 b1)).bind fun v20 =>
  (fX0_within (v17 - v20) (0 : Int32) b2).bind fun v21 =>
  if v21 = 0 then
    some (.inl ((s5_10 + (0 : Int32)), (s6_10 + (1 : Int32))))
  else
  some (.inl ((s5_10 + (1 : Int32)), (s6_10 + (1 : Int32))))
def fX0_platforms_L24 (bm : Hp) (b0 : Option Nat) (b1 : Int32) (b2 : Int32) : (Int32 × Int32) → Option ((Int32 × Int32) ⊕ Int32) := fun (s3_5, s4_5) =>
  (hp_gI bm b0 0 3).bind fun v6 =>
  if v6 ≤ s4_5 then
    some (.inr s3_5)
  else
  (hp_on bm b0 0 (fX0_isAt bm b0 s4_5 b1)).bind fun v8 =>
  if v8 = 0 then
    some (.inl (s3_5, (s4_5 + (1 : Int32))))
  else
  (iter (fX0_platforms_L52 bm b0 b1 b2 s3_5 s4_5) FUEL ((0 : Int32), (0 : Int32))).bind fun r10 =>
  (
  match r10 with
  | v23 =>
    some (.inl ((jmax s3_5 v23), (s4_5 + (1 : Int32))))
  )
def fX0_platforms (m : Hp) (a0 : Option Nat) (a1 : Int32) (a2 : Int32) : Option Int32 :=
  (fX0_isStation a1).bind fun v1 =>
  if v1 = 0 then
    some (-1 : Int32)
  else
  (fX0_within a2 (0 : Int32) (60 : Int32)).bind fun v3 =>
  if v3 = 0 then
    some (-1 : Int32)
  else
  (iter (fX0_platforms_L24 m a0 a1 a2) FUEL ((0 : Int32), (0 : Int32))).bind fun r5 =>
  (
  match r5 with
  | v24 =>
    some v24
  )

/-- MissedTrains.canFollow(II)Z -/
def fX0_canFollow (m : Hp) (a0 : Option Nat) (a1 : Int32) (a2 : Int32) : Option Int32 :=
  (hp_gR m a0 0 0).bind fun v1 =>
  (hp_aR m v1 5 a1).bind fun v2 =>
  (hp_gI m v2 5 4).bind fun v3 =>
  if v3 = 0 then
    some (0 : Int32)
  else
  (hp_gR m a0 0 0).bind fun v5 =>
  (hp_aR m v5 5 a2).bind fun v6 =>
  (hp_gI m v6 5 4).bind fun v7 =>
  if v7 = 0 then
    some (0 : Int32)
  else
  (hp_gR m a0 0 0).bind fun v9 =>
  (hp_aR m v9 5 a1).bind fun v10 =>
  (hp_on m v10 5 (fX6_last m v10)).bind fun v11 =>
  (hp_gR m a0 0 0).bind fun v12 =>
  (hp_aR m v12 5 a2).bind fun v13 =>
  (hp_on m v13 5 (fX6_first m v13)).bind fun v14 =>
  if v11 = v14 then
    (hp_gR m a0 0 0).bind fun v16 =>
    (hp_aR m v16 5 a1).bind fun v17 =>
    (hp_on m v17 5 (fX6_ends m v17)).bind fun v18 =>
    (hp_gI m a0 0 5).bind fun v19 =>
    (hp_gR m a0 0 0).bind fun v20 =>
    (hp_aR m v20 5 a2).bind fun v21 =>
    (hp_gR m v21 5 1).bind fun v22 =>
    (hp_aI m v22 0 (0 : Int32)).bind fun v23 =>
    if v23 < (v18 + v19) then
      some (0 : Int32)
    else
    some (1 : Int32)
  else
  some (0 : Int32)

/-- MissedTrains.finds(I)Z -/
def fX0_findsB_L2 (rec : Hp → Option Nat → Int32 → Option (Int32 × Hp)) (b0 : Option Nat) (b1 : Int32) : (Int32 × Hp) → Option ((Int32 × Hp) ⊕ (Hp ⊕ (Int32 × Hp))) := fun (s2_1, m1) =>
  (hp_gI m1 b0 0 3).bind fun v2 =>
  if v2 ≤ s2_1 then
    some (.inr (.inl m1))
  else
  (hp_gR m1 b0 0 19).bind fun v4 =>
  (hp_aI m1 v4 2 s2_1).bind fun v5 =>
  if v5 = 0 then
    (hp_on m1 b0 0 (fX0_canFollow m1 b0 b1 s2_1)).bind fun v7 =>
    if v7 = 0 then
      some (.inl ((s2_1 + (1 : Int32)), m1))
    else
    (hp_gR m1 b0 0 19).bind fun v9 =>
    (hp_sI m1 v9 2 s2_1 (1 : Int32)).bind fun m10 =>
    (hp_gR m10 b0 0 18).bind fun v11 =>
    (hp_aI m10 v11 0 s2_1).bind fun v12 =>
    if v12 = (-1 : Int32) then
      (hp_gR m10 b0 0 18).bind fun v14 =>
      (hp_sI m10 v14 0 s2_1 b1).bind fun m15 =>
      some (.inr (.inr ((1 : Int32), m15)))
    else
    (hp_gR m10 b0 0 18).bind fun v16 =>
    (hp_aI m10 v16 0 s2_1).bind fun v17 =>
    (hp_on m10 b0 0 (rec m10 b0 v17)).bind fun (v18, m19) =>
    if v18 = 0 then
      some (.inl ((s2_1 + (1 : Int32)), m19))
    else
    (hp_gR m19 b0 0 18).bind fun v21 =>
    (hp_sI m19 v21 0 s2_1 b1).bind fun m22 =>
    some (.inr (.inr ((1 : Int32), m22)))
  else
  some (.inl ((s2_1 + (1 : Int32)), m1))
def fX0_findsB (rec : Hp → Option Nat → Int32 → Option (Int32 × Hp)) (m : Hp) (a0 : Option Nat) (a1 : Int32) : Option (Int32 × Hp) :=
  (iter (fX0_findsB_L2 rec a0 a1) FUEL ((0 : Int32), m)).bind fun r1 =>
  (
  match r1 with
  | .inl m23 =>
    some ((0 : Int32), m23)
  | .inr o => some o
  )

def fX0_finds : Nat → Hp → Option Nat → Int32 → Option (Int32 × Hp)
  | 0, _, _, _ => none
  | n + 1, m, a0, a1 => fX0_findsB (fX0_finds n) m a0 a1

/-- MissedTrains.running()I -/
def fX0_running_L4 (bm : Hp) (b0 : Option Nat) : (Int32 × Int32) → Option ((Int32 × Int32) ⊕ Int32) := fun (s1_1, s2_1) =>
  (hp_gI bm b0 0 3).bind fun v2 =>
  if v2 ≤ s2_1 then
    some (.inr s1_1)
  else
  (hp_gR bm b0 0 0).bind fun v4 =>
  (hp_aR bm v4 5 s2_1).bind fun v5 =>
  (hp_gI bm v5 5 4).bind fun v6 =>
  if v6 = 0 then
    some (.inl ((s1_1 + (0 : Int32)), (s2_1 + (1 : Int32))))
  else
  some (.inl ((s1_1 + (1 : Int32)), (s2_1 + (1 : Int32))))
def fX0_running (m : Hp) (a0 : Option Nat) : Option Int32 :=
  (iter (fX0_running_L4 m a0) FUEL ((0 : Int32), (0 : Int32))).bind fun r1 =>
  (
  match r1 with
  | v8 =>
    some v8
  )

/-- MissedTrains.sets()I -/
def fX0_sets_L7 (b0 : Option Nat) (b1 : Int32) : (Int32 × Hp) → Option ((Int32 × Hp) ⊕ Hp) := fun (s2_2, m2) =>
  (hp_gI m2 b0 0 3).bind fun v3 =>
  if v3 ≤ s2_2 then
    some (.inr m2)
  else
  (hp_gR m2 b0 0 18).bind fun v5 =>
  (hp_sI m2 v5 0 s2_2 (-1 : Int32)).bind fun m6 =>
  some (.inl ((s2_2 + (1 : Int32)), m6))
def fX0_sets_L40 (b0 : Option Nat) (b1 : Int32) (b2 : Int32) : (Int32 × Hp) → Option ((Int32 × Hp) ⊕ Hp) := fun (s3_11, m11) =>
  (hp_gI m11 b0 0 3).bind fun v12 =>
  if v12 ≤ s3_11 then
    some (.inr m11)
  else
  (hp_gR m11 b0 0 19).bind fun v14 =>
  (hp_sI m11 v14 2 s3_11 (0 : Int32)).bind fun m15 =>
  some (.inl ((s3_11 + (1 : Int32)), m15))
def fX0_sets_L30 (b0 : Option Nat) : (Int32 × Int32 × Hp) → Option ((Int32 × Int32 × Hp) ⊕ (Int32 × Hp)) := fun (s1_8, s2_8, m8) =>
  (hp_gI m8 b0 0 3).bind fun v9 =>
  if v9 ≤ s2_8 then
    some (.inr (s1_8, m8))
  else
  (iter (fX0_sets_L40 b0 s1_8 s2_8) FUEL ((0 : Int32), m8)).bind fun r11 =>
  (
  match r11 with
  | m16 =>
    (hp_on m16 b0 0 (fX0_finds 60 m16 b0 s2_8)).bind fun (v17, m18) =>
    if v17 = 0 then
      some (.inl ((s1_8 - (0 : Int32)), (s2_8 + (1 : Int32)), m18))
    else
    some (.inl ((s1_8 - (1 : Int32)), (s2_8 + (1 : Int32)), m18))
  )
def fX0_sets (m : Hp) (a0 : Option Nat) : Option (Int32 × Hp) :=
  (hp_on m a0 0 (fX0_running m a0)).bind fun v1 =>
  (iter (fX0_sets_L7 a0 v1) FUEL ((0 : Int32), m)).bind fun r2 =>
  (
  match r2 with
  | m7 =>
    (iter (fX0_sets_L30 a0) FUEL (v1, (0 : Int32), m7)).bind fun r8 =>
    (
    match r8 with
    | (v20, m21) =>
      some (v20, m21)
    )
  )

/-- MissedTrains.doMeet(LMissedTrains$Train;LMissedTrains$Train;)Z -/
def fX0_doMeet_L15 (bm : Hp) (b1 : Option Nat) (b2 : Option Nat) (b3 : Int32) : Int32 → Option (Int32 ⊕ (Unit ⊕ (Int32 ⊕ (Unit ⊕ Int32)))) := fun s4_4 =>
  (hp_gI bm b2 5 2).bind fun v5 =>
  if v5 ≤ (s4_4 + (1 : Int32)) then
    some (.inr (.inl ()))
  else
  (hp_gR bm b1 5 0).bind fun v7 =>
  (hp_aI bm v7 0 b3).bind fun v8 =>
  (hp_gR bm b2 5 0).bind fun v9 =>
  (hp_aI bm v9 0 (s4_4 + (1 : Int32))).bind fun v10 =>
  if v8 = v10 then
    (hp_gR bm b1 5 0).bind fun v12 =>
    (hp_aI bm v12 0 (b3 + (1 : Int32))).bind fun v13 =>
    (hp_gR bm b2 5 0).bind fun v14 =>
    (hp_aI bm v14 0 s4_4).bind fun v15 =>
    if v13 = v15 then
      (hp_gR bm b1 5 1).bind fun v17 =>
      (hp_aI bm v17 0 b3).bind fun v18 =>
      (hp_gR bm b2 5 1).bind fun v19 =>
      (hp_aI bm v19 0 (s4_4 + (1 : Int32))).bind fun v20 =>
      if v20 ≤ v18 then
        some (.inl (s4_4 + (1 : Int32)))
      else
      (hp_gR bm b2 5 1).bind fun v22 =>
      (hp_aI bm v22 0 s4_4).bind fun v23 =>
      (hp_gR bm b1 5 1).bind fun v24 =>
      (hp_aI bm v24 0 (b3 + (1 : Int32))).bind fun v25 =>
      if v25 ≤ v23 then
        some (.inl (s4_4 + (1 : Int32)))
      else
      some (.inr (.inr (.inr (.inr (1 : Int32)))))
    else
    some (.inl (s4_4 + (1 : Int32)))
  else
  some (.inl (s4_4 + (1 : Int32)))
def fX0_doMeet_L2 (bm : Hp) (b1 : Option Nat) (b2 : Option Nat) : Int32 → Option (Int32 ⊕ (Unit ⊕ Int32)) := fun s3_1 =>
  (hp_gI bm b1 5 2).bind fun v2 =>
  if v2 ≤ (s3_1 + (1 : Int32)) then
    some (.inr (.inl ()))
  else
  (iter (fX0_doMeet_L15 bm b1 b2 s3_1) FUEL (0 : Int32)).bind fun r4 =>
  (
  match r4 with
  | .inl _ =>
    some (.inl (s3_1 + (1 : Int32)))
  | .inr o => some o
  )
def fX0_doMeet (m : Hp) (a0 : Option Nat) (a1 : Option Nat) (a2 : Option Nat) : Option Int32 :=
  (iter (fX0_doMeet_L2 m a1 a2) FUEL (0 : Int32)).bind fun r1 =>
  (
  match r1 with
  | .inl _ =>
    some (0 : Int32)
  | .inr o => some o
  )

/-- MissedTrains.meets()I -/
def fX0_meets_L16 (bm : Hp) (b0 : Option Nat) (b2 : Int32) : (Int32 × Int32) → Option ((Int32 × Int32) ⊕ Int32) := fun (s1_4, s3_4) =>
  (hp_gI bm b0 0 3).bind fun v5 =>
  if v5 ≤ s3_4 then
    some (.inr s1_4)
  else
  (hp_gR bm b0 0 0).bind fun v7 =>
  (hp_aR bm v7 5 b2).bind fun v8 =>
  (hp_gI bm v8 5 4).bind fun v9 =>
  if v9 = 0 then
    some (.inl ((s1_4 + (0 : Int32)), (s3_4 + (1 : Int32))))
  else
  (hp_gR bm b0 0 0).bind fun v11 =>
  (hp_aR bm v11 5 s3_4).bind fun v12 =>
  (hp_gI bm v12 5 4).bind fun v13 =>
  if v13 = 0 then
    some (.inl ((s1_4 + (0 : Int32)), (s3_4 + (1 : Int32))))
  else
  (hp_gR bm b0 0 0).bind fun v15 =>
  (hp_aR bm v15 5 b2).bind fun v16 =>
  (hp_gR bm b0 0 0).bind fun v17 =>
  (hp_aR bm v17 5 s3_4).bind fun v18 =>
  (hp_on bm b0 0 (fX0_doMeet bm b0 v16 v18)).bind fun v19 =>
  if v19 = 0 then
    some (.inl ((s1_4 + (0 : Int32)), (s3_4 + (1 : Int32))))
  else
  some (.inl ((s1_4 + (1 : Int32)), (s3_4 + (1 : Int32))))
def fX0_meets_L4 (bm : Hp) (b0 : Option Nat) : (Int32 × Int32) → Option ((Int32 × Int32) ⊕ Int32) := fun (s1_1, s2_1) =>
  (hp_gI bm b0 0 3).bind fun v2 =>
  if v2 ≤ s2_1 then
    some (.inr s1_1)
  else
  (iter (fX0_meets_L16 bm b0 s2_1) FUEL (s1_1, (s2_1 + (1 : Int32)))).bind fun r4 =>
  (
  match r4 with
  | v21 =>
    some (.inl (v21, (s2_1 + (1 : Int32))))
  )
def fX0_meets (m : Hp) (a0 : Option Nat) : Option Int32 :=
  (iter (fX0_meets_L4 m a0) FUEL ((0 : Int32), (0 : Int32))).bind fun r1 =>
  (
  match r1 with
  | v22 =>
    some v22
  )

/-- MissedTrains.ridesFrom(III)I -/
def fX0_ridesFrom_L68 (bm : Hp) (b0 : Option Nat) (b1 : Int32) (b2 : Int32) (b3 : Int32) (b5 : Int32) : (Int32 × Int32) → Option ((Int32 × Int32) ⊕ Int32) := fun (s4_16, s6_16) =>
  (hp_gR bm b0 0 0).bind fun v17 =>
  (hp_aR bm v17 5 b5).bind fun v18 =>
  (hp_gI bm v18 5 2).bind fun v19 =>
  if v19 ≤ s6_16 then
    some (.inr s4_16)
  else
  (hp_gR bm b0 0 20).bind fun v21 =>
  (hp_aR bm v21 7 b5).bind fun v22 =>
  (hp_aI bm v22 0 s6_16).bind fun v23 =>
  some (.inl ((jmax s4_16 ((1 : Int32) + v23)), (s6_16 + (1 : Int32))))
def fX0_ridesFrom_L6 (bm : Hp) (b0 : Option Nat) (b1 : Int32) (b2 : Int32) (b3 : Int32) : (Int32 × Int32) → Option ((Int32 × Int32) ⊕ Int32) := fun (s4_1, s5_1) =>
  (hp_gI bm b0 0 3).bind fun v2 =>
  if v2 ≤ s5_1 then
    some (.inr s4_1)
  else
  if s5_1 = b3 then
    some (.inl (s4_1, (s5_1 + (1 : Int32))))
  else
  (hp_gR bm b0 0 0).bind fun v5 =>
  (hp_aR bm v5 5 s5_1).bind fun v6 =>
  (hp_on bm v6 5 (fX6_leaves bm v6 b1)).bind fun v7 =>
  if v7 = 0 then
    some (.inl (s4_1, (s5_1 + (1 : Int32))))
  else
  (hp_gR bm b0 0 0).bind fun v9 =>
  (hp_aR bm v9 5 s5_1).bind fun v10 =>
  (hp_on bm v10 5 (fX6_minuteAt bm v10 b1)).bind fun v11 =>
  if b2 ≤ v11 then
    (hp_gR bm b0 0 0).bind fun v13 =>
    (hp_aR bm v13 5 s5_1).bind fun v14 =>
    (hp_on bm v14 5 (fX6_stopAt bm v14 b1)).bind fun v15 =>
    (iter (fX0_ridesFrom_L68 bm b0 b1 b2 b3 s5_1) FUEL (s4_1, (v15 + (1 : Int32)))).bind fun r16 =>
    (
    match r16 with
    | v24 =>
      some (.inl (v24, (s5_1 + (1 : Int32))))
    )
  else
  some (.inl (s4_1, (s5_1 + (1 : Int32))))
def fX0_ridesFrom (m : Hp) (a0 : Option Nat) (a1 : Int32) (a2 : Int32) (a3 : Int32) : Option Int32 :=
  (iter (fX0_ridesFrom_L6 m a0 a1 a2 a3) FUEL ((0 : Int32), (0 : Int32))).bind fun r1 =>
  (
  match r1 with
  | v25 =>
    some v25
  )

/-- MissedTrains.inspector(I)I -/
def fX0_inspector_L16 (b0 : Option Nat) (b1 : Int32) : (Int32 × Hp) → Option ((Int32 × Hp) ⊕ Hp) := fun (s2_4, m4) =>
  if s2_4 < 0 then
    some (.inr m4)
  else
  (hp_gR m4 b0 0 20).bind fun v6 =>
  (hp_gR m4 b0 0 1).bind fun v7 =>
  (hp_aI m4 v7 0 s2_4).bind fun v8 =>
  (hp_aR m4 v6 7 v8).bind fun v9 =>
  (hp_gR m4 b0 0 2).bind fun v10 =>
  (hp_aI m4 v10 0 s2_4).bind fun v11 =>
  (hp_gR m4 b0 0 0).bind fun v12 =>
  (hp_gR m4 b0 0 1).bind fun v13 =>
  (hp_aI m4 v13 0 s2_4).bind fun v14 =>
  (hp_aR m4 v12 5 v14).bind fun v15 =>
  (hp_gR m4 v15 5 0).bind fun v16 =>
  (hp_gR m4 b0 0 2).bind fun v17 =>
  (hp_aI m4 v17 0 s2_4).bind fun v18 =>
  (hp_aI m4 v16 0 v18).bind fun v19 =>
  (hp_on m4 b0 0 (fX0_minuteOf m4 b0 s2_4)).bind fun v20 =>
  (hp_gI m4 b0 0 5).bind fun v21 =>
  (hp_gR m4 b0 0 1).bind fun v22 =>
  (hp_aI m4 v22 0 s2_4).bind fun v23 =>
  (hp_on m4 b0 0 (fX0_ridesFrom m4 b0 v19 (v20 + v21) v23)).bind fun v24 =>
  (hp_sI m4 v9 0 v11 v24).bind fun m25 =>
  some (.inl ((s2_4 + (-1 : Int32)), m25))
def fX0_inspector (m : Hp) (a0 : Option Nat) (a1 : Int32) : Option (Int32 × Hp) :=
  (fX0_isStation a1).bind fun v1 =>
  if v1 = 0 then
    some ((-1 : Int32), m)
  else
  (hp_gI m a0 0 4).bind fun v3 =>
  (iter (fX0_inspector_L16 a0 a1) FUEL ((v3 - (1 : Int32)), m)).bind fun r4 =>
  (
  match r4 with
  | m26 =>
    (hp_on m26 a0 0 (fX0_ridesFrom m26 a0 a1 (0 : Int32) (-1 : Int32))).bind fun v27 =>
    some (v27, m26)
  )

/-- MissedTrains.longestWait(I)I -/
def fX0_longestWait_L16 (bm : Hp) (b0 : Option Nat) (b1 : Int32) : (Int32 × Int32 × Int32) → Option ((Int32 × Int32 × Int32) ⊕ Int32) := fun (s2_3, s3_3, s4_3) =>
  (hp_gI bm b0 0 4).bind fun v4 =>
  if v4 ≤ s4_3 then
    some (.inr s2_3)
  else
  (hp_gR bm b0 0 0).bind fun v6 =>
  (hp_gR bm b0 0 1).bind fun v7 =>
  (hp_aI bm v7 0 s4_3).bind fun v8 =>
  (hp_aR bm v6 5 v8).bind fun v9 =>
  (hp_on bm v9 5 (fX6_leaves bm v9 b1)).bind fun v10 =>
  if v10 = 0 then
    some (.inl (s2_3, s3_3, (s4_3 + (1 : Int32))))
  else
  (hp_gR bm v9 5 0).bind fun v12 =>
  (hp_gR bm b0 0 2).bind fun v13 =>
  (hp_aI bm v13 0 s4_3).bind fun v14 =>
  (hp_aI bm v12 0 v14).bind fun v15 =>
  if v15 = b1 then
    ((if s3_3 = (-1 : Int32) then
      some (0 : Int32)
    else
    (hp_on bm b0 0 (fX0_minuteOf bm b0 s4_3)).bind fun v21 =>
    some (jmax s2_3 (v21 - s3_3)) : Option Int32)).bind fun v17 =>
    (hp_on bm b0 0 (fX0_minuteOf bm b0 s4_3)).bind fun v19 =>
    some (.inl (v17, v19, (s4_3 + (1 : Int32))))
  else
  some (.inl (s2_3, s3_3, (s4_3 + (1 : Int32))))
def fX0_longestWait (m : Hp) (a0 : Option Nat) (a1 : Int32) : Option Int32 :=
  (fX0_isStation a1).bind fun v1 =>
  if v1 = 0 then
    some (-1 : Int32)
  else
  (iter (fX0_longestWait_L16 m a0 a1) FUEL ((0 : Int32), (-1 : Int32), (0 : Int32))).bind fun r3 =>
  (
  match r3 with
  | v22 =>
    some v22
  )

/-- MissedTrains.stopping(I)I -/
def fX0_stopping_L4 (bm : Hp) (b0 : Option Nat) (b1 : Int32) : (Int32 × Int32) → Option ((Int32 × Int32) ⊕ Int32) := fun (s2_1, s3_1) =>
  (hp_gI bm b0 0 3).bind fun v2 =>
  if v2 ≤ s3_1 then
    some (.inr s2_1)
  else
  (hp_on bm b0 0 (fX0_isAt bm b0 s3_1 b1)).bind fun v4 =>
  if v4 = 0 then
    some (.inl ((s2_1 + (0 : Int32)), (s3_1 + (1 : Int32))))
  else
  some (.inl ((s2_1 + (1 : Int32)), (s3_1 + (1 : Int32))))
def fX0_stopping (m : Hp) (a0 : Option Nat) (a1 : Int32) : Option Int32 :=
  (iter (fX0_stopping_L4 m a0 a1) FUEL ((0 : Int32), (0 : Int32))).bind fun r1 =>
  (
  match r1 with
  | v6 =>
    some v6
  )

/-- MissedTrains.busiest(I)I -/
def fX0_busiest_L14 (bm : Hp) (b0 : Option Nat) (b1 : Int32) : (Int32 × Int32) → Option ((Int32 × Int32) ⊕ Int32) := fun (s2_3, s3_3) =>
  if (10 : Int32) ≤ s3_3 then
    some (.inr s2_3)
  else
  (hp_on bm b0 0 (fX0_stopping bm b0 s3_3)).bind fun v5 =>
  (hp_on bm b0 0 (fX0_stopping bm b0 s2_3)).bind fun v6 =>
  if v5 ≤ v6 then
    some (.inl (s2_3, (s3_3 + (1 : Int32))))
  else
  some (.inl (s3_3, (s3_3 + (1 : Int32))))
def fX0_busiest (m : Hp) (a0 : Option Nat) (a1 : Int32) : Option Int32 :=
  (fX0_in a1 (2 : Int32)).bind fun v1 =>
  if v1 = 0 then
    some (-1 : Int32)
  else
  (iter (fX0_busiest_L14 m a0 a1) FUEL ((0 : Int32), (1 : Int32))).bind fun r3 =>
  (
  match r3 with
  | v8 =>
    if a1 = (1 : Int32) then
      (hp_on m a0 0 (fX0_stopping m a0 v8)).bind fun v12 =>
      some v12
    else
    (hp_on m a0 0 (fX0_stopping m a0 v8)).bind fun v10 =>
    if v10 = 0 then
      some (-2 : Int32)
    else
    some v8
  )

/-- MissedTrains.onTheWay(I)I -/
def fX0_onTheWay_L16 (bm : Hp) (b0 : Option Nat) (b1 : Int32) : (Int32 × Int32) → Option ((Int32 × Int32) ⊕ Int32) := fun (s2_3, s3_3) =>
  (hp_gI bm b0 0 3).bind fun v4 =>
  if v4 ≤ s3_3 then
    some (.inr s2_3)
  else
  (hp_gR bm b0 0 0).bind fun v6 =>
  (hp_aR bm v6 5 s3_3).bind fun v7 =>
  (hp_gI bm v7 5 4).bind fun v8 =>
  if v8 = 0 then
    some (.inl ((s2_3 + (0 : Int32)), (s3_3 + (1 : Int32))))
  else
  (hp_gR bm b0 0 0).bind fun v10 =>
  (hp_aR bm v10 5 s3_3).bind fun v11 =>
  (hp_gR bm v11 5 1).bind fun v12 =>
  (hp_aI bm v12 0 (0 : Int32)).bind fun v13 =>
  (hp_gR bm b0 0 0).bind fun v14 =>
  (hp_aR bm v14 5 s3_3).bind fun v15 =>
  (hp_on bm v15 5 (fX6_ends bm v15)).bind fun v16 =>
  (fX0_within b1 v13 v16).bind fun v17 =>
  if v17 = 0 then
    some (.inl ((s2_3 + (0 : Int32)), (s3_3 + (1 : Int32))))
  else
  some (.inl ((s2_3 + (1 : Int32)), (s3_3 + (1 : Int32))))
def fX0_onTheWay (m : Hp) (a0 : Option Nat) (a1 : Int32) : Option Int32 :=
  (fX0_in a1 (1440 : Int32)).bind fun v1 =>
  if v1 = 0 then
    some (-1 : Int32)
  else
  (iter (fX0_onTheWay_L16 m a0 a1) FUEL ((0 : Int32), (0 : Int32))).bind fun r3 =>
  (
  match r3 with
  | v19 =>
    some v19
  )

/-- MissedTrains.leavesAt(II)I -/
def fX0_leavesAt_L5 (bm : Hp) (b0 : Option Nat) (b1 : Int32) (b2 : Int32) : (Int32 × Int32) → Option ((Int32 × Int32) ⊕ Int32) := fun (s3_1, s4_1) =>
  (hp_gI bm b0 0 3).bind fun v2 =>
  if v2 ≤ s4_1 then
    some (.inr s3_1)
  else
  (hp_gR bm b0 0 0).bind fun v4 =>
  (hp_aR bm v4 5 s4_1).bind fun v5 =>
  (hp_on bm v5 5 (fX6_leaves bm v5 b1)).bind fun v6 =>
  if v6 = 0 then
    some (.inl ((s3_1 + (0 : Int32)), (s4_1 + (1 : Int32))))
  else
  (hp_gR bm b0 0 0).bind fun v8 =>
  (hp_aR bm v8 5 s4_1).bind fun v9 =>
  (hp_on bm v9 5 (fX6_minuteAt bm v9 b1)).bind fun v10 =>
  if (jrem v10 (60 : Int32)) = b2 then
    some (.inl ((s3_1 + (1 : Int32)), (s4_1 + (1 : Int32))))
  else
  some (.inl ((s3_1 + (0 : Int32)), (s4_1 + (1 : Int32))))
def fX0_leavesAt (m : Hp) (a0 : Option Nat) (a1 : Int32) (a2 : Int32) : Option Int32 :=
  (iter (fX0_leavesAt_L5 m a0 a1 a2) FUEL ((0 : Int32), (0 : Int32))).bind fun r1 =>
  (
  match r1 with
  | v12 =>
    some v12
  )

/-- MissedTrains.regular(II)I -/
def fX0_regular_L25 (bm : Hp) (b0 : Option Nat) (b1 : Int32) (b2 : Int32) : (Int32 × Int32 × Int32) → Option ((Int32 × Int32 × Int32) ⊕ (Int32 × Int32)) := fun (s3_5, s4_5, s5_5) =>
  if (60 : Int32) ≤ s5_5 then
    some (.inr (s3_5, s4_5))
  else
  (hp_on bm b0 0 (fX0_leavesAt bm b0 b1 s5_5)).bind fun v7 =>
  ((if v7 ≤ 0 then
    some (0 : Int32)
  else
  some (1 : Int32) : Option Int32)).bind fun v8 =>
  (hp_on bm b0 0 (fX0_leavesAt bm b0 b1 s5_5)).bind fun v10 =>
  (hp_on bm b0 0 (fX0_leavesAt bm b0 b1 s4_5)).bind fun v11 =>
  if v10 ≤ v11 then
    some (.inl ((s3_5 + v8), s4_5, (s5_5 + (1 : Int32))))
  else
  some (.inl ((s3_5 + v8), s5_5, (s5_5 + (1 : Int32))))
def fX0_regular (m : Hp) (a0 : Option Nat) (a1 : Int32) (a2 : Int32) : Option Int32 :=
  (fX0_isStation a1).bind fun v1 =>
  if v1 = 0 then
    some (-1 : Int32)
  else
  (fX0_in a2 (3 : Int32)).bind fun v3 =>
  if v3 = 0 then
    some (-1 : Int32)
  else
  (iter (fX0_regular_L25 m a0 a1 a2) FUEL ((0 : Int32), (0 : Int32), (0 : Int32))).bind fun r5 =>
  (
  match r5 with
  | (v14, v15) =>
    if a2 = 0 then
      some v14
    else
    if a2 = (2 : Int32) then
      (hp_on m a0 0 (fX0_leavesAt m a0 a1 v15)).bind fun v19 =>
      some v19
    else
    if v14 = 0 then
      some (-2 : Int32)
    else
    some v15
  )

/-- MissedTrains.fares(II)I -/
def fX0_fares_L39 (bm : Hp) (b0 : Option Nat) (b1 : Int32) (b2 : Int32) : Int32 → Option (Int32 ⊕ (Unit ⊕ (Int32 × Hp))) := fun s3_8 =>
  if b1 ≤ s3_8 then
    some (.inr (.inl ()))
  else
  (hp_gR bm b0 0 10).bind fun v10 =>
  (hp_aI bm v10 1 ((2 : Int32) * s3_8)).bind fun v11 =>
  (fX0_within v11 (1 : Int32) (30 : Int32)).bind fun v12 =>
  if v12 = 0 then
    some (.inr (.inr ((-2 : Int32), bm)))
  else
  (hp_gR bm b0 0 10).bind fun v14 =>
  (hp_aI bm v14 1 (((2 : Int32) * s3_8) + (1 : Int32))).bind fun v15 =>
  if v15 = 0 then
    some (.inr (.inr ((-2 : Int32), bm)))
  else
  some (.inl (s3_8 + (1 : Int32)))
def fX0_fares_L130 (b0 : Option Nat) (b1 : Int32) (b2 : Int32) (b3 : Int32) : (Int32 × Hp) → Option ((Int32 × Hp) ⊕ Hp) := fun (s4_23, m23) =>
  if b1 ≤ s4_23 then
    some (.inr m23)
  else
  if (30 : Int32) ≤ b3 then
    some (.inr m23)
  else
  (fX0_has b2 b3).bind fun v26 =>
  if v26 = 0 then
    some (.inr m23)
  else
  (hp_gR m23 b0 0 21).bind fun v28 =>
  (hp_gR m23 b0 0 21).bind fun v29 =>
  (hp_aI m23 v29 0 b3).bind fun v30 =>
  (hp_gR m23 b0 0 21).bind fun v31 =>
  (hp_gR m23 b0 0 10).bind fun v32 =>
  (hp_aI m23 v32 1 ((2 : Int32) * s4_23)).bind fun v33 =>
  (hp_aI m23 v31 0 (jmin (30 : Int32) (b3 + v33))).bind fun v34 =>
  (hp_gR m23 b0 0 10).bind fun v35 =>
  (hp_aI m23 v35 1 (((2 : Int32) * s4_23) + (1 : Int32))).bind fun v36 =>
  (hp_sI m23 v28 0 b3 (jmin v30 (v34 + (v36 &&& (255 : Int32))))).bind fun m37 =>
  some (.inl ((s4_23 + (1 : Int32)), m37))
def fX0_fares_L86 (b0 : Option Nat) (b1 : Int32) (b2 : Int32) : (Int32 × Hp) → Option ((Int32 × Hp) ⊕ Hp) := fun (s3_17, m17) =>
  if s3_17 < 0 then
    some (.inr m17)
  else
  (hp_gR m17 b0 0 21).bind fun v19 =>
  ((if s3_17 = (30 : Int32) then
    some (0 : Int32)
  else
  (fX0_has b2 s3_17).bind fun v40 =>
  if v40 = 0 then
    (hp_gR m17 b0 0 21).bind fun v42 =>
    (hp_aI m17 v42 0 (s3_17 + (1 : Int32))).bind fun v43 =>
    some v43
  else
  some (268435456 : Int32) : Option Int32)).bind fun v20 =>
  (hp_sI m17 v19 0 s3_17 v20).bind fun m22 =>
  (iter (fX0_fares_L130 b0 b1 b2 s3_17) FUEL ((0 : Int32), m22)).bind fun r23 =>
  (
  match r23 with
  | m38 =>
    some (.inl ((s3_17 + (-1 : Int32)), m38))
  )
def fX0_fares (m : Hp) (a0 : Option Nat) (a1 : Int32) (a2 : Int32) : Option (Int32 × Hp) :=
  (fX0_within a1 (1 : Int32) (8 : Int32)).bind fun v1 =>
  if v1 = 0 then
    some ((-1 : Int32), m)
  else
  (fX0_in a2 (1073741824 : Int32)).bind fun v3 =>
  if v3 = 0 then
    some ((-1 : Int32), m)
  else
  (hp_gI m a0 0 12).bind fun v5 =>
  if ((2 : Int32) * a1) ≤ v5 then
    (hp_pI m a0 0 12 (0 : Int32)).bind fun m7 =>
    (iter (fX0_fares_L39 m7 a0 a1 a2) FUEL (0 : Int32)).bind fun r8 =>
    (
    match r8 with
    | .inl _ =>
      (iter (fX0_fares_L86 a0 a1 a2) FUEL ((30 : Int32), m7)).bind fun r17 =>
      (
      match r17 with
      | m44 =>
        (hp_gR m44 a0 0 21).bind fun v45 =>
        (hp_aI m44 v45 0 (0 : Int32)).bind fun v46 =>
        some (v46, m44)
      )
    | .inr o => some o
    )
  else
  some ((-1 : Int32), m)

/-- MissedTrains.seed(I)Z -/
def fX0_seed (m : Hp) (a0 : Option Nat) (a1 : Int32) : Option (Int32 × Hp) :=
  (fX0_in a1 (65536 : Int32)).bind fun v1 =>
  if v1 = 0 then
    some ((0 : Int32), m)
  else
  (hp_gR m a0 0 7).bind fun v3 =>
  (hp_pI m v3 2 4 a1).bind fun m4 =>
  some ((1 : Int32), m4)

/-- MissedTrains.keep()I -/
def fX0_keep (m : Hp) (a0 : Option Nat) : Option (Int32 × Hp) :=
  (hp_pZ m a0 0 13 (1 : Int32)).bind fun m1 =>
  (hp_gR m1 a0 0 9).bind fun v2 =>
  (hp_gR m1 a0 0 7).bind fun v3 =>
  (hp_on m1 v2 2 (fX3_takes m1 v2 v3)).bind fun (v4, m5) =>
  (hp_gR m5 a0 0 7).bind fun v6 =>
  (hp_gI m5 v6 2 3).bind fun v7 =>
  some (v7, m5)

/-- MissedTrains$Platform.isAgain(LMissedTrains$Platform;)V -/
def fX3_isAgain_L2 (b0 : Option Nat) (b1 : Option Nat) : (Int32 × Hp) → Option ((Int32 × Hp) ⊕ Hp) := fun (s2_1, m1) =>
  if (12 : Int32) ≤ s2_1 then
    some (.inr m1)
  else
  (hp_gR m1 b0 2 0).bind fun v3 =>
  (hp_aR m1 v3 6 s2_1).bind fun v4 =>
  (hp_gR m1 b1 2 0).bind fun v5 =>
  (hp_aR m1 v5 6 s2_1).bind fun v6 =>
  (hp_gI m1 v6 3 3).bind fun v7 =>
  (hp_pI m1 v4 3 3 v7).bind fun m8 =>
  (hp_gR m8 b0 2 0).bind fun v9 =>
  (hp_aR m8 v9 6 s2_1).bind fun v10 =>
  (hp_gR m8 b1 2 0).bind fun v11 =>
  (hp_aR m8 v11 6 s2_1).bind fun v12 =>
  (hp_gI m8 v12 3 4).bind fun v13 =>
  (hp_pI m8 v10 3 4 v13).bind fun m14 =>
  some (.inl ((s2_1 + (1 : Int32)), m14))
def fX3_isAgain (m : Hp) (a0 : Option Nat) (a1 : Option Nat) : Option Hp :=
  (iter (fX3_isAgain_L2 a0 a1) FUEL ((0 : Int32), m)).bind fun r1 =>
  (
  match r1 with
  | m15 =>
    (hp_gI m15 a1 2 3).bind fun v16 =>
    (hp_pI m15 a0 2 3 v16).bind fun m17 =>
    (hp_gI m17 a1 2 4).bind fun v18 =>
    (hp_pI m17 a0 2 4 v18).bind fun m19 =>
    some m19
  )

/-- MissedTrains.undo()Z -/
def fX0_undo (m : Hp) (a0 : Option Nat) : Option (Int32 × Hp) :=
  (hp_gI m a0 0 13).bind fun v1 =>
  if v1 = 0 then
    some ((0 : Int32), m)
  else
  (hp_gR m a0 0 7).bind fun v3 =>
  (hp_gR m a0 0 9).bind fun v4 =>
  (hp_on m v3 2 (fX3_isAgain m v3 v4)).bind fun m5 =>
  some ((1 : Int32), m5)

/-- MissedTrains.check(I)I -/
def fX0_check_L28 (bm : Hp) (b0 : Option Nat) (b1 : Int32) : Int32 → Option (Int32 ⊕ (Unit ⊕ (Int32 × Hp))) := fun s2_6 =>
  if b1 ≤ s2_6 then
    some (.inr (.inl ()))
  else
  (hp_gR bm b0 0 10).bind fun v8 =>
  (hp_aI bm v8 1 s2_6).bind fun v9 =>
  (hp_on bm b0 0 (fX0_isTold bm b0 s2_6)).bind fun v10 =>
  if v10 = 0 then
    if (v9 &&& (255 : Int32)) = (0 : Int32) then
      some (.inl (s2_6 + (1 : Int32)))
    else
    some (.inr (.inr (s2_6, bm)))
  else
  (hp_gR bm b0 0 7).bind fun v13 =>
  (hp_gR bm v13 2 0).bind fun v14 =>
  (hp_aR bm v14 6 s2_6).bind fun v15 =>
  (hp_gI bm v15 3 4).bind fun v16 =>
  if (v9 &&& (255 : Int32)) = (v16 &&& (255 : Int32)) then
    some (.inl (s2_6 + (1 : Int32)))
  else
  some (.inr (.inr (s2_6, bm)))
def fX0_check (m : Hp) (a0 : Option Nat) (a1 : Int32) : Option (Int32 × Hp) :=
  (fX0_within a1 (0 : Int32) (12 : Int32)).bind fun v1 =>
  if v1 = 0 then
    some ((-2 : Int32), m)
  else
  (hp_gI m a0 0 12).bind fun v3 =>
  if a1 ≤ v3 then
    (hp_pI m a0 0 12 (0 : Int32)).bind fun m5 =>
    (iter (fX0_check_L28 m5 a0 a1) FUEL (0 : Int32)).bind fun r6 =>
    (
    match r6 with
    | .inl _ =>
      some ((-1 : Int32), m5)
    | .inr o => some o
    )
  else
  some ((-2 : Int32), m)

/-- MissedTrains.told()I -/
def fX0_told_L4 (bm : Hp) (b0 : Option Nat) : (Int32 × Int32) → Option ((Int32 × Int32) ⊕ Int32) := fun (s1_1, s2_1) =>
  if (12 : Int32) ≤ s2_1 then
    some (.inr s1_1)
  else
  (hp_on bm b0 0 (fX0_isTold bm b0 s2_1)).bind fun v3 =>
  if v3 = 0 then
    some (.inl ((s1_1 ||| (0 : Int32)), (s2_1 + (1 : Int32))))
  else
  some (.inl ((s1_1 ||| (jshl (1 : Int32) s2_1)), (s2_1 + (1 : Int32))))
def fX0_told (m : Hp) (a0 : Option Nat) : Option Int32 :=
  (iter (fX0_told_L4 m a0) FUEL ((0 : Int32), (0 : Int32))).bind fun r1 =>
  (
  match r1 with
  | v5 =>
    some v5
  )

/-- MissedTrains.countedOfAll(Z)I -/
def fX0_countedOfAll_L17 (bm : Hp) (b1 : Int32) (b3 : Option Nat) (b4 : Int32) : (Int32 × Int32) → Option ((Int32 × Int32) ⊕ Int32) := fun (s2_4, s5_4) =>
  if b4 ≤ s5_4 then
    some (.inr s2_4)
  else
  (hp_aR bm b3 6 s5_4).bind fun v6 =>
  (hp_gI bm v6 3 5).bind fun v7 =>
  if v7 = 0 then
    some (.inl ((s2_4 + (0 : Int32)), (s5_4 + (1 : Int32))))
  else
  if b1 = 0 then
    (hp_gI bm v6 3 4).bind fun v10 =>
    some (.inl ((s2_4 + v10), (s5_4 + (1 : Int32))))
  else
  (hp_gI bm v6 3 3).bind fun v11 =>
  some (.inl ((s2_4 + v11), (s5_4 + (1 : Int32))))
def fX0_countedOfAll (m : Hp) (a0 : Option Nat) (a1 : Int32) : Option Int32 :=
  (hp_gR m a0 0 7).bind fun v1 =>
  (hp_gR m v1 2 0).bind fun v2 =>
  (hp_len m v2 6).bind fun v3 =>
  (iter (fX0_countedOfAll_L17 m a1 v2 v3) FUEL ((0 : Int32), (0 : Int32))).bind fun r4 =>
  (
  match r4 with
  | v12 =>
    some v12
  )

/-- MissedTrains.count(I)I -/
def fX0_count (m : Hp) (a0 : Option Nat) (a1 : Int32) : Option Int32 :=
  if a1 = (0 : Int32) then
    (hp_gR m a0 0 7).bind fun v2 =>
    (hp_gI m v2 2 3).bind fun v3 =>
    some v3
  else
  if a1 = (1 : Int32) then
    (hp_on m a0 0 (fX0_told m a0)).bind fun v5 =>
    some v5
  else
  if a1 = (2 : Int32) then
    (hp_gI m a0 0 3).bind fun v7 =>
    some v7
  else
  if a1 = (3 : Int32) then
    (hp_on m a0 0 (fX0_running m a0)).bind fun v9 =>
    some v9
  else
  if a1 = (4 : Int32) then
    (hp_gI m a0 0 5).bind fun v11 =>
    some v11
  else
  if a1 = (5 : Int32) then
    (hp_gR m a0 0 11).bind fun v13 =>
    (hp_gI m v13 4 3).bind fun v14 =>
    some v14
  else
  if a1 = (6 : Int32) then
    (hp_gI m a0 0 12).bind fun v16 =>
    some v16
  else
  if a1 = (7 : Int32) then
    (hp_gR m a0 0 7).bind fun v18 =>
    (hp_gI m v18 2 4).bind fun v19 =>
    some v19
  else
  if a1 = (8 : Int32) then
    (hp_on m a0 0 (fX0_countedOfAll m a0 (1 : Int32))).bind fun v21 =>
    some v21
  else
  if a1 = (9 : Int32) then
    (hp_on m a0 0 (fX0_countedOfAll m a0 (0 : Int32))).bind fun v23 =>
    some v23
  else
  if a1 = (10 : Int32) then
    (hp_gI m a0 0 4).bind fun v25 =>
    some v25
  else
  if a1 = (11 : Int32) then
    (hp_gI m a0 0 4).bind fun v27 =>
    if v27 = 0 then
      some (-2 : Int32)
    else
    (hp_gI m a0 0 4).bind fun v29 =>
    (hp_on m a0 0 (fX0_minuteOf m a0 (v29 - (1 : Int32)))).bind fun v30 =>
    some v30
  else
  some (-1 : Int32)

/-- MissedTrainsModel.<init>()V -/
def fX7_init (m : Hp) (nx : Nat) (a0 : Nat) : Option (Hp × Nat × Nat) :=
  (some (hp_newa m (nx) 0 26)).bind fun m1 =>
  andA 1 26 (
  (hp_pR m1 (some a0) 6 0 (some (nx))).bind fun m3 =>
  (some (hp_newa m3 (nx + 1) 0 26)).bind fun m4 =>
  andA 1 26 (
  (hp_pR m4 (some a0) 6 1 (some (nx + 1))).bind fun m6 =>
  (some (hp_newa m6 (nx + 1 + 1) 0 26)).bind fun m7 =>
  andA 1 26 (
  (hp_pR m7 (some a0) 6 2 (some (nx + 1 + 1))).bind fun m9 =>
  (some (hp_newa m9 (nx + 1 + 1 + 1) 0 12)).bind fun m10 =>
  andA 1 12 (
  (hp_pR m10 (some a0) 6 3 (some (nx + 1 + 1 + 1))).bind fun m12 =>
  (some (hp_newa m12 (nx + 1 + 1 + 1 + 1) 0 12)).bind fun m13 =>
  andA 1 12 (
  (hp_pR m13 (some a0) 6 4 (some (nx + 1 + 1 + 1 + 1))).bind fun m15 =>
  (some (hp_newa m15 (nx + 1 + 1 + 1 + 1 + 1) 0 12)).bind fun m16 =>
  andA 1 12 (
  (hp_pR m16 (some a0) 6 5 (some (nx + 1 + 1 + 1 + 1 + 1))).bind fun m18 =>
  (some (hp_newa m18 (nx + 1 + 1 + 1 + 1 + 1 + 1) 0 48)).bind fun m19 =>
  andA 1 48 (
  (hp_pR m19 (some a0) 6 6 (some (nx + 1 + 1 + 1 + 1 + 1 + 1))).bind fun m21 =>
  (some (hp_newa m21 (nx + 1 + 1 + 1 + 1 + 1 + 1 + 1) 0 384)).bind fun m22 =>
  andA 1 384 (
  (hp_pR m22 (some a0) 6 7 (some (nx + 1 + 1 + 1 + 1 + 1 + 1 + 1))).bind fun m24 =>
  (some (hp_newa m24 (nx + 1 + 1 + 1 + 1 + 1 + 1 + 1 + 1) 0 384)).bind fun m25 =>
  andA 1 384 (
  (hp_pR m25 (some a0) 6 8 (some (nx + 1 + 1 + 1 + 1 + 1 + 1 + 1 + 1))).bind fun m27 =>
  (some (hp_newa m27 (nx + 1 + 1 + 1 + 1 + 1 + 1 + 1 + 1 + 1) 0 48)).bind fun m28 =>
  andA 1 48 (
  (hp_pR m28 (some a0) 6 9 (some (nx + 1 + 1 + 1 + 1 + 1 + 1 + 1 + 1 + 1))).bind fun m30 =>
  (some (hp_newa m30 (nx + 1 + 1 + 1 + 1 + 1 + 1 + 1 + 1 + 1 + 1) 0 384)).bind fun m31 =>
  andA 1 384 (
  (hp_pR m31 (some a0) 6 10 (some (nx + 1 + 1 + 1 + 1 + 1 + 1 + 1 + 1 + 1 + 1))).bind fun m33 =>
  (some (hp_newa m33 (nx + 1 + 1 + 1 + 1 + 1 + 1 + 1 + 1 + 1 + 1 + 1) 2 12)).bind fun m34 =>
  andA 1 12 (
  (hp_pR m34 (some a0) 6 11 (some (nx + 1 + 1 + 1 + 1 + 1 + 1 + 1 + 1 + 1 + 1 + 1))).bind fun m36 =>
  (some (hp_newa m36 (nx + 1 + 1 + 1 + 1 + 1 + 1 + 1 + 1 + 1 + 1 + 1 + 1) 2 48)).bind fun m37 =>
  andA 1 48 (
  (hp_pR m37 (some a0) 6 12 (some (nx + 1 + 1 + 1 + 1 + 1 + 1 + 1 + 1 + 1 + 1 + 1 + 1))).bind fun m39 =>
  (some (hp_newa m39 (nx + 1 + 1 + 1 + 1 + 1 + 1 + 1 + 1 + 1 + 1 + 1 + 1 + 1) 1 260)).bind fun m40 =>
  andA 1 260 (
  (hp_pR m40 (some a0) 6 16 (some (nx + 1 + 1 + 1 + 1 + 1 + 1 + 1 + 1 + 1 + 1 + 1 + 1 + 1))).bind fun m42 =>
  (some (hp_newa m42 (nx + 1 + 1 + 1 + 1 + 1 + 1 + 1 + 1 + 1 + 1 + 1 + 1 + 1 + 1) 0 260)).bind fun m43 =>
  andA 1 260 (
  (hp_pR m43 (some a0) 6 27 (some (nx + 1 + 1 + 1 + 1 + 1 + 1 + 1 + 1 + 1 + 1 + 1 + 1 + 1 + 1))).bind fun m45 =>
  (some (hp_newa m45 (nx + 1 + 1 + 1 + 1 + 1 + 1 + 1 + 1 + 1 + 1 + 1 + 1 + 1 + 1 + 1) 0 260)).bind fun m46 =>
  andA 1 260 (
  (hp_pR m46 (some a0) 6 28 (some (nx + 1 + 1 + 1 + 1 + 1 + 1 + 1 + 1 + 1 + 1 + 1 + 1 + 1 + 1 + 1))).bind fun m48 =>
  (some (hp_newa m48 (nx + 1 + 1 + 1 + 1 + 1 + 1 + 1 + 1 + 1 + 1 + 1 + 1 + 1 + 1 + 1 + 1) 0 16)).bind fun m49 =>
  andA 1 16 (
  (hp_pR m49 (some a0) 6 29 (some (nx + 1 + 1 + 1 + 1 + 1 + 1 + 1 + 1 + 1 + 1 + 1 + 1 + 1 + 1 + 1 + 1))).bind fun m51 =>
  (some (hp_newa m51 (nx + 1 + 1 + 1 + 1 + 1 + 1 + 1 + 1 + 1 + 1 + 1 + 1 + 1 + 1 + 1 + 1 + 1) 0 16)).bind fun m52 =>
  andA 1 16 (
  (hp_pR m52 (some a0) 6 30 (some (nx + 1 + 1 + 1 + 1 + 1 + 1 + 1 + 1 + 1 + 1 + 1 + 1 + 1 + 1 + 1 + 1 + 1))).bind fun m54 =>
  (some (hp_newa m54 (nx + 1 + 1 + 1 + 1 + 1 + 1 + 1 + 1 + 1 + 1 + 1 + 1 + 1 + 1 + 1 + 1 + 1 + 1) 0 16)).bind fun m55 =>
  andA 1 16 (
  (hp_pR m55 (some a0) 6 31 (some (nx + 1 + 1 + 1 + 1 + 1 + 1 + 1 + 1 + 1 + 1 + 1 + 1 + 1 + 1 + 1 + 1 + 1 + 1))).bind fun m57 =>
  (some (hp_newa m57 (nx + 1 + 1 + 1 + 1 + 1 + 1 + 1 + 1 + 1 + 1 + 1 + 1 + 1 + 1 + 1 + 1 + 1 + 1 + 1) 0 16)).bind fun m58 =>
  andA 1 16 (
  (hp_pR m58 (some a0) 6 32 (some (nx + 1 + 1 + 1 + 1 + 1 + 1 + 1 + 1 + 1 + 1 + 1 + 1 + 1 + 1 + 1 + 1 + 1 + 1 + 1))).bind fun m60 =>
  (some (hp_newa m60 (nx + 1 + 1 + 1 + 1 + 1 + 1 + 1 + 1 + 1 + 1 + 1 + 1 + 1 + 1 + 1 + 1 + 1 + 1 + 1 + 1) 0 260)).bind fun m61 =>
  andA 1 260 (
  (hp_pR m61 (some a0) 6 33 (some (nx + 1 + 1 + 1 + 1 + 1 + 1 + 1 + 1 + 1 + 1 + 1 + 1 + 1 + 1 + 1 + 1 + 1 + 1 + 1 + 1))).bind fun m63 =>
  (some (hp_newa m63 (nx + 1 + 1 + 1 + 1 + 1 + 1 + 1 + 1 + 1 + 1 + 1 + 1 + 1 + 1 + 1 + 1 + 1 + 1 + 1 + 1 + 1) 0 16)).bind fun m64 =>
  andA 1 16 (
  (hp_pR m64 (some a0) 6 34 (some (nx + 1 + 1 + 1 + 1 + 1 + 1 + 1 + 1 + 1 + 1 + 1 + 1 + 1 + 1 + 1 + 1 + 1 + 1 + 1 + 1 + 1))).bind fun m66 =>
  (some (hp_newa m66 (nx + 1 + 1 + 1 + 1 + 1 + 1 + 1 + 1 + 1 + 1 + 1 + 1 + 1 + 1 + 1 + 1 + 1 + 1 + 1 + 1 + 1 + 1) 0 16)).bind fun m67 =>
  andA 1 16 (
  (hp_pR m67 (some a0) 6 35 (some (nx + 1 + 1 + 1 + 1 + 1 + 1 + 1 + 1 + 1 + 1 + 1 + 1 + 1 + 1 + 1 + 1 + 1 + 1 + 1 + 1 + 1 + 1))).bind fun m69 =>
  (some (hp_newa m69 (nx + 1 + 1 + 1 + 1 + 1 + 1 + 1 + 1 + 1 + 1 + 1 + 1 + 1 + 1 + 1 + 1 + 1 + 1 + 1 + 1 + 1 + 1 + 1) 0 16)).bind fun m70 =>
  andA 1 16 (
  (hp_pR m70 (some a0) 6 36 (some (nx + 1 + 1 + 1 + 1 + 1 + 1 + 1 + 1 + 1 + 1 + 1 + 1 + 1 + 1 + 1 + 1 + 1 + 1 + 1 + 1 + 1 + 1 + 1))).bind fun m72 =>
  (some (hp_newa m72 (nx + 1 + 1 + 1 + 1 + 1 + 1 + 1 + 1 + 1 + 1 + 1 + 1 + 1 + 1 + 1 + 1 + 1 + 1 + 1 + 1 + 1 + 1 + 1 + 1) 0 16)).bind fun m73 =>
  andA 1 16 (
  (hp_pR m73 (some a0) 6 37 (some (nx + 1 + 1 + 1 + 1 + 1 + 1 + 1 + 1 + 1 + 1 + 1 + 1 + 1 + 1 + 1 + 1 + 1 + 1 + 1 + 1 + 1 + 1 + 1 + 1))).bind fun m75 =>
  (some (hp_newa m75 (nx + 1 + 1 + 1 + 1 + 1 + 1 + 1 + 1 + 1 + 1 + 1 + 1 + 1 + 1 + 1 + 1 + 1 + 1 + 1 + 1 + 1 + 1 + 1 + 1 + 1) 0 260)).bind fun m76 =>
  andA 1 260 (
  (hp_pR m76 (some a0) 6 38 (some (nx + 1 + 1 + 1 + 1 + 1 + 1 + 1 + 1 + 1 + 1 + 1 + 1 + 1 + 1 + 1 + 1 + 1 + 1 + 1 + 1 + 1 + 1 + 1 + 1 + 1))).bind fun m78 =>
  (some (hp_newa m78 (nx + 1 + 1 + 1 + 1 + 1 + 1 + 1 + 1 + 1 + 1 + 1 + 1 + 1 + 1 + 1 + 1 + 1 + 1 + 1 + 1 + 1 + 1 + 1 + 1 + 1 + 1) 0 9)).bind fun m79 =>
  andA 1 9 (
  (hp_pR m79 (some a0) 6 39 (some (nx + 1 + 1 + 1 + 1 + 1 + 1 + 1 + 1 + 1 + 1 + 1 + 1 + 1 + 1 + 1 + 1 + 1 + 1 + 1 + 1 + 1 + 1 + 1 + 1 + 1 + 1))).bind fun m81 =>
  (some (hp_newa m81 (nx + 1 + 1 + 1 + 1 + 1 + 1 + 1 + 1 + 1 + 1 + 1 + 1 + 1 + 1 + 1 + 1 + 1 + 1 + 1 + 1 + 1 + 1 + 1 + 1 + 1 + 1 + 1) 0 48)).bind fun m82 =>
  andA 1 48 (
  (hp_pR m82 (some a0) 6 40 (some (nx + 1 + 1 + 1 + 1 + 1 + 1 + 1 + 1 + 1 + 1 + 1 + 1 + 1 + 1 + 1 + 1 + 1 + 1 + 1 + 1 + 1 + 1 + 1 + 1 + 1 + 1 + 1))).bind fun m84 =>
  (some (hp_newa m84 (nx + 1 + 1 + 1 + 1 + 1 + 1 + 1 + 1 + 1 + 1 + 1 + 1 + 1 + 1 + 1 + 1 + 1 + 1 + 1 + 1 + 1 + 1 + 1 + 1 + 1 + 1 + 1 + 1) 0 384)).bind fun m85 =>
  andA 1 384 (
  (hp_pR m85 (some a0) 6 41 (some (nx + 1 + 1 + 1 + 1 + 1 + 1 + 1 + 1 + 1 + 1 + 1 + 1 + 1 + 1 + 1 + 1 + 1 + 1 + 1 + 1 + 1 + 1 + 1 + 1 + 1 + 1 + 1 + 1))).bind fun m87 =>
  (some (hp_newa m87 (nx + 1 + 1 + 1 + 1 + 1 + 1 + 1 + 1 + 1 + 1 + 1 + 1 + 1 + 1 + 1 + 1 + 1 + 1 + 1 + 1 + 1 + 1 + 1 + 1 + 1 + 1 + 1 + 1 + 1) 0 384)).bind fun m88 =>
  andA 1 384 (
  (hp_pR m88 (some a0) 6 42 (some (nx + 1 + 1 + 1 + 1 + 1 + 1 + 1 + 1 + 1 + 1 + 1 + 1 + 1 + 1 + 1 + 1 + 1 + 1 + 1 + 1 + 1 + 1 + 1 + 1 + 1 + 1 + 1 + 1 + 1))).bind fun m90 =>
  (some (hp_newa m90 (nx + 1 + 1 + 1 + 1 + 1 + 1 + 1 + 1 + 1 + 1 + 1 + 1 + 1 + 1 + 1 + 1 + 1 + 1 + 1 + 1 + 1 + 1 + 1 + 1 + 1 + 1 + 1 + 1 + 1 + 1) 0 8)).bind fun m91 =>
  andA 1 8 (
  (hp_pR m91 (some a0) 6 45 (some (nx + 1 + 1 + 1 + 1 + 1 + 1 + 1 + 1 + 1 + 1 + 1 + 1 + 1 + 1 + 1 + 1 + 1 + 1 + 1 + 1 + 1 + 1 + 1 + 1 + 1 + 1 + 1 + 1 + 1 + 1))).bind fun m93 =>
  (some (hp_newa m93 (nx + 1 + 1 + 1 + 1 + 1 + 1 + 1 + 1 + 1 + 1 + 1 + 1 + 1 + 1 + 1 + 1 + 1 + 1 + 1 + 1 + 1 + 1 + 1 + 1 + 1 + 1 + 1 + 1 + 1 + 1 + 1) 0 8)).bind fun m94 =>
  andA 1 8 (
  (hp_pR m94 (some a0) 6 46 (some (nx + 1 + 1 + 1 + 1 + 1 + 1 + 1 + 1 + 1 + 1 + 1 + 1 + 1 + 1 + 1 + 1 + 1 + 1 + 1 + 1 + 1 + 1 + 1 + 1 + 1 + 1 + 1 + 1 + 1 + 1 + 1))).bind fun m96 =>
  (some (hp_newa m96 (nx + 1 + 1 + 1 + 1 + 1 + 1 + 1 + 1 + 1 + 1 + 1 + 1 + 1 + 1 + 1 + 1 + 1 + 1 + 1 + 1 + 1 + 1 + 1 + 1 + 1 + 1 + 1 + 1 + 1 + 1 + 1 + 1) 0 48)).bind fun m97 =>
  andA 1 48 (
  (hp_pR m97 (some a0) 6 47 (some (nx + 1 + 1 + 1 + 1 + 1 + 1 + 1 + 1 + 1 + 1 + 1 + 1 + 1 + 1 + 1 + 1 + 1 + 1 + 1 + 1 + 1 + 1 + 1 + 1 + 1 + 1 + 1 + 1 + 1 + 1 + 1 + 1))).bind fun m99 =>
  (some (hp_newa m99 (nx + 1 + 1 + 1 + 1 + 1 + 1 + 1 + 1 + 1 + 1 + 1 + 1 + 1 + 1 + 1 + 1 + 1 + 1 + 1 + 1 + 1 + 1 + 1 + 1 + 1 + 1 + 1 + 1 + 1 + 1 + 1 + 1 + 1) 2 48)).bind fun m100 =>
  andA 1 48 (
  (hp_pR m100 (some a0) 6 48 (some (nx + 1 + 1 + 1 + 1 + 1 + 1 + 1 + 1 + 1 + 1 + 1 + 1 + 1 + 1 + 1 + 1 + 1 + 1 + 1 + 1 + 1 + 1 + 1 + 1 + 1 + 1 + 1 + 1 + 1 + 1 + 1 + 1 + 1))).bind fun m102 =>
  (some (hp_newa m102 (nx + 1 + 1 + 1 + 1 + 1 + 1 + 1 + 1 + 1 + 1 + 1 + 1 + 1 + 1 + 1 + 1 + 1 + 1 + 1 + 1 + 1 + 1 + 1 + 1 + 1 + 1 + 1 + 1 + 1 + 1 + 1 + 1 + 1 + 1) 0 12)).bind fun m103 =>
  andA 1 12 (
  (hp_pR m103 (some a0) 6 50 (some (nx + 1 + 1 + 1 + 1 + 1 + 1 + 1 + 1 + 1 + 1 + 1 + 1 + 1 + 1 + 1 + 1 + 1 + 1 + 1 + 1 + 1 + 1 + 1 + 1 + 1 + 1 + 1 + 1 + 1 + 1 + 1 + 1 + 1 + 1))).bind fun m105 =>
  (some (hp_newa m105 (nx + 1 + 1 + 1 + 1 + 1 + 1 + 1 + 1 + 1 + 1 + 1 + 1 + 1 + 1 + 1 + 1 + 1 + 1 + 1 + 1 + 1 + 1 + 1 + 1 + 1 + 1 + 1 + 1 + 1 + 1 + 1 + 1 + 1 + 1 + 1) 0 48)).bind fun m106 =>
  andA 1 48 (
  (hp_pR m106 (some a0) 6 51 (some (nx + 1 + 1 + 1 + 1 + 1 + 1 + 1 + 1 + 1 + 1 + 1 + 1 + 1 + 1 + 1 + 1 + 1 + 1 + 1 + 1 + 1 + 1 + 1 + 1 + 1 + 1 + 1 + 1 + 1 + 1 + 1 + 1 + 1 + 1 + 1))).bind fun m108 =>
  (some (hp_newa m108 (nx + 1 + 1 + 1 + 1 + 1 + 1 + 1 + 1 + 1 + 1 + 1 + 1 + 1 + 1 + 1 + 1 + 1 + 1 + 1 + 1 + 1 + 1 + 1 + 1 + 1 + 1 + 1 + 1 + 1 + 1 + 1 + 1 + 1 + 1 + 1 + 1) 0 10)).bind fun m109 =>
  andA 1 10 (
  (hp_pR m109 (some a0) 6 55 (some (nx + 1 + 1 + 1 + 1 + 1 + 1 + 1 + 1 + 1 + 1 + 1 + 1 + 1 + 1 + 1 + 1 + 1 + 1 + 1 + 1 + 1 + 1 + 1 + 1 + 1 + 1 + 1 + 1 + 1 + 1 + 1 + 1 + 1 + 1 + 1 + 1))).bind fun m111 =>
  (some (hp_newa m111 (nx + 1 + 1 + 1 + 1 + 1 + 1 + 1 + 1 + 1 + 1 + 1 + 1 + 1 + 1 + 1 + 1 + 1 + 1 + 1 + 1 + 1 + 1 + 1 + 1 + 1 + 1 + 1 + 1 + 1 + 1 + 1 + 1 + 1 + 1 + 1 + 1 + 1) 0 10)).bind fun m112 =>
  andA 1 10 (
  (hp_pR m112 (some a0) 6 56 (some (nx + 1 + 1 + 1 + 1 + 1 + 1 + 1 + 1 + 1 + 1 + 1 + 1 + 1 + 1 + 1 + 1 + 1 + 1 + 1 + 1 + 1 + 1 + 1 + 1 + 1 + 1 + 1 + 1 + 1 + 1 + 1 + 1 + 1 + 1 + 1 + 1 + 1))).bind fun m114 =>
  (some (hp_newa m114 (nx + 1 + 1 + 1 + 1 + 1 + 1 + 1 + 1 + 1 + 1 + 1 + 1 + 1 + 1 + 1 + 1 + 1 + 1 + 1 + 1 + 1 + 1 + 1 + 1 + 1 + 1 + 1 + 1 + 1 + 1 + 1 + 1 + 1 + 1 + 1 + 1 + 1 + 1) 0 48)).bind fun m115 =>
  andA 1 48 (
  (hp_pR m115 (some a0) 6 57 (some (nx + 1 + 1 + 1 + 1 + 1 + 1 + 1 + 1 + 1 + 1 + 1 + 1 + 1 + 1 + 1 + 1 + 1 + 1 + 1 + 1 + 1 + 1 + 1 + 1 + 1 + 1 + 1 + 1 + 1 + 1 + 1 + 1 + 1 + 1 + 1 + 1 + 1 + 1))).bind fun m117 =>
  (some (hp_newa m117 (nx + 1 + 1 + 1 + 1 + 1 + 1 + 1 + 1 + 1 + 1 + 1 + 1 + 1 + 1 + 1 + 1 + 1 + 1 + 1 + 1 + 1 + 1 + 1 + 1 + 1 + 1 + 1 + 1 + 1 + 1 + 1 + 1 + 1 + 1 + 1 + 1 + 1 + 1 + 1) 0 48)).bind fun m118 =>
  andA 1 48 (
  (hp_pR m118 (some a0) 6 58 (some (nx + 1 + 1 + 1 + 1 + 1 + 1 + 1 + 1 + 1 + 1 + 1 + 1 + 1 + 1 + 1 + 1 + 1 + 1 + 1 + 1 + 1 + 1 + 1 + 1 + 1 + 1 + 1 + 1 + 1 + 1 + 1 + 1 + 1 + 1 + 1 + 1 + 1 + 1 + 1))).bind fun m120 =>
  (some (hp_newa m120 (nx + 1 + 1 + 1 + 1 + 1 + 1 + 1 + 1 + 1 + 1 + 1 + 1 + 1 + 1 + 1 + 1 + 1 + 1 + 1 + 1 + 1 + 1 + 1 + 1 + 1 + 1 + 1 + 1 + 1 + 1 + 1 + 1 + 1 + 1 + 1 + 1 + 1 + 1 + 1 + 1) 2 1440)).bind fun m121 =>
  andA 1 1440 (
  (hp_pR m121 (some a0) 6 59 (some (nx + 1 + 1 + 1 + 1 + 1 + 1 + 1 + 1 + 1 + 1 + 1 + 1 + 1 + 1 + 1 + 1 + 1 + 1 + 1 + 1 + 1 + 1 + 1 + 1 + 1 + 1 + 1 + 1 + 1 + 1 + 1 + 1 + 1 + 1 + 1 + 1 + 1 + 1 + 1 + 1))).bind fun m123 =>
  (some (hp_newa m123 (nx + 1 + 1 + 1 + 1 + 1 + 1 + 1 + 1 + 1 + 1 + 1 + 1 + 1 + 1 + 1 + 1 + 1 + 1 + 1 + 1 + 1 + 1 + 1 + 1 + 1 + 1 + 1 + 1 + 1 + 1 + 1 + 1 + 1 + 1 + 1 + 1 + 1 + 1 + 1 + 1 + 1) 0 48)).bind fun m124 =>
  andA 1 48 (
  (hp_pR m124 (some a0) 6 60 (some (nx + 1 + 1 + 1 + 1 + 1 + 1 + 1 + 1 + 1 + 1 + 1 + 1 + 1 + 1 + 1 + 1 + 1 + 1 + 1 + 1 + 1 + 1 + 1 + 1 + 1 + 1 + 1 + 1 + 1 + 1 + 1 + 1 + 1 + 1 + 1 + 1 + 1 + 1 + 1 + 1 + 1))).bind fun m126 =>
  (some (hp_newa m126 (nx + 1 + 1 + 1 + 1 + 1 + 1 + 1 + 1 + 1 + 1 + 1 + 1 + 1 + 1 + 1 + 1 + 1 + 1 + 1 + 1 + 1 + 1 + 1 + 1 + 1 + 1 + 1 + 1 + 1 + 1 + 1 + 1 + 1 + 1 + 1 + 1 + 1 + 1 + 1 + 1 + 1 + 1) 0 48)).bind fun m127 =>
  andA 1 48 (
  (hp_pR m127 (some a0) 6 61 (some (nx + 1 + 1 + 1 + 1 + 1 + 1 + 1 + 1 + 1 + 1 + 1 + 1 + 1 + 1 + 1 + 1 + 1 + 1 + 1 + 1 + 1 + 1 + 1 + 1 + 1 + 1 + 1 + 1 + 1 + 1 + 1 + 1 + 1 + 1 + 1 + 1 + 1 + 1 + 1 + 1 + 1 + 1))).bind fun m129 =>
  (some (hp_newa m129 (nx + 1 + 1 + 1 + 1 + 1 + 1 + 1 + 1 + 1 + 1 + 1 + 1 + 1 + 1 + 1 + 1 + 1 + 1 + 1 + 1 + 1 + 1 + 1 + 1 + 1 + 1 + 1 + 1 + 1 + 1 + 1 + 1 + 1 + 1 + 1 + 1 + 1 + 1 + 1 + 1 + 1 + 1 + 1) 0 48)).bind fun m130 =>
  andA 1 48 (
  (hp_pR m130 (some a0) 6 62 (some (nx + 1 + 1 + 1 + 1 + 1 + 1 + 1 + 1 + 1 + 1 + 1 + 1 + 1 + 1 + 1 + 1 + 1 + 1 + 1 + 1 + 1 + 1 + 1 + 1 + 1 + 1 + 1 + 1 + 1 + 1 + 1 + 1 + 1 + 1 + 1 + 1 + 1 + 1 + 1 + 1 + 1 + 1 + 1))).bind fun m132 =>
  (some (hp_newa m132 (nx + 1 + 1 + 1 + 1 + 1 + 1 + 1 + 1 + 1 + 1 + 1 + 1 + 1 + 1 + 1 + 1 + 1 + 1 + 1 + 1 + 1 + 1 + 1 + 1 + 1 + 1 + 1 + 1 + 1 + 1 + 1 + 1 + 1 + 1 + 1 + 1 + 1 + 1 + 1 + 1 + 1 + 1 + 1 + 1) 0 384)).bind fun m133 =>
  andA 1 384 (
  (hp_pR m133 (some a0) 6 63 (some (nx + 1 + 1 + 1 + 1 + 1 + 1 + 1 + 1 + 1 + 1 + 1 + 1 + 1 + 1 + 1 + 1 + 1 + 1 + 1 + 1 + 1 + 1 + 1 + 1 + 1 + 1 + 1 + 1 + 1 + 1 + 1 + 1 + 1 + 1 + 1 + 1 + 1 + 1 + 1 + 1 + 1 + 1 + 1 + 1))).bind fun m135 =>
  (some (hp_newa m135 (nx + 1 + 1 + 1 + 1 + 1 + 1 + 1 + 1 + 1 + 1 + 1 + 1 + 1 + 1 + 1 + 1 + 1 + 1 + 1 + 1 + 1 + 1 + 1 + 1 + 1 + 1 + 1 + 1 + 1 + 1 + 1 + 1 + 1 + 1 + 1 + 1 + 1 + 1 + 1 + 1 + 1 + 1 + 1 + 1 + 1) 0 61)).bind fun m136 =>
  andA 1 61 (
  (hp_pR m136 (some a0) 6 64 (some (nx + 1 + 1 + 1 + 1 + 1 + 1 + 1 + 1 + 1 + 1 + 1 + 1 + 1 + 1 + 1 + 1 + 1 + 1 + 1 + 1 + 1 + 1 + 1 + 1 + 1 + 1 + 1 + 1 + 1 + 1 + 1 + 1 + 1 + 1 + 1 + 1 + 1 + 1 + 1 + 1 + 1 + 1 + 1 + 1 + 1))).bind fun m138 =>
  (hp_gR m138 (some a0) 6 0).bind fun v139 =>
  (hp_sI m138 v139 0 (25 : Int32) (1 : Int32)).bind fun m140 =>
  (hp_pI m140 (some a0) 6 13 (5 : Int32)).bind fun m141 =>
  some (m141, 0, 0)))))))))))))))))))))))))))))))))))))))))))))))

/-- MissedTrainsModel.in(III)Z -/
def fX7_in (a0 : Int32) (a1 : Int32) (a2 : Int32) : Option Int32 :=
  if a0 < a1 then
    some (0 : Int32)
  else
  if a2 < a0 then
    some (0 : Int32)
  else
  some (1 : Int32)

/-- MissedTrainsModel.min(II)I -/
def fX7_min (a0 : Int32) (a1 : Int32) : Option Int32 :=
  if a1 ≤ a0 then
    some a1
  else
  some a0

/-- MissedTrainsModel.max(II)I -/
def fX7_max (a0 : Int32) (a1 : Int32) : Option Int32 :=
  if a0 ≤ a1 then
    some a1
  else
  some a0

/-- MissedTrainsModel.has(II)Z -/
def fX7_has (a0 : Int32) (a1 : Int32) : Option Int32 :=
  if ((jshr a0 a1) &&& (1 : Int32)) = (1 : Int32) then
    some (1 : Int32)
  else
  some (0 : Int32)

/-- MissedTrainsModel.copies([I[I)V -/
def fX7_copies_L2 (b0 : Option Nat) (b1 : Option Nat) : (Int32 × Hp) → Option ((Int32 × Hp) ⊕ Hp) := fun (s2_1, m1) =>
  if (26 : Int32) ≤ s2_1 then
    some (.inr m1)
  else
  (hp_aI m1 b0 0 s2_1).bind fun v3 =>
  (hp_sI m1 b1 0 s2_1 v3).bind fun m4 =>
  some (.inl ((s2_1 + (1 : Int32)), m4))
def fX7_copies (m : Hp) (a0 : Option Nat) (a1 : Option Nat) : Option Hp :=
  (iter (fX7_copies_L2 a0 a1) FUEL ((0 : Int32), m)).bind fun r1 =>
  (
  match r1 with
  | m5 =>
    some m5
  )

/-- MissedTrainsModel.isPerson(I)Z -/
def fX7_isPerson (m : Hp) (a0 : Option Nat) (a1 : Int32) : Option Int32 :=
  (fX7_in a1 (0 : Int32) (11 : Int32)).bind fun v1 =>
  if v1 = 0 then
    some (0 : Int32)
  else
  (hp_gR m a0 6 11).bind fun v3 =>
  (hp_aI m v3 2 a1).bind fun v4 =>
  if v4 = 0 then
    some (0 : Int32)
  else
  some (1 : Int32)

/-- MissedTrainsModel.isStation(I)Z -/
def fX7_isStation (a0 : Int32) : Option Int32 :=
  (fX7_in a0 (0 : Int32) (9 : Int32)).bind fun v1 =>
  (hp_z v1).bind fun z2 =>
  some z2

/-- MissedTrainsModel.areTwo(II)Z -/
def fX7_areTwo (a0 : Int32) (a1 : Int32) : Option Int32 :=
  (fX7_isStation a0).bind fun v1 =>
  if v1 = 0 then
    some (0 : Int32)
  else
  (fX7_isStation a1).bind fun v3 =>
  if v3 = 0 then
    some (0 : Int32)
  else
  if a0 = a1 then
    some (0 : Int32)
  else
  some (1 : Int32)

/-- MissedTrainsModel.runs(I)Z -/
def fX7_runs (m : Hp) (a0 : Option Nat) (a1 : Int32) : Option Int32 :=
  (hp_gI m a0 6 14).bind fun v1 =>
  (fX7_in a1 (0 : Int32) (v1 - (1 : Int32))).bind fun v2 =>
  if v2 = 0 then
    some (0 : Int32)
  else
  (hp_gR m a0 6 12).bind fun v4 =>
  (hp_aI m v4 2 a1).bind fun v5 =>
  if v5 = 0 then
    some (1 : Int32)
  else
  some (0 : Int32)

/-- MissedTrainsModel.at(II)I -/
def fX7_at (a0 : Int32) (a1 : Int32) : Option Int32 :=
  some (((8 : Int32) * a0) + a1)

/-- MissedTrainsModel.stopAt(II)I -/
def fX7_stopAt_L2 (bm : Hp) (b0 : Option Nat) (b1 : Int32) (b2 : Int32) : Int32 → Option (Int32 ⊕ (Unit ⊕ Int32)) := fun s3_1 =>
  (hp_gR bm b0 6 6).bind fun v2 =>
  (hp_aI bm v2 0 b1).bind fun v3 =>
  if v3 ≤ s3_1 then
    some (.inr (.inl ()))
  else
  (hp_gR bm b0 6 7).bind fun v5 =>
  (fX7_at b1 s3_1).bind fun v6 =>
  (hp_aI bm v5 0 v6).bind fun v7 =>
  if v7 = b2 then
    some (.inr (.inr s3_1))
  else
  some (.inl (s3_1 + (1 : Int32)))
def fX7_stopAt (m : Hp) (a0 : Option Nat) (a1 : Int32) (a2 : Int32) : Option Int32 :=
  (iter (fX7_stopAt_L2 m a0 a1 a2) FUEL (0 : Int32)).bind fun r1 =>
  (
  match r1 with
  | .inl _ =>
    some (-1 : Int32)
  | .inr o => some o
  )

/-- MissedTrainsModel.leavesFrom(II)Z -/
def fX7_leavesFrom (m : Hp) (a0 : Option Nat) (a1 : Int32) (a2 : Int32) : Option Int32 :=
  (hp_on m a0 6 (fX7_runs m a0 a1)).bind fun v1 =>
  if v1 = 0 then
    some (0 : Int32)
  else
  (hp_on m a0 6 (fX7_stopAt m a0 a1 a2)).bind fun v3 =>
  (hp_gR m a0 6 6).bind fun v4 =>
  (hp_aI m v4 0 a1).bind fun v5 =>
  (fX7_in v3 (0 : Int32) (v5 - (2 : Int32))).bind fun v6 =>
  if v6 = 0 then
    some (0 : Int32)
  else
  some (1 : Int32)

/-- MissedTrainsModel.comesTo(II)Z -/
def fX7_comesTo (m : Hp) (a0 : Option Nat) (a1 : Int32) (a2 : Int32) : Option Int32 :=
  (hp_on m a0 6 (fX7_runs m a0 a1)).bind fun v1 =>
  if v1 = 0 then
    some (0 : Int32)
  else
  (hp_on m a0 6 (fX7_stopAt m a0 a1 a2)).bind fun v3 =>
  if v3 ≤ 0 then
    some (0 : Int32)
  else
  some (1 : Int32)

/-- MissedTrainsModel.minuteAt(II)I -/
def fX7_minuteAt (m : Hp) (a0 : Option Nat) (a1 : Int32) (a2 : Int32) : Option Int32 :=
  (hp_gR m a0 6 8).bind fun v1 =>
  (hp_on m a0 6 (fX7_stopAt m a0 a1 a2)).bind fun v2 =>
  (fX7_at a1 v2).bind fun v3 =>
  (hp_aI m v1 0 v3).bind fun v4 =>
  some v4

/-- MissedTrainsModel.person(IIII)Z -/
def fX7_person (m : Hp) (a0 : Option Nat) (a1 : Int32) (a2 : Int32) (a3 : Int32) (a4 : Int32) : Option (Int32 × Hp) :=
  (fX7_in a1 (0 : Int32) (11 : Int32)).bind fun v1 =>
  if v1 = 0 then
    some ((0 : Int32), m)
  else
  (fX7_areTwo a2 a3).bind fun v3 =>
  if v3 = 0 then
    some ((0 : Int32), m)
  else
  (fX7_in a4 (0 : Int32) (1439 : Int32)).bind fun v5 =>
  if v5 = 0 then
    some ((0 : Int32), m)
  else
  (hp_gR m a0 6 11).bind fun v7 =>
  (hp_sI m v7 2 a1 (1 : Int32)).bind fun m8 =>
  (hp_gR m8 a0 6 3).bind fun v9 =>
  (hp_sI m8 v9 0 a1 a2).bind fun m10 =>
  (hp_gR m10 a0 6 4).bind fun v11 =>
  (hp_sI m10 v11 0 a1 a3).bind fun m12 =>
  (hp_gR m12 a0 6 5).bind fun v13 =>
  (hp_sI m12 v13 0 a1 a4).bind fun m14 =>
  (hp_gR m14 a0 6 0).bind fun v15 =>
  (hp_sI m14 v15 0 ((0 : Int32) + a1) (0 : Int32)).bind fun m16 =>
  (hp_gR m16 a0 6 0).bind fun v17 =>
  (hp_sI m16 v17 0 ((12 : Int32) + a1) (0 : Int32)).bind fun m18 =>
  some ((1 : Int32), m18)

/-- MissedTrainsModel.changing(I)Z -/
def fX7_changing (m : Hp) (a0 : Option Nat) (a1 : Int32) : Option (Int32 × Hp) :=
  (fX7_in a1 (0 : Int32) (60 : Int32)).bind fun v1 =>
  if v1 = 0 then
    some ((0 : Int32), m)
  else
  (hp_pI m a0 6 13 a1).bind fun m3 =>
  some ((1 : Int32), m3)

/-- MissedTrainsModel.types(I)V -/
def fX7_types_L2 (b0 : Option Nat) (b1 : Int32) : (Int32 × Hp) → Option ((Int32 × Hp) ⊕ Hp) := fun (s2_1, m1) =>
  if s2_1 < 0 then
    some (.inr m1)
  else
  (hp_gR m1 b0 6 16).bind fun v3 =>
  (hp_gI m1 b0 6 17).bind fun v4 =>
  (hp_sI m1 v3 1 v4 (j2b (jshr b1 ((8 : Int32) * s2_1)))).bind fun m5 =>
  (hp_gI m5 b0 6 17).bind fun v6 =>
  (hp_pI m5 b0 6 17 (v6 + (1 : Int32))).bind fun m7 =>
  some (.inl ((s2_1 + (-1 : Int32)), m7))
def fX7_types (m : Hp) (a0 : Option Nat) (a1 : Int32) : Option Hp :=
  (iter (fX7_types_L2 a0 a1) FUEL ((3 : Int32), m)).bind fun r1 =>
  (
  match r1 with
  | m8 =>
    some m8
  )

/-- MissedTrainsModel.feed(IIIII)I -/
def fX7_feed (m : Hp) (a0 : Option Nat) (a1 : Int32) (a2 : Int32) (a3 : Int32) (a4 : Int32) (a5 : Int32) : Option (Int32 × Hp) :=
  (hp_gI m a0 6 17).bind fun v1 =>
  if (v1 + (20 : Int32)) ≤ (260 : Int32) then
    (hp_on m a0 6 (fX7_types m a0 a1)).bind fun m3 =>
    (hp_on m3 a0 6 (fX7_types m3 a0 a2)).bind fun m4 =>
    (hp_on m4 a0 6 (fX7_types m4 a0 a3)).bind fun m5 =>
    (hp_on m5 a0 6 (fX7_types m5 a0 a4)).bind fun m6 =>
    (hp_on m6 a0 6 (fX7_types m6 a0 a5)).bind fun m7 =>
    (hp_gI m7 a0 6 17).bind fun v8 =>
    some (v8, m7)
  else
  some ((-1 : Int32), m)

/-- MissedTrainsModel.octet(I)I -/
def fX7_octet (m : Hp) (a0 : Option Nat) (a1 : Int32) : Option Int32 :=
  (hp_gR m a0 6 16).bind fun v1 =>
  (hp_aI m v1 1 a1).bind fun v2 =>
  some (v2 &&& (255 : Int32))

/-- MissedTrainsModel.here()I -/
def fX7_here (m : Hp) (a0 : Option Nat) : Option Int32 :=
  (hp_gI m a0 6 18).bind fun v1 =>
  (hp_gI m a0 6 19).bind fun v2 =>
  if v2 ≤ v1 then
    some (-1 : Int32)
  else
  (hp_gR m a0 6 16).bind fun v4 =>
  (hp_gI m a0 6 18).bind fun v5 =>
  (hp_aI m v4 1 v5).bind fun v6 =>
  some (v6 &&& (255 : Int32))

/-- MissedTrainsModel.isDigit()Z -/
def fX7_isDigit (m : Hp) (a0 : Option Nat) : Option Int32 :=
  (hp_on m a0 6 (fX7_here m a0)).bind fun v1 =>
  if v1 < (48 : Int32) then
    some (0 : Int32)
  else
  (hp_on m a0 6 (fX7_here m a0)).bind fun v3 =>
  if (57 : Int32) < v3 then
    some (0 : Int32)
  else
  some (1 : Int32)

/-- MissedTrainsModel.wrongAt(II)Z -/
def fX7_wrongAt (m : Hp) (a0 : Option Nat) (a1 : Int32) (a2 : Int32) : Option (Int32 × Hp) :=
  (hp_pI m a0 6 20 (((-1000 : Int32) * a1) - a2)).bind fun m1 =>
  some ((0 : Int32), m1)

/-- MissedTrainsModel.takes(I)Z -/
def fX7_takes (m : Hp) (a0 : Option Nat) (a1 : Int32) : Option (Int32 × Hp) :=
  (hp_on m a0 6 (fX7_here m a0)).bind fun v1 =>
  if v1 = a1 then
    (hp_gI m a0 6 18).bind fun v3 =>
    (hp_pI m a0 6 18 (v3 + (1 : Int32))).bind fun m4 =>
    some ((1 : Int32), m4)
  else
  (hp_gI m a0 6 18).bind fun v5 =>
  (hp_on m a0 6 (fX7_wrongAt m a0 (1 : Int32) v5)).bind fun (v6, m7) =>
  (hp_z v6).bind fun z8 =>
  some (z8, m7)

/-- MissedTrainsModel.readsNumber()Z -/
def fX7_readsNumber_L10 (b0 : Option Nat) (b1 : Int32) : Hp → Option (Hp ⊕ (Hp ⊕ (Int32 × Hp))) := fun m3 =>
  (hp_on m3 b0 6 (fX7_isDigit m3 b0)).bind fun v4 =>
  if v4 = 0 then
    some (.inr (.inl m3))
  else
  (hp_gI m3 b0 6 18).bind fun v6 =>
  if v6 = (b1 + (5 : Int32)) then
    (hp_gI m3 b0 6 18).bind fun v13 =>
    (hp_on m3 b0 6 (fX7_wrongAt m3 b0 (2 : Int32) v13)).bind fun (v14, m15) =>
    (hp_z v14).bind fun z16 =>
    some (.inr (.inr (z16, m15)))
  else
  (hp_gI m3 b0 6 21).bind fun v8 =>
  (hp_on m3 b0 6 (fX7_here m3 b0)).bind fun v9 =>
  (hp_pI m3 b0 6 21 ((((10 : Int32) * v8) + v9) - (48 : Int32))).bind fun m10 =>
  (hp_gI m10 b0 6 18).bind fun v11 =>
  (hp_pI m10 b0 6 18 (v11 + (1 : Int32))).bind fun m12 =>
  some (.inl m12)
def fX7_readsNumber (m : Hp) (a0 : Option Nat) : Option (Int32 × Hp) :=
  (hp_gI m a0 6 18).bind fun v1 =>
  (hp_pI m a0 6 21 (0 : Int32)).bind fun m2 =>
  (iter (fX7_readsNumber_L10 a0 v1) FUEL m2).bind fun r3 =>
  (
  match r3 with
  | .inl m17 =>
    some ((1 : Int32), m17)
  | .inr o => some o
  )

/-- MissedTrainsModel.notes(II)V -/
def fX7_notes (m : Hp) (a0 : Option Nat) (a1 : Int32) (a2 : Int32) : Option Hp :=
  (hp_gR m a0 6 27).bind fun v1 =>
  (hp_gI m a0 6 23).bind fun v2 =>
  (hp_sI m v1 0 v2 (((1048576 : Int32) * a1) + a2)).bind fun m3 =>
  (hp_gI m3 a0 6 23).bind fun v4 =>
  (hp_pI m3 a0 6 23 (v4 + (1 : Int32))).bind fun m5 =>
  some m5

/-- MissedTrainsModel.opens(I)Z -/
def fX7_opens (m : Hp) (a0 : Option Nat) (a1 : Int32) : Option (Int32 × Hp) :=
  (hp_gI m a0 6 22).bind fun v1 =>
  if v1 = (6 : Int32) then
    (hp_gI m a0 6 18).bind fun v12 =>
    (hp_on m a0 6 (fX7_wrongAt m a0 (5 : Int32) v12)).bind fun (v13, m14) =>
    (hp_z v13).bind fun z15 =>
    some (z15, m14)
  else
  (hp_gI m a0 6 22).bind fun v3 =>
  (hp_pI m a0 6 22 (v3 + (1 : Int32))).bind fun m4 =>
  (hp_gR m4 a0 6 28).bind fun v5 =>
  (hp_gI m4 a0 6 24).bind fun v6 =>
  (hp_sI m4 v5 0 v6 ((1048576 : Int32) * a1)).bind fun m7 =>
  (hp_gI m7 a0 6 24).bind fun v8 =>
  (hp_pI m7 a0 6 24 (v8 + (1 : Int32))).bind fun m9 =>
  (hp_gI m9 a0 6 18).bind fun v10 =>
  (hp_pI m9 a0 6 18 (v10 + (1 : Int32))).bind fun m11 =>
  some ((1 : Int32), m11)

/-- MissedTrainsModel.waitTop()I -/
def fX7_waitTop (m : Hp) (a0 : Option Nat) : Option Int32 :=
  (hp_gI m a0 6 24).bind fun v1 =>
  if v1 = 0 then
    some (-1 : Int32)
  else
  (hp_gR m a0 6 28).bind fun v3 =>
  (hp_gI m a0 6 24).bind fun v4 =>
  (hp_aI m v3 0 (v4 - (1 : Int32))).bind fun v5 =>
  some (v5 / (1048576 : Int32))

/-- MissedTrainsModel.factOf(I)I -/
def fX7_factOf (a0 : Int32) : Option Int32 :=
  if a0 = (102 : Int32) then
    some (6 : Int32)
  else
  if a0 = (107 : Int32) then
    some (2 : Int32)
  else
  if a0 = (108 : Int32) then
    some (3 : Int32)
  else
  if a0 = (110 : Int32) then
    some (4 : Int32)
  else
  if a0 = (112 : Int32) then
    some (5 : Int32)
  else
  if a0 = (114 : Int32) then
    some (0 : Int32)
  else
  if a0 = (115 : Int32) then
    some (1 : Int32)
  else
  if a0 = (117 : Int32) then
    some (8 : Int32)
  else
  if a0 = (121 : Int32) then
    some (7 : Int32)
  else
  some (-1 : Int32)

/-- MissedTrainsModel.sumSign(I)I -/
def fX7_sumSign (a0 : Int32) : Option Int32 :=
  if a0 = (43 : Int32) then
    some (2 : Int32)
  else
  if a0 = (45 : Int32) then
    some (3 : Int32)
  else
  if a0 = (42 : Int32) then
    some (4 : Int32)
  else
  if a0 = (47 : Int32) then
    some (5 : Int32)
  else
  if a0 = (37 : Int32) then
    some (6 : Int32)
  else
  some (-1 : Int32)

/-- MissedTrainsModel.closesSums(Z)V -/
def fX7_closesSums_L0 (b0 : Option Nat) (b1 : Int32) : Hp → Option (Hp ⊕ Hp) := fun m1 =>
  (hp_on m1 b0 6 (fX7_waitTop m1 b0)).bind fun v2 =>
  if v2 < (4 : Int32) then
    if b1 = 0 then
      some (.inr m1)
    else
    (hp_on m1 b0 6 (fX7_waitTop m1 b0)).bind fun v5 =>
    ((if v5 = (2 : Int32) then
      some (.inl ())
    else
    (hp_on m1 b0 6 (fX7_waitTop m1 b0)).bind fun v12 =>
    if v12 = (3 : Int32) then
      some (.inl ())
    else
    some (.inr (.inr m1)) : Option (Unit ⊕ (Hp ⊕ Hp)))).bind fun p6 =>
    (
    match p6 with
    | .inl _ =>
      (hp_on m1 b0 6 (fX7_waitTop m1 b0)).bind fun v7 =>
      (hp_on m1 b0 6 (fX7_notes m1 b0 v7 (0 : Int32))).bind fun m8 =>
      (hp_gI m8 b0 6 24).bind fun v9 =>
      (hp_pI m8 b0 6 24 (v9 - (1 : Int32))).bind fun m10 =>
      some (.inl m10)
    | .inr o => some o
    )
  else
  (hp_on m1 b0 6 (fX7_waitTop m1 b0)).bind fun v14 =>
  ((if v14 ≤ (6 : Int32) then
    some (.inl ())
  else
  if b1 = 0 then
    some (.inr (.inr m1))
  else
  (hp_on m1 b0 6 (fX7_waitTop m1 b0)).bind fun v22 =>
  if v22 = (2 : Int32) then
    some (.inl ())
  else
  (hp_on m1 b0 6 (fX7_waitTop m1 b0)).bind fun v24 =>
  if v24 = (3 : Int32) then
    some (.inl ())
  else
  some (.inr (.inr m1)) : Option (Unit ⊕ (Hp ⊕ Hp)))).bind fun p15 =>
  (
  match p15 with
  | .inl _ =>
    (hp_on m1 b0 6 (fX7_waitTop m1 b0)).bind fun v16 =>
    (hp_on m1 b0 6 (fX7_notes m1 b0 v16 (0 : Int32))).bind fun m17 =>
    (hp_gI m17 b0 6 24).bind fun v18 =>
    (hp_pI m17 b0 6 24 (v18 - (1 : Int32))).bind fun m19 =>
    some (.inl m19)
  | .inr o => some o
  )
def fX7_closesSums (m : Hp) (a0 : Option Nat) (a1 : Int32) : Option Hp :=
  (iter (fX7_closesSums_L0 a0 a1) FUEL m).bind fun r1 =>
  (
  match r1 with
  | m26 =>
    some m26
  )

/-- MissedTrainsModel.readsFactor()Z -/
def fX7_readsFactor_L0 (b0 : Option Nat) : Hp → Option (Hp ⊕ (Hp ⊕ (Int32 × Hp))) := fun m1 =>
  (hp_on m1 b0 6 (fX7_here m1 b0)).bind fun v2 =>
  if v2 = (91 : Int32) then
    (hp_on m1 b0 6 (fX7_opens m1 b0 (14 : Int32))).bind fun (v4, m5) =>
    if v4 = 0 then
      some (.inr (.inr ((0 : Int32), m5)))
    else
    some (.inl m5)
  else
  some (.inr (.inl m1))
def fX7_readsFactor (m : Hp) (a0 : Option Nat) : Option (Int32 × Hp) :=
  (iter (fX7_readsFactor_L0 a0) FUEL m).bind fun r1 =>
  (
  match r1 with
  | .inl m7 =>
    (hp_on m7 a0 6 (fX7_isDigit m7 a0)).bind fun v8 =>
    if v8 = 0 then
      (hp_on m7 a0 6 (fX7_here m7 a0)).bind fun v10 =>
      (fX7_factOf v10).bind fun v11 =>
      if v11 = (-1 : Int32) then
        (hp_gI m7 a0 6 18).bind fun v16 =>
        (hp_on m7 a0 6 (fX7_wrongAt m7 a0 (1 : Int32) v16)).bind fun (v17, m18) =>
        (hp_z v17).bind fun z19 =>
        some (z19, m18)
      else
      (hp_on m7 a0 6 (fX7_notes m7 a0 (1 : Int32) v11)).bind fun m13 =>
      (hp_gI m13 a0 6 18).bind fun v14 =>
      (hp_pI m13 a0 6 18 (v14 + (1 : Int32))).bind fun m15 =>
      some ((1 : Int32), m15)
    else
    (hp_on m7 a0 6 (fX7_readsNumber m7 a0)).bind fun (v20, m21) =>
    if v20 = 0 then
      some ((0 : Int32), m21)
    else
    (hp_gI m21 a0 6 21).bind fun v23 =>
    (hp_on m21 a0 6 (fX7_notes m21 a0 (0 : Int32) v23)).bind fun m24 =>
    some ((1 : Int32), m24)
  | .inr o => some o
  )

/-- MissedTrainsModel.hasOpenSum(I)Z -/
def fX7_hasOpenSum_L2 (bm : Hp) (b0 : Option Nat) : Int32 → Option (Int32 ⊕ (Unit ⊕ Int32)) := fun s2_1 =>
  (hp_gI bm b0 6 24).bind fun v2 =>
  if v2 ≤ s2_1 then
    some (.inr (.inl ()))
  else
  (hp_gR bm b0 6 28).bind fun v4 =>
  (hp_aI bm v4 0 s2_1).bind fun v5 =>
  if (v5 / (1048576 : Int32)) = (14 : Int32) then
    some (.inr (.inr (1 : Int32)))
  else
  some (.inl (s2_1 + (1 : Int32)))
def fX7_hasOpenSum (m : Hp) (a0 : Option Nat) (a1 : Int32) : Option Int32 :=
  (iter (fX7_hasOpenSum_L2 m a0) FUEL a1).bind fun r1 =>
  (
  match r1 with
  | .inl _ =>
    some (0 : Int32)
  | .inr o => some o
  )

/-- MissedTrainsModel.readsSum()Z -/
def fX7_readsSum_L14 (b0 : Option Nat) (b1 : Int32) : Hp → Option (Hp ⊕ (Int32 × Hp)) := fun m5 =>
  (hp_on m5 b0 6 (fX7_here m5 b0)).bind fun v6 =>
  (fX7_sumSign v6).bind fun v7 =>
  if v7 = (-1 : Int32) then
    (hp_on m5 b0 6 (fX7_here m5 b0)).bind fun v9 =>
    ((if v9 = (93 : Int32) then
      (hp_on m5 b0 6 (fX7_hasOpenSum m5 b0 b1)).bind fun v19 =>
      if v19 = 0 then
        some (.inl ())
      else
      (hp_on m5 b0 6 (fX7_closesSums m5 b0 (1 : Int32))).bind fun m21 =>
      (hp_gI m21 b0 6 24).bind fun v22 =>
      (hp_pI m21 b0 6 24 (v22 - (1 : Int32))).bind fun m23 =>
      (hp_gI m23 b0 6 22).bind fun v24 =>
      (hp_pI m23 b0 6 22 (v24 - (1 : Int32))).bind fun m25 =>
      (hp_gI m25 b0 6 18).bind fun v26 =>
      (hp_pI m25 b0 6 18 (v26 + (1 : Int32))).bind fun m27 =>
      some (.inr (.inl m27))
    else
    some (.inl ()) : Option (Unit ⊕ (Hp ⊕ (Int32 × Hp))))).bind fun p10 =>
    (
    match p10 with
    | .inl _ =>
      (hp_on m5 b0 6 (fX7_hasOpenSum m5 b0 b1)).bind fun v11 =>
      if v11 = 0 then
        (hp_on m5 b0 6 (fX7_closesSums m5 b0 (1 : Int32))).bind fun m13 =>
        some (.inr ((1 : Int32), m13))
      else
      (hp_gI m5 b0 6 18).bind fun v14 =>
      (hp_on m5 b0 6 (fX7_wrongAt m5 b0 (1 : Int32) v14)).bind fun (v15, m16) =>
      (hp_z v15).bind fun z17 =>
      some (.inr (z17, m16))
    | .inr o => some o
    )
  else
  ((if (4 : Int32) ≤ v7 then
    some (0 : Int32)
  else
  some (1 : Int32) : Option Int32)).bind fun v28 =>
  (hp_on m5 b0 6 (fX7_closesSums m5 b0 v28)).bind fun m30 =>
  (hp_gR m30 b0 6 28).bind fun v31 =>
  (hp_gI m30 b0 6 24).bind fun v32 =>
  (hp_sI m30 v31 0 v32 ((1048576 : Int32) * v7)).bind fun m33 =>
  (hp_gI m33 b0 6 24).bind fun v34 =>
  (hp_pI m33 b0 6 24 (v34 + (1 : Int32))).bind fun m35 =>
  (hp_gI m35 b0 6 18).bind fun v36 =>
  (hp_pI m35 b0 6 18 (v36 + (1 : Int32))).bind fun m37 =>
  (hp_on m37 b0 6 (fX7_readsFactor m37 b0)).bind fun (v38, m39) =>
  if v38 = 0 then
    some (.inr ((0 : Int32), m39))
  else
  some (.inl m39)
def fX7_readsSum (m : Hp) (a0 : Option Nat) : Option (Int32 × Hp) :=
  (hp_gI m a0 6 24).bind fun v1 =>
  (hp_on m a0 6 (fX7_readsFactor m a0)).bind fun (v2, m3) =>
  if v2 = 0 then
    some ((0 : Int32), m3)
  else
  (iter (fX7_readsSum_L14 a0 v1) FUEL m3).bind fun r5 =>
  (
  some r5
  )

/-- MissedTrainsModel.endsPiece()V -/
def fX7_endsPiece_L0 (b0 : Option Nat) : Hp → Option (Hp ⊕ Hp) := fun m1 =>
  (hp_on m1 b0 6 (fX7_waitTop m1 b0)).bind fun v2 =>
  if v2 = (10 : Int32) then
    (hp_on m1 b0 6 (fX7_notes m1 b0 (10 : Int32) (0 : Int32))).bind fun m4 =>
    (hp_gI m4 b0 6 24).bind fun v5 =>
    (hp_pI m4 b0 6 24 (v5 - (1 : Int32))).bind fun m6 =>
    (hp_gI m6 b0 6 22).bind fun v7 =>
    (hp_pI m6 b0 6 22 (v7 - (1 : Int32))).bind fun m8 =>
    some (.inl m8)
  else
  some (.inr m1)
def fX7_endsPiece (m : Hp) (a0 : Option Nat) : Option Hp :=
  (iter (fX7_endsPiece_L0 a0) FUEL m).bind fun r1 =>
  (
  match r1 with
  | m9 =>
    some m9
  )

/-- MissedTrainsModel.lands(Z)V -/
def fX7_lands_L0 (b0 : Option Nat) (b1 : Int32) : Hp → Option (Hp ⊕ Hp) := fun m1 =>
  (hp_on m1 b0 6 (fX7_waitTop m1 b0)).bind fun v2 =>
  ((if v2 = (11 : Int32) then
    some (.inl ())
  else
  if b1 = 0 then
    some (.inr (.inr m1))
  else
  (hp_on m1 b0 6 (fX7_waitTop m1 b0)).bind fun v16 =>
  if v16 = (12 : Int32) then
    some (.inl ())
  else
  some (.inr (.inr m1)) : Option (Unit ⊕ (Hp ⊕ Hp)))).bind fun p3 =>
  (
  match p3 with
  | .inl _ =>
    (hp_gR m1 b0 6 28).bind fun v4 =>
    (hp_gI m1 b0 6 24).bind fun v5 =>
    (hp_aI m1 v4 0 (v5 - (1 : Int32))).bind fun v6 =>
    (hp_gR m1 b0 6 27).bind fun v7 =>
    (hp_gR m1 b0 6 27).bind fun v8 =>
    (hp_aI m1 v8 0 (jrem v6 (1048576 : Int32))).bind fun v9 =>
    (hp_gI m1 b0 6 23).bind fun v10 =>
    (hp_sI m1 v7 0 (jrem v6 (1048576 : Int32)) (((1048576 : Int32) * (v9 / (1048576 : Int32))) + v10)).bind fun m11 =>
    (hp_gI m11 b0 6 24).bind fun v12 =>
    (hp_pI m11 b0 6 24 (v12 - (1 : Int32))).bind fun m13 =>
    some (.inl m13)
  | .inr o => some o
  )
def fX7_lands (m : Hp) (a0 : Option Nat) (a1 : Int32) : Option Hp :=
  (iter (fX7_lands_L0 a0 a1) FUEL m).bind fun r1 =>
  (
  match r1 with
  | m18 =>
    some m18
  )

/-- MissedTrainsModel.jumps(I)V -/
def fX7_jumps (m : Hp) (a0 : Option Nat) (a1 : Int32) : Option Hp :=
  (hp_gR m a0 6 28).bind fun v1 =>
  (hp_gI m a0 6 24).bind fun v2 =>
  (hp_gI m a0 6 23).bind fun v3 =>
  (hp_sI m v1 0 v2 (((1048576 : Int32) * a1) + v3)).bind fun m4 =>
  (hp_gI m4 a0 6 24).bind fun v5 =>
  (hp_pI m4 a0 6 24 (v5 + (1 : Int32))).bind fun m6 =>
  (hp_on m6 a0 6 (fX7_notes m6 a0 a1 (0 : Int32))).bind fun m7 =>
  (hp_gI m7 a0 6 18).bind fun v8 =>
  (hp_pI m7 a0 6 18 (v8 + (1 : Int32))).bind fun m9 =>
  some m9

/-- MissedTrainsModel.readsCompared()Z -/
def fX7_readsCompared (m : Hp) (a0 : Option Nat) : Option (Int32 × Hp) :=
  (hp_on m a0 6 (fX7_readsSum m a0)).bind fun (v1, m2) =>
  if v1 = 0 then
    some ((0 : Int32), m2)
  else
  (hp_on m2 a0 6 (fX7_here m2 a0)).bind fun v4 =>
  ((if v4 = (60 : Int32) then
    some (7 : Int32)
  else
  (hp_on m2 a0 6 (fX7_here m2 a0)).bind fun v20 =>
  if v20 = (62 : Int32) then
    some (8 : Int32)
  else
  (hp_on m2 a0 6 (fX7_here m2 a0)).bind fun v22 =>
  if v22 = (61 : Int32) then
    some (9 : Int32)
  else
  some (-1 : Int32) : Option Int32)).bind fun v5 =>
  if v5 = (-1 : Int32) then
    (hp_gI m2 a0 6 18).bind fun v15 =>
    (hp_on m2 a0 6 (fX7_wrongAt m2 a0 (1 : Int32) v15)).bind fun (v16, m17) =>
    (hp_z v16).bind fun z18 =>
    some (z18, m17)
  else
  (hp_gI m2 a0 6 18).bind fun v8 =>
  (hp_pI m2 a0 6 18 (v8 + (1 : Int32))).bind fun m9 =>
  (hp_on m9 a0 6 (fX7_readsSum m9 a0)).bind fun (v10, m11) =>
  if v10 = 0 then
    some ((0 : Int32), m11)
  else
  (hp_on m11 a0 6 (fX7_notes m11 a0 v5 (0 : Int32))).bind fun m13 =>
  (hp_on m13 a0 6 (fX7_endsPiece m13 a0)).bind fun m14 =>
  some ((1 : Int32), m14)

/-- MissedTrainsModel.readsCondition()Z -/
def fX7_readsCondition_L92 (b0 : Option Nat) : Hp → Option (Hp ⊕ (Hp ⊕ (Unit ⊕ (Hp ⊕ (Int32 × Hp))))) := fun m25 =>
  (hp_on m25 b0 6 (fX7_here m25 b0)).bind fun v26 =>
  if v26 = (41 : Int32) then
    (hp_on m25 b0 6 (fX7_lands m25 b0 (1 : Int32))).bind fun m28 =>
    (hp_gI m28 b0 6 24).bind fun v29 =>
    (hp_pI m28 b0 6 24 (v29 - (1 : Int32))).bind fun m30 =>
    (hp_gI m30 b0 6 22).bind fun v31 =>
    (hp_pI m30 b0 6 22 (v31 - (1 : Int32))).bind fun m32 =>
    (hp_gI m32 b0 6 18).bind fun v33 =>
    (hp_pI m32 b0 6 18 (v33 + (1 : Int32))).bind fun m34 =>
    (hp_gI m34 b0 6 24).bind fun v35 =>
    if v35 = 0 then
      some (.inr (.inr (.inr (.inr ((1 : Int32), m34)))))
    else
    (hp_on m34 b0 6 (fX7_endsPiece m34 b0)).bind fun m37 =>
    some (.inl m37)
  else
  some (.inr (.inl m25))
def fX7_readsCondition_L40 (b0 : Option Nat) : Hp → Option (Hp ⊕ (Int32 × Hp)) := fun m8 =>
  (hp_on m8 b0 6 (fX7_here m8 b0)).bind fun v9 =>
  ((if v9 = (33 : Int32) then
    some (.inl ())
  else
  (hp_on m8 b0 6 (fX7_here m8 b0)).bind fun v20 =>
  if v20 = (40 : Int32) then
    some (.inl ())
  else
  (hp_on m8 b0 6 (fX7_readsCompared m8 b0)).bind fun (v22, m23) =>
  if v22 = 0 then
    some (.inr (.inr ((0 : Int32), m23)))
  else
  (iter (fX7_readsCondition_L92 b0) FUEL m23).bind fun r25 =>
  (
  match r25 with
  | .inl m38 =>
    (hp_on m38 b0 6 (fX7_here m38 b0)).bind fun v39 =>
    ((if v39 = (38 : Int32) then
      some (.inl ())
    else
    (hp_on m38 b0 6 (fX7_here m38 b0)).bind fun v51 =>
    if v51 = (124 : Int32) then
      some (.inl ())
    else
    (hp_gI m38 b0 6 18).bind fun v53 =>
    (hp_on m38 b0 6 (fX7_wrongAt m38 b0 (1 : Int32) v53)).bind fun (v54, m55) =>
    (hp_z v54).bind fun z56 =>
    some (.inr (.inr (.inr (z56, m55)))) : Option (Unit ⊕ (Unit ⊕ (Hp ⊕ (Int32 × Hp)))))).bind fun p40 =>
    (
    match p40 with
    | .inl _ =>
      (hp_on m38 b0 6 (fX7_here m38 b0)).bind fun v41 =>
      ((if v41 = (124 : Int32) then
        some (1 : Int32)
      else
      some (0 : Int32) : Option Int32)).bind fun v42 =>
      (hp_on m38 b0 6 (fX7_lands m38 b0 v42)).bind fun m44 =>
      (hp_on m44 b0 6 (fX7_here m44 b0)).bind fun v45 =>
      if v45 = (38 : Int32) then
        (hp_on m44 b0 6 (fX7_jumps m44 b0 (11 : Int32))).bind fun m48 =>
        some (.inr (.inl m48))
      else
      (hp_on m44 b0 6 (fX7_jumps m44 b0 (12 : Int32))).bind fun m47 =>
      some (.inr (.inl m47))
    | .inr o => some o
    )
  | .inr o => some o
  ) : Option (Unit ⊕ (Hp ⊕ (Int32 × Hp))))).bind fun p10 =>
  (
  match p10 with
  | .inl _ =>
    (hp_on m8 b0 6 (fX7_here m8 b0)).bind fun v11 =>
    if v11 = (33 : Int32) then
      (hp_on m8 b0 6 (fX7_opens m8 b0 (10 : Int32))).bind fun (v16, m17) =>
      if v16 = 0 then
        some (.inr ((0 : Int32), m17))
      else
      some (.inl m17)
    else
    (hp_on m8 b0 6 (fX7_opens m8 b0 (13 : Int32))).bind fun (v13, m14) =>
    if v13 = 0 then
      some (.inr ((0 : Int32), m14))
    else
    some (.inl m14)
  | .inr o => some o
  )
def fX7_readsCondition (m : Hp) (a0 : Option Nat) : Option (Int32 × Hp) :=
  (hp_on m a0 6 (fX7_here m a0)).bind fun v1 =>
  if v1 = (40 : Int32) then
    (hp_pI m a0 6 22 (0 : Int32)).bind fun m3 =>
    (hp_pI m3 a0 6 24 (0 : Int32)).bind fun m4 =>
    (hp_on m4 a0 6 (fX7_opens m4 a0 (13 : Int32))).bind fun (v5, m6) =>
    if v5 = 0 then
      some ((0 : Int32), m6)
    else
    (iter (fX7_readsCondition_L40 a0) FUEL m6).bind fun r8 =>
    (
    some r8
    )
  else
  (hp_gI m a0 6 18).bind fun v58 =>
  (hp_on m a0 6 (fX7_wrongAt m a0 (1 : Int32) v58)).bind fun (v59, m60) =>
  (hp_z v59).bind fun z61 =>
  some (z61, m60)

/-- MissedTrainsModel.readsRule()Z -/
def fX7_readsRule (m : Hp) (a0 : Option Nat) : Option (Int32 × Hp) :=
  (hp_on m a0 6 (fX7_here m a0)).bind fun v1 =>
  ((if v1 = (100 : Int32) then
    some (.inl ())
  else
  if v1 = (99 : Int32) then
    some (.inl ())
  else
  if v1 = (109 : Int32) then
    some (.inl ())
  else
  (hp_gI m a0 6 18).bind fun v42 =>
  (hp_on m a0 6 (fX7_wrongAt m a0 (1 : Int32) v42)).bind fun (v43, m44) =>
  (hp_z v43).bind fun z45 =>
  some (.inr (z45, m44)) : Option (Unit ⊕ (Int32 × Hp)))).bind fun p2 =>
  (
  match p2 with
  | .inl _ =>
    (hp_gI m a0 6 25).bind fun v3 =>
    if v3 = (16 : Int32) then
      (hp_gI m a0 6 18).bind fun v35 =>
      (hp_on m a0 6 (fX7_wrongAt m a0 (4 : Int32) v35)).bind fun (v36, m37) =>
      (hp_z v36).bind fun z38 =>
      some (z38, m37)
    else
    (hp_gR m a0 6 29).bind fun v5 =>
    (hp_gI m a0 6 25).bind fun v6 =>
    (hp_sI m v5 0 v6 v1).bind fun m7 =>
    (hp_gI m7 a0 6 18).bind fun v8 =>
    (hp_pI m7 a0 6 18 (v8 + (1 : Int32))).bind fun m9 =>
    (hp_gR m9 a0 6 30).bind fun v10 =>
    (hp_gI m9 a0 6 25).bind fun v11 =>
    (hp_gI m9 a0 6 23).bind fun v12 =>
    (hp_sI m9 v10 0 v11 v12).bind fun m13 =>
    (hp_pI m13 a0 6 22 (0 : Int32)).bind fun m14 =>
    (hp_pI m14 a0 6 24 (0 : Int32)).bind fun m15 =>
    ((if v1 = (109 : Int32) then
      some (.inl m15)
    else
    (hp_on m15 a0 6 (fX7_readsSum m15 a0)).bind fun (v32, m33) =>
    if v32 = 0 then
      some (.inr ((0 : Int32), m33))
    else
    some (.inl m33) : Option (Hp ⊕ (Int32 × Hp)))).bind fun p17 =>
    (
    match p17 with
    | .inl m16 =>
      (hp_gR m16 a0 6 31).bind fun v18 =>
      (hp_gI m16 a0 6 25).bind fun v19 =>
      (hp_gI m16 a0 6 23).bind fun v20 =>
      (hp_sI m16 v18 0 v19 v20).bind fun m21 =>
      (hp_on m21 a0 6 (fX7_readsCondition m21 a0)).bind fun (v22, m23) =>
      if v22 = 0 then
        some ((0 : Int32), m23)
      else
      (hp_gR m23 a0 6 32).bind fun v25 =>
      (hp_gI m23 a0 6 25).bind fun v26 =>
      (hp_gI m23 a0 6 23).bind fun v27 =>
      (hp_sI m23 v25 0 v26 v27).bind fun m28 =>
      (hp_gI m28 a0 6 25).bind fun v29 =>
      (hp_pI m28 a0 6 25 (v29 + (1 : Int32))).bind fun m30 =>
      some ((1 : Int32), m30)
    | .inr o => some o
    )
  | .inr o => some o
  )

/-- MissedTrainsModel.beginsText(I)V -/
def fX7_beginsText (m : Hp) (a0 : Option Nat) (a1 : Int32) : Option Hp :=
  (hp_pI m a0 6 18 (0 : Int32)).bind fun m1 =>
  (hp_pI m1 a0 6 19 a1).bind fun m2 =>
  (hp_pI m2 a0 6 23 (0 : Int32)).bind fun m3 =>
  (hp_pI m3 a0 6 25 (0 : Int32)).bind fun m4 =>
  some m4

/-- MissedTrainsModel.law(I)I -/
def fX7_law_L31 (b0 : Option Nat) : (Int32 × Hp) → Option ((Int32 × Hp) ⊕ (Int32 × Hp)) := fun (s2_8, m8) =>
  if s2_8 = 0 then
    some (.inr (s2_8, m8))
  else
  (hp_gI m8 b0 6 18).bind fun v10 =>
  (hp_gI m8 b0 6 19).bind fun v11 =>
  if v11 ≤ v10 then
    some (.inr (s2_8, m8))
  else
  (hp_on m8 b0 6 (fX7_takes m8 b0 (59 : Int32))).bind fun (v13, m14) =>
  if v13 = 0 then
    some (.inl ((0 : Int32), m14))
  else
  (hp_on m14 b0 6 (fX7_readsRule m14 b0)).bind fun (v16, m17) =>
  if v16 = 0 then
    some (.inl ((0 : Int32), m17))
  else
  some (.inl ((1 : Int32), m17))
def fX7_law_L95 (b0 : Option Nat) : (Int32 × Hp) → Option ((Int32 × Hp) ⊕ Hp) := fun (s3_25, m25) =>
  (hp_gI m25 b0 6 23).bind fun v26 =>
  if v26 ≤ s3_25 then
    some (.inr m25)
  else
  (hp_gR m25 b0 6 33).bind fun v28 =>
  (hp_gR m25 b0 6 27).bind fun v29 =>
  (hp_aI m25 v29 0 s3_25).bind fun v30 =>
  (hp_sI m25 v28 0 s3_25 v30).bind fun m31 =>
  some (.inl ((s3_25 + (1 : Int32)), m31))
def fX7_law_L123 (b0 : Option Nat) : (Int32 × Hp) → Option ((Int32 × Hp) ⊕ Hp) := fun (s3_33, m33) =>
  (hp_gI m33 b0 6 25).bind fun v34 =>
  if v34 ≤ s3_33 then
    some (.inr m33)
  else
  (hp_gR m33 b0 6 34).bind fun v36 =>
  (hp_gR m33 b0 6 29).bind fun v37 =>
  (hp_aI m33 v37 0 s3_33).bind fun v38 =>
  (hp_sI m33 v36 0 s3_33 v38).bind fun m39 =>
  (hp_gR m39 b0 6 35).bind fun v40 =>
  (hp_gR m39 b0 6 30).bind fun v41 =>
  (hp_aI m39 v41 0 s3_33).bind fun v42 =>
  (hp_sI m39 v40 0 s3_33 v42).bind fun m43 =>
  (hp_gR m43 b0 6 36).bind fun v44 =>
  (hp_gR m43 b0 6 31).bind fun v45 =>
  (hp_aI m43 v45 0 s3_33).bind fun v46 =>
  (hp_sI m43 v44 0 s3_33 v46).bind fun m47 =>
  (hp_gR m47 b0 6 37).bind fun v48 =>
  (hp_gR m47 b0 6 32).bind fun v49 =>
  (hp_aI m47 v49 0 s3_33).bind fun v50 =>
  (hp_sI m47 v48 0 s3_33 v50).bind fun m51 =>
  some (.inl ((s3_33 + (1 : Int32)), m51))
def fX7_law (m : Hp) (a0 : Option Nat) (a1 : Int32) : Option (Int32 × Hp) :=
  (fX7_in a1 (1 : Int32) (240 : Int32)).bind fun v1 =>
  if v1 = 0 then
    some ((-1 : Int32), m)
  else
  (hp_gI m a0 6 17).bind fun v3 =>
  if a1 ≤ v3 then
    (hp_on m a0 6 (fX7_beginsText m a0 a1)).bind fun m5 =>
    (hp_on m5 a0 6 (fX7_readsRule m5 a0)).bind fun (v6, m7) =>
    (iter (fX7_law_L31 a0) FUEL (v6, m7)).bind fun r8 =>
    (
    match r8 with
    | (v19, m20) =>
      (hp_pI m20 a0 6 17 (0 : Int32)).bind fun m21 =>
      if v19 = 0 then
        (hp_gI m21 a0 6 20).bind fun v54 =>
        some (v54, m21)
      else
      (hp_gI m21 a0 6 25).bind fun v23 =>
      (hp_pI m21 a0 6 26 v23).bind fun m24 =>
      (iter (fX7_law_L95 a0) FUEL ((0 : Int32), m24)).bind fun r25 =>
      (
      match r25 with
      | m32 =>
        (iter (fX7_law_L123 a0) FUEL ((0 : Int32), m32)).bind fun r33 =>
        (
        match r33 with
        | m52 =>
          (hp_gI m52 a0 6 25).bind fun v53 =>
          some (v53, m52)
        )
      )
    )
  else
  some ((-1 : Int32), m)

/-- MissedTrainsModel.reckon(III)I -/
def fX7_reckon (a0 : Int32) (a1 : Int32) (a2 : Int32) : Option Int32 :=
  if a0 = (2 : Int32) then
    some (a1 + a2)
  else
  if a0 = (3 : Int32) then
    some (a1 - a2)
  else
  if a0 = (4 : Int32) then
    some (a1 * a2)
  else
  if a0 = (5 : Int32) then
    if a2 = 0 then none else
    some (a1 / a2)
  else
  if a0 = (6 : Int32) then
    if a2 = 0 then none else
    some (jrem a1 a2)
  else
  if a0 = (7 : Int32) then
    if a2 ≤ a1 then
      some (0 : Int32)
    else
    some (1 : Int32)
  else
  if a0 = (8 : Int32) then
    if a1 ≤ a2 then
      some (0 : Int32)
    else
    some (1 : Int32)
  else
  if a1 = a2 then
    some (1 : Int32)
  else
  some (0 : Int32)

/-- MissedTrainsModel.reckonsTo(II)I -/
def fX7_reckonsTo_L16 (b0 : Option Nat) (b2 : Int32) (b4 : Int32) : (Int32 × Int32 × Hp) → Option ((Int32 × Int32 × Hp) ⊕ (Hp ⊕ (Int32 × Hp))) := fun (s3_1, s5_1, m1) =>
  if b2 ≤ s5_1 then
    some (.inr (.inl m1))
  else
  (hp_gR m1 b0 6 33).bind fun v3 =>
  (hp_aI m1 v3 0 s5_1).bind fun v4 =>
  (hp_gR m1 b0 6 33).bind fun v5 =>
  (hp_aI m1 v5 0 s5_1).bind fun v6 =>
  ((if (v4 / (1048576 : Int32)) = 0 then
    some (.inl ())
  else
  if (v4 / (1048576 : Int32)) = (1 : Int32) then
    some (.inl ())
  else
  if (v4 / (1048576 : Int32)) = (10 : Int32) then
    (hp_gR m1 b0 6 38).bind fun v49 =>
    (hp_gR m1 b0 6 38).bind fun v50 =>
    (hp_aI m1 v50 0 (s3_1 - (1 : Int32))).bind fun v51 =>
    (hp_sI m1 v49 0 (s3_1 - (1 : Int32)) ((1 : Int32) - v51)).bind fun m52 =>
    some (.inr (.inl (s3_1, (s5_1 + (1 : Int32)), m52)))
  else
  ((if (v4 / (1048576 : Int32)) = (11 : Int32) then
    some (.inl ())
  else
  if (v4 / (1048576 : Int32)) = (12 : Int32) then
    some (.inl ())
  else
  if (v4 / (1048576 : Int32)) = (5 : Int32) then
    (hp_gR m1 b0 6 38).bind fun v27 =>
    (hp_aI m1 v27 0 (s3_1 - (1 : Int32))).bind fun v28 =>
    if v28 = 0 then
      some (.inr (.inr (.inr (.inr ((0 : Int32), m1)))))
    else
    (hp_gR m1 b0 6 38).bind fun v30 =>
    (hp_gR m1 b0 6 38).bind fun v31 =>
    (hp_aI m1 v31 0 ((s3_1 - (1 : Int32)) - (1 : Int32))).bind fun v32 =>
    (hp_gR m1 b0 6 38).bind fun v33 =>
    (hp_aI m1 v33 0 (s3_1 - (1 : Int32))).bind fun v34 =>
    (fX7_reckon (v4 / (1048576 : Int32)) v32 v34).bind fun v35 =>
    (hp_sI m1 v30 0 ((s3_1 - (1 : Int32)) - (1 : Int32)) v35).bind fun m36 =>
    some (.inr (.inr (.inl ((s3_1 - (1 : Int32)), (s5_1 + (1 : Int32)), m36))))
  else
  ((if (v4 / (1048576 : Int32)) = (6 : Int32) then
    (hp_gR m1 b0 6 38).bind fun v46 =>
    (hp_aI m1 v46 0 (s3_1 - (1 : Int32))).bind fun v47 =>
    if v47 = 0 then
      some (.inr (.inr (.inr (.inr (.inr ((0 : Int32), m1))))))
    else
    some (.inl ())
  else
  some (.inl ()) : Option (Unit ⊕ (Unit ⊕ (Unit ⊕ ((Int32 × Int32 × Hp) ⊕ (Hp ⊕ (Int32 × Hp)))))))).bind fun p37 =>
  (
  match p37 with
  | .inl _ =>
    (hp_gR m1 b0 6 38).bind fun v38 =>
    (hp_gR m1 b0 6 38).bind fun v39 =>
    (hp_aI m1 v39 0 ((s3_1 - (1 : Int32)) - (1 : Int32))).bind fun v40 =>
    (hp_gR m1 b0 6 38).bind fun v41 =>
    (hp_aI m1 v41 0 (s3_1 - (1 : Int32))).bind fun v42 =>
    (fX7_reckon (v4 / (1048576 : Int32)) v40 v42).bind fun v43 =>
    (hp_sI m1 v38 0 ((s3_1 - (1 : Int32)) - (1 : Int32)) v43).bind fun m44 =>
    some (.inr (.inr (.inl ((s3_1 - (1 : Int32)), (s5_1 + (1 : Int32)), m44))))
  | .inr o => some o
  ) : Option (Unit ⊕ (Unit ⊕ ((Int32 × Int32 × Hp) ⊕ (Hp ⊕ (Int32 × Hp))))))).bind fun p17 =>
  (
  match p17 with
  | .inl _ =>
    (hp_gR m1 b0 6 38).bind fun v18 =>
    (hp_aI m1 v18 0 (s3_1 - (1 : Int32))).bind fun v19 =>
    ((if (v4 / (1048576 : Int32)) = (12 : Int32) then
      some (1 : Int32)
    else
    some (0 : Int32) : Option Int32)).bind fun v20 =>
    if v19 = v20 then
      some (.inr (.inl (s3_1, (b4 + (jrem v6 (1048576 : Int32))), m1)))
    else
    some (.inr (.inl ((s3_1 - (1 : Int32)), (s5_1 + (1 : Int32)), m1)))
  | .inr o => some o
  ) : Option (Unit ⊕ ((Int32 × Int32 × Hp) ⊕ (Hp ⊕ (Int32 × Hp)))))).bind fun p7 =>
  (
  match p7 with
  | .inl _ =>
    (hp_gR m1 b0 6 38).bind fun v8 =>
    if (v4 / (1048576 : Int32)) = 0 then
      (hp_sI m1 v8 0 s3_1 (jrem v6 (1048576 : Int32))).bind fun m13 =>
      some (.inl ((s3_1 + (1 : Int32)), (s5_1 + (1 : Int32)), m13))
    else
    (hp_gR m1 b0 6 39).bind fun v10 =>
    (hp_aI m1 v10 0 (jrem v6 (1048576 : Int32))).bind fun v11 =>
    (hp_sI m1 v8 0 s3_1 v11).bind fun m12 =>
    some (.inl ((s3_1 + (1 : Int32)), (s5_1 + (1 : Int32)), m12))
  | .inr o => some o
  )
def fX7_reckonsTo (m : Hp) (a0 : Option Nat) (a1 : Int32) (a2 : Int32) : Option (Int32 × Hp) :=
  (iter (fX7_reckonsTo_L16 a0 a2 ((260 : Int32) * (a1 / (260 : Int32)))) FUEL ((0 : Int32), a1, m)).bind fun r1 =>
  (
  match r1 with
  | .inl m53 =>
    (hp_gR m53 a0 6 38).bind fun v54 =>
    (hp_aI m53 v54 0 (0 : Int32)).bind fun v55 =>
    some (v55, m53)
  | .inr o => some o
  )

/-- MissedTrainsModel.byLaw(II)I -/
def fX7_byLaw_L2 (b0 : Option Nat) (b1 : Int32) (b2 : Int32) : (Int32 × Hp) → Option ((Int32 × Hp) ⊕ (Hp ⊕ (Int32 × Hp))) := fun (s3_1, m1) =>
  (hp_gI m1 b0 6 26).bind fun v2 =>
  if v2 ≤ s3_1 then
    some (.inr (.inl m1))
  else
  (hp_gR m1 b0 6 34).bind fun v4 =>
  (hp_aI m1 v4 0 s3_1).bind fun v5 =>
  if v5 = b1 then
    (hp_gR m1 b0 6 36).bind fun v7 =>
    (hp_aI m1 v7 0 s3_1).bind fun v8 =>
    (hp_gR m1 b0 6 37).bind fun v9 =>
    (hp_aI m1 v9 0 s3_1).bind fun v10 =>
    (hp_on m1 b0 6 (fX7_reckonsTo m1 b0 v8 v10)).bind fun (v11, m12) =>
    if v11 = (1 : Int32) then
      (hp_gR m12 b0 6 35).bind fun v14 =>
      (hp_aI m12 v14 0 s3_1).bind fun v15 =>
      (hp_gR m12 b0 6 36).bind fun v16 =>
      (hp_aI m12 v16 0 s3_1).bind fun v17 =>
      (hp_on m12 b0 6 (fX7_reckonsTo m12 b0 v15 v17)).bind fun (v18, m19) =>
      if 0 ≤ v18 then
        if v18 ≤ b2 then
          some (.inr (.inr (v18, m19)))
        else
        some (.inr (.inr (b2, m19)))
      else
      some (.inr (.inr ((0 : Int32), m19)))
    else
    some (.inl ((s3_1 + (1 : Int32)), m12))
  else
  some (.inl ((s3_1 + (1 : Int32)), m1))
def fX7_byLaw (m : Hp) (a0 : Option Nat) (a1 : Int32) (a2 : Int32) : Option (Int32 × Hp) :=
  (iter (fX7_byLaw_L2 a0 a1 a2) FUEL ((0 : Int32), m)).bind fun r1 =>
  (
  match r1 with
  | .inl m22 =>
    some ((0 : Int32), m22)
  | .inr o => some o
  )

/-- MissedTrainsModel.holdsAny(I)Z -/
def fX7_holdsAny_L2 (b0 : Option Nat) (b1 : Int32) : (Int32 × Hp) → Option ((Int32 × Hp) ⊕ (Hp ⊕ (Int32 × Hp))) := fun (s2_1, m1) =>
  (hp_gI m1 b0 6 26).bind fun v2 =>
  if v2 ≤ s2_1 then
    some (.inr (.inl m1))
  else
  (hp_gR m1 b0 6 34).bind fun v4 =>
  (hp_aI m1 v4 0 s2_1).bind fun v5 =>
  if v5 = b1 then
    (hp_gR m1 b0 6 36).bind fun v7 =>
    (hp_aI m1 v7 0 s2_1).bind fun v8 =>
    (hp_gR m1 b0 6 37).bind fun v9 =>
    (hp_aI m1 v9 0 s2_1).bind fun v10 =>
    (hp_on m1 b0 6 (fX7_reckonsTo m1 b0 v8 v10)).bind fun (v11, m12) =>
    if v11 = (1 : Int32) then
      some (.inr (.inr ((1 : Int32), m12)))
    else
    some (.inl ((s2_1 + (1 : Int32)), m12))
  else
  some (.inl ((s2_1 + (1 : Int32)), m1))
def fX7_holdsAny (m : Hp) (a0 : Option Nat) (a1 : Int32) : Option (Int32 × Hp) :=
  (iter (fX7_holdsAny_L2 a0 a1) FUEL ((0 : Int32), m)).bind fun r1 =>
  (
  match r1 with
  | .inl m14 =>
    some ((0 : Int32), m14)
  | .inr o => some o
  )

/-- MissedTrainsModel.isLetter()Z -/
def fX7_isLetter (m : Hp) (a0 : Option Nat) : Option Int32 :=
  (hp_on m a0 6 (fX7_here m a0)).bind fun v1 =>
  (fX7_in (v1 - (97 : Int32)) (0 : Int32) (9 : Int32)).bind fun v2 =>
  (hp_z v2).bind fun z3 =>
  some z3

/-- MissedTrainsModel.readsWithin(III)Z -/
def fX7_readsWithin_L28 (b0 : Option Nat) (b1 : Int32) (b2 : Int32) (b3 : Int32) (b4 : Int32) : Hp → Option (Hp ⊕ (Hp ⊕ (Int32 × Hp))) := fun m5 =>
  (hp_on m5 b0 6 (fX7_isDigit m5 b0)).bind fun v6 =>
  if v6 = 0 then
    some (.inr (.inl m5))
  else
  (hp_gI m5 b0 6 18).bind fun v8 =>
  if v8 = (b4 + b1) then
    (hp_gI m5 b0 6 18).bind fun v15 =>
    (hp_on m5 b0 6 (fX7_wrongAt m5 b0 (2 : Int32) v15)).bind fun (v16, m17) =>
    (hp_z v16).bind fun z18 =>
    some (.inr (.inr (z18, m17)))
  else
  (hp_gI m5 b0 6 21).bind fun v10 =>
  (hp_on m5 b0 6 (fX7_here m5 b0)).bind fun v11 =>
  (hp_pI m5 b0 6 21 ((((10 : Int32) * v10) + v11) - (48 : Int32))).bind fun m12 =>
  (hp_gI m12 b0 6 18).bind fun v13 =>
  (hp_pI m12 b0 6 18 (v13 + (1 : Int32))).bind fun m14 =>
  some (.inl m14)
def fX7_readsWithin (m : Hp) (a0 : Option Nat) (a1 : Int32) (a2 : Int32) (a3 : Int32) : Option (Int32 × Hp) :=
  (hp_gI m a0 6 18).bind fun v1 =>
  (hp_on m a0 6 (fX7_isDigit m a0)).bind fun v2 =>
  if v2 = 0 then
    (hp_gI m a0 6 18).bind fun v26 =>
    (hp_on m a0 6 (fX7_wrongAt m a0 (1 : Int32) v26)).bind fun (v27, m28) =>
    (hp_z v27).bind fun z29 =>
    some (z29, m28)
  else
  (hp_pI m a0 6 21 (0 : Int32)).bind fun m4 =>
  (iter (fX7_readsWithin_L28 a0 a1 a2 a3 v1) FUEL m4).bind fun r5 =>
  (
  match r5 with
  | .inl m19 =>
    (hp_gI m19 a0 6 21).bind fun v20 =>
    (fX7_in v20 a2 a3).bind fun v21 =>
    if v21 = 0 then
      (hp_on m19 a0 6 (fX7_wrongAt m19 a0 (3 : Int32) v1)).bind fun (v23, m24) =>
      if v23 = 0 then
        some ((0 : Int32), m24)
      else
      some ((1 : Int32), m24)
    else
    some ((1 : Int32), m19)
  | .inr o => some o
  )

/-- MissedTrainsModel.readsStop(I)Z -/
def fX7_readsStop_L27 (b0 : Option Nat) (b1 : Int32) (b2 : Int32) : (Int32 × Hp) → Option ((Int32 × Hp) ⊕ (Hp ⊕ (Int32 × Hp))) := fun (s3_4, m4) =>
  if b1 ≤ s3_4 then
    some (.inr (.inl m4))
  else
  (hp_gR m4 b0 6 45).bind fun v6 =>
  (hp_aI m4 v6 0 s3_4).bind fun v7 =>
  if v7 = b2 then
    (hp_gI m4 b0 6 18).bind fun v9 =>
    (hp_on m4 b0 6 (fX7_wrongAt m4 b0 (6 : Int32) v9)).bind fun (v10, m11) =>
    (hp_z v10).bind fun z12 =>
    some (.inr (.inr (z12, m11)))
  else
  some (.inl ((s3_4 + (1 : Int32)), m4))
def fX7_readsStop (m : Hp) (a0 : Option Nat) (a1 : Int32) : Option (Int32 × Hp) :=
  (hp_on m a0 6 (fX7_isLetter m a0)).bind fun v1 =>
  if v1 = 0 then
    (hp_gI m a0 6 18).bind fun v34 =>
    (hp_on m a0 6 (fX7_wrongAt m a0 (1 : Int32) v34)).bind fun (v35, m36) =>
    (hp_z v35).bind fun z37 =>
    some (z37, m36)
  else
  (hp_on m a0 6 (fX7_here m a0)).bind fun v3 =>
  (iter (fX7_readsStop_L27 a0 a1 (v3 - (97 : Int32))) FUEL ((0 : Int32), m)).bind fun r4 =>
  (
  match r4 with
  | .inl m13 =>
    if a1 = (8 : Int32) then
      (hp_gI m13 a0 6 18).bind fun v30 =>
      (hp_on m13 a0 6 (fX7_wrongAt m13 a0 (5 : Int32) v30)).bind fun (v31, m32) =>
      (hp_z v31).bind fun z33 =>
      some (z33, m32)
    else
    (hp_gI m13 a0 6 18).bind fun v15 =>
    (hp_pI m13 a0 6 18 (v15 + (1 : Int32))).bind fun m16 =>
    ((if a1 = 0 then
      some (0 : Int32)
    else
    (hp_gR m16 a0 6 46).bind fun v28 =>
    (hp_aI m16 v28 0 (a1 - (1 : Int32))).bind fun v29 =>
    some (v29 + (1 : Int32)) : Option Int32)).bind fun v17 =>
    (hp_on m16 a0 6 (fX7_readsWithin m16 a0 (4 : Int32) v17 (1439 : Int32))).bind fun (v19, m20) =>
    if v19 = 0 then
      some ((0 : Int32), m20)
    else
    (hp_gR m20 a0 6 45).bind fun v22 =>
    (hp_sI m20 v22 0 a1 (v3 - (97 : Int32))).bind fun m23 =>
    (hp_gR m23 a0 6 46).bind fun v24 =>
    (hp_gI m23 a0 6 21).bind fun v25 =>
    (hp_sI m23 v24 0 a1 v25).bind fun m26 =>
    some ((1 : Int32), m26)
  | .inr o => some o
  )

/-- MissedTrainsModel.readsService()Z -/
def fX7_readsService_L51 (b0 : Option Nat) (b1 : Int32) : (Int32 × Hp) → Option ((Int32 × Hp) ⊕ ((Int32 × Hp) ⊕ (Int32 × Hp))) := fun (s2_10, m10) =>
  (hp_on m10 b0 6 (fX7_isLetter m10 b0)).bind fun v11 =>
  if v11 = 0 then
    some (.inr (.inl (s2_10, m10)))
  else
  (hp_on m10 b0 6 (fX7_readsStop m10 b0 s2_10)).bind fun (v13, m14) =>
  if v13 = 0 then
    some (.inr (.inr ((0 : Int32), m14)))
  else
  some (.inl ((s2_10 + (1 : Int32)), m14))
def fX7_readsService_L224 (b0 : Option Nat) (b2 : Int32) (b3 : Int32) (b4 : Int32) (b5 : Int32) : (Int32 × Hp) → Option ((Int32 × Hp) ⊕ Hp) := fun (s6_30, m30) =>
  if b2 ≤ s6_30 then
    some (.inr m30)
  else
  (hp_gR m30 b0 6 41).bind fun v32 =>
  (hp_gI m30 b0 6 43).bind fun v33 =>
  (fX7_at v33 s6_30).bind fun v34 =>
  (hp_gR m30 b0 6 45).bind fun v35 =>
  (hp_aI m30 v35 0 s6_30).bind fun v36 =>
  (hp_sI m30 v32 0 v34 v36).bind fun m37 =>
  (hp_gR m37 b0 6 42).bind fun v38 =>
  (hp_gI m37 b0 6 43).bind fun v39 =>
  (fX7_at v39 s6_30).bind fun v40 =>
  (hp_gR m37 b0 6 46).bind fun v41 =>
  (hp_aI m37 v41 0 s6_30).bind fun v42 =>
  (hp_sI m37 v38 0 v40 (v42 + (b5 * b4))).bind fun m43 =>
  some (.inl ((s6_30 + (1 : Int32)), m43))
def fX7_readsService_L205 (b0 : Option Nat) (b2 : Int32) (b3 : Int32) (b4 : Int32) : (Int32 × Hp) → Option ((Int32 × Hp) ⊕ Hp) := fun (s5_25, m25) =>
  if b3 ≤ s5_25 then
    some (.inr m25)
  else
  (hp_gR m25 b0 6 40).bind fun v27 =>
  (hp_gI m25 b0 6 43).bind fun v28 =>
  (hp_sI m25 v27 0 v28 b2).bind fun m29 =>
  (iter (fX7_readsService_L224 b0 b2 b3 b4 s5_25) FUEL ((0 : Int32), m29)).bind fun r30 =>
  (
  match r30 with
  | m44 =>
    (hp_gI m44 b0 6 43).bind fun v45 =>
    (hp_pI m44 b0 6 43 (v45 + (1 : Int32))).bind fun m46 =>
    some (.inl ((s5_25 + (1 : Int32)), m46))
  )
def fX7_readsService (m : Hp) (a0 : Option Nat) : Option (Int32 × Hp) :=
  (hp_gI m a0 6 18).bind fun v1 =>
  (hp_on m a0 6 (fX7_isLetter m a0)).bind fun v2 =>
  ((if v2 = 0 then
    some (.inl ())
  else
  (hp_gI m a0 6 44).bind fun v75 =>
  if v75 = (16 : Int32) then
    (hp_gI m a0 6 18).bind fun v77 =>
    (hp_on m a0 6 (fX7_wrongAt m a0 (4 : Int32) v77)).bind fun (v78, m79) =>
    (hp_z v78).bind fun z80 =>
    some (.inr (z80, m79))
  else
  some (.inl ()) : Option (Unit ⊕ (Int32 × Hp)))).bind fun p3 =>
  (
  match p3 with
  | .inl _ =>
    (hp_on m a0 6 (fX7_readsStop m a0 (0 : Int32))).bind fun (v4, m5) =>
    if v4 = 0 then
      some ((0 : Int32), m5)
    else
    (hp_on m5 a0 6 (fX7_readsStop m5 a0 (1 : Int32))).bind fun (v7, m8) =>
    if v7 = 0 then
      some ((0 : Int32), m8)
    else
    (iter (fX7_readsService_L51 a0 v1) FUEL ((2 : Int32), m8)).bind fun r10 =>
    (
    match r10 with
    | .inl (v16, m17) =>
      (hp_on m17 a0 6 (fX7_here m17 a0)).bind fun v18 =>
      ((if v18 = (120 : Int32) then
        (hp_gI m17 a0 6 18).bind fun v54 =>
        (hp_pI m17 a0 6 18 (v54 + (1 : Int32))).bind fun m55 =>
        (hp_on m55 a0 6 (fX7_readsWithin m55 a0 (2 : Int32) (2 : Int32) (24 : Int32))).bind fun (v56, m57) =>
        if v56 = 0 then
          some (.inr ((0 : Int32), m57))
        else
        (hp_gI m57 a0 6 21).bind fun v59 =>
        (hp_on m57 a0 6 (fX7_takes m57 a0 (43 : Int32))).bind fun (v60, m61) =>
        if v60 = 0 then
          some (.inr ((0 : Int32), m61))
        else
        (hp_gI m61 a0 6 18).bind fun v63 =>
        (hp_on m61 a0 6 (fX7_readsWithin m61 a0 (3 : Int32) (1 : Int32) (720 : Int32))).bind fun (v64, m65) =>
        if v64 = 0 then
          some (.inr ((0 : Int32), m65))
        else
        (hp_gI m65 a0 6 21).bind fun v67 =>
        (hp_gR m65 a0 6 46).bind fun v68 =>
        (hp_aI m65 v68 0 (v16 - (1 : Int32))).bind fun v69 =>
        if (v69 + ((v59 - (1 : Int32)) * v67)) ≤ (1439 : Int32) then
          some (.inl (v59, v67, m65))
        else
        (hp_on m65 a0 6 (fX7_wrongAt m65 a0 (3 : Int32) v63)).bind fun (v71, m72) =>
        (hp_z v71).bind fun z73 =>
        some (.inr (z73, m72))
      else
      some (.inl ((1 : Int32), (0 : Int32), m17)) : Option ((Int32 × Int32 × Hp) ⊕ (Int32 × Hp)))).bind fun p22 =>
      (
      match p22 with
      | .inl (v19, v20, m21) =>
        (hp_gI m21 a0 6 43).bind fun v23 =>
        if (v23 + v19) ≤ (48 : Int32) then
          (iter (fX7_readsService_L205 a0 v16 v19 v20) FUEL ((0 : Int32), m21)).bind fun r25 =>
          (
          match r25 with
          | m47 =>
            (hp_gI m47 a0 6 44).bind fun v48 =>
            (hp_pI m47 a0 6 44 (v48 + (1 : Int32))).bind fun m49 =>
            some ((1 : Int32), m49)
          )
        else
        (hp_on m21 a0 6 (fX7_wrongAt m21 a0 (8 : Int32) v1)).bind fun (v50, m51) =>
        (hp_z v50).bind fun z52 =>
        some (z52, m51)
      | .inr o => some o
      )
    | .inr o => some o
    )
  | .inr o => some o
  )

/-- MissedTrainsModel.sortsEvents()V -/
def fX7_sortsEvents_L32 (b0 : Option Nat) (b1 : Int32) (b2 : Int32) : (Int32 × Hp) → Option ((Int32 × Hp) ⊕ (Int32 × Hp)) := fun (s3_10, m10) =>
  if s3_10 ≤ 0 then
    some (.inr (s3_10, m10))
  else
  (hp_gR m10 b0 6 8).bind fun v12 =>
  (hp_gR m10 b0 6 10).bind fun v13 =>
  (hp_aI m10 v13 0 (s3_10 - (1 : Int32))).bind fun v14 =>
  (hp_aI m10 v12 0 v14).bind fun v15 =>
  (hp_gR m10 b0 6 8).bind fun v16 =>
  (fX7_at b1 b2).bind fun v17 =>
  (hp_aI m10 v16 0 v17).bind fun v18 =>
  if v15 ≤ v18 then
    some (.inr (s3_10, m10))
  else
  (hp_gR m10 b0 6 10).bind fun v20 =>
  (hp_gR m10 b0 6 10).bind fun v21 =>
  (hp_aI m10 v21 0 (s3_10 - (1 : Int32))).bind fun v22 =>
  (hp_sI m10 v20 0 s3_10 v22).bind fun m23 =>
  some (.inl ((s3_10 - (1 : Int32)), m23))
def fX7_sortsEvents_L17 (b0 : Option Nat) (b1 : Int32) : (Int32 × Hp) → Option ((Int32 × Hp) ⊕ Hp) := fun (s2_5, m5) =>
  (hp_gR m5 b0 6 6).bind fun v6 =>
  (hp_aI m5 v6 0 b1).bind fun v7 =>
  if v7 ≤ s2_5 then
    some (.inr m5)
  else
  (hp_gI m5 b0 6 15).bind fun v9 =>
  (iter (fX7_sortsEvents_L32 b0 b1 s2_5) FUEL (v9, m5)).bind fun r10 =>
  (
  match r10 with
  | (v24, m25) =>
    (hp_gR m25 b0 6 10).bind fun v26 =>
    (fX7_at b1 s2_5).bind fun v27 =>
    (hp_sI m25 v26 0 v24 v27).bind fun m28 =>
    (hp_gI m28 b0 6 15).bind fun v29 =>
    (hp_pI m28 b0 6 15 (v29 + (1 : Int32))).bind fun m30 =>
    some (.inl ((s2_5 + (1 : Int32)), m30))
  )
def fX7_sortsEvents_L7 (b0 : Option Nat) : (Int32 × Hp) → Option ((Int32 × Hp) ⊕ Hp) := fun (s1_2, m2) =>
  (hp_gI m2 b0 6 14).bind fun v3 =>
  if v3 ≤ s1_2 then
    some (.inr m2)
  else
  (iter (fX7_sortsEvents_L17 b0 s1_2) FUEL ((0 : Int32), m2)).bind fun r5 =>
  (
  match r5 with
  | m31 =>
    some (.inl ((s1_2 + (1 : Int32)), m31))
  )
def fX7_sortsEvents (m : Hp) (a0 : Option Nat) : Option Hp :=
  (hp_pI m a0 6 15 (0 : Int32)).bind fun m1 =>
  (iter (fX7_sortsEvents_L7 a0) FUEL ((0 : Int32), m1)).bind fun r2 =>
  (
  match r2 with
  | m32 =>
    some m32
  )

/-- MissedTrainsModel.timetable(I)I -/
def fX7_timetable_L41 (b0 : Option Nat) : (Int32 × Hp) → Option ((Int32 × Hp) ⊕ (Int32 × Hp)) := fun (s2_10, m10) =>
  if s2_10 = 0 then
    some (.inr (s2_10, m10))
  else
  (hp_gI m10 b0 6 18).bind fun v12 =>
  (hp_gI m10 b0 6 19).bind fun v13 =>
  if v13 ≤ v12 then
    some (.inr (s2_10, m10))
  else
  (hp_on m10 b0 6 (fX7_takes m10 b0 (59 : Int32))).bind fun (v15, m16) =>
  if v15 = 0 then
    some (.inl ((0 : Int32), m16))
  else
  (hp_on m16 b0 6 (fX7_readsService m16 b0)).bind fun (v18, m19) =>
  if v18 = 0 then
    some (.inl ((0 : Int32), m19))
  else
  some (.inl ((1 : Int32), m19))
def fX7_timetable_L105 (b0 : Option Nat) : (Int32 × Hp) → Option ((Int32 × Hp) ⊕ Hp) := fun (s3_27, m27) =>
  if (48 : Int32) ≤ s3_27 then
    some (.inr m27)
  else
  (hp_gR m27 b0 6 6).bind fun v29 =>
  (hp_gR m27 b0 6 40).bind fun v30 =>
  (hp_aI m27 v30 0 s3_27).bind fun v31 =>
  (hp_sI m27 v29 0 s3_27 v31).bind fun m32 =>
  (hp_gR m32 b0 6 9).bind fun v33 =>
  (hp_sI m32 v33 0 s3_27 (0 : Int32)).bind fun m34 =>
  (hp_gR m34 b0 6 12).bind fun v35 =>
  (hp_sI m34 v35 2 s3_27 (0 : Int32)).bind fun m36 =>
  some (.inl ((s3_27 + (1 : Int32)), m36))
def fX7_timetable_L145 (b0 : Option Nat) : (Int32 × Hp) → Option ((Int32 × Hp) ⊕ Hp) := fun (s3_38, m38) =>
  if (384 : Int32) ≤ s3_38 then
    some (.inr m38)
  else
  (hp_gR m38 b0 6 7).bind fun v40 =>
  (hp_gR m38 b0 6 41).bind fun v41 =>
  (hp_aI m38 v41 0 s3_38).bind fun v42 =>
  (hp_sI m38 v40 0 s3_38 v42).bind fun m43 =>
  (hp_gR m43 b0 6 8).bind fun v44 =>
  (hp_gR m43 b0 6 42).bind fun v45 =>
  (hp_aI m43 v45 0 s3_38).bind fun v46 =>
  (hp_sI m43 v44 0 s3_38 v46).bind fun m47 =>
  some (.inl ((s3_38 + (1 : Int32)), m47))
def fX7_timetable (m : Hp) (a0 : Option Nat) (a1 : Int32) : Option (Int32 × Hp) :=
  (fX7_in a1 (1 : Int32) (160 : Int32)).bind fun v1 =>
  if v1 = 0 then
    some ((-1 : Int32), m)
  else
  (hp_gI m a0 6 17).bind fun v3 =>
  if a1 ≤ v3 then
    (hp_on m a0 6 (fX7_beginsText m a0 a1)).bind fun m5 =>
    (hp_pI m5 a0 6 43 (0 : Int32)).bind fun m6 =>
    (hp_pI m6 a0 6 44 (0 : Int32)).bind fun m7 =>
    (hp_on m7 a0 6 (fX7_readsService m7 a0)).bind fun (v8, m9) =>
    (iter (fX7_timetable_L41 a0) FUEL (v8, m9)).bind fun r10 =>
    (
    match r10 with
    | (v21, m22) =>
      (hp_pI m22 a0 6 17 (0 : Int32)).bind fun m23 =>
      if v21 = 0 then
        (hp_gI m23 a0 6 20).bind fun v51 =>
        some (v51, m23)
      else
      (hp_gI m23 a0 6 43).bind fun v25 =>
      (hp_pI m23 a0 6 14 v25).bind fun m26 =>
      (iter (fX7_timetable_L105 a0) FUEL ((0 : Int32), m26)).bind fun r27 =>
      (
      match r27 with
      | m37 =>
        (iter (fX7_timetable_L145 a0) FUEL ((0 : Int32), m37)).bind fun r38 =>
        (
        match r38 with
        | m48 =>
          (hp_on m48 a0 6 (fX7_sortsEvents m48 a0)).bind fun m49 =>
          (hp_gI m49 a0 6 14).bind fun v50 =>
          some (v50, m49)
        )
      )
    )
  else
  some ((-1 : Int32), m)

/-- MissedTrainsModel.readsOrder()Z -/
def fX7_readsOrder (m : Hp) (a0 : Option Nat) : Option (Int32 × Hp) :=
  (hp_on m a0 6 (fX7_isDigit m a0)).bind fun v1 =>
  if v1 = 0 then
    (hp_gI m a0 6 18).bind fun v43 =>
    (hp_on m a0 6 (fX7_wrongAt m a0 (1 : Int32) v43)).bind fun (v44, m45) =>
    (hp_z v44).bind fun z46 =>
    some (z46, m45)
  else
  (hp_gI m a0 6 49).bind fun v3 =>
  if v3 = (20 : Int32) then
    (hp_gI m a0 6 18).bind fun v39 =>
    (hp_on m a0 6 (fX7_wrongAt m a0 (4 : Int32) v39)).bind fun (v40, m41) =>
    (hp_z v40).bind fun z42 =>
    some (z42, m41)
  else
  (hp_gI m a0 6 49).bind fun v5 =>
  (hp_pI m a0 6 49 (v5 + (1 : Int32))).bind fun m6 =>
  (hp_gI m6 a0 6 18).bind fun v7 =>
  (hp_on m6 a0 6 (fX7_readsWithin m6 a0 (2 : Int32) (0 : Int32) (99 : Int32))).bind fun (v8, m9) =>
  if v8 = 0 then
    some ((0 : Int32), m9)
  else
  (hp_gI m9 a0 6 21).bind fun v11 =>
  (hp_gI m9 a0 6 14).bind fun v12 =>
  if v11 < v12 then
    (hp_on m9 a0 6 (fX7_here m9 a0)).bind fun v14 =>
    ((if v14 = (33 : Int32) then
      some (.inl ())
    else
    if v14 = (63 : Int32) then
      some (.inl ())
    else
    if v14 = (43 : Int32) then
      some (.inl ())
    else
    (hp_gI m9 a0 6 18).bind fun v32 =>
    (hp_on m9 a0 6 (fX7_wrongAt m9 a0 (1 : Int32) v32)).bind fun (v33, m34) =>
    (hp_z v33).bind fun z35 =>
    some (.inr (z35, m34)) : Option (Unit ⊕ (Int32 × Hp)))).bind fun p15 =>
    (
    match p15 with
    | .inl _ =>
      (hp_gI m9 a0 6 18).bind fun v16 =>
      (hp_pI m9 a0 6 18 (v16 + (1 : Int32))).bind fun m17 =>
      if v14 = (43 : Int32) then
        (hp_on m17 a0 6 (fX7_readsWithin m17 a0 (2 : Int32) (0 : Int32) (99 : Int32))).bind fun (v19, m20) =>
        if v19 = 0 then
          some ((0 : Int32), m20)
        else
        (hp_gR m20 a0 6 9).bind fun v22 =>
        (hp_gI m20 a0 6 21).bind fun v23 =>
        (hp_sI m20 v22 0 v11 v23).bind fun m24 =>
        some ((1 : Int32), m24)
      else
      (hp_gR m17 a0 6 12).bind fun v25 =>
      if v14 = (33 : Int32) then
        (hp_sI m17 v25 2 v11 (1 : Int32)).bind fun m28 =>
        some ((1 : Int32), m28)
      else
      (hp_sI m17 v25 2 v11 (0 : Int32)).bind fun m27 =>
      some ((1 : Int32), m27)
    | .inr o => some o
    )
  else
  (hp_on m9 a0 6 (fX7_wrongAt m9 a0 (7 : Int32) v7)).bind fun (v36, m37) =>
  (hp_z v36).bind fun z38 =>
  some (z38, m37)

/-- MissedTrainsModel.orders(I)I -/
def fX7_orders_L32 (b0 : Option Nat) : (Int32 × Hp) → Option ((Int32 × Hp) ⊕ Hp) := fun (s2_7, m7) =>
  if (48 : Int32) ≤ s2_7 then
    some (.inr m7)
  else
  (hp_gR m7 b0 6 47).bind fun v9 =>
  (hp_gR m7 b0 6 9).bind fun v10 =>
  (hp_aI m7 v10 0 s2_7).bind fun v11 =>
  (hp_sI m7 v9 0 s2_7 v11).bind fun m12 =>
  (hp_gR m12 b0 6 48).bind fun v13 =>
  (hp_gR m12 b0 6 12).bind fun v14 =>
  (hp_aI m12 v14 2 s2_7).bind fun v15 =>
  (hp_sI m12 v13 2 s2_7 v15).bind fun m16 =>
  some (.inl ((s2_7 + (1 : Int32)), m16))
def fX7_orders_L73 (b0 : Option Nat) : (Int32 × Hp) → Option ((Int32 × Hp) ⊕ (Int32 × Hp)) := fun (s2_20, m20) =>
  if s2_20 = 0 then
    some (.inr (s2_20, m20))
  else
  (hp_gI m20 b0 6 18).bind fun v22 =>
  (hp_gI m20 b0 6 19).bind fun v23 =>
  if v23 ≤ v22 then
    some (.inr (s2_20, m20))
  else
  (hp_on m20 b0 6 (fX7_takes m20 b0 (59 : Int32))).bind fun (v25, m26) =>
  if v25 = 0 then
    some (.inl ((0 : Int32), m26))
  else
  (hp_on m26 b0 6 (fX7_readsOrder m26 b0)).bind fun (v28, m29) =>
  if v28 = 0 then
    some (.inl ((0 : Int32), m29))
  else
  some (.inl ((1 : Int32), m29))
def fX7_orders_L129 (b0 : Option Nat) : (Int32 × Hp) → Option ((Int32 × Hp) ⊕ Hp) := fun (s3_35, m35) =>
  if (48 : Int32) ≤ s3_35 then
    some (.inr m35)
  else
  (hp_gR m35 b0 6 9).bind fun v37 =>
  (hp_gR m35 b0 6 47).bind fun v38 =>
  (hp_aI m35 v38 0 s3_35).bind fun v39 =>
  (hp_sI m35 v37 0 s3_35 v39).bind fun m40 =>
  (hp_gR m40 b0 6 12).bind fun v41 =>
  (hp_gR m40 b0 6 48).bind fun v42 =>
  (hp_aI m40 v42 2 s3_35).bind fun v43 =>
  (hp_sI m40 v41 2 s3_35 v43).bind fun m44 =>
  some (.inl ((s3_35 + (1 : Int32)), m44))
def fX7_orders (m : Hp) (a0 : Option Nat) (a1 : Int32) : Option (Int32 × Hp) :=
  (fX7_in a1 (1 : Int32) (120 : Int32)).bind fun v1 =>
  if v1 = 0 then
    some ((-1 : Int32), m)
  else
  (hp_gI m a0 6 17).bind fun v3 =>
  if a1 ≤ v3 then
    (hp_on m a0 6 (fX7_beginsText m a0 a1)).bind fun m5 =>
    (hp_pI m5 a0 6 49 (0 : Int32)).bind fun m6 =>
    (iter (fX7_orders_L32 a0) FUEL ((0 : Int32), m6)).bind fun r7 =>
    (
    match r7 with
    | m17 =>
      (hp_on m17 a0 6 (fX7_readsOrder m17 a0)).bind fun (v18, m19) =>
      (iter (fX7_orders_L73 a0) FUEL (v18, m19)).bind fun r20 =>
      (
      match r20 with
      | (v31, m32) =>
        (hp_pI m32 a0 6 17 (0 : Int32)).bind fun m33 =>
        if v31 = 0 then
          (iter (fX7_orders_L129 a0) FUEL ((0 : Int32), m33)).bind fun r35 =>
          (
          match r35 with
          | m45 =>
            (hp_gI m45 a0 6 20).bind fun v46 =>
            some (v46, m45)
          )
        else
        (hp_gI m33 a0 6 49).bind fun v47 =>
        some (v47, m33)
      )
    )
  else
  some ((-1 : Int32), m)

/-- MissedTrainsModel.waitersAt(I)I -/
def fX7_waitersAt_L4 (bm : Hp) (b0 : Option Nat) (b1 : Int32) : (Int32 × Int32) → Option ((Int32 × Int32) ⊕ Int32) := fun (s2_1, s3_1) =>
  if (12 : Int32) ≤ s3_1 then
    some (.inr s2_1)
  else
  (hp_gR bm b0 6 11).bind fun v3 =>
  (hp_aI bm v3 2 s3_1).bind fun v4 =>
  if v4 = 0 then
    some (.inl (s2_1, (s3_1 + (1 : Int32))))
  else
  (hp_gR bm b0 6 3).bind fun v6 =>
  (hp_aI bm v6 0 s3_1).bind fun v7 =>
  if v7 = b1 then
    (hp_gR bm b0 6 50).bind fun v9 =>
    (hp_aI bm v9 0 s3_1).bind fun v10 =>
    if v10 = (-1 : Int32) then
      some (.inl ((s2_1 + (1 : Int32)), (s3_1 + (1 : Int32))))
    else
    some (.inl (s2_1, (s3_1 + (1 : Int32))))
  else
  some (.inl (s2_1, (s3_1 + (1 : Int32))))
def fX7_waitersAt (m : Hp) (a0 : Option Nat) (a1 : Int32) : Option Int32 :=
  (iter (fX7_waitersAt_L4 m a0 a1) FUEL ((0 : Int32), (0 : Int32))).bind fun r1 =>
  (
  match r1 with
  | v12 =>
    some v12
  )

/-- MissedTrainsModel.feels(III)V -/
def fX7_feels (m : Hp) (a0 : Option Nat) (a1 : Int32) (a2 : Int32) (a3 : Int32) : Option Hp :=
  (hp_gR m a0 6 39).bind fun v1 =>
  (hp_sI m v1 0 (0 : Int32) a1).bind fun m2 =>
  (hp_gR m2 a0 6 39).bind fun v3 =>
  (hp_gR m2 a0 6 7).bind fun v4 =>
  (fX7_at a1 a2).bind fun v5 =>
  (hp_aI m2 v4 0 v5).bind fun v6 =>
  (hp_sI m2 v3 0 (1 : Int32) v6).bind fun m7 =>
  (hp_gR m7 a0 6 39).bind fun v8 =>
  (hp_sI m7 v8 0 (2 : Int32) a2).bind fun m9 =>
  (hp_gR m9 a0 6 39).bind fun v10 =>
  (hp_gR m9 a0 6 51).bind fun v11 =>
  (hp_aI m9 v11 0 a1).bind fun v12 =>
  (hp_sI m9 v10 0 (3 : Int32) v12).bind fun m13 =>
  (hp_gR m13 a0 6 39).bind fun v14 =>
  (hp_gR m13 a0 6 39).bind fun v15 =>
  (hp_aI m13 v15 0 (1 : Int32)).bind fun v16 =>
  (hp_on m13 a0 6 (fX7_waitersAt m13 a0 v16)).bind fun v17 =>
  (hp_sI m13 v14 0 (4 : Int32) v17).bind fun m18 =>
  (hp_gR m18 a0 6 39).bind fun v19 =>
  (hp_sI m18 v19 0 (5 : Int32) (0 : Int32)).bind fun m20 =>
  (hp_gR m20 a0 6 39).bind fun v21 =>
  (hp_sI m20 v21 0 (6 : Int32) (0 : Int32)).bind fun m22 =>
  (hp_gR m22 a0 6 39).bind fun v23 =>
  (hp_gR m22 a0 6 0).bind fun v24 =>
  (hp_aI m22 v24 0 (24 : Int32)).bind fun v25 =>
  (hp_sI m22 v23 0 (7 : Int32) (jrem v25 (7 : Int32))).bind fun m26 =>
  (hp_gR m26 a0 6 39).bind fun v27 =>
  (hp_sI m26 v27 0 (8 : Int32) a3).bind fun m28 =>
  some m28

/-- MissedTrainsModel.leavesTrain(II)V -/
def fX7_leavesTrain_L2 (b0 : Option Nat) (b1 : Int32) (b2 : Int32) : (Int32 × Hp) → Option ((Int32 × Hp) ⊕ Hp) := fun (s3_1, m1) =>
  if (12 : Int32) ≤ s3_1 then
    some (.inr m1)
  else
  (hp_gR m1 b0 6 11).bind fun v3 =>
  (hp_aI m1 v3 2 s3_1).bind fun v4 =>
  if v4 = 0 then
    some (.inl ((s3_1 + (1 : Int32)), m1))
  else
  (hp_gR m1 b0 6 50).bind fun v6 =>
  (hp_aI m1 v6 0 s3_1).bind fun v7 =>
  if v7 = b1 then
    (hp_gR m1 b0 6 4).bind fun v9 =>
    (hp_aI m1 v9 0 s3_1).bind fun v10 =>
    if v10 = b2 then
      (hp_gR m1 b0 6 50).bind fun v12 =>
      (hp_sI m1 v12 0 s3_1 (48 : Int32)).bind fun m13 =>
      (hp_gR m13 b0 6 0).bind fun v14 =>
      (hp_gR m13 b0 6 0).bind fun v15 =>
      (hp_aI m13 v15 0 ((0 : Int32) + s3_1)).bind fun v16 =>
      (fX7_min (9999 : Int32) (v16 + (1 : Int32))).bind fun v17 =>
      (hp_sI m13 v14 0 ((0 : Int32) + s3_1) v17).bind fun m18 =>
      (hp_gI m18 b0 6 52).bind fun v19 =>
      (hp_pI m18 b0 6 52 (v19 + (1 : Int32))).bind fun m20 =>
      some (.inl ((s3_1 + (1 : Int32)), m20))
    else
    some (.inl ((s3_1 + (1 : Int32)), m1))
  else
  some (.inl ((s3_1 + (1 : Int32)), m1))
def fX7_leavesTrain (m : Hp) (a0 : Option Nat) (a1 : Int32) (a2 : Int32) : Option Hp :=
  (iter (fX7_leavesTrain_L2 a0 a1 a2) FUEL ((0 : Int32), m)).bind fun r1 =>
  (
  match r1 with
  | m21 =>
    some m21
  )

/-- MissedTrainsModel.mayRide(IIII)V -/
def fX7_mayRide (m : Hp) (a0 : Option Nat) (a1 : Int32) (a2 : Int32) (a3 : Int32) (a4 : Int32) : Option Hp :=
  (hp_gR m a0 6 11).bind fun v1 =>
  (hp_aI m v1 2 a1).bind fun v2 =>
  ((if v2 = 0 then
    some (0 : Int32)
  else
  (hp_gR m a0 6 3).bind fun v38 =>
  (hp_aI m v38 0 a1).bind fun v39 =>
  (hp_gR m a0 6 7).bind fun v40 =>
  (fX7_at a2 a3).bind fun v41 =>
  (hp_aI m v40 0 v41).bind fun v42 =>
  if v39 = v42 then
    (hp_gR m a0 6 50).bind fun v44 =>
    (hp_aI m v44 0 a1).bind fun v45 =>
    if v45 = (-1 : Int32) then
      some (1 : Int32)
    else
    some (0 : Int32)
  else
  some (0 : Int32) : Option Int32)).bind fun v3 =>
  if v3 = 0 then
    some m
  else
  (hp_gR m a0 6 5).bind fun v6 =>
  (hp_aI m v6 0 a1).bind fun v7 =>
  (hp_gR m a0 6 8).bind fun v8 =>
  (fX7_at a2 a3).bind fun v9 =>
  (hp_aI m v8 0 v9).bind fun v10 =>
  (hp_gR m a0 6 51).bind fun v11 =>
  (hp_aI m v11 0 a2).bind fun v12 =>
  if (v10 + v12) < v7 then
    some m
  else
  (hp_gR m a0 6 4).bind fun v14 =>
  (hp_aI m v14 0 a1).bind fun v15 =>
  (hp_on m a0 6 (fX7_stopAt m a0 a2 v15)).bind fun v16 =>
  if a3 < v16 then
    (hp_on m a0 6 (fX7_feels m a0 a2 a3 a4)).bind fun m18 =>
    (hp_gR m18 a0 6 39).bind fun v19 =>
    (hp_sI m18 v19 0 (5 : Int32) a1).bind fun m20 =>
    (hp_gR m20 a0 6 39).bind fun v21 =>
    (hp_gR m20 a0 6 0).bind fun v22 =>
    (hp_aI m20 v22 0 ((12 : Int32) + a1)).bind fun v23 =>
    (hp_sI m20 v21 0 (6 : Int32) v23).bind fun m24 =>
    (hp_on m24 a0 6 (fX7_holdsAny m24 a0 (109 : Int32))).bind fun (v25, m26) =>
    if v25 = 0 then
      (hp_gR m26 a0 6 50).bind fun v35 =>
      (hp_sI m26 v35 0 a1 a2).bind fun m36 =>
      some m36
    else
    (hp_gR m26 a0 6 0).bind fun v28 =>
    (hp_gR m26 a0 6 0).bind fun v29 =>
    (hp_aI m26 v29 0 ((12 : Int32) + a1)).bind fun v30 =>
    (fX7_min (9999 : Int32) (v30 + (1 : Int32))).bind fun v31 =>
    (hp_sI m26 v28 0 ((12 : Int32) + a1) v31).bind fun m32 =>
    (hp_gI m32 a0 6 53).bind fun v33 =>
    (hp_pI m32 a0 6 53 (v33 + (1 : Int32))).bind fun m34 =>
    some m34
  else
  some m

/-- MissedTrainsModel.stops(II)V -/
def fX7_stops_L127 (b0 : Option Nat) (b1 : Int32) (b2 : Int32) (b3 : Int32) : (Int32 × Hp) → Option ((Int32 × Hp) ⊕ Hp) := fun (s6_27, m27) =>
  if (12 : Int32) ≤ s6_27 then
    some (.inr m27)
  else
  (hp_gR m27 b0 6 6).bind fun v29 =>
  (hp_aI m27 v29 0 b1).bind fun v30 =>
  if (v30 - (1 : Int32)) ≤ b2 then
    some (.inr m27)
  else
  (hp_on m27 b0 6 (fX7_mayRide m27 b0 s6_27 b1 b2 b3)).bind fun m32 =>
  some (.inl ((s6_27 + (1 : Int32)), m32))
def fX7_stops (m : Hp) (a0 : Option Nat) (a1 : Int32) (a2 : Int32) : Option Hp :=
  (hp_gR m a0 6 0).bind fun v1 =>
  (hp_gR m a0 6 0).bind fun v2 =>
  (hp_aI m v2 0 (25 : Int32)).bind fun v3 =>
  (hp_sI m v1 0 (25 : Int32) (jrem (((25173 : Int32) * v3) + (13849 : Int32)) (65536 : Int32))).bind fun m4 =>
  (hp_gR m4 a0 6 0).bind fun v5 =>
  (hp_aI m4 v5 0 (25 : Int32)).bind fun v6 =>
  (hp_on m4 a0 6 (fX7_feels m4 a0 a1 a2 (jrem v6 (10 : Int32)))).bind fun m7 =>
  (hp_on m7 a0 6 (fX7_byLaw m7 a0 (100 : Int32) (60 : Int32))).bind fun (v8, m9) =>
  (hp_on m9 a0 6 (fX7_byLaw m9 a0 (99 : Int32) (60 : Int32))).bind fun (v10, m11) =>
  (hp_gR m11 a0 6 51).bind fun v12 =>
  (hp_gR m11 a0 6 51).bind fun v13 =>
  (hp_aI m11 v13 0 a1).bind fun v14 =>
  (fX7_min (240 : Int32) ((v14 + v8) - v10)).bind fun v15 =>
  (fX7_max (0 : Int32) v15).bind fun v16 =>
  (hp_sI m11 v12 0 a1 v16).bind fun m17 =>
  (hp_gI m17 a0 6 54).bind fun v18 =>
  (hp_gR m17 a0 6 51).bind fun v19 =>
  (hp_aI m17 v19 0 a1).bind fun v20 =>
  (fX7_max v18 v20).bind fun v21 =>
  (hp_pI m17 a0 6 54 v21).bind fun m22 =>
  (hp_gR m22 a0 6 7).bind fun v23 =>
  (fX7_at a1 a2).bind fun v24 =>
  (hp_aI m22 v23 0 v24).bind fun v25 =>
  (hp_on m22 a0 6 (fX7_leavesTrain m22 a0 a1 v25)).bind fun m26 =>
  (iter (fX7_stops_L127 a0 a1 a2 (jrem v6 (10 : Int32))) FUEL ((0 : Int32), m26)).bind fun r27 =>
  (
  match r27 with
  | m33 =>
    some m33
  )

/-- MissedTrainsModel.dayGoes()V -/
def fX7_dayGoes_L2 (b0 : Option Nat) : (Int32 × Hp) → Option ((Int32 × Hp) ⊕ Hp) := fun (s1_1, m1) =>
  if (12 : Int32) ≤ s1_1 then
    some (.inr m1)
  else
  (hp_gR m1 b0 6 50).bind fun v3 =>
  (hp_sI m1 v3 0 s1_1 (-1 : Int32)).bind fun m4 =>
  some (.inl ((s1_1 + (1 : Int32)), m4))
def fX7_dayGoes_L23 (b0 : Option Nat) : (Int32 × Hp) → Option ((Int32 × Hp) ⊕ Hp) := fun (s1_6, m6) =>
  (hp_gI m6 b0 6 14).bind fun v7 =>
  if v7 ≤ s1_6 then
    some (.inr m6)
  else
  (hp_gR m6 b0 6 51).bind fun v9 =>
  (hp_gR m6 b0 6 9).bind fun v10 =>
  (hp_aI m6 v10 0 s1_6).bind fun v11 =>
  (hp_sI m6 v9 0 s1_6 v11).bind fun m12 =>
  some (.inl ((s1_6 + (1 : Int32)), m12))
def fX7_dayGoes_L51 (b0 : Option Nat) : (Int32 × Hp) → Option ((Int32 × Hp) ⊕ Hp) := fun (s1_14, m14) =>
  (hp_gI m14 b0 6 15).bind fun v15 =>
  if v15 ≤ s1_14 then
    some (.inr m14)
  else
  (hp_gR m14 b0 6 10).bind fun v17 =>
  (hp_aI m14 v17 0 s1_14).bind fun v18 =>
  (hp_on m14 b0 6 (fX7_runs m14 b0 (v18 / (8 : Int32)))).bind fun v19 =>
  if v19 = 0 then
    some (.inl ((s1_14 + (1 : Int32)), m14))
  else
  (hp_gR m14 b0 6 10).bind fun v21 =>
  (hp_aI m14 v21 0 s1_14).bind fun v22 =>
  (hp_gR m14 b0 6 10).bind fun v23 =>
  (hp_aI m14 v23 0 s1_14).bind fun v24 =>
  (hp_on m14 b0 6 (fX7_stops m14 b0 (v22 / (8 : Int32)) (jrem v24 (8 : Int32)))).bind fun m25 =>
  some (.inl ((s1_14 + (1 : Int32)), m25))
def fX7_dayGoes (m : Hp) (a0 : Option Nat) : Option Hp :=
  (iter (fX7_dayGoes_L2 a0) FUEL ((0 : Int32), m)).bind fun r1 =>
  (
  match r1 with
  | m5 =>
    (iter (fX7_dayGoes_L23 a0) FUEL ((0 : Int32), m5)).bind fun r6 =>
    (
    match r6 with
    | m13 =>
      (iter (fX7_dayGoes_L51 a0) FUEL ((0 : Int32), m13)).bind fun r14 =>
      (
      match r14 with
      | m26 =>
        (hp_gR m26 a0 6 0).bind fun v27 =>
        (hp_gR m26 a0 6 0).bind fun v28 =>
        (hp_aI m26 v28 0 (24 : Int32)).bind fun v29 =>
        (hp_sI m26 v27 0 (24 : Int32) (v29 + (1 : Int32))).bind fun m30 =>
        some m30
      )
    )
  )

/-- MissedTrainsModel.daysGo(I)V -/
def fX7_daysGo_L17 (b0 : Option Nat) (b1 : Int32) : (Int32 × Hp) → Option ((Int32 × Hp) ⊕ Hp) := fun (s2_4, m4) =>
  if b1 ≤ s2_4 then
    some (.inr m4)
  else
  (hp_gR m4 b0 6 0).bind fun v6 =>
  (hp_aI m4 v6 0 (24 : Int32)).bind fun v7 =>
  if (9999 : Int32) ≤ v7 then
    some (.inr m4)
  else
  (hp_on m4 b0 6 (fX7_dayGoes m4 b0)).bind fun m9 =>
  some (.inl ((s2_4 + (1 : Int32)), m9))
def fX7_daysGo (m : Hp) (a0 : Option Nat) (a1 : Int32) : Option Hp :=
  (hp_pI m a0 6 52 (0 : Int32)).bind fun m1 =>
  (hp_pI m1 a0 6 53 (0 : Int32)).bind fun m2 =>
  (hp_pI m2 a0 6 54 (0 : Int32)).bind fun m3 =>
  (iter (fX7_daysGo_L17 a0 a1) FUEL ((0 : Int32), m3)).bind fun r4 =>
  (
  match r4 with
  | m10 =>
    some m10
  )

/-- MissedTrainsModel.days(I)I -/
def fX7_days (m : Hp) (a0 : Option Nat) (a1 : Int32) : Option (Int32 × Hp) :=
  (fX7_in a1 (1 : Int32) (30 : Int32)).bind fun v1 =>
  if v1 = 0 then
    some ((-1 : Int32), m)
  else
  (hp_on m a0 6 (fX7_daysGo m a0 a1)).bind fun m3 =>
  (hp_gI m3 a0 6 52).bind fun v4 =>
  some (v4, m3)

/-- MissedTrainsModel.tried(II)I -/
def fX7_tried (m : Hp) (a0 : Option Nat) (a1 : Int32) (a2 : Int32) : Option (Int32 × Hp) :=
  (fX7_in a1 (1 : Int32) (30 : Int32)).bind fun v1 =>
  if v1 = 0 then
    some ((-1 : Int32), m)
  else
  (fX7_in a2 (0 : Int32) (2 : Int32)).bind fun v3 =>
  ((if v3 = 0 then
    (hp_on m a0 6 (fX7_isPerson m a0 (a2 - (100 : Int32)))).bind fun v26 =>
    if v26 = 0 then
      (hp_on m a0 6 (fX7_isPerson m a0 (a2 - (200 : Int32)))).bind fun v28 =>
      if v28 = 0 then
        some (.inr ((-1 : Int32), m))
      else
      some (.inl ())
    else
    some (.inl ())
  else
  some (.inl ()) : Option (Unit ⊕ (Int32 × Hp)))).bind fun p4 =>
  (
  match p4 with
  | .inl _ =>
    (hp_gR m a0 6 0).bind fun v5 =>
    (hp_gR m a0 6 1).bind fun v6 =>
    (fX7_copies m v5 v6).bind fun m7 =>
    (hp_on m7 a0 6 (fX7_daysGo m7 a0 a1)).bind fun m8 =>
    ((if a2 = (0 : Int32) then
      (hp_gI m8 a0 6 52).bind fun v15 =>
      some v15
    else
    if a2 = (1 : Int32) then
      (hp_gI m8 a0 6 53).bind fun v17 =>
      some v17
    else
    if a2 = (2 : Int32) then
      (hp_gI m8 a0 6 54).bind fun v19 =>
      some v19
    else
    if (200 : Int32) ≤ a2 then
      (hp_gR m8 a0 6 0).bind fun v21 =>
      (hp_aI m8 v21 0 (((0 : Int32) + a2) - (200 : Int32))).bind fun v22 =>
      some v22
    else
    (hp_gR m8 a0 6 0).bind fun v23 =>
    (hp_aI m8 v23 0 (((12 : Int32) + a2) - (100 : Int32))).bind fun v24 =>
    some v24 : Option Int32)).bind fun v9 =>
    (hp_gR m8 a0 6 1).bind fun v11 =>
    (hp_gR m8 a0 6 0).bind fun v12 =>
    (fX7_copies m8 v11 v12).bind fun m13 =>
    some (v9, m13)
  | .inr o => some o
  )

/-- MissedTrainsModel.personIs(II)I -/
def fX7_personIs (m : Hp) (a0 : Option Nat) (a1 : Int32) (a2 : Int32) : Option Int32 :=
  (hp_on m a0 6 (fX7_isPerson m a0 a1)).bind fun v1 =>
  if v1 = 0 then
    some (-1 : Int32)
  else
  if a2 = (0 : Int32) then
    (hp_gR m a0 6 3).bind fun v4 =>
    (hp_aI m v4 0 a1).bind fun v5 =>
    some v5
  else
  if a2 = (1 : Int32) then
    (hp_gR m a0 6 4).bind fun v7 =>
    (hp_aI m v7 0 a1).bind fun v8 =>
    some v8
  else
  if a2 = (2 : Int32) then
    (hp_gR m a0 6 5).bind fun v10 =>
    (hp_aI m v10 0 a1).bind fun v11 =>
    some v11
  else
  if a2 = (3 : Int32) then
    (hp_gR m a0 6 0).bind fun v13 =>
    (hp_aI m v13 0 ((0 : Int32) + a1)).bind fun v14 =>
    some v14
  else
  if a2 = (4 : Int32) then
    (hp_gR m a0 6 0).bind fun v16 =>
    (hp_aI m v16 0 ((12 : Int32) + a1)).bind fun v17 =>
    some v17
  else
  some (-1 : Int32)

/-- MissedTrainsModel.trainIs(II)I -/
def fX7_trainIs (m : Hp) (a0 : Option Nat) (a1 : Int32) (a2 : Int32) : Option Int32 :=
  (hp_gI m a0 6 14).bind fun v1 =>
  (fX7_in a1 (0 : Int32) (v1 - (1 : Int32))).bind fun v2 =>
  if v2 = 0 then
    some (-1 : Int32)
  else
  (hp_gR m a0 6 6).bind fun v4 =>
  (hp_aI m v4 0 a1).bind fun v5 =>
  if a2 = (0 : Int32) then
    (hp_gR m a0 6 6).bind fun v7 =>
    (hp_aI m v7 0 a1).bind fun v8 =>
    some v8
  else
  if a2 = (1 : Int32) then
    (hp_gR m a0 6 12).bind fun v10 =>
    (hp_aI m v10 2 a1).bind fun v11 =>
    if v11 = 0 then
      some (1 : Int32)
    else
    some (0 : Int32)
  else
  if a2 = (2 : Int32) then
    (hp_gR m a0 6 9).bind fun v14 =>
    (hp_aI m v14 0 a1).bind fun v15 =>
    some v15
  else
  if a2 = (3 : Int32) then
    (hp_gR m a0 6 7).bind fun v17 =>
    (fX7_at a1 (0 : Int32)).bind fun v18 =>
    (hp_aI m v17 0 v18).bind fun v19 =>
    some v19
  else
  if a2 = (4 : Int32) then
    (hp_gR m a0 6 7).bind fun v21 =>
    (fX7_at a1 (v5 - (1 : Int32))).bind fun v22 =>
    (hp_aI m v21 0 v22).bind fun v23 =>
    some v23
  else
  if a2 = (5 : Int32) then
    (hp_gR m a0 6 8).bind fun v25 =>
    (fX7_at a1 (0 : Int32)).bind fun v26 =>
    (hp_aI m v25 0 v26).bind fun v27 =>
    some v27
  else
  if a2 = (6 : Int32) then
    (hp_gR m a0 6 8).bind fun v29 =>
    (fX7_at a1 (v5 - (1 : Int32))).bind fun v30 =>
    (hp_aI m v29 0 v30).bind fun v31 =>
    some v31
  else
  some (-1 : Int32)

/-- MissedTrainsModel.stopIs(III)I -/
def fX7_stopIs (m : Hp) (a0 : Option Nat) (a1 : Int32) (a2 : Int32) (a3 : Int32) : Option Int32 :=
  (hp_gI m a0 6 14).bind fun v1 =>
  (fX7_in a1 (0 : Int32) (v1 - (1 : Int32))).bind fun v2 =>
  if v2 = 0 then
    some (-1 : Int32)
  else
  (hp_gR m a0 6 6).bind fun v4 =>
  (hp_aI m v4 0 a1).bind fun v5 =>
  (fX7_in a2 (0 : Int32) (v5 - (1 : Int32))).bind fun v6 =>
  if v6 = 0 then
    some (-1 : Int32)
  else
  (fX7_in a3 (0 : Int32) (1 : Int32)).bind fun v8 =>
  if v8 = 0 then
    some (-1 : Int32)
  else
  if a3 = 0 then
    (hp_gR m a0 6 7).bind fun v14 =>
    (fX7_at a1 a2).bind fun v15 =>
    (hp_aI m v14 0 v15).bind fun v16 =>
    some v16
  else
  (hp_gR m a0 6 8).bind fun v11 =>
  (fX7_at a1 a2).bind fun v12 =>
  (hp_aI m v11 0 v12).bind fun v13 =>
  some v13

/-- MissedTrainsModel.oneRideMore(I)V -/
def fX7_oneRideMore_L2 (b0 : Option Nat) (b1 : Int32) : (Int32 × Hp) → Option ((Int32 × Hp) ⊕ Hp) := fun (s2_1, m1) =>
  if (10 : Int32) ≤ s2_1 then
    some (.inr m1)
  else
  (hp_gR m1 b0 6 56).bind fun v3 =>
  (hp_gR m1 b0 6 55).bind fun v4 =>
  (hp_aI m1 v4 0 s2_1).bind fun v5 =>
  (hp_sI m1 v3 0 s2_1 v5).bind fun m6 =>
  some (.inl ((s2_1 + (1 : Int32)), m6))
def fX7_oneRideMore_L41 (b0 : Option Nat) (b1 : Int32) (b2 : Int32) : (Int32 × Int32 × Hp) → Option ((Int32 × Int32 × Hp) ⊕ Hp) := fun (s3_11, s4_11, m11) =>
  (hp_gR m11 b0 6 6).bind fun v12 =>
  (hp_aI m11 v12 0 b2).bind fun v13 =>
  if v13 ≤ s4_11 then
    some (.inr m11)
  else
  (hp_on m11 b0 6 (fX7_runs m11 b0 b2)).bind fun v15 =>
  if v15 = 0 then
    some (.inr m11)
  else
  (hp_gR m11 b0 6 7).bind fun v17 =>
  (fX7_at b2 s4_11).bind fun v18 =>
  (hp_aI m11 v17 0 v18).bind fun v19 =>
  ((if s3_11 = 0 then
    some m11
  else
  (hp_gR m11 b0 6 56).bind fun v29 =>
  (hp_gR m11 b0 6 56).bind fun v30 =>
  (hp_aI m11 v30 0 v19).bind fun v31 =>
  (hp_gR m11 b0 6 8).bind fun v32 =>
  (fX7_at b2 s4_11).bind fun v33 =>
  (hp_aI m11 v32 0 v33).bind fun v34 =>
  (fX7_min v31 v34).bind fun v35 =>
  (hp_sI m11 v29 0 v19 v35).bind fun m36 =>
  some m36 : Option Hp)).bind fun m20 =>
  (hp_gR m20 b0 6 55).bind fun v22 =>
  (hp_aI m20 v22 0 v19).bind fun v23 =>
  (hp_gR m20 b0 6 8).bind fun v24 =>
  (fX7_at b2 s4_11).bind fun v25 =>
  (hp_aI m20 v24 0 v25).bind fun v26 =>
  if v26 < (v23 + b1) then
    some (.inl (s3_11, (s4_11 + (1 : Int32)), m20))
  else
  some (.inl ((1 : Int32), (s4_11 + (1 : Int32)), m20))
def fX7_oneRideMore_L28 (b0 : Option Nat) (b1 : Int32) : (Int32 × Hp) → Option ((Int32 × Hp) ⊕ Hp) := fun (s2_8, m8) =>
  (hp_gI m8 b0 6 14).bind fun v9 =>
  if v9 ≤ s2_8 then
    some (.inr m8)
  else
  (iter (fX7_oneRideMore_L41 b0 b1 s2_8) FUEL ((0 : Int32), (0 : Int32), m8)).bind fun r11 =>
  (
  match r11 with
  | m37 =>
    some (.inl ((s2_8 + (1 : Int32)), m37))
  )
def fX7_oneRideMore_L144 (b0 : Option Nat) : (Int32 × Hp) → Option ((Int32 × Hp) ⊕ Hp) := fun (s2_39, m39) =>
  if (10 : Int32) ≤ s2_39 then
    some (.inr m39)
  else
  (hp_gR m39 b0 6 55).bind fun v41 =>
  (hp_gR m39 b0 6 56).bind fun v42 =>
  (hp_aI m39 v42 0 s2_39).bind fun v43 =>
  (hp_sI m39 v41 0 s2_39 v43).bind fun m44 =>
  some (.inl ((s2_39 + (1 : Int32)), m44))
def fX7_oneRideMore (m : Hp) (a0 : Option Nat) (a1 : Int32) : Option Hp :=
  (iter (fX7_oneRideMore_L2 a0 a1) FUEL ((0 : Int32), m)).bind fun r1 =>
  (
  match r1 with
  | m7 =>
    (iter (fX7_oneRideMore_L28 a0 a1) FUEL ((0 : Int32), m7)).bind fun r8 =>
    (
    match r8 with
    | m38 =>
      (iter (fX7_oneRideMore_L144 a0) FUEL ((0 : Int32), m38)).bind fun r39 =>
      (
      match r39 with
      | m45 =>
        some m45
      )
    )
  )

/-- MissedTrainsModel.beginsAt(II)V -/
def fX7_beginsAt_L2 (b0 : Option Nat) (b1 : Int32) (b2 : Int32) : (Int32 × Hp) → Option ((Int32 × Hp) ⊕ Hp) := fun (s3_1, m1) =>
  if (10 : Int32) ≤ s3_1 then
    some (.inr m1)
  else
  (hp_gR m1 b0 6 55).bind fun v3 =>
  (hp_sI m1 v3 0 s3_1 (1000000 : Int32)).bind fun m4 =>
  some (.inl ((s3_1 + (1 : Int32)), m4))
def fX7_beginsAt (m : Hp) (a0 : Option Nat) (a1 : Int32) (a2 : Int32) : Option Hp :=
  (iter (fX7_beginsAt_L2 a0 a1 a2) FUEL ((0 : Int32), m)).bind fun r1 =>
  (
  match r1 with
  | m5 =>
    (hp_gR m5 a0 6 55).bind fun v6 =>
    (hp_sI m5 v6 0 a1 a2).bind fun m7 =>
    (hp_on m7 a0 6 (fX7_oneRideMore m7 a0 (0 : Int32))).bind fun m8 =>
    (hp_gR m8 a0 6 55).bind fun v9 =>
    (hp_gI m8 a0 6 13).bind fun v10 =>
    (hp_sI m8 v9 0 a1 (a2 - v10)).bind fun m11 =>
    some m11
  )

/-- MissedTrainsModel.soonest(III)I -/
def fX7_soonest_L9 (b0 : Option Nat) (b2 : Int32) : (Int32 × Hp) → Option ((Int32 × Hp) ⊕ Hp) := fun (s4_2, m2) =>
  if (10 : Int32) ≤ s4_2 then
    some (.inr m2)
  else
  (hp_gI m2 b0 6 13).bind fun v4 =>
  (hp_on m2 b0 6 (fX7_oneRideMore m2 b0 v4)).bind fun m5 =>
  some (.inl ((s4_2 + (1 : Int32)), m5))
def fX7_soonest (m : Hp) (a0 : Option Nat) (a1 : Int32) (a2 : Int32) (a3 : Int32) : Option (Int32 × Hp) :=
  (hp_on m a0 6 (fX7_beginsAt m a0 a1 a3)).bind fun m1 =>
  (iter (fX7_soonest_L9 a0 a2) FUEL ((1 : Int32), m1)).bind fun r2 =>
  (
  match r2 with
  | m6 =>
    (hp_gR m6 a0 6 55).bind fun v7 =>
    (hp_aI m6 v7 0 a2).bind fun v8 =>
    some (v8, m6)
  )

/-- MissedTrainsModel.earliest(IIII)I -/
def fX7_earliest_L68 (b0 : Option Nat) (b2 : Int32) (b5 : Int32) : (Int32 × Hp) → Option ((Int32 × Hp) ⊕ (Int32 × Hp)) := fun (s6_12, m12) =>
  (hp_gR m12 b0 6 55).bind fun v13 =>
  (hp_aI m12 v13 0 b2).bind fun v14 =>
  if v14 = b5 then
    some (.inr (s6_12, m12))
  else
  (hp_gI m12 b0 6 13).bind fun v16 =>
  (hp_on m12 b0 6 (fX7_oneRideMore m12 b0 v16)).bind fun m17 =>
  some (.inl ((s6_12 + (1 : Int32)), m17))
def fX7_earliest (m : Hp) (a0 : Option Nat) (a1 : Int32) (a2 : Int32) (a3 : Int32) (a4 : Int32) : Option (Int32 × Hp) :=
  (fX7_areTwo a1 a2).bind fun v1 =>
  if v1 = 0 then
    some ((-1 : Int32), m)
  else
  (fX7_in a3 (0 : Int32) (1439 : Int32)).bind fun v3 =>
  if v3 = 0 then
    some ((-1 : Int32), m)
  else
  (fX7_in a4 (0 : Int32) (1 : Int32)).bind fun v5 =>
  if v5 = 0 then
    some ((-1 : Int32), m)
  else
  (hp_on m a0 6 (fX7_soonest m a0 a1 a2 a3)).bind fun (v7, m8) =>
  if v7 = (1000000 : Int32) then
    some ((-2 : Int32), m8)
  else
  if a4 = 0 then
    some (v7, m8)
  else
  (hp_on m8 a0 6 (fX7_beginsAt m8 a0 a1 a3)).bind fun m11 =>
  (iter (fX7_earliest_L68 a0 a2 v7) FUEL ((1 : Int32), m11)).bind fun r12 =>
  (
  match r12 with
  | (v18, m19) =>
    some (v18, m19)
  )

/-- MissedTrainsModel.latest(III)I -/
def fX7_latest_L29 (b0 : Option Nat) (b1 : Int32) (b2 : Int32) (b3 : Int32) : (Int32 × Hp) → Option ((Int32 × Hp) ⊕ (Hp ⊕ (Int32 × Hp))) := fun (s4_6, m6) =>
  if s4_6 < 0 then
    some (.inr (.inl m6))
  else
  (hp_gR m6 b0 6 10).bind fun v8 =>
  (hp_aI m6 v8 0 s4_6).bind fun v9 =>
  (hp_gR m6 b0 6 7).bind fun v10 =>
  (hp_aI m6 v10 0 v9).bind fun v11 =>
  if v11 = b1 then
    (hp_on m6 b0 6 (fX7_leavesFrom m6 b0 (v9 / (8 : Int32)) b1)).bind fun v13 =>
    if v13 = 0 then
      some (.inl ((s4_6 + (-1 : Int32)), m6))
    else
    (hp_gR m6 b0 6 8).bind fun v15 =>
    (hp_aI m6 v15 0 v9).bind fun v16 =>
    (hp_on m6 b0 6 (fX7_soonest m6 b0 b1 b2 v16)).bind fun (v17, m18) =>
    if b3 < v17 then
      some (.inl ((s4_6 + (-1 : Int32)), m18))
    else
    (hp_gR m18 b0 6 8).bind fun v20 =>
    (hp_aI m18 v20 0 v9).bind fun v21 =>
    some (.inr (.inr (v21, m18)))
  else
  some (.inl ((s4_6 + (-1 : Int32)), m6))
def fX7_latest (m : Hp) (a0 : Option Nat) (a1 : Int32) (a2 : Int32) (a3 : Int32) : Option (Int32 × Hp) :=
  (fX7_areTwo a1 a2).bind fun v1 =>
  if v1 = 0 then
    some ((-1 : Int32), m)
  else
  (fX7_in a3 (0 : Int32) (1439 : Int32)).bind fun v3 =>
  if v3 = 0 then
    some ((-1 : Int32), m)
  else
  (hp_gI m a0 6 15).bind fun v5 =>
  (iter (fX7_latest_L29 a0 a1 a2 a3) FUEL ((v5 - (1 : Int32)), m)).bind fun r6 =>
  (
  match r6 with
  | .inl m22 =>
    some ((-2 : Int32), m22)
  | .inr o => some o
  )

/-- MissedTrainsModel.fastest(II)I -/
def fX7_fastest_L17 (b0 : Option Nat) (b1 : Int32) (b2 : Int32) : (Int32 × Int32 × Hp) → Option ((Int32 × Int32 × Hp) ⊕ (Int32 × Hp)) := fun (s3_3, s4_3, m3) =>
  (hp_gI m3 b0 6 14).bind fun v4 =>
  if v4 ≤ s4_3 then
    some (.inr (s3_3, m3))
  else
  (hp_on m3 b0 6 (fX7_leavesFrom m3 b0 s4_3 b1)).bind fun v6 =>
  if v6 = 0 then
    some (.inl (s3_3, (s4_3 + (1 : Int32)), m3))
  else
  (hp_on m3 b0 6 (fX7_minuteAt m3 b0 s4_3 b1)).bind fun v8 =>
  (hp_on m3 b0 6 (fX7_soonest m3 b0 b1 b2 v8)).bind fun (v9, m10) =>
  if v9 = (1000000 : Int32) then
    some (.inl (s3_3, (s4_3 + (1 : Int32)), m10))
  else
  (fX7_min s3_3 (v9 - v8)).bind fun v12 =>
  some (.inl (v12, (s4_3 + (1 : Int32)), m10))
def fX7_fastest (m : Hp) (a0 : Option Nat) (a1 : Int32) (a2 : Int32) : Option (Int32 × Hp) :=
  (fX7_areTwo a1 a2).bind fun v1 =>
  if v1 = 0 then
    some ((-1 : Int32), m)
  else
  (iter (fX7_fastest_L17 a0 a1 a2) FUEL ((1000000 : Int32), (0 : Int32), m)).bind fun r3 =>
  (
  match r3 with
  | (v13, m14) =>
    if v13 = (1000000 : Int32) then
      some ((-2 : Int32), m14)
    else
    some (v13, m14)
  )

/-- MissedTrainsModel.laysBest(II)I -/
def fX7_laysBest_L15 (b0 : Option Nat) (b1 : Int32) (b2 : Int32) : (Int32 × Int32 × Int32 × Hp) → Option ((Int32 × Int32 × Int32 × Hp) ⊕ (Int32 × Hp)) := fun (s3_2, s4_2, s5_2, m2) =>
  if s5_2 < 0 then
    some (.inr (s3_2, m2))
  else
  (hp_gR m2 b0 6 10).bind fun v4 =>
  (hp_aI m2 v4 0 s5_2).bind fun v5 =>
  (hp_gR m2 b0 6 7).bind fun v6 =>
  (hp_aI m2 v6 0 v5).bind fun v7 =>
  if v7 = b1 then
    (hp_on m2 b0 6 (fX7_leavesFrom m2 b0 (v5 / (8 : Int32)) b1)).bind fun v9 =>
    if v9 = 0 then
      some (.inl (s3_2, s4_2, (s5_2 + (-1 : Int32)), m2))
    else
    (hp_gR m2 b0 6 8).bind fun v11 =>
    (hp_aI m2 v11 0 v5).bind fun v12 =>
    (hp_on m2 b0 6 (fX7_soonest m2 b0 b1 b2 v12)).bind fun (v13, m14) =>
    if v13 < s4_2 then
      (hp_gR m14 b0 6 57).bind fun v16 =>
      (hp_gR m14 b0 6 8).bind fun v17 =>
      (hp_aI m14 v17 0 v5).bind fun v18 =>
      (hp_sI m14 v16 0 s3_2 v18).bind fun m19 =>
      (hp_gR m19 b0 6 58).bind fun v20 =>
      (hp_sI m19 v20 0 s3_2 v13).bind fun m21 =>
      some (.inl ((s3_2 + (1 : Int32)), v13, (s5_2 + (-1 : Int32)), m21))
    else
    some (.inl (s3_2, s4_2, (s5_2 + (-1 : Int32)), m14))
  else
  some (.inl (s3_2, s4_2, (s5_2 + (-1 : Int32)), m2))
def fX7_laysBest (m : Hp) (a0 : Option Nat) (a1 : Int32) (a2 : Int32) : Option (Int32 × Hp) :=
  (hp_gI m a0 6 15).bind fun v1 =>
  (iter (fX7_laysBest_L15 a0 a1 a2) FUEL ((0 : Int32), (1000000 : Int32), (v1 - (1 : Int32)), m)).bind fun r2 =>
  (
  match r2 with
  | (v22, m23) =>
    some (v22, m23)
  )

/-- MissedTrainsModel.best(III)I -/
def fX7_best (m : Hp) (a0 : Option Nat) (a1 : Int32) (a2 : Int32) (a3 : Int32) : Option (Int32 × Hp) :=
  (fX7_areTwo a1 a2).bind fun v1 =>
  if v1 = 0 then
    some ((-1 : Int32), m)
  else
  ((if a3 = (100 : Int32) then
    some (.inl ())
  else
  (fX7_in a3 (1000 : Int32) (1047 : Int32)).bind fun v14 =>
  if v14 = 0 then
    (fX7_in a3 (2000 : Int32) (2047 : Int32)).bind fun v16 =>
    if v16 = 0 then
      some (.inr ((-1 : Int32), m))
    else
    some (.inl ())
  else
  some (.inl ()) : Option (Unit ⊕ (Int32 × Hp)))).bind fun p3 =>
  (
  match p3 with
  | .inl _ =>
    (hp_on m a0 6 (fX7_laysBest m a0 a1 a2)).bind fun (v4, m5) =>
    if a3 = (100 : Int32) then
      some (v4, m5)
    else
    if (jrem a3 (1000 : Int32)) < v4 then
      if (2000 : Int32) ≤ a3 then
        (hp_gR m5 a0 6 58).bind fun v9 =>
        (hp_aI m5 v9 0 ((v4 - (1 : Int32)) - (jrem a3 (1000 : Int32)))).bind fun v10 =>
        some (v10, m5)
      else
      (hp_gR m5 a0 6 57).bind fun v11 =>
      (hp_aI m5 v11 0 ((v4 - (1 : Int32)) - (jrem a3 (1000 : Int32)))).bind fun v12 =>
      some (v12, m5)
    else
    some ((-4 : Int32), m5)
  | .inr o => some o
  )

/-- MissedTrainsModel.comeTo(II)I -/
def fX7_comeTo_L35 (bm : Hp) (b0 : Option Nat) : (Int32 × Int32) → Option ((Int32 × Int32) ⊕ Int32) := fun (s3_7, s4_7) =>
  if (10 : Int32) ≤ s4_7 then
    some (.inr s3_7)
  else
  (hp_gR bm b0 6 55).bind fun v9 =>
  (hp_aI bm v9 0 s4_7).bind fun v10 =>
  if v10 = (1000000 : Int32) then
    some (.inl (s3_7, (s4_7 + (1 : Int32))))
  else
  some (.inl ((s3_7 ||| (jshl (1 : Int32) s4_7)), (s4_7 + (1 : Int32))))
def fX7_comeTo (m : Hp) (a0 : Option Nat) (a1 : Int32) (a2 : Int32) : Option (Int32 × Hp) :=
  (fX7_isStation a1).bind fun v1 =>
  if v1 = 0 then
    some ((-1 : Int32), m)
  else
  (fX7_in a2 (0 : Int32) (1439 : Int32)).bind fun v3 =>
  if v3 = 0 then
    some ((-1 : Int32), m)
  else
  (hp_on m a0 6 (fX7_soonest m a0 a1 a1 a2)).bind fun (v5, m6) =>
  (iter (fX7_comeTo_L35 m6 a0) FUEL ((jshl (1 : Int32) a1), (0 : Int32))).bind fun r7 =>
  (
  match r7 with
  | v12 =>
    some (v12, m6)
  )

/-- MissedTrainsModel.goesFromTo(III)Z -/
def fX7_goesFromTo (m : Hp) (a0 : Option Nat) (a1 : Int32) (a2 : Int32) (a3 : Int32) : Option Int32 :=
  (hp_on m a0 6 (fX7_runs m a0 a1)).bind fun v1 =>
  if v1 = 0 then
    some (0 : Int32)
  else
  (hp_on m a0 6 (fX7_stopAt m a0 a1 a2)).bind fun v3 =>
  if v3 = (-1 : Int32) then
    some (0 : Int32)
  else
  (hp_on m a0 6 (fX7_stopAt m a0 a1 a3)).bind fun v5 =>
  (hp_on m a0 6 (fX7_stopAt m a0 a1 a2)).bind fun v6 =>
  if v5 ≤ v6 then
    some (0 : Int32)
  else
  some (1 : Int32)

/-- MissedTrainsModel.longestBetween()I -/
def fX7_longestBetween_L6 (bm : Hp) (b0 : Option Nat) : (Int32 × Int32 × Int32) → Option ((Int32 × Int32 × Int32) ⊕ Int32) := fun (s1_1, s2_1, s3_1) =>
  if (1439 : Int32) < s3_1 then
    some (.inr s2_1)
  else
  (hp_gR bm b0 6 59).bind fun v3 =>
  (hp_aI bm v3 2 s3_1).bind fun v4 =>
  if v4 = 0 then
    some (.inl (s1_1, s2_1, (s3_1 + (1 : Int32))))
  else
  if s1_1 = (-1 : Int32) then
    some (.inl (s3_1, s2_1, (s3_1 + (1 : Int32))))
  else
  (fX7_max s2_1 (s3_1 - s1_1)).bind fun v7 =>
  some (.inl (s3_1, v7, (s3_1 + (1 : Int32))))
def fX7_longestBetween (m : Hp) (a0 : Option Nat) : Option Int32 :=
  (iter (fX7_longestBetween_L6 m a0) FUEL ((-1 : Int32), (0 : Int32), (0 : Int32))).bind fun r1 =>
  (
  match r1 with
  | v8 =>
    some v8
  )

/-- MissedTrainsModel.clearsMinutes()V -/
def fX7_clearsMinutes_L2 (b0 : Option Nat) : (Int32 × Hp) → Option ((Int32 × Hp) ⊕ Hp) := fun (s1_1, m1) =>
  if (1439 : Int32) < s1_1 then
    some (.inr m1)
  else
  (hp_gR m1 b0 6 59).bind fun v3 =>
  (hp_sI m1 v3 2 s1_1 (0 : Int32)).bind fun m4 =>
  some (.inl ((s1_1 + (1 : Int32)), m4))
def fX7_clearsMinutes (m : Hp) (a0 : Option Nat) : Option Hp :=
  (iter (fX7_clearsMinutes_L2 a0) FUEL ((0 : Int32), m)).bind fun r1 =>
  (
  match r1 with
  | m5 =>
    some m5
  )

/-- MissedTrainsModel.direct(III)I -/
def fX7_direct_L29 (b0 : Option Nat) (b1 : Int32) (b2 : Int32) (b3 : Int32) : (Int32 × Int32 × Hp) → Option ((Int32 × Int32 × Hp) ⊕ (Int32 × Hp)) := fun (s4_6, s5_6, m6) =>
  (hp_gI m6 b0 6 14).bind fun v7 =>
  if v7 ≤ s5_6 then
    some (.inr (s4_6, m6))
  else
  (hp_on m6 b0 6 (fX7_goesFromTo m6 b0 s5_6 b1 b2)).bind fun v9 =>
  if v9 = 0 then
    some (.inl (s4_6, (s5_6 + (1 : Int32)), m6))
  else
  (hp_gR m6 b0 6 59).bind fun v11 =>
  (hp_on m6 b0 6 (fX7_minuteAt m6 b0 s5_6 b1)).bind fun v12 =>
  (hp_sI m6 v11 2 v12 (1 : Int32)).bind fun m13 =>
  some (.inl ((s4_6 + (1 : Int32)), (s5_6 + (1 : Int32)), m13))
def fX7_direct (m : Hp) (a0 : Option Nat) (a1 : Int32) (a2 : Int32) (a3 : Int32) : Option (Int32 × Hp) :=
  (fX7_areTwo a1 a2).bind fun v1 =>
  if v1 = 0 then
    some ((-1 : Int32), m)
  else
  (fX7_in a3 (0 : Int32) (1 : Int32)).bind fun v3 =>
  if v3 = 0 then
    some ((-1 : Int32), m)
  else
  (hp_on m a0 6 (fX7_clearsMinutes m a0)).bind fun m5 =>
  (iter (fX7_direct_L29 a0 a1 a2 a3) FUEL ((0 : Int32), (0 : Int32), m5)).bind fun r6 =>
  (
  match r6 with
  | (v14, m15) =>
    if a3 = 0 then
      some (v14, m15)
    else
    (hp_on m15 a0 6 (fX7_longestBetween m15 a0)).bind fun v17 =>
    some (v17, m15)
  )

/-- MissedTrainsModel.longestWait(I)I -/
def fX7_longestWait_L15 (b0 : Option Nat) (b1 : Int32) : (Int32 × Hp) → Option ((Int32 × Hp) ⊕ Hp) := fun (s2_4, m4) =>
  (hp_gI m4 b0 6 14).bind fun v5 =>
  if v5 ≤ s2_4 then
    some (.inr m4)
  else
  (hp_on m4 b0 6 (fX7_leavesFrom m4 b0 s2_4 b1)).bind fun v7 =>
  if v7 = 0 then
    some (.inl ((s2_4 + (1 : Int32)), m4))
  else
  (hp_gR m4 b0 6 59).bind fun v9 =>
  (hp_on m4 b0 6 (fX7_minuteAt m4 b0 s2_4 b1)).bind fun v10 =>
  (hp_sI m4 v9 2 v10 (1 : Int32)).bind fun m11 =>
  some (.inl ((s2_4 + (1 : Int32)), m11))
def fX7_longestWait (m : Hp) (a0 : Option Nat) (a1 : Int32) : Option (Int32 × Hp) :=
  (fX7_isStation a1).bind fun v1 =>
  if v1 = 0 then
    some ((-1 : Int32), m)
  else
  (hp_on m a0 6 (fX7_clearsMinutes m a0)).bind fun m3 =>
  (iter (fX7_longestWait_L15 a0 a1) FUEL ((0 : Int32), m3)).bind fun r4 =>
  (
  match r4 with
  | m12 =>
    (hp_on m12 a0 6 (fX7_longestBetween m12 a0)).bind fun v13 =>
    some (v13, m12)
  )

/-- MissedTrainsModel.justMissed(II)I -/
def fX7_justMissed_L36 (bm : Hp) (b0 : Option Nat) (b1 : Int32) (b2 : Int32) (b4 : Int32) : (Int32 × Int32) → Option ((Int32 × Int32) ⊕ Int32) := fun (s3_8, s5_8) =>
  (hp_gI bm b0 6 14).bind fun v9 =>
  if v9 ≤ s5_8 then
    some (.inr s3_8)
  else
  if b4 = s5_8 then
    some (.inl (s3_8, (s5_8 + (1 : Int32))))
  else
  (hp_on bm b0 6 (fX7_leavesFrom bm b0 b4 b1)).bind fun v12 =>
  if v12 = 0 then
    some (.inl (s3_8, (s5_8 + (1 : Int32))))
  else
  (hp_on bm b0 6 (fX7_comesTo bm b0 s5_8 b1)).bind fun v14 =>
  if v14 = 0 then
    some (.inl (s3_8, (s5_8 + (1 : Int32))))
  else
  (hp_on bm b0 6 (fX7_minuteAt bm b0 b4 b1)).bind fun v16 =>
  (hp_on bm b0 6 (fX7_minuteAt bm b0 s5_8 b1)).bind fun v17 =>
  ((if (v16 - v17) < 0 then
    some (.inl ())
  else
  (hp_gI bm b0 6 13).bind fun v22 =>
  if (v16 - v17) < v22 then
    some (.inr (.inl ((s3_8 + (1 : Int32)), (s5_8 + (1 : Int32)))))
  else
  some (.inl ()) : Option (Unit ⊕ ((Int32 × Int32) ⊕ Int32)))).bind fun p18 =>
  (
  match p18 with
  | .inl _ =>
    if 0 ≤ (v16 - v17) then
      some (.inl (s3_8, (s5_8 + (1 : Int32))))
    else
    if b2 < (-(v16 - v17)) then
      some (.inl (s3_8, (s5_8 + (1 : Int32))))
    else
    some (.inl ((s3_8 + (1 : Int32)), (s5_8 + (1 : Int32))))
  | .inr o => some o
  )
def fX7_justMissed_L24 (bm : Hp) (b0 : Option Nat) (b1 : Int32) (b2 : Int32) : (Int32 × Int32) → Option ((Int32 × Int32) ⊕ Int32) := fun (s3_5, s4_5) =>
  (hp_gI bm b0 6 14).bind fun v6 =>
  if v6 ≤ s4_5 then
    some (.inr s3_5)
  else
  (iter (fX7_justMissed_L36 bm b0 b1 b2 s4_5) FUEL (s3_5, (0 : Int32))).bind fun r8 =>
  (
  match r8 with
  | v24 =>
    some (.inl (v24, (s4_5 + (1 : Int32))))
  )
def fX7_justMissed (m : Hp) (a0 : Option Nat) (a1 : Int32) (a2 : Int32) : Option Int32 :=
  (fX7_isStation a1).bind fun v1 =>
  if v1 = 0 then
    some (-1 : Int32)
  else
  (fX7_in a2 (0 : Int32) (60 : Int32)).bind fun v3 =>
  if v3 = 0 then
    some (-1 : Int32)
  else
  (iter (fX7_justMissed_L24 m a0 a1 a2) FUEL ((0 : Int32), (0 : Int32))).bind fun r5 =>
  (
  match r5 with
  | v25 =>
    some v25
  )

/-- MissedTrainsModel.platforms(II)I -/
def fX7_platforms_L62 (bm : Hp) (b0 : Option Nat) (b1 : Int32) (b2 : Int32) (b3 : Int32) (b4 : Int32) : (Int32 × Int32) → Option ((Int32 × Int32) ⊕ Int32) := fun (s5_12, s6_12) =>
  (hp_gI bm b0 6 14).bind fun v13 =>
  if v13 ≤ s6_12 then
    some (.inr s5_12)
  else
  (hp_on bm b0 6 (fX7_runs bm b0 s6_12)).bind fun v15 =>
  if v15 = 0 then
    some (.inl (s5_12, (s6_12 + (1 : Int32))))
  else
  (hp_on bm b0 6 (fX7_stopAt bm b0 s6_12 b1)).bind fun v17 =>
  if v17 = (-1 : Int32) then
    some (.inl (s5_12, (s6_12 + (1 : Int32))))
  else
  (hp_on bm b0 6 (fX7_minuteAt bm b0 b4 b1)).bind fun v19 =>
  (hp_on bm b0 6 (fX7_minuteAt bm b0 s6_12 b1)).bind fun v20 =>
  (fX7_in (v19 - v20) (0 : Int32) b2).bind fun v21 =>
  if v21 = 0 then
    some (.inl (s5_12, (s6_12 + (1 : Int32))))
  else
  some (.inl ((s5_12 + (1 : Int32)), (s6_12 + (1 : Int32))))
def fX7_platforms_L24 (bm : Hp) (b0 : Option Nat) (b1 : Int32) (b2 : Int32) : (Int32 × Int32) → Option ((Int32 × Int32) ⊕ Int32) := fun (s3_5, s4_5) =>
  (hp_gI bm b0 6 14).bind fun v6 =>
  if v6 ≤ s4_5 then
    some (.inr s3_5)
  else
  (hp_on bm b0 6 (fX7_runs bm b0 s4_5)).bind fun v8 =>
  if v8 = 0 then
    some (.inl (s3_5, (s4_5 + (1 : Int32))))
  else
  (hp_on bm b0 6 (fX7_stopAt bm b0 s4_5 b1)).bind fun v10 =>
  if v10 = (-1 : Int32) then
    some (.inl (s3_5, (s4_5 + (1 : Int32))))
  else
  (iter (fX7_platforms_L62 bm b0 b1 b2 s3_5 s4_5) FUEL ((0 : Int32), (0 : Int32))).bind fun r12 =>
  (
  match r12 with
  | v23 =>
    (fX7_max s3_5 v23).bind fun v24 =>
    some (.inl (v24, (s4_5 + (1 : Int32))))
  )
def fX7_platforms (m : Hp) (a0 : Option Nat) (a1 : Int32) (a2 : Int32) : Option Int32 :=
  (fX7_isStation a1).bind fun v1 =>
  if v1 = 0 then
    some (-1 : Int32)
  else
  (fX7_in a2 (0 : Int32) (60 : Int32)).bind fun v3 =>
  if v3 = 0 then
    some (-1 : Int32)
  else
  (iter (fX7_platforms_L24 m a0 a1 a2) FUEL ((0 : Int32), (0 : Int32))).bind fun r5 =>
  (
  match r5 with
  | v25 =>
    some v25
  )

/-- MissedTrainsModel.goesOn(II)Z -/
def fX7_goesOn (m : Hp) (a0 : Option Nat) (a1 : Int32) (a2 : Int32) : Option Int32 :=
  (hp_on m a0 6 (fX7_runs m a0 a1)).bind fun v1 =>
  if v1 = 0 then
    some (0 : Int32)
  else
  (hp_on m a0 6 (fX7_runs m a0 a2)).bind fun v3 =>
  if v3 = 0 then
    some (0 : Int32)
  else
  (hp_on m a0 6 (fX7_trainIs m a0 a1 (4 : Int32))).bind fun v5 =>
  (hp_on m a0 6 (fX7_trainIs m a0 a2 (3 : Int32))).bind fun v6 =>
  if v5 = v6 then
    (hp_on m a0 6 (fX7_trainIs m a0 a2 (5 : Int32))).bind fun v8 =>
    (hp_on m a0 6 (fX7_trainIs m a0 a1 (6 : Int32))).bind fun v9 =>
    (hp_gI m a0 6 13).bind fun v10 =>
    if v8 < (v9 + v10) then
      some (0 : Int32)
    else
    some (1 : Int32)
  else
  some (0 : Int32)

/-- MissedTrainsModel.changesAlong(II)V -/
def fX7_changesAlong_L16 (bm : Hp) (b0 : Option Nat) (b2 : Int32) (b3 : Int32) (b4 : Int32) : (Int32 × Int32) → Option ((Int32 × Int32) ⊕ Int32) := fun (s5_4, s6_4) =>
  (hp_gI bm b0 6 14).bind fun v5 =>
  if v5 ≤ s6_4 then
    some (.inr s5_4)
  else
  (hp_gR bm b0 6 60).bind fun v7 =>
  (hp_aI bm v7 0 s6_4).bind fun v8 =>
  if v8 = b4 then
    some (.inl (s6_4, (s6_4 + (1 : Int32))))
  else
  some (.inl (s5_4, (s6_4 + (1 : Int32))))
def fX7_changesAlong_L2 (b0 : Option Nat) (b2 : Int32) : (Int32 × Hp) → Option ((Int32 × Hp) ⊕ Hp) := fun (s3_1, m1) =>
  (hp_gR m1 b0 6 61).bind fun v2 =>
  (hp_aI m1 v2 0 s3_1).bind fun v3 =>
  (iter (fX7_changesAlong_L16 m1 b0 b2 s3_1 v3) FUEL ((-1 : Int32), (0 : Int32))).bind fun r4 =>
  (
  match r4 with
  | v10 =>
    (hp_gR m1 b0 6 60).bind fun v11 =>
    (hp_sI m1 v11 0 s3_1 v3).bind fun m12 =>
    if v3 = b2 then
      some (.inr m12)
    else
    some (.inl (v10, m12))
  )
def fX7_changesAlong (m : Hp) (a0 : Option Nat) (a1 : Int32) (a2 : Int32) : Option Hp :=
  (iter (fX7_changesAlong_L2 a0 a2) FUEL (a1, m)).bind fun r1 =>
  (
  some r1
  )

/-- MissedTrainsModel.findsNext(I)Z -/
def fX7_findsNext_L2 (b0 : Option Nat) (b1 : Int32) : (Int32 × Hp) → Option ((Int32 × Hp) ⊕ Hp) := fun (s2_1, m1) =>
  (hp_gI m1 b0 6 14).bind fun v2 =>
  if v2 ≤ s2_1 then
    some (.inr m1)
  else
  (hp_gR m1 b0 6 61).bind fun v4 =>
  (hp_sI m1 v4 0 s2_1 (-1 : Int32)).bind fun m5 =>
  some (.inl ((s2_1 + (1 : Int32)), m5))
def fX7_findsNext_L50 (b0 : Option Nat) (b1 : Int32) (b3 : Int32) (b4 : Int32) : (Int32 × Int32 × Hp) → Option ((Int32 × Int32 × Hp) ⊕ ((Int32 × Hp) ⊕ ((Int32 × Int32 × Hp) ⊕ (Hp ⊕ (Int32 × Hp))))) := fun (s2_13, s5_13, m13) =>
  (hp_gI m13 b0 6 14).bind fun v14 =>
  if v14 ≤ s5_13 then
    some (.inr (.inl (s2_13, m13)))
  else
  (hp_gR m13 b0 6 61).bind fun v16 =>
  (hp_aI m13 v16 0 s5_13).bind fun v17 =>
  if v17 = (-1 : Int32) then
    (hp_on m13 b0 6 (fX7_goesOn m13 b0 b4 s5_13)).bind fun v19 =>
    if v19 = 0 then
      some (.inl (s2_13, (s5_13 + (1 : Int32)), m13))
    else
    (hp_gR m13 b0 6 61).bind fun v21 =>
    (hp_sI m13 v21 0 s5_13 b4).bind fun m22 =>
    (hp_gR m22 b0 6 60).bind fun v23 =>
    (hp_aI m22 v23 0 s5_13).bind fun v24 =>
    if v24 = (-1 : Int32) then
      (hp_on m22 b0 6 (fX7_changesAlong m22 b0 s5_13 b1)).bind fun m30 =>
      some (.inr (.inr (.inr (.inr ((1 : Int32), m30)))))
    else
    (hp_gR m22 b0 6 62).bind fun v26 =>
    (hp_gR m22 b0 6 60).bind fun v27 =>
    (hp_aI m22 v27 0 s5_13).bind fun v28 =>
    (hp_sI m22 v26 0 s2_13 v28).bind fun m29 =>
    some (.inl ((s2_13 + (1 : Int32)), (s5_13 + (1 : Int32)), m29))
  else
  some (.inl (s2_13, (s5_13 + (1 : Int32)), m13))
def fX7_findsNext_L34 (b0 : Option Nat) (b1 : Int32) : (Int32 × Int32 × Hp) → Option ((Int32 × Int32 × Hp) ⊕ (Hp ⊕ (Int32 × Hp))) := fun (s2_9, s3_9, m9) =>
  if s2_9 ≤ s3_9 then
    some (.inr (.inl m9))
  else
  (hp_gR m9 b0 6 62).bind fun v11 =>
  (hp_aI m9 v11 0 s3_9).bind fun v12 =>
  (iter (fX7_findsNext_L50 b0 b1 s3_9 v12) FUEL (s2_9, (0 : Int32), m9)).bind fun r13 =>
  (
  match r13 with
  | .inl (v31, m32) =>
    some (.inl (v31, (s3_9 + (1 : Int32)), m32))
  | .inr o => some o
  )
def fX7_findsNext (m : Hp) (a0 : Option Nat) (a1 : Int32) : Option (Int32 × Hp) :=
  (iter (fX7_findsNext_L2 a0 a1) FUEL ((0 : Int32), m)).bind fun r1 =>
  (
  match r1 with
  | m6 =>
    (hp_gR m6 a0 6 62).bind fun v7 =>
    (hp_sI m6 v7 0 (0 : Int32) a1).bind fun m8 =>
    (iter (fX7_findsNext_L34 a0 a1) FUEL ((1 : Int32), (0 : Int32), m8)).bind fun r9 =>
    (
    match r9 with
    | .inl m33 =>
      some ((0 : Int32), m33)
    | .inr o => some o
    )
  )

/-- MissedTrainsModel.sets()I -/
def fX7_sets_L4 (b0 : Option Nat) (b1 : Int32) : (Int32 × Hp) → Option ((Int32 × Hp) ⊕ Hp) := fun (s2_1, m1) =>
  if (48 : Int32) ≤ s2_1 then
    some (.inr m1)
  else
  (hp_gR m1 b0 6 60).bind fun v3 =>
  (hp_sI m1 v3 0 s2_1 (-1 : Int32)).bind fun m4 =>
  some (.inl ((s2_1 + (1 : Int32)), m4))
def fX7_sets_L25 (b0 : Option Nat) : (Int32 × Int32 × Hp) → Option ((Int32 × Int32 × Hp) ⊕ (Int32 × Hp)) := fun (s1_6, s2_6, m6) =>
  (hp_gI m6 b0 6 14).bind fun v7 =>
  if v7 ≤ s2_6 then
    some (.inr (s1_6, m6))
  else
  (hp_on m6 b0 6 (fX7_runs m6 b0 s2_6)).bind fun v9 =>
  if v9 = 0 then
    some (.inl (s1_6, (s2_6 + (1 : Int32)), m6))
  else
  (hp_on m6 b0 6 (fX7_findsNext m6 b0 s2_6)).bind fun (v11, m12) =>
  if v11 = 0 then
    some (.inl ((s1_6 + (1 : Int32)), (s2_6 + (1 : Int32)), m12))
  else
  some (.inl (((s1_6 + (1 : Int32)) - (1 : Int32)), (s2_6 + (1 : Int32)), m12))
def fX7_sets (m : Hp) (a0 : Option Nat) : Option (Int32 × Hp) :=
  (iter (fX7_sets_L4 a0 (0 : Int32)) FUEL ((0 : Int32), m)).bind fun r1 =>
  (
  match r1 with
  | m5 =>
    (iter (fX7_sets_L25 a0) FUEL ((0 : Int32), (0 : Int32), m5)).bind fun r6 =>
    (
    match r6 with
    | (v14, m15) =>
      some (v14, m15)
    )
  )

/-- MissedTrainsModel.areMet(II)Z -/
def fX7_areMet_L17 (bm : Hp) (b0 : Option Nat) (b1 : Int32) (b2 : Int32) (b3 : Int32) : Int32 → Option (Int32 ⊕ (Unit ⊕ (Int32 ⊕ (Unit ⊕ Int32)))) := fun s4_5 =>
  (hp_gR bm b0 6 6).bind fun v6 =>
  (hp_aI bm v6 0 b2).bind fun v7 =>
  if v7 ≤ (s4_5 + (1 : Int32)) then
    some (.inr (.inl ()))
  else
  (hp_gR bm b0 6 7).bind fun v9 =>
  (fX7_at b1 b3).bind fun v10 =>
  (hp_aI bm v9 0 v10).bind fun v11 =>
  (hp_gR bm b0 6 7).bind fun v12 =>
  (fX7_at b2 (s4_5 + (1 : Int32))).bind fun v13 =>
  (hp_aI bm v12 0 v13).bind fun v14 =>
  ((if v11 = v14 then
    (hp_gR bm b0 6 7).bind fun v33 =>
    (fX7_at b1 (b3 + (1 : Int32))).bind fun v34 =>
    (hp_aI bm v33 0 v34).bind fun v35 =>
    (hp_gR bm b0 6 7).bind fun v36 =>
    (fX7_at b2 s4_5).bind fun v37 =>
    (hp_aI bm v36 0 v37).bind fun v38 =>
    if v35 = v38 then
      some (1 : Int32)
    else
    some (0 : Int32)
  else
  some (0 : Int32) : Option Int32)).bind fun v15 =>
  if v15 = 0 then
    some (.inl (s4_5 + (1 : Int32)))
  else
  (hp_gR bm b0 6 8).bind fun v18 =>
  (fX7_at b1 b3).bind fun v19 =>
  (hp_aI bm v18 0 v19).bind fun v20 =>
  (hp_gR bm b0 6 8).bind fun v21 =>
  (fX7_at b2 (s4_5 + (1 : Int32))).bind fun v22 =>
  (hp_aI bm v21 0 v22).bind fun v23 =>
  if v23 ≤ v20 then
    some (.inl (s4_5 + (1 : Int32)))
  else
  (hp_gR bm b0 6 8).bind fun v25 =>
  (fX7_at b2 s4_5).bind fun v26 =>
  (hp_aI bm v25 0 v26).bind fun v27 =>
  (hp_gR bm b0 6 8).bind fun v28 =>
  (fX7_at b1 (b3 + (1 : Int32))).bind fun v29 =>
  (hp_aI bm v28 0 v29).bind fun v30 =>
  if v30 ≤ v27 then
    some (.inl (s4_5 + (1 : Int32)))
  else
  some (.inr (.inr (.inr (.inr (1 : Int32)))))
def fX7_areMet_L2 (bm : Hp) (b0 : Option Nat) (b1 : Int32) (b2 : Int32) : Int32 → Option (Int32 ⊕ (Unit ⊕ Int32)) := fun s3_1 =>
  (hp_gR bm b0 6 6).bind fun v2 =>
  (hp_aI bm v2 0 b1).bind fun v3 =>
  if v3 ≤ (s3_1 + (1 : Int32)) then
    some (.inr (.inl ()))
  else
  (iter (fX7_areMet_L17 bm b0 b1 b2 s3_1) FUEL (0 : Int32)).bind fun r5 =>
  (
  match r5 with
  | .inl _ =>
    some (.inl (s3_1 + (1 : Int32)))
  | .inr o => some o
  )
def fX7_areMet (m : Hp) (a0 : Option Nat) (a1 : Int32) (a2 : Int32) : Option Int32 :=
  (iter (fX7_areMet_L2 m a0 a1 a2) FUEL (0 : Int32)).bind fun r1 =>
  (
  match r1 with
  | .inl _ =>
    some (0 : Int32)
  | .inr o => some o
  )

/-- MissedTrainsModel.meets()I -/
def fX7_meets_L14 (bm : Hp) (b0 : Option Nat) (b2 : Int32) : (Int32 × Int32) → Option ((Int32 × Int32) ⊕ Int32) := fun (s1_4, s3_4) =>
  if b2 ≤ s3_4 then
    some (.inr s1_4)
  else
  (hp_on bm b0 6 (fX7_runs bm b0 b2)).bind fun v6 =>
  if v6 = 0 then
    some (.inl (s1_4, (s3_4 + (1 : Int32))))
  else
  (hp_on bm b0 6 (fX7_runs bm b0 s3_4)).bind fun v8 =>
  if v8 = 0 then
    some (.inl (s1_4, (s3_4 + (1 : Int32))))
  else
  (hp_on bm b0 6 (fX7_areMet bm b0 b2 s3_4)).bind fun v10 =>
  if v10 = 0 then
    some (.inl (s1_4, (s3_4 + (1 : Int32))))
  else
  some (.inl ((s1_4 + (1 : Int32)), (s3_4 + (1 : Int32))))
def fX7_meets_L4 (bm : Hp) (b0 : Option Nat) : (Int32 × Int32) → Option ((Int32 × Int32) ⊕ Int32) := fun (s1_1, s2_1) =>
  (hp_gI bm b0 6 14).bind fun v2 =>
  if v2 ≤ s2_1 then
    some (.inr s1_1)
  else
  (iter (fX7_meets_L14 bm b0 s2_1) FUEL (s1_1, (0 : Int32))).bind fun r4 =>
  (
  match r4 with
  | v12 =>
    some (.inl (v12, (s2_1 + (1 : Int32))))
  )
def fX7_meets (m : Hp) (a0 : Option Nat) : Option Int32 :=
  (iter (fX7_meets_L4 m a0) FUEL ((0 : Int32), (0 : Int32))).bind fun r1 =>
  (
  match r1 with
  | v13 =>
    some v13
  )

/-- MissedTrainsModel.mostAt(II)I -/
def fX7_mostAt_L19 (bm : Hp) (b0 : Option Nat) (b1 : Int32) : (Int32 × Int32) → Option ((Int32 × Int32) ⊕ Int32) := fun (s3_5, s4_5) =>
  (hp_gI bm b0 6 15).bind fun v6 =>
  if v6 ≤ s4_5 then
    some (.inr s3_5)
  else
  (hp_gR bm b0 6 10).bind fun v8 =>
  (hp_aI bm v8 0 s4_5).bind fun v9 =>
  if (v9 / (8 : Int32)) = (b1 / (8 : Int32)) then
    some (.inl (s3_5, (s4_5 + (1 : Int32))))
  else
  (hp_gR bm b0 6 7).bind fun v11 =>
  (hp_aI bm v11 0 v9).bind fun v12 =>
  (hp_gR bm b0 6 7).bind fun v13 =>
  (hp_aI bm v13 0 b1).bind fun v14 =>
  if v12 = v14 then
    (hp_gR bm b0 6 8).bind fun v16 =>
    (hp_aI bm v16 0 v9).bind fun v17 =>
    (hp_gI bm b0 6 13).bind fun v18 =>
    (hp_gR bm b0 6 8).bind fun v19 =>
    (hp_aI bm v19 0 b1).bind fun v20 =>
    if (v17 + v18) ≤ v20 then
      (hp_gR bm b0 6 63).bind fun v22 =>
      (hp_aI bm v22 0 v9).bind fun v23 =>
      if v23 = 0 then
        (fX7_max s3_5 (-1 : Int32)).bind fun v28 =>
        some (.inl (v28, (s4_5 + (1 : Int32))))
      else
      (hp_gR bm b0 6 63).bind fun v25 =>
      (hp_aI bm v25 0 v9).bind fun v26 =>
      (fX7_max s3_5 v26).bind fun v27 =>
      some (.inl (v27, (s4_5 + (1 : Int32))))
    else
    some (.inl (s3_5, (s4_5 + (1 : Int32))))
  else
  some (.inl (s3_5, (s4_5 + (1 : Int32))))
def fX7_mostAt (m : Hp) (a0 : Option Nat) (a1 : Int32) (a2 : Int32) : Option Int32 :=
  (hp_gR m a0 6 7).bind fun v1 =>
  (hp_aI m v1 0 a1).bind fun v2 =>
  ((if v2 = a2 then
    some (0 : Int32)
  else
  some (-1 : Int32) : Option Int32)).bind fun v3 =>
  (iter (fX7_mostAt_L19 m a0 a1) FUEL (v3, (0 : Int32))).bind fun r5 =>
  (
  match r5 with
  | v29 =>
    some v29
  )

/-- MissedTrainsModel.inspector(I)I -/
def fX7_inspector_L11 (b0 : Option Nat) (b1 : Int32) : (Int32 × Hp) → Option ((Int32 × Hp) ⊕ Hp) := fun (s2_3, m3) =>
  if (384 : Int32) ≤ s2_3 then
    some (.inr m3)
  else
  (hp_gR m3 b0 6 63).bind fun v5 =>
  (hp_sI m3 v5 0 s2_3 (0 : Int32)).bind fun m6 =>
  some (.inl ((s2_3 + (1 : Int32)), m6))
def fX7_inspector_L105 (b0 : Option Nat) (b1 : Int32) (b3 : Int32) (b5 : Int32) (b6 : Int32) : (Int32 × Int32 × Hp) → Option ((Int32 × Int32 × Hp) ⊕ (Int32 × Hp)) := fun (s2_19, s7_19, m19) =>
  (hp_gR m19 b0 6 6).bind fun v20 =>
  (hp_aI m19 v20 0 b5).bind fun v21 =>
  if v21 ≤ s7_19 then
    some (.inr (s2_19, m19))
  else
  if b6 = (-1 : Int32) then
    some (.inr (s2_19, m19))
  else
  (hp_gR m19 b0 6 63).bind fun v24 =>
  (fX7_at b5 s7_19).bind fun v25 =>
  (hp_gR m19 b0 6 63).bind fun v26 =>
  (fX7_at b5 s7_19).bind fun v27 =>
  (hp_aI m19 v26 0 v27).bind fun v28 =>
  (fX7_max v28 (b6 + (1 : Int32))).bind fun v29 =>
  (hp_sI m19 v24 0 v25 v29).bind fun m30 =>
  (fX7_max s2_19 (b6 + (1 : Int32))).bind fun v31 =>
  some (.inl (v31, (s7_19 + (1 : Int32)), m30))
def fX7_inspector_L35 (b0 : Option Nat) (b1 : Int32) : (Int32 × Int32 × Hp) → Option ((Int32 × Int32 × Hp) ⊕ (Int32 × Hp)) := fun (s2_8, s3_8, m8) =>
  (hp_gI m8 b0 6 15).bind fun v9 =>
  if v9 ≤ s3_8 then
    some (.inr (s2_8, m8))
  else
  (hp_gR m8 b0 6 10).bind fun v11 =>
  (hp_aI m8 v11 0 s3_8).bind fun v12 =>
  (hp_on m8 b0 6 (fX7_runs m8 b0 (v12 / (8 : Int32)))).bind fun v13 =>
  if v13 = 0 then
    some (.inl (s2_8, (s3_8 + (1 : Int32)), m8))
  else
  (hp_gR m8 b0 6 6).bind fun v15 =>
  (hp_aI m8 v15 0 (v12 / (8 : Int32))).bind fun v16 =>
  if (jrem v12 (8 : Int32)) = (v16 - (1 : Int32)) then
    some (.inl (s2_8, (s3_8 + (1 : Int32)), m8))
  else
  (hp_on m8 b0 6 (fX7_mostAt m8 b0 v12 b1)).bind fun v18 =>
  (iter (fX7_inspector_L105 b0 b1 s3_8 (v12 / (8 : Int32)) v18) FUEL (s2_8, ((jrem v12 (8 : Int32)) + (1 : Int32)), m8)).bind fun r19 =>
  (
  match r19 with
  | (v32, m33) =>
    some (.inl (v32, (s3_8 + (1 : Int32)), m33))
  )
def fX7_inspector (m : Hp) (a0 : Option Nat) (a1 : Int32) : Option (Int32 × Hp) :=
  (fX7_isStation a1).bind fun v1 =>
  if v1 = 0 then
    some ((-1 : Int32), m)
  else
  (iter (fX7_inspector_L11 a0 a1) FUEL ((0 : Int32), m)).bind fun r3 =>
  (
  match r3 with
  | m7 =>
    (iter (fX7_inspector_L35 a0 a1) FUEL ((0 : Int32), (0 : Int32), m7)).bind fun r8 =>
    (
    match r8 with
    | (v34, m35) =>
      some (v34, m35)
    )
  )

/-- MissedTrainsModel.busiest(I)I -/
def fX7_busiest_L32 (bm : Hp) (b0 : Option Nat) (b1 : Int32) (b2 : Int32) (b3 : Int32) (b4 : Int32) : (Int32 × Int32) → Option ((Int32 × Int32) ⊕ Int32) := fun (s5_5, s6_5) =>
  (hp_gI bm b0 6 14).bind fun v6 =>
  if v6 ≤ s6_5 then
    some (.inr s5_5)
  else
  (hp_on bm b0 6 (fX7_runs bm b0 s6_5)).bind fun v8 =>
  if v8 = 0 then
    some (.inl (s5_5, (s6_5 + (1 : Int32))))
  else
  (hp_on bm b0 6 (fX7_stopAt bm b0 s6_5 b4)).bind fun v10 =>
  if v10 = (-1 : Int32) then
    some (.inl (s5_5, (s6_5 + (1 : Int32))))
  else
  some (.inl ((s5_5 + (1 : Int32)), (s6_5 + (1 : Int32))))
def fX7_busiest_L19 (bm : Hp) (b0 : Option Nat) (b1 : Int32) : (Int32 × Int32 × Int32) → Option ((Int32 × Int32 × Int32) ⊕ (Int32 × Int32)) := fun (s2_3, s3_3, s4_3) =>
  if (10 : Int32) ≤ s4_3 then
    some (.inr (s2_3, s3_3))
  else
  (iter (fX7_busiest_L32 bm b0 b1 s2_3 s3_3 s4_3) FUEL ((0 : Int32), (0 : Int32))).bind fun r5 =>
  (
  match r5 with
  | v12 =>
    if s3_3 < v12 then
      some (.inl (s4_3, v12, (s4_3 + (1 : Int32))))
    else
    some (.inl (s2_3, s3_3, (s4_3 + (1 : Int32))))
  )
def fX7_busiest (m : Hp) (a0 : Option Nat) (a1 : Int32) : Option Int32 :=
  (fX7_in a1 (0 : Int32) (1 : Int32)).bind fun v1 =>
  if v1 = 0 then
    some (-1 : Int32)
  else
  (iter (fX7_busiest_L19 m a0 a1) FUEL ((-2 : Int32), (0 : Int32), (0 : Int32))).bind fun r3 =>
  (
  match r3 with
  | (v14, v15) =>
    if a1 = 0 then
      some v14
    else
    some v15
  )

/-- MissedTrainsModel.onTheWay(I)I -/
def fX7_onTheWay_L17 (bm : Hp) (b0 : Option Nat) (b1 : Int32) : (Int32 × Int32) → Option ((Int32 × Int32) ⊕ Int32) := fun (s2_3, s3_3) =>
  (hp_gI bm b0 6 14).bind fun v4 =>
  if v4 ≤ s3_3 then
    some (.inr s2_3)
  else
  (hp_on bm b0 6 (fX7_runs bm b0 s3_3)).bind fun v6 =>
  if v6 = 0 then
    some (.inl (s2_3, (s3_3 + (1 : Int32))))
  else
  (hp_on bm b0 6 (fX7_trainIs bm b0 s3_3 (5 : Int32))).bind fun v8 =>
  (hp_on bm b0 6 (fX7_trainIs bm b0 s3_3 (6 : Int32))).bind fun v9 =>
  (fX7_in b1 v8 v9).bind fun v10 =>
  if v10 = 0 then
    some (.inl (s2_3, (s3_3 + (1 : Int32))))
  else
  some (.inl ((s2_3 + (1 : Int32)), (s3_3 + (1 : Int32))))
def fX7_onTheWay (m : Hp) (a0 : Option Nat) (a1 : Int32) : Option Int32 :=
  (fX7_in a1 (0 : Int32) (1439 : Int32)).bind fun v1 =>
  if v1 = 0 then
    some (-1 : Int32)
  else
  (iter (fX7_onTheWay_L17 m a0 a1) FUEL ((0 : Int32), (0 : Int32))).bind fun r3 =>
  (
  match r3 with
  | v12 =>
    some v12
  )

/-- MissedTrainsModel.regular(II)I -/
def fX7_regular_L43 (bm : Hp) (b0 : Option Nat) (b1 : Int32) (b2 : Int32) (b3 : Int32) (b4 : Int32) (b5 : Int32) (b6 : Int32) : (Int32 × Int32) → Option ((Int32 × Int32) ⊕ Int32) := fun (s7_7, s8_7) =>
  (hp_gI bm b0 6 14).bind fun v8 =>
  if v8 ≤ s8_7 then
    some (.inr s7_7)
  else
  (hp_on bm b0 6 (fX7_leavesFrom bm b0 s8_7 b1)).bind fun v10 =>
  if v10 = 0 then
    some (.inl (s7_7, (s8_7 + (1 : Int32))))
  else
  (hp_on bm b0 6 (fX7_minuteAt bm b0 s8_7 b1)).bind fun v12 =>
  if (jrem v12 (60 : Int32)) = b6 then
    some (.inl ((s7_7 + (1 : Int32)), (s8_7 + (1 : Int32))))
  else
  some (.inl (s7_7, (s8_7 + (1 : Int32))))
def fX7_regular_L30 (bm : Hp) (b0 : Option Nat) (b1 : Int32) (b2 : Int32) : (Int32 × Int32 × Int32 × Int32) → Option ((Int32 × Int32 × Int32 × Int32) ⊕ (Int32 × Int32 × Int32)) := fun (s3_5, s4_5, s5_5, s6_5) =>
  if (60 : Int32) ≤ s6_5 then
    some (.inr (s3_5, s4_5, s5_5))
  else
  (iter (fX7_regular_L43 bm b0 b1 b2 s3_5 s4_5 s5_5 s6_5) FUEL ((0 : Int32), (0 : Int32))).bind fun r7 =>
  (
  match r7 with
  | v14 =>
    ((if v14 ≤ 0 then
      some s3_5
    else
    some (s3_5 + (1 : Int32)) : Option Int32)).bind fun v15 =>
    if s5_5 < v14 then
      some (.inl (v15, s6_5, v14, (s6_5 + (1 : Int32))))
    else
    some (.inl (v15, s4_5, s5_5, (s6_5 + (1 : Int32))))
  )
def fX7_regular (m : Hp) (a0 : Option Nat) (a1 : Int32) (a2 : Int32) : Option Int32 :=
  (fX7_isStation a1).bind fun v1 =>
  if v1 = 0 then
    some (-1 : Int32)
  else
  (fX7_in a2 (0 : Int32) (2 : Int32)).bind fun v3 =>
  if v3 = 0 then
    some (-1 : Int32)
  else
  (iter (fX7_regular_L30 m a0 a1 a2) FUEL ((0 : Int32), (-2 : Int32), (0 : Int32), (0 : Int32))).bind fun r5 =>
  (
  match r5 with
  | (v19, v20, v21) =>
    if a2 = 0 then
      some v19
    else
    if a2 = (1 : Int32) then
      some v20
    else
    some v21
  )

/-- MissedTrainsModel.fares(II)I -/
def fX7_fares_L40 (bm : Hp) (b0 : Option Nat) (b1 : Int32) (b2 : Int32) : Int32 → Option (Int32 ⊕ (Unit ⊕ (Int32 × Hp))) := fun s3_8 =>
  if b1 ≤ s3_8 then
    some (.inr (.inl ()))
  else
  (hp_on bm b0 6 (fX7_octet bm b0 ((2 : Int32) * s3_8))).bind fun v10 =>
  (fX7_in v10 (1 : Int32) (30 : Int32)).bind fun v11 =>
  if v11 = 0 then
    some (.inr (.inr ((-2 : Int32), bm)))
  else
  (hp_on bm b0 6 (fX7_octet bm b0 (((2 : Int32) * s3_8) + (1 : Int32)))).bind fun v13 =>
  if v13 = 0 then
    some (.inr (.inr ((-2 : Int32), bm)))
  else
  some (.inl (s3_8 + (1 : Int32)))
def fX7_fares_L139 (b0 : Option Nat) (b1 : Int32) (b2 : Int32) (b3 : Int32) : (Int32 × Hp) → Option ((Int32 × Hp) ⊕ Hp) := fun (s4_25, m25) =>
  if b1 ≤ s4_25 then
    some (.inr m25)
  else
  (hp_gR m25 b0 6 64).bind fun v27 =>
  (hp_gR m25 b0 6 64).bind fun v28 =>
  (hp_aI m25 v28 0 b3).bind fun v29 =>
  (hp_on m25 b0 6 (fX7_octet m25 b0 (((2 : Int32) * s4_25) + (1 : Int32)))).bind fun v30 =>
  (hp_gR m25 b0 6 64).bind fun v31 =>
  (hp_on m25 b0 6 (fX7_octet m25 b0 ((2 : Int32) * s4_25))).bind fun v32 =>
  (hp_aI m25 v31 0 (b3 + v32)).bind fun v33 =>
  (fX7_min v29 (v30 + v33)).bind fun v34 =>
  (hp_sI m25 v27 0 b3 v34).bind fun m35 =>
  some (.inl ((s4_25 + (1 : Int32)), m35))
def fX7_fares_L85 (b0 : Option Nat) (b1 : Int32) (b2 : Int32) : (Int32 × Hp) → Option ((Int32 × Hp) ⊕ Hp) := fun (s3_15, m15) =>
  if s3_15 < 0 then
    some (.inr m15)
  else
  (hp_gR m15 b0 6 64).bind fun v17 =>
  (hp_sI m15 v17 0 s3_15 (0 : Int32)).bind fun m18 =>
  if s3_15 < (30 : Int32) then
    (hp_gR m18 b0 6 64).bind fun v20 =>
    (hp_sI m18 v20 0 s3_15 (1000000 : Int32)).bind fun m21 =>
    (fX7_has b2 s3_15).bind fun v22 =>
    ((if v22 = 0 then
      (hp_gR m21 b0 6 64).bind fun v38 =>
      (hp_gR m21 b0 6 64).bind fun v39 =>
      (hp_aI m21 v39 0 (s3_15 + (1 : Int32))).bind fun v40 =>
      (hp_sI m21 v38 0 s3_15 v40).bind fun m41 =>
      some m41
    else
    some m21 : Option Hp)).bind fun m23 =>
    (iter (fX7_fares_L139 b0 b1 b2 s3_15) FUEL ((0 : Int32), m23)).bind fun r25 =>
    (
    match r25 with
    | m36 =>
      some (.inl ((s3_15 + (-1 : Int32)), m36))
    )
  else
  some (.inl ((s3_15 + (-1 : Int32)), m18))
def fX7_fares (m : Hp) (a0 : Option Nat) (a1 : Int32) (a2 : Int32) : Option (Int32 × Hp) :=
  (fX7_in a1 (1 : Int32) (8 : Int32)).bind fun v1 =>
  if v1 = 0 then
    some ((-1 : Int32), m)
  else
  (fX7_in a2 (0 : Int32) (1073741823 : Int32)).bind fun v3 =>
  if v3 = 0 then
    some ((-1 : Int32), m)
  else
  (hp_gI m a0 6 17).bind fun v5 =>
  if ((2 : Int32) * a1) ≤ v5 then
    (hp_pI m a0 6 17 (0 : Int32)).bind fun m7 =>
    (iter (fX7_fares_L40 m7 a0 a1 a2) FUEL (0 : Int32)).bind fun r8 =>
    (
    match r8 with
    | .inl _ =>
      (iter (fX7_fares_L85 a0 a1 a2) FUEL ((60 : Int32), m7)).bind fun r15 =>
      (
      match r15 with
      | m42 =>
        (hp_gR m42 a0 6 64).bind fun v43 =>
        (hp_aI m42 v43 0 (0 : Int32)).bind fun v44 =>
        some (v44, m42)
      )
    | .inr o => some o
    )
  else
  some ((-1 : Int32), m)

/-- MissedTrainsModel.seed(I)Z -/
def fX7_seed (m : Hp) (a0 : Option Nat) (a1 : Int32) : Option (Int32 × Hp) :=
  (fX7_in a1 (0 : Int32) (65535 : Int32)).bind fun v1 =>
  if v1 = 0 then
    some ((0 : Int32), m)
  else
  (hp_gR m a0 6 0).bind fun v3 =>
  (hp_sI m v3 0 (25 : Int32) a1).bind fun m4 =>
  some ((1 : Int32), m4)

/-- MissedTrainsModel.keep()I -/
def fX7_keep (m : Hp) (a0 : Option Nat) : Option (Int32 × Hp) :=
  (hp_pZ m a0 6 65 (1 : Int32)).bind fun m1 =>
  (hp_gR m1 a0 6 0).bind fun v2 =>
  (hp_gR m1 a0 6 2).bind fun v3 =>
  (fX7_copies m1 v2 v3).bind fun m4 =>
  (hp_gR m4 a0 6 0).bind fun v5 =>
  (hp_aI m4 v5 0 (24 : Int32)).bind fun v6 =>
  some (v6, m4)

/-- MissedTrainsModel.undo()Z -/
def fX7_undo (m : Hp) (a0 : Option Nat) : Option (Int32 × Hp) :=
  (hp_gI m a0 6 65).bind fun v1 =>
  if v1 = 0 then
    some ((0 : Int32), m)
  else
  (hp_gR m a0 6 2).bind fun v3 =>
  (hp_gR m a0 6 0).bind fun v4 =>
  (fX7_copies m v3 v4).bind fun m5 =>
  some ((1 : Int32), m5)

/-- MissedTrainsModel.check(I)I -/
def fX7_check_L28 (bm : Hp) (b0 : Option Nat) (b1 : Int32) : Int32 → Option (Int32 ⊕ (Unit ⊕ (Int32 × Hp))) := fun s2_6 =>
  if b1 ≤ s2_6 then
    some (.inr (.inl ()))
  else
  (hp_on bm b0 6 (fX7_octet bm b0 s2_6)).bind fun v8 =>
  (hp_gR bm b0 6 11).bind fun v9 =>
  (hp_aI bm v9 2 s2_6).bind fun v10 =>
  if v10 = 0 then
    if v8 = (0 : Int32) then
      some (.inl (s2_6 + (1 : Int32)))
    else
    some (.inr (.inr (s2_6, bm)))
  else
  (hp_gR bm b0 6 0).bind fun v13 =>
  (hp_aI bm v13 0 ((12 : Int32) + s2_6)).bind fun v14 =>
  if v8 = (jrem v14 (256 : Int32)) then
    some (.inl (s2_6 + (1 : Int32)))
  else
  some (.inr (.inr (s2_6, bm)))
def fX7_check (m : Hp) (a0 : Option Nat) (a1 : Int32) : Option (Int32 × Hp) :=
  (fX7_in a1 (0 : Int32) (12 : Int32)).bind fun v1 =>
  if v1 = 0 then
    some ((-2 : Int32), m)
  else
  (hp_gI m a0 6 17).bind fun v3 =>
  if a1 ≤ v3 then
    (hp_pI m a0 6 17 (0 : Int32)).bind fun m5 =>
    (iter (fX7_check_L28 m5 a0 a1) FUEL (0 : Int32)).bind fun r6 =>
    (
    match r6 with
    | .inl _ =>
      some ((-1 : Int32), m5)
    | .inr o => some o
    )
  else
  some ((-2 : Int32), m)

/-- MissedTrainsModel.allOf(I)I -/
def fX7_allOf_L4 (bm : Hp) (b0 : Option Nat) (b1 : Int32) : (Int32 × Int32) → Option ((Int32 × Int32) ⊕ Int32) := fun (s2_1, s3_1) =>
  if (12 : Int32) ≤ s3_1 then
    some (.inr s2_1)
  else
  (hp_gR bm b0 6 11).bind fun v3 =>
  (hp_aI bm v3 2 s3_1).bind fun v4 =>
  if v4 = 0 then
    some (.inl (s2_1, (s3_1 + (1 : Int32))))
  else
  (hp_gR bm b0 6 0).bind fun v6 =>
  (hp_aI bm v6 0 (b1 + s3_1)).bind fun v7 =>
  some (.inl ((s2_1 + v7), (s3_1 + (1 : Int32))))
def fX7_allOf (m : Hp) (a0 : Option Nat) (a1 : Int32) : Option Int32 :=
  (iter (fX7_allOf_L4 m a0 a1) FUEL ((0 : Int32), (0 : Int32))).bind fun r1 =>
  (
  match r1 with
  | v8 =>
    some v8
  )

/-- MissedTrainsModel.toldSet()I -/
def fX7_toldSet_L4 (bm : Hp) (b0 : Option Nat) : (Int32 × Int32) → Option ((Int32 × Int32) ⊕ Int32) := fun (s1_1, s2_1) =>
  if (12 : Int32) ≤ s2_1 then
    some (.inr s1_1)
  else
  (hp_gR bm b0 6 11).bind fun v3 =>
  (hp_aI bm v3 2 s2_1).bind fun v4 =>
  if v4 = 0 then
    some (.inl (s1_1, (s2_1 + (1 : Int32))))
  else
  some (.inl ((s1_1 ||| (jshl (1 : Int32) s2_1)), (s2_1 + (1 : Int32))))
def fX7_toldSet (m : Hp) (a0 : Option Nat) : Option Int32 :=
  (iter (fX7_toldSet_L4 m a0) FUEL ((0 : Int32), (0 : Int32))).bind fun r1 =>
  (
  match r1 with
  | v6 =>
    some v6
  )

/-- MissedTrainsModel.running()I -/
def fX7_running_L4 (bm : Hp) (b0 : Option Nat) : (Int32 × Int32) → Option ((Int32 × Int32) ⊕ Int32) := fun (s1_1, s2_1) =>
  (hp_gI bm b0 6 14).bind fun v2 =>
  if v2 ≤ s2_1 then
    some (.inr s1_1)
  else
  (hp_on bm b0 6 (fX7_runs bm b0 s2_1)).bind fun v4 =>
  if v4 = 0 then
    some (.inl (s1_1, (s2_1 + (1 : Int32))))
  else
  some (.inl ((s1_1 + (1 : Int32)), (s2_1 + (1 : Int32))))
def fX7_running (m : Hp) (a0 : Option Nat) : Option Int32 :=
  (iter (fX7_running_L4 m a0) FUEL ((0 : Int32), (0 : Int32))).bind fun r1 =>
  (
  match r1 with
  | v6 =>
    some v6
  )

/-- MissedTrainsModel.count(I)I -/
def fX7_count (m : Hp) (a0 : Option Nat) (a1 : Int32) : Option Int32 :=
  if a1 = (0 : Int32) then
    (hp_gR m a0 6 0).bind fun v2 =>
    (hp_aI m v2 0 (24 : Int32)).bind fun v3 =>
    some v3
  else
  if a1 = (1 : Int32) then
    (hp_on m a0 6 (fX7_toldSet m a0)).bind fun v5 =>
    some v5
  else
  if a1 = (2 : Int32) then
    (hp_gI m a0 6 14).bind fun v7 =>
    some v7
  else
  if a1 = (3 : Int32) then
    (hp_on m a0 6 (fX7_running m a0)).bind fun v9 =>
    some v9
  else
  if a1 = (4 : Int32) then
    (hp_gI m a0 6 13).bind fun v11 =>
    some v11
  else
  if a1 = (5 : Int32) then
    (hp_gI m a0 6 26).bind fun v13 =>
    some v13
  else
  if a1 = (6 : Int32) then
    (hp_gI m a0 6 17).bind fun v15 =>
    some v15
  else
  if a1 = (7 : Int32) then
    (hp_gR m a0 6 0).bind fun v17 =>
    (hp_aI m v17 0 (25 : Int32)).bind fun v18 =>
    some v18
  else
  if a1 = (8 : Int32) then
    (hp_on m a0 6 (fX7_allOf m a0 (0 : Int32))).bind fun v20 =>
    some v20
  else
  if a1 = (9 : Int32) then
    (hp_on m a0 6 (fX7_allOf m a0 (12 : Int32))).bind fun v22 =>
    some v22
  else
  if a1 = (10 : Int32) then
    (hp_gI m a0 6 15).bind fun v24 =>
    some v24
  else
  if a1 = (11 : Int32) then
    (hp_gI m a0 6 15).bind fun v26 =>
    if v26 = 0 then
      some (-2 : Int32)
    else
    (hp_gR m a0 6 8).bind fun v28 =>
    (hp_gR m a0 6 10).bind fun v29 =>
    (hp_gI m a0 6 15).bind fun v30 =>
    (hp_aI m v29 0 (v30 - (1 : Int32))).bind fun v31 =>
    (hp_aI m v28 0 v31).bind fun v32 =>
    some v32
  else
  some (-1 : Int32)
/-- the law -/
def fLaw_L18 (xs : Nat → Int32) (SL : Nat) (b1 : Option Nat) (b2 : Option Nat) : (Int32 × Hp) → Nat → Option (((Int32 × Hp) ⊕ (Hp ⊕ (Int32 × Hp))) × Nat × Nat) := fun (s3_13, m13) nx13 =>
  if ((Int32.ofNat SL) - (6 : Int32)) < s3_13 then
    some ((.inr (.inl m13)), 0, 0)
  else
  (sld xs SL s3_13).bind fun v15 =>
  if (v15 &&& (31 : Int32)) = (0 : Int32) then
    (sld xs SL (s3_13 + (1 : Int32))).bind fun v17 =>
    (sld xs SL (s3_13 + (2 : Int32))).bind fun v18 =>
    (sld xs SL (s3_13 + (3 : Int32))).bind fun v19 =>
    (sld xs SL (s3_13 + (4 : Int32))).bind fun v20 =>
    (hp_on m13 b1 0 (fX0_person m13 b1 v17 v18 v19 v20)).bind fun (v21, m22) =>
    (sld xs SL (s3_13 + (1 : Int32))).bind fun v23 =>
    (sld xs SL (s3_13 + (2 : Int32))).bind fun v24 =>
    (sld xs SL (s3_13 + (3 : Int32))).bind fun v25 =>
    (sld xs SL (s3_13 + (4 : Int32))).bind fun v26 =>
    (hp_on m22 b2 6 (fX7_person m22 b2 v23 v24 v25 v26)).bind fun (v27, m28) =>
    if v21 = v27 then
      some ((.inl ((s3_13 + (6 : Int32)), m28)), 0, 0)
    else
    some ((.inr (.inr ((0 : Int32), m28))), 0, 0)
  else
  if (v15 &&& (31 : Int32)) = (1 : Int32) then
    (sld xs SL (s3_13 + (1 : Int32))).bind fun v31 =>
    (hp_on m13 b1 0 (fX0_changing m13 b1 v31)).bind fun (v32, m33) =>
    (sld xs SL (s3_13 + (1 : Int32))).bind fun v34 =>
    (hp_on m33 b2 6 (fX7_changing m33 b2 v34)).bind fun (v35, m36) =>
    if v32 = v35 then
      some ((.inl ((s3_13 + (6 : Int32)), m36)), 0, 0)
    else
    some ((.inr (.inr ((0 : Int32), m36))), 0, 0)
  else
  if (v15 &&& (31 : Int32)) = (2 : Int32) then
    (sld xs SL (s3_13 + (1 : Int32))).bind fun v39 =>
    (sld xs SL (s3_13 + (2 : Int32))).bind fun v40 =>
    (sld xs SL (s3_13 + (3 : Int32))).bind fun v41 =>
    (sld xs SL (s3_13 + (4 : Int32))).bind fun v42 =>
    (sld xs SL (s3_13 + (5 : Int32))).bind fun v43 =>
    (hp_on m13 b1 0 (fX0_feed m13 b1 v39 v40 v41 v42 v43)).bind fun (v44, m45) =>
    (sld xs SL (s3_13 + (1 : Int32))).bind fun v46 =>
    (sld xs SL (s3_13 + (2 : Int32))).bind fun v47 =>
    (sld xs SL (s3_13 + (3 : Int32))).bind fun v48 =>
    (sld xs SL (s3_13 + (4 : Int32))).bind fun v49 =>
    (sld xs SL (s3_13 + (5 : Int32))).bind fun v50 =>
    (hp_on m45 b2 6 (fX7_feed m45 b2 v46 v47 v48 v49 v50)).bind fun (v51, m52) =>
    if v44 = v51 then
      some ((.inl ((s3_13 + (6 : Int32)), m52)), 0, 0)
    else
    some ((.inr (.inr ((0 : Int32), m52))), 0, 0)
  else
  if (v15 &&& (31 : Int32)) = (3 : Int32) then
    (sld xs SL (s3_13 + (1 : Int32))).bind fun v55 =>
    (hp_on m13 b1 0 (fX0_law m13 (nx13) b1 v55)).bind fun ((v56, m57), d58, c59) =>
    andA d58 c59 (
    (sld xs SL (s3_13 + (1 : Int32))).bind fun v61 =>
    (hp_on m57 b2 6 (fX7_law m57 b2 v61)).bind fun (v62, m63) =>
    if v56 = v62 then
      some ((.inl ((s3_13 + (6 : Int32)), m63)), 0, 0)
    else
    some ((.inr (.inr ((0 : Int32), m63))), 0, 0))
  else
  if (v15 &&& (31 : Int32)) = (4 : Int32) then
    (sld xs SL (s3_13 + (1 : Int32))).bind fun v66 =>
    (hp_on m13 b1 0 (fX0_timetable m13 (nx13) b1 v66)).bind fun ((v67, m68), d69, c70) =>
    andA d69 c70 (
    (sld xs SL (s3_13 + (1 : Int32))).bind fun v72 =>
    (hp_on m68 b2 6 (fX7_timetable m68 b2 v72)).bind fun (v73, m74) =>
    if v67 = v73 then
      some ((.inl ((s3_13 + (6 : Int32)), m74)), 0, 0)
    else
    some ((.inr (.inr ((0 : Int32), m74))), 0, 0))
  else
  if (v15 &&& (31 : Int32)) = (5 : Int32) then
    (sld xs SL (s3_13 + (1 : Int32))).bind fun v77 =>
    (hp_on m13 b1 0 (fX0_orders m13 (nx13) b1 v77)).bind fun ((v78, m79), d80, c81) =>
    andA d80 c81 (
    (sld xs SL (s3_13 + (1 : Int32))).bind fun v83 =>
    (hp_on m79 b2 6 (fX7_orders m79 b2 v83)).bind fun (v84, m85) =>
    if v78 = v84 then
      some ((.inl ((s3_13 + (6 : Int32)), m85)), 0, 0)
    else
    some ((.inr (.inr ((0 : Int32), m85))), 0, 0))
  else
  if (v15 &&& (31 : Int32)) = (6 : Int32) then
    (sld xs SL (s3_13 + (1 : Int32))).bind fun v88 =>
    (hp_on m13 b1 0 (fX0_days m13 b1 v88)).bind fun (v89, m90) =>
    (sld xs SL (s3_13 + (1 : Int32))).bind fun v91 =>
    (hp_on m90 b2 6 (fX7_days m90 b2 v91)).bind fun (v92, m93) =>
    if v89 = v92 then
      some ((.inl ((s3_13 + (6 : Int32)), m93)), 0, 0)
    else
    some ((.inr (.inr ((0 : Int32), m93))), 0, 0)
  else
  if (v15 &&& (31 : Int32)) = (7 : Int32) then
    (sld xs SL (s3_13 + (1 : Int32))).bind fun v96 =>
    (sld xs SL (s3_13 + (2 : Int32))).bind fun v97 =>
    (hp_on m13 b1 0 (fX0_tried m13 b1 v96 v97)).bind fun (v98, m99) =>
    (sld xs SL (s3_13 + (1 : Int32))).bind fun v100 =>
    (sld xs SL (s3_13 + (2 : Int32))).bind fun v101 =>
    (hp_on m99 b2 6 (fX7_tried m99 b2 v100 v101)).bind fun (v102, m103) =>
    if v98 = v102 then
      some ((.inl ((s3_13 + (6 : Int32)), m103)), 0, 0)
    else
    some ((.inr (.inr ((0 : Int32), m103))), 0, 0)
  else
  if (v15 &&& (31 : Int32)) = (8 : Int32) then
    (sld xs SL (s3_13 + (1 : Int32))).bind fun v106 =>
    (sld xs SL (s3_13 + (2 : Int32))).bind fun v107 =>
    (hp_on m13 b1 0 (fX0_personIs m13 b1 v106 v107)).bind fun v108 =>
    (sld xs SL (s3_13 + (1 : Int32))).bind fun v109 =>
    (sld xs SL (s3_13 + (2 : Int32))).bind fun v110 =>
    (hp_on m13 b2 6 (fX7_personIs m13 b2 v109 v110)).bind fun v111 =>
    if v108 = v111 then
      some ((.inl ((s3_13 + (6 : Int32)), m13)), 0, 0)
    else
    some ((.inr (.inr ((0 : Int32), m13))), 0, 0)
  else
  if (v15 &&& (31 : Int32)) = (9 : Int32) then
    (sld xs SL (s3_13 + (1 : Int32))).bind fun v114 =>
    (sld xs SL (s3_13 + (2 : Int32))).bind fun v115 =>
    (hp_on m13 b1 0 (fX0_trainIs m13 b1 v114 v115)).bind fun v116 =>
    (sld xs SL (s3_13 + (1 : Int32))).bind fun v117 =>
    (sld xs SL (s3_13 + (2 : Int32))).bind fun v118 =>
    (hp_on m13 b2 6 (fX7_trainIs m13 b2 v117 v118)).bind fun v119 =>
    if v116 = v119 then
      some ((.inl ((s3_13 + (6 : Int32)), m13)), 0, 0)
    else
    some ((.inr (.inr ((0 : Int32), m13))), 0, 0)
  else
  if (v15 &&& (31 : Int32)) = (10 : Int32) then
    (sld xs SL (s3_13 + (1 : Int32))).bind fun v122 =>
    (sld xs SL (s3_13 + (2 : Int32))).bind fun v123 =>
    (sld xs SL (s3_13 + (3 : Int32))).bind fun v124 =>
    (hp_on m13 b1 0 (fX0_stopIs m13 b1 v122 v123 v124)).bind fun v125 =>
    (sld xs SL (s3_13 + (1 : Int32))).bind fun v126 =>
    (sld xs SL (s3_13 + (2 : Int32))).bind fun v127 =>
    (sld xs SL (s3_13 + (3 : Int32))).bind fun v128 =>
    (hp_on m13 b2 6 (fX7_stopIs m13 b2 v126 v127 v128)).bind fun v129 =>
    if v125 = v129 then
      some ((.inl ((s3_13 + (6 : Int32)), m13)), 0, 0)
    else
    some ((.inr (.inr ((0 : Int32), m13))), 0, 0)
  else
  if (v15 &&& (31 : Int32)) = (11 : Int32) then
    (sld xs SL (s3_13 + (1 : Int32))).bind fun v132 =>
    (sld xs SL (s3_13 + (2 : Int32))).bind fun v133 =>
    (sld xs SL (s3_13 + (3 : Int32))).bind fun v134 =>
    (sld xs SL (s3_13 + (4 : Int32))).bind fun v135 =>
    (hp_on m13 b1 0 (fX0_earliest m13 b1 v132 v133 v134 v135)).bind fun (v136, m137) =>
    (sld xs SL (s3_13 + (1 : Int32))).bind fun v138 =>
    (sld xs SL (s3_13 + (2 : Int32))).bind fun v139 =>
    (sld xs SL (s3_13 + (3 : Int32))).bind fun v140 =>
    (sld xs SL (s3_13 + (4 : Int32))).bind fun v141 =>
    (hp_on m137 b2 6 (fX7_earliest m137 b2 v138 v139 v140 v141)).bind fun (v142, m143) =>
    if v136 = v142 then
      some ((.inl ((s3_13 + (6 : Int32)), m143)), 0, 0)
    else
    some ((.inr (.inr ((0 : Int32), m143))), 0, 0)
  else
  if (v15 &&& (31 : Int32)) = (12 : Int32) then
    (sld xs SL (s3_13 + (1 : Int32))).bind fun v146 =>
    (sld xs SL (s3_13 + (2 : Int32))).bind fun v147 =>
    (sld xs SL (s3_13 + (3 : Int32))).bind fun v148 =>
    (hp_on m13 b1 0 (fX0_latest m13 b1 v146 v147 v148)).bind fun (v149, m150) =>
    (sld xs SL (s3_13 + (1 : Int32))).bind fun v151 =>
    (sld xs SL (s3_13 + (2 : Int32))).bind fun v152 =>
    (sld xs SL (s3_13 + (3 : Int32))).bind fun v153 =>
    (hp_on m150 b2 6 (fX7_latest m150 b2 v151 v152 v153)).bind fun (v154, m155) =>
    if v149 = v154 then
      some ((.inl ((s3_13 + (6 : Int32)), m155)), 0, 0)
    else
    some ((.inr (.inr ((0 : Int32), m155))), 0, 0)
  else
  if (v15 &&& (31 : Int32)) = (13 : Int32) then
    (sld xs SL (s3_13 + (1 : Int32))).bind fun v158 =>
    (sld xs SL (s3_13 + (2 : Int32))).bind fun v159 =>
    (hp_on m13 b1 0 (fX0_fastest m13 b1 v158 v159)).bind fun (v160, m161) =>
    (sld xs SL (s3_13 + (1 : Int32))).bind fun v162 =>
    (sld xs SL (s3_13 + (2 : Int32))).bind fun v163 =>
    (hp_on m161 b2 6 (fX7_fastest m161 b2 v162 v163)).bind fun (v164, m165) =>
    if v160 = v164 then
      some ((.inl ((s3_13 + (6 : Int32)), m165)), 0, 0)
    else
    some ((.inr (.inr ((0 : Int32), m165))), 0, 0)
  else
  if (v15 &&& (31 : Int32)) = (14 : Int32) then
    (sld xs SL (s3_13 + (1 : Int32))).bind fun v168 =>
    (sld xs SL (s3_13 + (2 : Int32))).bind fun v169 =>
    (sld xs SL (s3_13 + (3 : Int32))).bind fun v170 =>
    (hp_on m13 b1 0 (fX0_best m13 b1 v168 v169 v170)).bind fun (v171, m172) =>
    (sld xs SL (s3_13 + (1 : Int32))).bind fun v173 =>
    (sld xs SL (s3_13 + (2 : Int32))).bind fun v174 =>
    (sld xs SL (s3_13 + (3 : Int32))).bind fun v175 =>
    (hp_on m172 b2 6 (fX7_best m172 b2 v173 v174 v175)).bind fun (v176, m177) =>
    if v171 = v176 then
      some ((.inl ((s3_13 + (6 : Int32)), m177)), 0, 0)
    else
    some ((.inr (.inr ((0 : Int32), m177))), 0, 0)
  else
  if (v15 &&& (31 : Int32)) = (15 : Int32) then
    (sld xs SL (s3_13 + (1 : Int32))).bind fun v180 =>
    (sld xs SL (s3_13 + (2 : Int32))).bind fun v181 =>
    (hp_on m13 b1 0 (fX0_comeTo m13 b1 v180 v181)).bind fun (v182, m183) =>
    (sld xs SL (s3_13 + (1 : Int32))).bind fun v184 =>
    (sld xs SL (s3_13 + (2 : Int32))).bind fun v185 =>
    (hp_on m183 b2 6 (fX7_comeTo m183 b2 v184 v185)).bind fun (v186, m187) =>
    if v182 = v186 then
      some ((.inl ((s3_13 + (6 : Int32)), m187)), 0, 0)
    else
    some ((.inr (.inr ((0 : Int32), m187))), 0, 0)
  else
  if (v15 &&& (31 : Int32)) = (16 : Int32) then
    (sld xs SL (s3_13 + (1 : Int32))).bind fun v190 =>
    (sld xs SL (s3_13 + (2 : Int32))).bind fun v191 =>
    (sld xs SL (s3_13 + (3 : Int32))).bind fun v192 =>
    (hp_on m13 b1 0 (fX0_direct m13 b1 v190 v191 v192)).bind fun v193 =>
    (sld xs SL (s3_13 + (1 : Int32))).bind fun v194 =>
    (sld xs SL (s3_13 + (2 : Int32))).bind fun v195 =>
    (sld xs SL (s3_13 + (3 : Int32))).bind fun v196 =>
    (hp_on m13 b2 6 (fX7_direct m13 b2 v194 v195 v196)).bind fun (v197, m198) =>
    if v193 = v197 then
      some ((.inl ((s3_13 + (6 : Int32)), m198)), 0, 0)
    else
    some ((.inr (.inr ((0 : Int32), m198))), 0, 0)
  else
  if (v15 &&& (31 : Int32)) = (17 : Int32) then
    (sld xs SL (s3_13 + (1 : Int32))).bind fun v201 =>
    (sld xs SL (s3_13 + (2 : Int32))).bind fun v202 =>
    (hp_on m13 b1 0 (fX0_justMissed m13 b1 v201 v202)).bind fun v203 =>
    (sld xs SL (s3_13 + (1 : Int32))).bind fun v204 =>
    (sld xs SL (s3_13 + (2 : Int32))).bind fun v205 =>
    (hp_on m13 b2 6 (fX7_justMissed m13 b2 v204 v205)).bind fun v206 =>
    if v203 = v206 then
      some ((.inl ((s3_13 + (6 : Int32)), m13)), 0, 0)
    else
    some ((.inr (.inr ((0 : Int32), m13))), 0, 0)
  else
  if (v15 &&& (31 : Int32)) = (18 : Int32) then
    (sld xs SL (s3_13 + (1 : Int32))).bind fun v209 =>
    (sld xs SL (s3_13 + (2 : Int32))).bind fun v210 =>
    (hp_on m13 b1 0 (fX0_platforms m13 b1 v209 v210)).bind fun v211 =>
    (sld xs SL (s3_13 + (1 : Int32))).bind fun v212 =>
    (sld xs SL (s3_13 + (2 : Int32))).bind fun v213 =>
    (hp_on m13 b2 6 (fX7_platforms m13 b2 v212 v213)).bind fun v214 =>
    if v211 = v214 then
      some ((.inl ((s3_13 + (6 : Int32)), m13)), 0, 0)
    else
    some ((.inr (.inr ((0 : Int32), m13))), 0, 0)
  else
  if (v15 &&& (31 : Int32)) = (19 : Int32) then
    (hp_on m13 b1 0 (fX0_sets m13 b1)).bind fun (v217, m218) =>
    (hp_on m218 b2 6 (fX7_sets m218 b2)).bind fun (v219, m220) =>
    if v217 = v219 then
      some ((.inl ((s3_13 + (6 : Int32)), m220)), 0, 0)
    else
    some ((.inr (.inr ((0 : Int32), m220))), 0, 0)
  else
  if (v15 &&& (31 : Int32)) = (20 : Int32) then
    (hp_on m13 b1 0 (fX0_meets m13 b1)).bind fun v223 =>
    (hp_on m13 b2 6 (fX7_meets m13 b2)).bind fun v224 =>
    if v223 = v224 then
      some ((.inl ((s3_13 + (6 : Int32)), m13)), 0, 0)
    else
    some ((.inr (.inr ((0 : Int32), m13))), 0, 0)
  else
  if (v15 &&& (31 : Int32)) = (21 : Int32) then
    (sld xs SL (s3_13 + (1 : Int32))).bind fun v227 =>
    (hp_on m13 b1 0 (fX0_inspector m13 b1 v227)).bind fun (v228, m229) =>
    (sld xs SL (s3_13 + (1 : Int32))).bind fun v230 =>
    (hp_on m229 b2 6 (fX7_inspector m229 b2 v230)).bind fun (v231, m232) =>
    if v228 = v231 then
      some ((.inl ((s3_13 + (6 : Int32)), m232)), 0, 0)
    else
    some ((.inr (.inr ((0 : Int32), m232))), 0, 0)
  else
  if (v15 &&& (31 : Int32)) = (22 : Int32) then
    (sld xs SL (s3_13 + (1 : Int32))).bind fun v235 =>
    (hp_on m13 b1 0 (fX0_longestWait m13 b1 v235)).bind fun v236 =>
    (sld xs SL (s3_13 + (1 : Int32))).bind fun v237 =>
    (hp_on m13 b2 6 (fX7_longestWait m13 b2 v237)).bind fun (v238, m239) =>
    if v236 = v238 then
      some ((.inl ((s3_13 + (6 : Int32)), m239)), 0, 0)
    else
    some ((.inr (.inr ((0 : Int32), m239))), 0, 0)
  else
  if (v15 &&& (31 : Int32)) = (23 : Int32) then
    (sld xs SL (s3_13 + (1 : Int32))).bind fun v242 =>
    (hp_on m13 b1 0 (fX0_busiest m13 b1 v242)).bind fun v243 =>
    (sld xs SL (s3_13 + (1 : Int32))).bind fun v244 =>
    (hp_on m13 b2 6 (fX7_busiest m13 b2 v244)).bind fun v245 =>
    if v243 = v245 then
      some ((.inl ((s3_13 + (6 : Int32)), m13)), 0, 0)
    else
    some ((.inr (.inr ((0 : Int32), m13))), 0, 0)
  else
  if (v15 &&& (31 : Int32)) = (24 : Int32) then
    (sld xs SL (s3_13 + (1 : Int32))).bind fun v248 =>
    (hp_on m13 b1 0 (fX0_onTheWay m13 b1 v248)).bind fun v249 =>
    (sld xs SL (s3_13 + (1 : Int32))).bind fun v250 =>
    (hp_on m13 b2 6 (fX7_onTheWay m13 b2 v250)).bind fun v251 =>
    if v249 = v251 then
      some ((.inl ((s3_13 + (6 : Int32)), m13)), 0, 0)
    else
    some ((.inr (.inr ((0 : Int32), m13))), 0, 0)
  else
  if (v15 &&& (31 : Int32)) = (25 : Int32) then
    (sld xs SL (s3_13 + (1 : Int32))).bind fun v254 =>
    (sld xs SL (s3_13 + (2 : Int32))).bind fun v255 =>
    (hp_on m13 b1 0 (fX0_regular m13 b1 v254 v255)).bind fun v256 =>
    (sld xs SL (s3_13 + (1 : Int32))).bind fun v257 =>
    (sld xs SL (s3_13 + (2 : Int32))).bind fun v258 =>
    (hp_on m13 b2 6 (fX7_regular m13 b2 v257 v258)).bind fun v259 =>
    if v256 = v259 then
      some ((.inl ((s3_13 + (6 : Int32)), m13)), 0, 0)
    else
    some ((.inr (.inr ((0 : Int32), m13))), 0, 0)
  else
  if (v15 &&& (31 : Int32)) = (26 : Int32) then
    (sld xs SL (s3_13 + (1 : Int32))).bind fun v262 =>
    (sld xs SL (s3_13 + (2 : Int32))).bind fun v263 =>
    (hp_on m13 b1 0 (fX0_fares m13 b1 v262 v263)).bind fun (v264, m265) =>
    (sld xs SL (s3_13 + (1 : Int32))).bind fun v266 =>
    (sld xs SL (s3_13 + (2 : Int32))).bind fun v267 =>
    (hp_on m265 b2 6 (fX7_fares m265 b2 v266 v267)).bind fun (v268, m269) =>
    if v264 = v268 then
      some ((.inl ((s3_13 + (6 : Int32)), m269)), 0, 0)
    else
    some ((.inr (.inr ((0 : Int32), m269))), 0, 0)
  else
  if (v15 &&& (31 : Int32)) = (27 : Int32) then
    (sld xs SL (s3_13 + (1 : Int32))).bind fun v272 =>
    (hp_on m13 b1 0 (fX0_seed m13 b1 v272)).bind fun (v273, m274) =>
    (sld xs SL (s3_13 + (1 : Int32))).bind fun v275 =>
    (hp_on m274 b2 6 (fX7_seed m274 b2 v275)).bind fun (v276, m277) =>
    if v273 = v276 then
      some ((.inl ((s3_13 + (6 : Int32)), m277)), 0, 0)
    else
    some ((.inr (.inr ((0 : Int32), m277))), 0, 0)
  else
  if (v15 &&& (31 : Int32)) = (28 : Int32) then
    (hp_on m13 b1 0 (fX0_keep m13 b1)).bind fun (v280, m281) =>
    (hp_on m281 b2 6 (fX7_keep m281 b2)).bind fun (v282, m283) =>
    if v280 = v282 then
      some ((.inl ((s3_13 + (6 : Int32)), m283)), 0, 0)
    else
    some ((.inr (.inr ((0 : Int32), m283))), 0, 0)
  else
  if (v15 &&& (31 : Int32)) = (29 : Int32) then
    (hp_on m13 b1 0 (fX0_undo m13 b1)).bind fun (v286, m287) =>
    (hp_on m287 b2 6 (fX7_undo m287 b2)).bind fun (v288, m289) =>
    if v286 = v288 then
      some ((.inl ((s3_13 + (6 : Int32)), m289)), 0, 0)
    else
    some ((.inr (.inr ((0 : Int32), m289))), 0, 0)
  else
  if (v15 &&& (31 : Int32)) = (30 : Int32) then
    (sld xs SL (s3_13 + (1 : Int32))).bind fun v292 =>
    (hp_on m13 b1 0 (fX0_check m13 b1 v292)).bind fun (v293, m294) =>
    (sld xs SL (s3_13 + (1 : Int32))).bind fun v295 =>
    (hp_on m294 b2 6 (fX7_check m294 b2 v295)).bind fun (v296, m297) =>
    if v293 = v296 then
      some ((.inl ((s3_13 + (6 : Int32)), m297)), 0, 0)
    else
    some ((.inr (.inr ((0 : Int32), m297))), 0, 0)
  else
  if (v15 &&& (31 : Int32)) = (31 : Int32) then
    (sld xs SL (s3_13 + (1 : Int32))).bind fun v300 =>
    (hp_on m13 b1 0 (fX0_count m13 b1 v300)).bind fun v301 =>
    (sld xs SL (s3_13 + (1 : Int32))).bind fun v302 =>
    (hp_on m13 b2 6 (fX7_count m13 b2 v302)).bind fun v303 =>
    if v301 = v303 then
      some ((.inl ((s3_13 + (6 : Int32)), m13)), 0, 0)
    else
    some ((.inr (.inr ((0 : Int32), m13))), 0, 0)
  else
  some ((.inl ((s3_13 + (6 : Int32)), m13)), 0, 0)
def fLaw (xs : Nat → Int32) (SL : Nat) (m : Hp) (nx : Nat) : Option ((Int32 × Hp) × Nat × Nat) :=
  (some (hp_set m (nx) (.inr (0, dfX0)))).bind fun m1 =>
  andA 1 22 (
  (fX0_init m1 (nx + 1) (nx)).bind fun (m3, d4, c5) =>
  andA d4 c5 (
  (some (hp_set m3 (nx + 1 + d4) (.inr (6, dfX7)))).bind fun m7 =>
  andA 1 66 (
  (fX7_init m7 (nx + 1 + d4 + 1) (nx + 1 + d4)).bind fun (m9, d10, c11) =>
  andA d10 c11 (
  (iterA (fLaw_L18 xs SL (some (nx)) (some (nx + 1 + d4))) FUEL ((0 : Int32), m9) (nx + 1 + d4 + 1 + d10)).bind fun (r13, e13, f13) =>
  andA e13 f13 (
  match r13 with
  | .inl m305 =>
    some (((1 : Int32), m305), 0, 0)
  | .inr o => some (o, 0, 0))))))
