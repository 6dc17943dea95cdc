/-! CALL: timetable, the reference's services, II. No JVM here. -/
set_option maxRecDepth 100000
set_option linter.unusedVariables false
abbrev yTc (o k : Nat) : Prop := (o = 258 ∧ (k = 17 ∨ (18 ≤ k ∧ k ≤ 25) ∨ k = 43 ∨ k = 44)) ∨ (286 ≤ o ∧ o ≤ 290)
def yTf (V V' : Vw) : Prop := ∀ o k, ¬ yTc o k → V' o k = V o k
def svT (a0 : Option Nat) (v1 v16 : Int32) (m17 : Hp) : Option (Int32 × Hp) :=
      (hp_on m17 a0 6 (fX7_here m17 a0)).bind fun v18 =>
      ((if v18 = (120 : Int32) then
        (hp_gI m17 a0 6 18).bind fun v54 =>
        (hp_pI m17 a0 6 18 (v54 + (1 : Int32))).bind fun m55 =>
        (hp_on m55 a0 6 (fX7_readsWithin m55 a0 (2 : Int32) (2 : Int32) (24 : Int32))).bind fun (v56, m57) =>
        if v56 = 0 then
          some (.inr ((0 : Int32), m57))
        else
        (hp_gI m57 a0 6 21).bind fun v59 =>
        (hp_on m57 a0 6 (fX7_takes m57 a0 (43 : Int32))).bind fun (v60, m61) =>
        if v60 = 0 then
          some (.inr ((0 : Int32), m61))
        else
        (hp_gI m61 a0 6 18).bind fun v63 =>
        (hp_on m61 a0 6 (fX7_readsWithin m61 a0 (3 : Int32) (1 : Int32) (720 : Int32))).bind fun (v64, m65) =>
        if v64 = 0 then
          some (.inr ((0 : Int32), m65))
        else
        (hp_gI m65 a0 6 21).bind fun v67 =>
        (hp_gR m65 a0 6 46).bind fun v68 =>
        (hp_aI m65 v68 0 (v16 - (1 : Int32))).bind fun v69 =>
        if (v69 + ((v59 - (1 : Int32)) * v67)) ≤ (1439 : Int32) then
          some (.inl (v59, v67, m65))
        else
        (hp_on m65 a0 6 (fX7_wrongAt m65 a0 (3 : Int32) v63)).bind fun (v71, m72) =>
        (hp_z v71).bind fun z73 =>
        some (.inr (z73, m72))
      else
      some (.inl ((1 : Int32), (0 : Int32), m17)) : Option ((Int32 × Int32 × Hp) ⊕ (Int32 × Hp)))).bind fun p22 =>
      (
      match p22 with
      | .inl (v19, v20, m21) =>
        (hp_gI m21 a0 6 43).bind fun v23 =>
        if (v23 + v19) ≤ (48 : Int32) then
          (iter (fX7_readsService_L205 a0 v16 v19 v20) FUEL ((0 : Int32), m21)).bind fun r25 =>
          (
          match r25 with
          | m47 =>
            (hp_gI m47 a0 6 44).bind fun v48 =>
            (hp_pI m47 a0 6 44 (v48 + (1 : Int32))).bind fun m49 =>
            some ((1 : Int32), m49)
          )
        else
        (hp_on m21 a0 6 (fX7_wrongAt m21 a0 (8 : Int32) v1)).bind fun (v50, m51) =>
        (hp_z v50).bind fun z52 =>
        some (z52, m51)
      | .inr o => some o
      )
theorem svc_eq (m : Hp) (a0 : Option Nat) : fX7_readsService m a0 = ((hp_gI m a0 6 18).bind fun v1 =>
  (hp_on m a0 6 (fX7_isLetter m a0)).bind fun v2 =>
  ((if v2 = 0 then
    some (.inl ())
  else
  (hp_gI m a0 6 44).bind fun v75 =>
  if v75 = (16 : Int32) then
    (hp_gI m a0 6 18).bind fun v77 =>
    (hp_on m a0 6 (fX7_wrongAt m a0 (4 : Int32) v77)).bind fun (v78, m79) =>
    (hp_z v78).bind fun z80 =>
    some (.inr (z80, m79))
  else
  some (.inl ()) : Option (Unit ⊕ (Int32 × Hp)))).bind fun p3 =>
  (
  match p3 with
  | .inl _ =>
    (hp_on m a0 6 (fX7_readsStop m a0 (0 : Int32))).bind fun (v4, m5) =>
    if v4 = 0 then
      some ((0 : Int32), m5)
    else
    (hp_on m5 a0 6 (fX7_readsStop m5 a0 (1 : Int32))).bind fun (v7, m8) =>
    if v7 = 0 then
      some ((0 : Int32), m8)
    else
    (iter (fX7_readsService_L51 a0 v1) FUEL ((2 : Int32), m8)).bind fun r10 =>
    (
    match r10 with
    | .inl (v16, m17) =>
      svT a0 v1 v16 m17
    | .inr o => some o
    )
  | .inr o => some o
  )) := rfl
section TA
variable {b : Nat} {V0 V V' : Vw} {lw : Option Nat} {R : Hp} {n p N cnt many all : Nat} {x y s m v e : Int} {S G : Vw}
theorem yTf.tr {V1 V2 V3 : Vw} (h : yTf V1 V2) (g : yTf V2 V3) : yTf V1 V3 := fun o k q => (g o k q).trans (h o k q)
theorem yTf.up {o k : Nat} (hk : yTc o k) : yTf V (up V o k x) := fun o2 i q => by
  rw [up_e, if_neg (fun e => q (by rw [e.1, e.2]; exact hk))]
theorem yTfs (h : ySf V V') : yTf V V' := fun o k q => h o k (by omega)
/-- how often, how far apart; then the trains -/
theorem y_svcT {p0 : Nat} (h : yPl V n p) (hp : p ≤ 460) (hp0 : p0 ≤ 460) (row : yRow V many S) (k : SvK many S) (h2 : 2 ≤ many ∧ many ≤ 8) (hv : V 258 43 = (all : Int)) (hc : V 258 44 = (cnt : Int)) (hcn : cnt ≤ 20) (hal : all ≤ 48) (g : yG V all G) (gk : GK all G) : ∃ V', yTf V V' ∧ V' 258 19 = V 258 19 ∧ V' 258 17 = V 258 17 ∧ match repR (yk V n) p (S 1 (many - 1)) with
    | .inl (w, q) => svT (some (b + 258)) (I (p0 : Int)) (I (many : Int)) (Wd b V lw R) = some (I 0, Wd b V' lw R) ∧ V' 258 20 = -1000 * w - (q : Int)
    | .inr (p', v, e) => if (all : Int) + v ≤ 48 then svT (some (b + 258)) (I (p0 : Int)) (I (many : Int)) (Wd b V lw R) = some (I 1, Wd b V' lw R) ∧ V' 258 18 = (p' : Int) ∧ V' 258 43 = (all : Int) + v ∧ V' 258 44 = (cnt : Int) + 1 ∧ yG V' (all + v.toNat) (svcS G all many S v e) else svT (some (b + 258)) (I (p0 : Int)) (I (many : Int)) (Wd b V lw R) = some (I 0, Wd b V' lw R) ∧ V' 258 20 = -1000 * 8 - (p0 : Int) := by
  have h1 := h.1
  have tb := yk_b V n p
  have em : ((many : Int) - 1).toNat = many - 1 := by omega
  have km := k.1 (many - 1) (by omega)
  -- from a state that knows how often
  have last : ∀ (V2 : Vw) (v e : Int), ySf V V2 → (∀ q, V2 289 q = V 289 q ∧ V2 290 q = V 290 q) → 1 ≤ v ∧ v ≤ 24 → 0 ≤ e ∧ e ≤ 720 → (all : Int) + v ≤ 48 → ∃ V3 V4, iter (fX7_readsService_L205 (some (b + 258)) (I (many : Int)) (I v) (I e)) FUEL (I 0, Wd b V2 lw R) = some (Wd b V3 lw R) ∧ hp_gI (Wd b V3 lw R) (some (b + 258)) 6 44 = some (I (cnt : Int)) ∧ hp_pI (Wd b V3 lw R) (some (b + 258)) 6 44 (I ((cnt : Int) + 1)) = some (Wd b V4 lw R) ∧ yTf V2 V4 ∧ V4 258 19 = V2 258 19 ∧ V4 258 17 = V2 258 17 ∧ V4 258 18 = V2 258 18 ∧ V4 258 43 = (all : Int) + v ∧ V4 258 44 = (cnt : Int) + 1 ∧ yG V4 (all + v.toNat) (svcS G all many S v e) := fun V2 v e f r2 hv1 he h48 => by
    have row2 : yRow V2 many S := fun q hq => by
      rw [(r2 q).1, (r2 q).2]
      exact row q hq
    have g2 : yG V2 all G := fun r hr => by
      have := g r hr
      rw [f _ _ (by omega)]
      refine ⟨this.1, fun k hk => ?_⟩
      rw [f _ _ (by omega), f _ _ (by omega)]
      exact this.2 k hk
    obtain ⟨V3, c1, c2, c3, c4⟩ := y_L205 (b := b) (lw := lw) (R := R) (V := V2) h2 (by rw [f _ _ (by omega)]; exact hv) k row2 g2 gk hv1 he h48
    have s3 : V3 258 44 = (cnt : Int) := by
      rw [c2 _ _ (by omega), f _ _ (by omega)]
      exact hc
    refine ⟨V3, up V3 258 44 ((cnt : Int) + 1), c1, by rw [gI258_44, s3], pI258_44, ?_, by rw [up_k (by omega), c2 _ _ (by omega)], by rw [up_k (by omega), c2 _ _ (by omega)], by rw [up_k (by omega), c2 _ _ (by omega)], by rw [up_k (by omega)]; exact c3, up_s, fun r hr => ?_⟩
    · exact yTf.tr (fun o q w => c2 o q (by omega)) (yTf.up (by omega))
    · rw [up_r (by omega), up_r (by omega), up_r (by omega)]
      exact c4 r hr
  unfold repR
  by_cases c : yk V n p = 120
  · rw [if_pos c]
    have PA : yPl (up V 258 18 ((p : Int) + 1)) n (p + 1) := h.to up_s (up_k (by omega)) (by omega)
    obtain ⟨V1, a1, a2, a3⟩ := y_readsW (b := b) (lw := lw) (R := R) (dg := 2) (lo := 2) (hi := 24) PA (by omega) (by omega) (by omega) (by omega) (by omega)
    have f0 : ySf V (up V 258 18 ((p : Int) + 1)) := ySf.up (by omega)
    have e2 : I ((2 : Nat) : Int) = I 2 := rfl
    rw [f0.yk, e2] at a2
    have f1 : ySf V V1 := f0.tr (ySf.fr a1)
    have l1 : V1 258 19 = V 258 19 := by rw [a3 _ (by omega) (by omega) (by omega), up_k (by omega)]
    have rw1 : ∀ q, V1 289 q = V 289 q ∧ V1 290 q = V 290 q := fun q => by
      rw [a1 _ _ (by omega), a1 _ _ (by omega), up_r (by omega), up_r (by omega)]
      exact ⟨rfl, rfl⟩
    have n1 := numR_b (T := yk V n) (dg := 2) (p := p + 1) (lo := 2) (hi := 24) (by decide)
    cases e1 : numR (yk V n) 2 2 24 (p + 1) with
    | inl ee =>
      obtain ⟨w, q⟩ := ee
      rw [e1] at a2
      obtain ⟨b1, b2⟩ := a2
      refine ⟨V1, yTfs f1, l1, f1 _ _ (by omega), ?_, b2⟩
      unfold svT
      simp (disch := omega) only [on258, y_here h, Option.bind_some, k_0, k_1, k_2, k_24, k_120, c, if_true, gI258_18, h1, I_add, pI258_18, b1]
    | inr qq =>
      obtain ⟨v, p1⟩ := qq
      rw [e1] at a2 n1
      obtain ⟨b1, b2, b3⟩ := a2
      have n1 : 2 ≤ v ∧ v ≤ 24 ∧ p + 1 < p1 ∧ p1 ≤ p + 1 + 2 := n1
      have P1 : yPl V1 n p1 := h.to b3 l1 (by omega)
      have tk := y_takes (b := b) (lw := lw) (R := R) (x := 43) P1 (by omega)
      rw [f1.yk] at tk
      show ∃ V', _ ∧ _ ∧ _ ∧ match (if yk V n p1 = 43 then _ else _ : (Int × Nat) ⊕ (Nat × Int × Int)) with | .inl (w, q) => _ | .inr (p', v, e) => _
      by_cases c1 : yk V n p1 = 43
      · rw [if_pos c1]
        rw [if_pos c1] at tk
        have PB : yPl (up V1 258 18 ((p1 : Int) + 1)) n (p1 + 1) := P1.to up_s (up_k (by omega)) (by omega)
        obtain ⟨V2, d1, d2, d3⟩ := y_readsW (b := b) (lw := lw) (R := R) (dg := 3) (lo := 1) (hi := 720) PB (by omega) (by omega) (by omega) (by omega) (by omega)
        have f2 : ySf V (up V1 258 18 ((p1 : Int) + 1)) := f1.tr (ySf.up (by omega))
        have e3 : I ((3 : Nat) : Int) = I 3 := rfl
        rw [f2.yk, e3] at d2
        have f3 : ySf V V2 := f2.tr (ySf.fr d1)
        have l2 : V2 258 19 = V 258 19 := by rw [d3 _ (by omega) (by omega) (by omega), up_k (by omega)]; exact l1
        have rw2 : ∀ q, V2 289 q = V 289 q ∧ V2 290 q = V 290 q := fun q => by
          rw [d1 _ _ (by omega), d1 _ _ (by omega), up_r (by omega), up_r (by omega)]
          exact rw1 q
        have n2 := numR_b (T := yk V n) (dg := 3) (p := p1 + 1) (lo := 1) (hi := 720) (by decide)
        have pB : up V1 258 18 ((p1 : Int) + 1) 258 18 = (p1 : Int) + 1 := up_s
        cases e4 : numR (yk V n) 3 1 720 (p1 + 1) with
        | inl ee =>
          obtain ⟨w, q⟩ := ee
          rw [e4] at d2
          obtain ⟨q1, q2⟩ := d2
          refine ⟨V2, yTfs f3, l2, f3 _ _ (by omega), ?_, q2⟩
          unfold svT
          simp (disch := omega) only [on258, y_here h, Option.bind_some, k_0, k_1, k_2, k_3, k_24, k_43, k_720, k_120, c, if_true, gI258_18, h1, I_add, pI258_18, b1, if_neg (show ¬ I 1 = I 0 by decide), gI258_21, b2, tk, pB, q1]
        | inr qq =>
          obtain ⟨e, p2⟩ := qq
          rw [e4] at d2 n2
          obtain ⟨q1, q2, q3⟩ := d2
          have n2 : 1 ≤ e ∧ e ≤ 720 ∧ p1 + 1 < p2 ∧ p2 ≤ p1 + 1 + 3 := n2
          have me : (v - 1) * e ≤ 24 * 720 := Int.mul_le_mul (by omega) n2.2.1 (by omega) (by omega)
          have m0 : 0 ≤ (v - 1) * e := Int.mul_nonneg (by omega) (by omega)
          have rm : V2 290 (many - 1) = S 1 (many - 1) := by rw [(rw2 _).2]; exact (row (many - 1) (by omega)).2
          have nt2 : V2 258 43 = (all : Int) := by rw [f3 _ _ (by omega)]; exact hv
          show ∃ V', _ ∧ _ ∧ _ ∧ match (if S 1 (many - 1) + (v - 1) * e < 1440 then _ else _ : (Int × Nat) ⊕ (Nat × Int × Int)) with | .inl (w, q) => _ | .inr (p', v, e) => _
          by_cases c2 : S 1 (many - 1) + (v - 1) * e < 1440
          · rw [if_pos c2]
            show ∃ V', _ ∧ _ ∧ _ ∧ if (all : Int) + v ≤ 48 then _ else _
            by_cases c3 : (all : Int) + v ≤ 48
            · simp only [if_pos c3]
              obtain ⟨V3, V4, g1, g2, g3, g4, g5, g6, g7, g8, g9, g10⟩ := last V2 v e f3 rw2 (by omega) (by omega) c3
              refine ⟨V4, (yTfs f3).tr g4, by rw [g5]; exact l2, by rw [g6]; exact f3 _ _ (by omega), ?_, by rw [g7]; exact q3, g8, g9, g10⟩
              unfold svT
              simp (disch := omega) only [on258, y_here h, Option.bind_some, k_0, k_1, k_2, k_3, k_24, k_43, k_48, k_720, k_120, k_1439, c, if_true, gI258_18, h1, I_add, I_sub, I_mul, pI258_18, b1, if_neg (show ¬ I 1 = I 0 by decide), gI258_21, b2, tk, pB, q1, q2, gR258_46, rA290, em, rm, I_le, if_pos, gI258_43, nt2, g1, g2, g3]
            · simp only [if_neg c3]
              refine ⟨up V2 258 20 (-1000 * 8 - (p0 : Int)), (yTfs f3).tr (yTf.up (by omega)), by rw [up_k (by omega)]; exact l2, by rw [up_k (by omega)]; exact f3 _ _ (by omega), ?_, up_s⟩
              unfold svT
              simp (disch := omega) only [on258, y_here h, Option.bind_some, k_0, k_1, k_2, k_3, k_8, k_24, k_43, k_48, k_720, k_120, k_1439, c, if_true, gI258_18, h1, I_add, I_sub, I_mul, pI258_18, b1, if_neg (show ¬ I 1 = I 0 by decide), gI258_21, b2, tk, pB, q1, q2, gR258_46, rA290, em, rm, I_le, if_pos, if_neg, gI258_43, nt2, y_wrong, z_0]
          · rw [if_neg c2]
            refine ⟨up V2 258 20 (-1000 * 3 - ((p1 : Int) + 1)), (yTfs f3).tr (yTf.up (by omega)), by rw [up_k (by omega)]; exact l2, by rw [up_k (by omega)]; exact f3 _ _ (by omega), ?_, by rw [up_s]; rfl⟩
            unfold svT
            simp (disch := omega) only [on258, y_here h, Option.bind_some, k_0, k_1, k_2, k_3, k_24, k_43, k_720, k_120, k_1439, c, if_true, gI258_18, h1, I_add, I_sub, I_mul, pI258_18, b1, if_neg (show ¬ I 1 = I 0 by decide), gI258_21, b2, tk, pB, q1, q2, gR258_46, rA290, em, rm, I_le, if_neg, y_wrong, z_0]
      · rw [if_neg c1]
        rw [if_neg c1] at tk
        refine ⟨up V1 258 20 (-1000 * 1 - (p1 : Int)), (yTfs f1).tr (yTf.up (by omega)), by rw [up_k (by omega)]; exact l1, by rw [up_k (by omega)]; exact f1 _ _ (by omega), ?_, up_s⟩
        unfold svT
        simp (disch := omega) only [on258, y_here h, Option.bind_some, k_0, k_1, k_2, k_3, k_24, k_43, k_720, k_120, c, if_true, gI258_18, h1, I_add, pI258_18, b1, if_neg (show ¬ I 1 = I 0 by decide), gI258_21, b2, tk]
  · rw [if_neg c]
    show ∃ V', _ ∧ _ ∧ _ ∧ if (all : Int) + 1 ≤ 48 then _ else _
    by_cases c3 : (all : Int) + 1 ≤ 48
    · simp only [if_pos c3]
      obtain ⟨V3, V4, g1, g2, g3, g4, g5, g6, g7, g8, g9, g10⟩ := last V 1 0 ySf.id (fun _ => ⟨rfl, rfl⟩) (by omega) (by omega) c3
      refine ⟨V4, g4, g5, g6, ?_, by rw [g7]; exact h1, g8, g9, g10⟩
      unfold svT
      simp (disch := omega) only [on258, y_here h, Option.bind_some, k_0, k_1, k_48, k_120, I_inj, I_add, I_le, if_pos, if_neg, gI258_43, hv, g1, g2, g3]
    · simp only [if_neg c3]
      refine ⟨up V 258 20 (-1000 * 8 - (p0 : Int)), yTf.up (by omega), up_k (by omega), up_k (by omega), ?_, up_s⟩
      unfold svT
      simp (disch := omega) only [on258, y_here h, Option.bind_some, k_0, k_1, k_8, k_48, k_120, I_inj, I_add, I_le, if_neg, gI258_43, hv, y_wrong, z_0]
end TA
