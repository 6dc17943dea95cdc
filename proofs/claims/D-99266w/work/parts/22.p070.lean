/-! CALL: timetable, the reference's services, III. No JVM here. -/
set_option maxRecDepth 100000
set_option linter.unusedVariables false
section TB
variable {b : Nat} {V0 V V' : Vw} {lw : Option Nat} {R : Hp} {n p N cnt many all : Nat} {x y s m v e : Int} {S G : Vw}
theorem yG_c (g : yG V all G) (e1 : V' 286 = V 286) (e2 : V' 287 = V 287) (e3 : V' 288 = V 288) : yG V' all G := fun r hr => by
  rw [e1, e2, e3]
  exact g r hr
theorem y_svc (h : yPl V n p) (hp : p ≤ 300) (hv : V 258 43 = (all : Int)) (hc : V 258 44 = (cnt : Int)) (hcn : cnt ≤ 16) (hal : all ≤ 48) (g : yG V all G) (gk : GK all G) : ∃ V', yTf V V' ∧ V' 258 19 = V 258 19 ∧ V' 258 17 = V 258 17 ∧ match svcR (yk V n) cnt all p with
    | .inl (w, q) => fX7_readsService (Wd b V lw R) (some (b + 258)) = some (I 0, Wd b V' lw R) ∧ V' 258 20 = -1000 * w - (q : Int)
    | .inr (p', many, S, v, e) => fX7_readsService (Wd b V lw R) (some (b + 258)) = some (I 1, Wd b V' lw R) ∧ V' 258 18 = (p' : Int) ∧ V' 258 43 = (all : Int) + v ∧ V' 258 44 = (cnt : Int) + 1 ∧ yG V' (all + v.toNat) (svcS G all many S v e) := by
  have h1 := h.1
  have tb := yk_b V n p
  unfold svcR
  by_cases c : isLt (yk V n) p ∧ cnt = 16
  · rw [if_pos c]
    have cl := c.1
    have cc : V 258 44 = 16 := by rw [hc, c.2]; rfl
    refine ⟨up V 258 20 (-1000 * 4 - (p : Int)), yTf.up (by omega), up_k (by omega), up_k (by omega), ?_, up_s⟩
    rw [svc_eq]
    simp (disch := omega) only [gI258_18, h1, on258, y_isLt h, Option.bind_some, k_0, k_4, k_16, bi_if, if_pos cl, gI258_44, cc, if_true, y_wrong, z_0]
  · rw [if_neg c]
    -- the guard
    have guard : ((if isLt (yk V n) p then (if I (cnt : Int) = I 16 then some (.inr (I 0, Wd b (up V 258 20 (-1000 * 4 - (p : Int))) lw R)) else some (.inl ())) else some (.inl ())) : Option (Unit ⊕ (Int32 × Hp))) = some (.inl ()) := by
      by_cases c1 : isLt (yk V n) p
      · rw [if_pos c1, if_neg (fun w => c ⟨c1, by rw [I_inj (by omega) (by omega) (by omega) (by omega)] at w; omega⟩)]
      · rw [if_neg c1]
    have e00 : I (((0 : Nat) : Int)) = I 0 := rfl
    have e11 : I (((1 : Nat) : Int)) = I 1 := rfl
    have e22 : I (((2 : Nat) : Int)) = I 2 := rfl
    obtain ⟨V1, a1, a2, a3⟩ := y_stop (b := b) (lw := lw) (R := R) (many := 0) (S := fun _ _ => 0) h (by omega) (by omega) SK_0 (fun k hk => by omega)
    have B1 := stopR_b (T := yk V n) (p := p) SK_0 (by omega)
    rw [e00] at a3
    cases e1 : stopR (yk V n) (fun _ _ => 0) 0 p with
    | inl ee =>
      obtain ⟨w, q⟩ := ee
      have go : stpGo (yk V n) 9 0 p (fun _ _ => 0) = .inl (w, q) := by rw [stpGo, e1]
      rw [go]
      rw [e1] at a3
      obtain ⟨b1, b2⟩ := a3
      refine ⟨V1, yTfs a1, a2, a1 _ _ (by omega), ?_, b2⟩
      rw [svc_eq]
      simp (disch := omega) only [gI258_18, h1, on258, y_isLt h, Option.bind_some, k_0, k_4, k_16, bi_if, gI258_44, hc, y_wrong, z_0, guard, b1, if_true]
    | inr qq =>
      obtain ⟨p1, s, m⟩ := qq
      rw [e1] at a3 B1
      obtain ⟨b1, b2, b3⟩ := a3
      have B1 : p < p1 ∧ p1 ≤ p + 5 ∧ 0 < 8 ∧ SvK (0 + 1) (stpS (fun _ _ => 0) 0 s m) ∧ isLt (yk V n) p := B1
      have P1 : yPl V1 n p1 := h.to b2 a2 (by omega)
      obtain ⟨V2, c1, c2, c3⟩ := y_stop (b := b) (lw := lw) (R := R) (many := 1) P1 (by omega) (by omega) B1.2.2.2.1 b3
      have B2 := stopR_b (T := yk V n) (p := p1) B1.2.2.2.1 (by omega)
      rw [a1.yk, e11] at c3
      cases e2 : stopR (yk V n) (stpS (fun _ _ => 0) 0 s m) 1 p1 with
      | inl ee =>
        obtain ⟨w, q⟩ := ee
        have go : stpGo (yk V n) 9 0 p (fun _ _ => 0) = .inl (w, q) := by
          rw [stpGo, e1]
          show (if 0 + 1 < 2 ∨ isLt (yk V n) p1 then stpGo (yk V n) 8 1 p1 (stpS (fun _ _ => 0) 0 s m) else _) = _
          rw [if_pos (Or.inl (by decide)), stpGo, e2]
        rw [go]
        rw [e2] at c3
        obtain ⟨d1, d2⟩ := c3
        refine ⟨V2, yTfs (a1.tr c1), by rw [c2, a2], (a1.tr c1) _ _ (by omega), ?_, d2⟩
        rw [svc_eq]
        simp (disch := omega) only [gI258_18, h1, on258, y_isLt h, Option.bind_some, k_0, k_1, k_4, k_16, bi_if, gI258_44, hc, y_wrong, z_0, guard, b1, if_neg (show ¬ I 1 = I 0 by decide), d1, if_true]
      | inr qq =>
        obtain ⟨p2, s2, m2⟩ := qq
        rw [e2] at c3 B2
        obtain ⟨d1, d2, d3⟩ := c3
        have B2 : p1 < p2 ∧ p2 ≤ p1 + 5 ∧ 1 < 8 ∧ SvK (1 + 1) (stpS (stpS (fun _ _ => 0) 0 s m) 1 s2 m2) ∧ isLt (yk V n) p1 := B2
        have l2 : V2 258 19 = V 258 19 := by rw [c2, a2]
        have P2 : yPl V2 n p2 := P1.to d2 c2 (by omega)
        have ek2 : yk V2 n = yk V n := (a1.tr c1).yk n
        obtain ⟨V3, f1, f2, f3⟩ := y_L51 (b := b) (lw := lw) (R := R) (u := I (p : Int)) 7 2 p2 FUEL V2 (stpS (stpS (fun _ _ => 0) 0 s m) 1 s2 m2) (by omega) (by omega) (by omega) (by omega) (by unfold FUEL; omega) P2 B2.2.2.2.1 d3
        rw [ek2, e22] at f3
        have go : stpGo (yk V n) 9 0 p (fun _ _ => 0) = if isLt (yk V n) p2 then stpGo (yk V n) 7 2 p2 (stpS (stpS (fun _ _ => 0) 0 s m) 1 s2 m2) else .inr (p2, 2, stpS (stpS (fun _ _ => 0) 0 s m) 1 s2 m2) := by
          rw [stpGo, e1]
          show (if 0 + 1 < 2 ∨ isLt (yk V n) p1 then stpGo (yk V n) 8 1 p1 (stpS (fun _ _ => 0) 0 s m) else _) = _
          rw [if_pos (Or.inl (by decide)), stpGo, e2]
          show (if 1 + 1 < 2 ∨ isLt (yk V n) p2 then _ else _) = (if isLt (yk V n) p2 then _ else _)
          by_cases w : isLt (yk V n) p2
          · rw [if_pos w, if_pos (Or.inr w)]
          · rw [if_neg w, if_neg (fun q => q.elim (by omega) w)]
        rw [go]
        have sb := stpGo_b (T := yk V n) 9 0 p (fun _ _ => 0) (by omega) SK_0
        rw [go] at sb
        have f13 : ySf V V3 := (a1.tr c1).tr f1
        cases e3 : (if isLt (yk V n) p2 then stpGo (yk V n) 7 2 p2 (stpS (stpS (fun _ _ => 0) 0 s m) 1 s2 m2) else .inr (p2, 2, stpS (stpS (fun _ _ => 0) 0 s m) 1 s2 m2) : (Int × Nat) ⊕ (Nat × Nat × Vw)) with
        | inl ee =>
          obtain ⟨w, q⟩ := ee
          rw [e3] at f3
          obtain ⟨g1, g2⟩ := f3
          refine ⟨V3, yTfs f13, by rw [f2]; exact l2, f13 _ _ (by omega), ?_, g2⟩
          rw [svc_eq]
          simp (disch := omega) only [gI258_18, h1, on258, y_isLt h, Option.bind_some, k_0, k_1, k_2, k_4, k_16, bi_if, gI258_44, hc, y_wrong, z_0, guard, b1, if_neg (show ¬ I 1 = I 0 by decide), d1, g1]
        | inr qq =>
          obtain ⟨p3, many, S⟩ := qq
          rw [e3] at f3 sb
          obtain ⟨g1, g2, g3⟩ := f3
          have sb : p < p3 ∧ p3 ≤ p + 5 * 9 ∧ 2 ≤ many ∧ many ≤ 8 ∧ SvK many S := sb
          have P3 : yPl V3 n p3 := P2.to g2 f2 (by omega)
          have ek3 : yk V3 n = yk V n := f13.yk n
          obtain ⟨V4, q1, q2, q3, q4⟩ := y_svcT (b := b) (lw := lw) (R := R) (p0 := p) P3 (by omega) (by omega) g3 sb.2.2.2.2 ⟨sb.2.2.1, sb.2.2.2.1⟩ (by rw [f13 _ _ (by omega)]; exact hv) (by rw [f13 _ _ (by omega)]; exact hc) (by omega) hal (yG_c g (funext fun k => f13 _ _ (by omega)) (funext fun k => f13 _ _ (by omega)) (funext fun k => f13 _ _ (by omega))) gk
          rw [ek3] at q4
          have pre : fX7_readsService (Wd b V lw R) (some (b + 258)) = svT (some (b + 258)) (I (p : Int)) (I (many : Int)) (Wd b V3 lw R) := by
            rw [svc_eq]
            simp (disch := omega) only [gI258_18, h1, on258, y_isLt h, Option.bind_some, k_0, k_1, k_2, k_4, k_16, bi_if, gI258_44, hc, y_wrong, z_0, guard, b1, if_neg (show ¬ I 1 = I 0 by decide), d1, g1]
          refine ⟨V4, (yTfs f13).tr q1, by rw [q2, f2]; exact l2, by rw [q3]; exact f13 _ _ (by omega), ?_⟩
          rw [pre]
          show match (match repR (yk V n) p3 (S 1 (many - 1)) with | .inl e => _ | .inr (p2, v, e) => _ : (Int × Nat) ⊕ (Nat × Nat × Vw × Int × Int)) with | .inl (w, q) => _ | .inr (p', many, S, v, e) => _
          cases e4 : repR (yk V n) p3 (S 1 (many - 1)) with
          | inl ee =>
            obtain ⟨w, q⟩ := ee
            rw [e4] at q4
            exact q4
          | inr qq =>
            obtain ⟨p4, v, e⟩ := qq
            rw [e4] at q4
            show match (if (all : Int) + v ≤ 48 then _ else _ : (Int × Nat) ⊕ (Nat × Nat × Vw × Int × Int)) with | .inl (w, q) => _ | .inr (p', many, S, v, e) => _
            have q4 : if (all : Int) + v ≤ 48 then _ else _ := q4
            by_cases c5 : (all : Int) + v ≤ 48
            · rw [if_pos c5] at q4 ⊢
              exact q4
            · rw [if_neg c5] at q4 ⊢
              exact q4
end TB
