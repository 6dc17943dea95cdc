/-! CALL: timetable, the class's lines, IV. No JVM here. -/
set_option maxRecDepth 100000
set_option linter.unusedVariables false
section CO
variable {b : Nat} {V0 V V' : Vw} {lw : Option Nat} {R : Hp} {a n p tr many cnt all nx : Nat} {q x y s m al v e : Int} {S G : Vw} {rest : List Vl}
theorem x_ckLine (ha : b + 305 ≤ a) (hnx : a + 3 < nx) (hn : n ≤ 200) (hp : p ≤ 200) (hc : cnt ≤ 16) (hal : all ≤ 48) (xc : XC b R a cnt all nx G) : match svcR (tk V n) cnt all p with
    | .inl (w, q') => ∃ p' al' R' d c, p' ≤ 1000 ∧ 1 ≤ w ∧ w ≤ 8 ∧ fX18_line (Wd b V lw (hp_set R a (scC 14 b n p 0 q (ckRest b a (all : Int))))) nx (some a) (I (cnt : Int)) = some (Wd b V lw (hp_set R' a (scC 14 b n p' w (q' : Int) (ckRest b a al'))), d, c) ∧ d ≤ 3 ∧ c ≤ 21 ∧ ∀ y, y < a → R' y = R y
    | .inr (p', many, S, v, e) => ∃ R', fX18_line (Wd b V lw (hp_set R a (scC 14 b n p 0 q (ckRest b a (all : Int))))) nx (some a) (I (cnt : Int)) = some (Wd b V lw (hp_set R' a (scC 14 b n p' 0 q (ckRest b a ((all : Int) + v)))), 3, 21) ∧ XC b R' a (cnt + 1) (all + v.toNat) (nx + 3) (svcS G all many S v e) ∧ ∀ y, y < a → R' y = R y := by
  have tb := tk_b V n p
  unfold svcR
  by_cases c : isLt (tk V n) p ∧ cnt = 16
  · rw [if_pos c]
    have cl := c.1
    have cc : (cnt : Int) = 16 := by rw [c.2]; rfl
    refine ⟨p, (all : Int), R, 0, 0, by omega, by decide, by decide, ?_, by omega, by omega, fun _ _ => rfl⟩
    unfold fX18_line
    simp (disch := omega) only [sc_on ha, sc_place ha, sc_letter ha (show n ≤ 260 by omega), Option.bind_some, k_0, k_4, k_16, bi_if, if_pos cl, cc, if_true, sc_bad0 ha, andA_0, sc_g0 ha]
  · rw [if_neg c]
    have guard : ((if isLt (tk V n) p then (if I (cnt : Int) = I 16 then some (Wd b V lw (hp_set R a (scC 14 b n p 4 (p : Int) (ckRest b a (all : Int)))), 0, 0) else some (Wd b V lw (hp_set R a (scC 14 b n p 0 q (ckRest b a (all : Int)))), 0, 0)) else some (Wd b V lw (hp_set R a (scC 14 b n p 0 q (ckRest b a (all : Int)))), 0, 0)) : Option (Hp × Nat × Nat)) = some (Wd b V lw (hp_set R a (scC 14 b n p 0 q (ckRest b a (all : Int)))), 0, 0) := by
      by_cases c1 : isLt (tk V n) p
      · rw [if_pos c1, if_neg (fun w => c ⟨c1, by rw [I_inj (by omega) (by omega) (by omega) (by omega)] at w; omega⟩)]
      · rw [if_neg c1]
    obtain ⟨R1, i1, i2, i3⟩ := x_newTrain (b := b) (V := V) (lw := lw) (R := hp_set R a (scC 14 b n p 0 q (ckRest b a (all : Int)))) (nx := nx) (S := fun _ _ => 0) (by omega)
    have e1 : R1 = hp_set R1 a (scC 14 b n p 0 q (ckRest b a (all : Int))) := (s_id (by rw [i3 a (by omega), s_s])).symm
    have fr1 : ∀ y, y ≠ a → ¬ (nx ≤ y ∧ y ≤ nx + 2) → R1 y = R y := fun y h1 h2 => by rw [i3 y h2, s_n h1]
    have X := xc
    obtain ⟨F, fo, fe, off, x1, x2, x3, x4, x5, x6, x7⟩ := X
    have init : ∀ {α : Type} (kk : Hp × Nat × Nat → Option (α × Nat × Nat)), ((fX6_init (hp_set (Wd b V lw (hp_set R a (scC 14 b n p 0 q (ckRest b a (all : Int))))) nx (.inr (5, dfX6))) (nx + 1) nx).bind kk) = kk (Wd b V lw (hp_set R1 a (scC 14 b n p 0 q (ckRest b a (all : Int)))), 2, 16) := fun kk => by
      rw [o_set (by omega), i1, Option.bind_some, ← e1]
    have st := x_stop (b := b) (V := V) (lw := lw) (q := q) (rest := ckRest b a (all : Int)) ha (show b + 305 ≤ nx by omega) (show a < nx by omega) (show n ≤ 260 by omega) (show p ≤ 400 by omega) (by omega) SK_0 i2
    have B1 := stopR_b (T := tk V n) (p := p) SK_0 (by omega)
    cases e2 : stopR (tk V n) (fun _ _ => 0) 0 p with
    | inl ee =>
      obtain ⟨w, q'⟩ := ee
      have go : stpGo (tk V n) 9 0 p (fun _ _ => 0) = .inl (w, q') := by rw [stpGo, e2]
      rw [go]
      rw [e2] at st B1
      obtain ⟨p', b1, b2⟩ := st
      have B1 : 1 ≤ w ∧ w ≤ 6 ∧ p ≤ q' ∧ q' ≤ p + 6 := B1
      have l57 : iterA (fX18_line_L57 (some a) (I (cnt : Int)) (I (p : Int)) (some nx)) FUEL (Wd b V lw (hp_set R1 a (scC 14 b n p' w (q' : Int) (ckRest b a (all : Int))))) (nx + 1 + 2) = some (Wd b V lw (hp_set R1 a (scC 14 b n p' w (q' : Int) (ckRest b a (all : Int)))), 0, 0) := by
        show iterA _ (1999 + 1) _ _ = _
        refine iterA_r0 ?_
        unfold fX18_line_L57
        rw [sc_on ha, sc_g0 ha (by omega), Option.bind_some, k_0, if_pos rfl]
      refine ⟨p', (all : Int), R1, 3, 21, by omega, B1.1, by omega, ?_, by omega, by omega, fun y hy => fr1 y (by omega) (by omega)⟩
      rw [ckl_eq]
      simp (disch := omega) only [sc_on ha, sc_place ha, sc_letter ha (show n ≤ 260 by omega), Option.bind_some, k_0, k_4, k_16, bi_if, sc_bad0 ha, guard, ite_self, andA_0, sc_g1 ha, I_inj, if_neg, Nat.add_zero, init, b2, sc_g0 ha (show 1 ≤ w ∧ w ≤ 100 by omega), if_true, l57]
      unfold ckT
      rw [sc_on ha, sc_g0 ha (by omega), Option.bind_some, k_0, if_pos rfl]
      rfl
    | inr qq =>
      obtain ⟨p1, s, m⟩ := qq
      rw [e2] at st B1
      obtain ⟨R2, b1, b2, b3⟩ := st
      have B1 : p < p1 ∧ p1 ≤ p + 5 ∧ 0 < 8 ∧ SvK (0 + 1) (stpS (fun _ _ => 0) 0 s m) ∧ isLt (tk V n) p := B1
      have st2 := x_stop (b := b) (V := V) (lw := lw) (q := q) (rest := ckRest b a (all : Int)) ha (show b + 305 ≤ nx by omega) (show a < nx by omega) (show n ≤ 260 by omega) (show p1 ≤ 400 by omega) (by omega) B1.2.2.2.1 b2
      have B2 := stopR_b (T := tk V n) (p := p1) B1.2.2.2.1 (by omega)
      have fr2 : ∀ y, y ≠ a → ¬ (nx ≤ y ∧ y ≤ nx + 2) → R2 y = R y := fun y h1 h2 => by rw [b3 y h2, fr1 y h1 h2]
      cases e3 : stopR (tk V n) (stpS (fun _ _ => 0) 0 s m) 1 p1 with
      | inl ee =>
        obtain ⟨w, q'⟩ := ee
        have go : stpGo (tk V n) 9 0 p (fun _ _ => 0) = .inl (w, q') := by
          rw [stpGo, e2]
          show (if 0 + 1 < 2 ∨ isLt (tk V n) p1 then stpGo (tk V n) 8 1 p1 (stpS (fun _ _ => 0) 0 s m) else _) = _
          rw [if_pos (Or.inl (by decide)), stpGo, e3]
        rw [go]
        rw [e3] at st2 B2
        obtain ⟨p', d1, d2⟩ := st2
        have B2 : 1 ≤ w ∧ w ≤ 6 ∧ p1 ≤ q' ∧ q' ≤ p1 + 6 := B2
        have l57 : iterA (fX18_line_L57 (some a) (I (cnt : Int)) (I (p : Int)) (some nx)) FUEL (Wd b V lw (hp_set R2 a (scC 14 b n p' w (q' : Int) (ckRest b a (all : Int))))) (nx + 1 + 2) = some (Wd b V lw (hp_set R2 a (scC 14 b n p' w (q' : Int) (ckRest b a (all : Int)))), 0, 0) := by
          show iterA _ (1999 + 1) _ _ = _
          refine iterA_r0 ?_
          unfold fX18_line_L57
          rw [sc_on ha, sc_g0 ha (by omega), Option.bind_some, k_0, if_pos rfl]
        refine ⟨p', (all : Int), R2, 3, 21, by omega, B2.1, by omega, ?_, by omega, by omega, fun y hy => fr2 y (by omega) (by omega)⟩
        rw [ckl_eq]
        simp (disch := omega) only [sc_on ha, sc_place ha, sc_letter ha (show n ≤ 260 by omega), Option.bind_some, k_0, k_4, k_16, bi_if, sc_bad0 ha, guard, ite_self, andA_0, sc_g1 ha, I_inj, if_neg, Nat.add_zero, init, b1, d2, l57]
        unfold ckT
        rw [sc_on ha, sc_g0 ha (by omega), Option.bind_some, k_0, if_pos rfl]
        rfl
      | inr qq =>
        obtain ⟨p2, s2, m2⟩ := qq
        rw [e3] at st2 B2
        obtain ⟨R3, d1, d2, d3⟩ := st2
        have B2 : p1 < p2 ∧ p2 ≤ p1 + 5 ∧ 1 < 8 ∧ SvK (1 + 1) (stpS (stpS (fun _ _ => 0) 0 s m) 1 s2 m2) ∧ isLt (tk V n) p1 := B2
        have fr3 : ∀ y, y ≠ a → ¬ (nx ≤ y ∧ y ≤ nx + 2) → R3 y = R y := fun y h1 h2 => by rw [d3 y h2, fr2 y h1 h2]
        have st3 := x_L57 (b := b) (V := V) (lw := lw) (q := q) (rest := ckRest b a (all : Int)) (nx := nx + 1 + 2) (u1 := I (cnt : Int)) (u2 := I (p : Int)) ha (show b + 305 ≤ nx by omega) (show a < nx by omega) (show n ≤ 260 by omega) 7 2 p2 FUEL R3 (stpS (stpS (fun _ _ => 0) 0 s m) 1 s2 m2) (by omega) (by omega) (by omega) (by omega) (by unfold FUEL; omega) B2.2.2.2.1 d2
        have go : stpGo (tk V n) 9 0 p (fun _ _ => 0) = if isLt (tk V n) p2 then stpGo (tk V n) 7 2 p2 (stpS (stpS (fun _ _ => 0) 0 s m) 1 s2 m2) else .inr (p2, 2, stpS (stpS (fun _ _ => 0) 0 s m) 1 s2 m2) := by
          rw [stpGo, e2]
          show (if 0 + 1 < 2 ∨ isLt (tk V n) p1 then stpGo (tk V n) 8 1 p1 (stpS (fun _ _ => 0) 0 s m) else _) = _
          rw [if_pos (Or.inl (by decide)), stpGo, e3]
          show (if 1 + 1 < 2 ∨ isLt (tk V n) p2 then _ else _) = (if isLt (tk V n) p2 then _ else _)
          by_cases w : isLt (tk V n) p2
          · rw [if_pos w, if_pos (Or.inr w)]
          · rw [if_neg w, if_neg (fun q => q.elim (by omega) w)]
        rw [go]
        have sb := stpGo_b (T := tk V n) 9 0 p (fun _ _ => 0) (by omega) SK_0
        rw [go] at sb
        cases e4 : (if isLt (tk V n) p2 then stpGo (tk V n) 7 2 p2 (stpS (stpS (fun _ _ => 0) 0 s m) 1 s2 m2) else .inr (p2, 2, stpS (stpS (fun _ _ => 0) 0 s m) 1 s2 m2) : (Int × Nat) ⊕ (Nat × Nat × Vw)) with
        | inl ee =>
          obtain ⟨w, q'⟩ := ee
          rw [e4] at st3
          obtain ⟨p', R4, g1, g2, g3, g4, g5⟩ := st3
          refine ⟨p', (all : Int), R4, 3, 21, by omega, g2, by omega, ?_, by omega, by omega, fun y hy => by rw [g5 y (by omega), fr3 y (by omega) (by omega)]⟩
          rw [ckl_eq]
          simp (disch := omega) only [sc_on ha, sc_place ha, sc_letter ha (show n ≤ 260 by omega), Option.bind_some, k_0, k_4, k_16, bi_if, sc_bad0 ha, guard, ite_self, andA_0, sc_g1 ha, I_inj, if_neg, Nat.add_zero, init, b1, d1, g4]
          unfold ckT
          rw [sc_on ha, sc_g0 ha (by omega), Option.bind_some, k_0, if_pos rfl]
          rfl
        | inr qq =>
          obtain ⟨p3, many, S⟩ := qq
          rw [e4] at st3 sb
          obtain ⟨R4, g1, g2, g3⟩ := st3
          have sb : p < p3 ∧ p3 ≤ p + 5 * 9 ∧ 2 ≤ many ∧ many ≤ 8 ∧ SvK many S := sb
          have lt : isLt (tk V n) p := B1.2.2.2.2
          have c16 : cnt < 16 := by
            by_cases w : cnt = 16
            · exact absurd ⟨lt, w⟩ c
            · omega
          have fr4 : ∀ y, y ≠ a → ¬ (nx ≤ y ∧ y ≤ nx + 2) → R4 y = R y := fun y h1 h2 => by rw [g3 y h2, fr3 y h1 h2]
          have ct := x_ckT (b := b) (V := V) (lw := lw) (q := q) (p0 := p) (all := all) ha (show a + 3 < nx by omega) (show n ≤ 260 by omega) (show p3 ≤ 400 by omega) (by omega) c16 hal g2 sb.2.2.2.2 ⟨sb.2.2.1, sb.2.2.2.1⟩ (by rw [fr4 _ (by omega) (by omega)]; exact x1) (by rw [fr4 _ (by omega) (by omega)]; exact x2) (by rw [fr4 _ (by omega) (by omega)]; exact x3) (x4 cnt (Nat.le_refl _))
          have rb := repR_b (T := tk V n) (p := p3) (x := S 1 (many - 1))
          have pre : ∀ (m_ : Hp), ckT (some a) (I (cnt : Int)) (I (p : Int)) (some nx) (Wd b V lw (hp_set R4 a (scC 14 b n p3 0 q (ckRest b a (all : Int))))) = some (m_, 0, 0) → fX18_line (Wd b V lw (hp_set R a (scC 14 b n p 0 q (ckRest b a (all : Int))))) nx (some a) (I (cnt : Int)) = some (m_, 3, 21) := fun m_ hm => by
            rw [ckl_eq]
            simp (disch := omega) only [sc_on ha, sc_place ha, sc_letter ha (show n ≤ 260 by omega), Option.bind_some, k_0, k_4, k_16, bi_if, sc_bad0 ha, guard, ite_self, andA_0, sc_g1 ha, I_inj, if_neg, Nat.add_zero, init, b1, d1, g1, hm]
            rfl
          show match (match repR (tk V n) p3 (S 1 (many - 1)) with | .inl e => _ | .inr (p2, v, e) => _ : (Int × Nat) ⊕ (Nat × Nat × Vw × Int × Int)) with | .inl (w, q') => _ | .inr (p', many, S, v, e) => _
          cases e5 : repR (tk V n) p3 (S 1 (many - 1)) with
          | inl ee =>
            obtain ⟨w, q'⟩ := ee
            rw [e5] at ct
            obtain ⟨p', al', R5, h1, h2, h3, h4, h5⟩ := ct
            exact ⟨p', al', R5, 3, 21, h1, h2, h3, pre _ h4, by omega, by omega, fun y hy => by rw [h5 y (by omega), fr4 y (by omega) (by omega)]⟩
          | inr qq =>
            obtain ⟨p4, v, e⟩ := qq
            rw [e5] at ct rb
            have rb : p3 ≤ p4 ∧ p4 ≤ p3 + 7 ∧ 1 ≤ v ∧ v ≤ 24 ∧ 0 ≤ e ∧ e ≤ 720 ∧ (S 1 (many - 1) ≤ 1439 → S 1 (many - 1) + (v - 1) * e ≤ 1439) := rb
            have ct : if (all : Int) + v ≤ 48 then _ else _ := ct
            show match (if (all : Int) + v ≤ 48 then _ else _ : (Int × Nat) ⊕ (Nat × Nat × Vw × Int × Int)) with | .inl (w, q') => _ | .inr (p', many, S, v, e) => _
            by_cases c5 : (all : Int) + v ≤ 48
            · rw [if_pos c5] at ct ⊢
              obtain ⟨R5, fo', fe', h1, h2, h3, h4, h5, h6, h7, h8, h9⟩ := ct
              refine ⟨R5, pre _ h1, ?_, fun y hy => by rw [h9 y (by omega), fr4 y (by omega) (by omega)]⟩
              exact XC_s (tr := nx) xc x1 x2 x3 h2 h3 h4 h5 h6 h7 h8 (fun y y1 y2 => by rw [h9 y (by omega), fr4 y (by omega) (by omega)]) (Nat.le_refl _) (by omega) hnx (g2.c fun y y1 y2 => h9 y (by omega)) sb.2.2.1 sb.2.2.2.1 sb.2.2.2.2 ⟨rb.2.2.1, rb.2.2.2.1⟩ ⟨rb.2.2.2.2.1, rb.2.2.2.2.2.1⟩
            · rw [if_neg c5] at ct ⊢
              obtain ⟨p', al', R5, h1, h2, h3⟩ := ct
              exact ⟨p', al', R5, 3, 21, h1, by decide, by decide, pre _ h2, by omega, by omega, fun y hy => by rw [h3 y (by omega), fr4 y (by omega) (by omega)]⟩
end CO
