/-! CALL: timetable, the class's lines. No JVM here. -/
set_option maxRecDepth 100000
set_option linter.unusedVariables false
def ckRest (b a : Nat) (al : Int) : List Vl := [.inr (some (a + 1)), .inr (some (a + 2)), .inr (some (a + 3)), .inl (I al), .inr (some b)]
section CL
variable {b : Nat} {V0 V V' : Vw} {lw : Option Nat} {R : Hp} {a n p tr many cnt all nx : Nat} {q x y s m al : Int} {S : Vw} {rest : List Vl}
theorem sc_g0 {ci : Nat} {f : Int} (h : b + 305 ≤ a) (hf : 1 ≤ f ∧ f ≤ 100) : fX17_isGood ci (Wd b V lw (hp_set R a (scC ci b n p f q rest))) (some a) = some (I 0) := by
  rw [sc_good h (by omega), bi_f (by omega)]
theorem x_L57 {u1 u2 : Int32} (ha : b + 305 ≤ a) (ht : b + 305 ≤ tr) (d : a < tr) (hn : n ≤ 260) : ∀ (fu many p F : Nat) (R : Hp) (S : Vw), many + fu = 9 → 2 ≤ many → many ≤ 8 → p + 6 * fu ≤ 400 → fu + 2 ≤ F → SvK many S → OT R tr many S → match (if isLt (tk V n) p then stpGo (tk V n) fu many p S else .inr (p, many, S)) with
    | .inl (w, q') => ∃ p' R', p' ≤ 500 ∧ 1 ≤ w ∧ w ≤ 6 ∧ iterA (fX18_line_L57 (some a) u1 u2 (some tr)) F (Wd b V lw (hp_set R a (scC 14 b n p 0 q rest))) nx = some (Wd b V lw (hp_set R' a (scC 14 b n p' w (q' : Int) rest)), 0, 0) ∧ ∀ y, ¬ (tr ≤ y ∧ y ≤ tr + 2) → R' y = R y
    | .inr (p', many', S') => ∃ R', iterA (fX18_line_L57 (some a) u1 u2 (some tr)) F (Wd b V lw (hp_set R a (scC 14 b n p 0 q rest))) nx = some (Wd b V lw (hp_set R' a (scC 14 b n p' 0 q rest)), 0, 0) ∧ OT R' tr many' S' ∧ ∀ y, ¬ (tr ≤ y ∧ y ≤ tr + 2) → R' y = R y
  | fu, many, p, 0, R, S, e1, e2, e8, e3, e4, k, h => by omega
  | fu, many, p, F + 1, R, S, e1, e2, e8, e3, e4, k, h => by
    by_cases d1 : isLt (tk V n) p
    · rw [if_pos d1]
      cases fu with
      | zero => omega
      | succ fu =>
        have st := x_stop (b := b) (V := V) (lw := lw) (q := q) (rest := rest) ha ht d hn (show p ≤ 400 by omega) (by omega) k h
        have sb := stopR_b (T := tk V n) (p := p) k (by omega)
        cases e : stopR (tk V n) S many p with
        | inl ee =>
          obtain ⟨w, q'⟩ := ee
          have go : stpGo (tk V n) (fu + 1) many p S = .inl (w, q') := by rw [stpGo, e]
          rw [go]
          rw [e] at st sb
          obtain ⟨p', b1, b2⟩ := st
          have sb : 1 ≤ w ∧ w ≤ 6 ∧ p ≤ q' ∧ q' ≤ p + 6 := sb
          obtain ⟨F, rfl⟩ : ∃ F', F = F' + 1 := ⟨F - 1, by omega⟩
          refine ⟨p', R, by omega, sb.1, sb.2.1, ?_, fun _ _ => rfl⟩
          rw [iterA_s0 (s' := Wd b V lw (hp_set R a (scC 14 b n p' w (q' : Int) rest)))]
          · refine iterA_r0 ?_
            unfold fX18_line_L57
            rw [sc_on ha, sc_g0 ha (by omega), Option.bind_some, k_0, if_pos rfl]
          · unfold fX18_line_L57
            simp (disch := omega) only [sc_on ha, sc_g1 ha, Option.bind_some, k_0, I_inj, if_neg, sc_letter ha hn, bi_if, if_pos d1, b2]
        | inr qq =>
          obtain ⟨p', s, m⟩ := qq
          rw [e] at st sb
          obtain ⟨R1, b1, b2, b3⟩ := st
          have sb : p < p' ∧ p' ≤ p + 5 ∧ many < 8 ∧ SvK (many + 1) (stpS S many s m) ∧ isLt (tk V n) p := sb
          have ih := x_L57 (u1 := u1) (u2 := u2) ha ht d hn fu (many + 1) p' F R1 (stpS S many s m) (by omega) (by omega) (by omega) (by omega) (by omega) sb.2.2.2.1 b2
          have go : stpGo (tk V n) (fu + 1) many p S = if isLt (tk V n) p' then stpGo (tk V n) fu (many + 1) p' (stpS S many s m) else .inr (p', many + 1, stpS S many s m) := by
            rw [stpGo, e]
            show (if many + 1 < 2 ∨ isLt (tk V n) p' then _ else _) = _
            by_cases w : isLt (tk V n) p'
            · rw [if_pos w, if_pos (Or.inr w)]
            · rw [if_neg w, if_neg (fun q => q.elim (fun q => by omega) w)]
          rw [go]
          have st : iterA (fX18_line_L57 (some a) u1 u2 (some tr)) (F + 1) (Wd b V lw (hp_set R a (scC 14 b n p 0 q rest))) nx = iterA (fX18_line_L57 (some a) u1 u2 (some tr)) F (Wd b V lw (hp_set R1 a (scC 14 b n p' 0 q rest))) nx := by
            refine iterA_s0 ?_
            unfold fX18_line_L57
            simp (disch := omega) only [sc_on ha, sc_g1 ha, Option.bind_some, k_0, I_inj, if_neg, sc_letter ha hn, bi_if, if_pos d1, b1]
          rw [st]
          cases e3 : (if isLt (tk V n) p' then stpGo (tk V n) fu (many + 1) p' (stpS S many s m) else .inr (p', many + 1, stpS S many s m) : (Int × Nat) ⊕ (Nat × Nat × Vw)) with
          | inl ee =>
            obtain ⟨w, q'⟩ := ee
            rw [e3] at ih
            obtain ⟨p2, R2, c1, c2, c3, c4, c5⟩ := ih
            exact ⟨p2, R2, c1, c2, c3, c4, fun y hy => by rw [c5 y hy, b3 y hy]⟩
          | inr qq =>
            obtain ⟨p2, m2, S2⟩ := qq
            rw [e3] at ih
            obtain ⟨R2, c1, c2, c3⟩ := ih
            exact ⟨R2, c1, c2, fun y hy => by rw [c3 y hy, b3 y hy]⟩
    · rw [if_neg d1]
      refine ⟨R, iterA_r0 ?_, h, fun _ _ => rfl⟩
      unfold fX18_line_L57
      simp (disch := omega) only [sc_on ha, sc_g1 ha, Option.bind_some, k_0, I_inj, if_neg, sc_letter ha hn, bi_if, if_neg d1]
theorem ot_ends (h : OT R tr many S) (ht : b + 305 ≤ tr) (h2 : 2 ≤ many ∧ many ≤ 8) : fX6_ends (Wd b V lw R) (some tr) = some (I (S 1 (many - 1))) := by
  have em : (many : Int) - 1 = ((many - 1 : Nat) : Int) := by omega
  unfold fX6_ends
  rw [ot_ma h ht, Option.bind_some, ot_many h ht, Option.bind_some, k_1, I_sub, em, ot_mi h ht (by omega) h2.2]
  rfl
/-- what is said of repeats -/
theorem x_repeats (ha : b + 305 ≤ a) (ht : b + 305 ≤ tr) (d : a + 3 < tr) (hn : n ≤ 260) (hp : p ≤ 400) (hc : cnt < 16) (h : OT R tr many S) (k : SvK many S) (h2 : 2 ≤ many ∧ many ≤ 8) {F : Nat → Option Nat} {fo fe : Nat → Int32} (r1 : R (a + 1) = some (.inl (5, 16, .inr F))) (r2 : R (a + 2) = some (.inl (0, 16, .inl fo))) (r3 : R (a + 3) = some (.inl (0, 16, .inl fe))) (hF : F cnt = some tr) (hx : tk V n p = 120) : match repR (tk V n) p (S 1 (many - 1)) with
    | .inl (w, q') => ∃ (p' : Nat) (v e : Int), p' ≤ p + 20 ∧ 1 ≤ w ∧ w ≤ 3 ∧ fX18_repeats (Wd b V lw (hp_set R a (scC 14 b n p 0 q (ckRest b a al)))) (some a) (I (cnt : Int)) = some (Wd b V lw (hp_set (hp_set (hp_set R (a + 2) (.inl (0, 16, .inl (hp_upI fo cnt (I v))))) (a + 3) (.inl (0, 16, .inl (hp_upI fe cnt (I e))))) a (scC 14 b n p' w (q' : Int) (ckRest b a al))))
    | .inr (p', v, e) => fX18_repeats (Wd b V lw (hp_set R a (scC 14 b n p 0 q (ckRest b a al)))) (some a) (I (cnt : Int)) = some (Wd b V lw (hp_set (hp_set (hp_set R (a + 2) (.inl (0, 16, .inl (hp_upI fo cnt (I v))))) (a + 3) (.inl (0, 16, .inl (hp_upI fe cnt (I e))))) a (scC 14 b n p' 0 q (ckRest b a al)))) := by
  have tb := tk_b V n
  have km := k.1 (many - 1) (by omega)
  -- arrays
  have g5 : ∀ {R p f q}, hp_gR (Wd b V lw (hp_set R a (scC 14 b n p f q (ckRest b a al)))) (some a) 14 5 = some (some (a + 1)) := fun {R p f q} => o_gR ha (s_s a _) rfl
  have g6 : ∀ {R p f q}, hp_gR (Wd b V lw (hp_set R a (scC 14 b n p f q (ckRest b a al)))) (some a) 14 6 = some (some (a + 2)) := fun {R p f q} => o_gR ha (s_s a _) rfl
  have g7 : ∀ {R p f q}, hp_gR (Wd b V lw (hp_set R a (scC 14 b n p f q (ckRest b a al)))) (some a) 14 7 = some (some (a + 3)) := fun {R p f q} => o_gR ha (s_s a _) rfl
  have w6 : ∀ {p : Nat} {f q v : Int}, hp_sI (Wd b V lw (hp_set R a (scC 14 b n p f q (ckRest b a al)))) (some (a + 2)) 0 (I (cnt : Int)) (I v) = some (Wd b V lw (hp_set (hp_set R (a + 2) (.inl (0, 16, .inl (hp_upI fo cnt (I v))))) a (scC 14 b n p f q (ckRest b a al)))) := fun {p f q v} => by
    rw [o_sI (by omega) (by rw [s_n (by omega)]; exact r2) (by omega) (by omega) (by omega), s_cm (by omega), tn]
    rfl
  have w7 : ∀ {p : Nat} {f q v e : Int}, hp_sI (Wd b V lw (hp_set (hp_set R (a + 2) (.inl (0, 16, .inl (hp_upI fo cnt (I v))))) a (scC 14 b n p f q (ckRest b a al)))) (some (a + 3)) 0 (I (cnt : Int)) (I e) = some (Wd b V lw (hp_set (hp_set (hp_set R (a + 2) (.inl (0, 16, .inl (hp_upI fo cnt (I v))))) (a + 3) (.inl (0, 16, .inl (hp_upI fe cnt (I e))))) a (scC 14 b n p f q (ckRest b a al)))) := fun {p f q v e} => by
    rw [o_sI (by omega) (by rw [s_n (by omega), s_n (by omega)]; exact r3) (by omega) (by omega) (by omega), s_cm (by omega), tn]
    rfl
  have N1 := sc_number (b := b) (V := V) (lw := lw) (R := R) (ci := 14) (q := q) (rest := ckRest b a al) (p := p + 1) (dg := 2) (lo := 2) (hi := 24) ha hn (by omega) (by omega) (by omega) (by omega) (by omega)
  have e2 : I ((2 : Nat) : Int) = I 2 := rfl
  have e3 : I ((3 : Nat) : Int) = I 3 := rfl
  rw [e2] at N1
  have B1 := numR_b (T := tk V n) (dg := 2) (p := p + 1) (lo := 2) (hi := 24) (by decide)
  unfold repR
  rw [if_pos hx]
  cases n1 : numR (tk V n) 2 2 24 (p + 1) with
  | inl ee =>
    obtain ⟨w, q'⟩ := ee
    rw [n1] at N1 B1
    obtain ⟨v, p', c1, c2⟩ := N1
    have B1 : 1 ≤ w ∧ w ≤ 3 ∧ p + 1 ≤ q' ∧ q' ≤ p + 1 + 2 := B1
    refine ⟨p' + 1, v, 0, by omega, B1.1, B1.2.1, ?_⟩
    unfold fX18_repeats
    simp (disch := omega) only [sc_on ha, sc_goes ha, Option.bind_some, g6, k_0, k_1, k_2, k_3, k_24, k_43, k_720, c2, w6, sc_g0 ha, if_true, sc_place ha, g7, sc_numF ha, w7]
  | inr qq =>
    obtain ⟨v, p1⟩ := qq
    rw [n1] at N1 B1
    have N1 : fX17_number 14 _ _ (I 2) (I 2) (I 24) = _ := N1
    have B1 : 2 ≤ v ∧ v ≤ 24 ∧ p + 1 < p1 ∧ p1 ≤ p + 1 + 2 := B1
    have tb1 := tb p1
    show match (if tk V n p1 = 43 then _ else _ : (Int × Nat) ⊕ (Nat × Int × Int)) with | .inl (w, q') => _ | .inr (p', v, e) => _
    by_cases c1 : tk V n p1 = 43
    · rw [if_pos c1]
      have N2 := sc_number (b := b) (V := V) (lw := lw) (R := hp_set R (a + 2) (.inl (0, 16, .inl (hp_upI fo cnt (I v))))) (ci := 14) (q := q) (rest := ckRest b a al) (p := p1 + 1) (dg := 3) (lo := 1) (hi := 720) ha hn (by omega) (by omega) (by omega) (by omega) (by omega)
      rw [e3] at N2
      have B2 := numR_b (T := tk V n) (dg := 3) (p := p1 + 1) (lo := 1) (hi := 720) (by decide)
      cases n2 : numR (tk V n) 3 1 720 (p1 + 1) with
      | inl ee =>
        obtain ⟨w, q'⟩ := ee
        rw [n2] at N2 B2
        obtain ⟨v2, p', d1, d2⟩ := N2
        have B2 : 1 ≤ w ∧ w ≤ 3 ∧ p1 + 1 ≤ q' ∧ q' ≤ p1 + 1 + 3 := B2
        refine ⟨p', v, v2, by omega, B2.1, B2.2.1, ?_⟩
        unfold fX18_repeats
        simp (disch := omega) only [sc_on ha, sc_goes ha, Option.bind_some, g6, k_0, k_1, k_2, k_3, k_24, k_43, k_720, N1, w6, sc_g1 ha, I_inj, if_neg, sc_here ha hn, c1, if_true, sc_place ha, g7, d2, w7, sc_g0 ha]
      | inr qq =>
        obtain ⟨e, p2⟩ := qq
        rw [n2] at N2 B2
        have N2 : fX17_number 14 _ _ (I 3) (I 1) (I 720) = _ := N2
        have B2 : 1 ≤ e ∧ e ≤ 720 ∧ p1 + 1 < p2 ∧ p2 ≤ p1 + 1 + 3 := B2
        have me : (v - 1) * e ≤ 24 * 720 := Int.mul_le_mul (by omega) B2.2.1 (by omega) (by omega)
        have m0 : 0 ≤ (v - 1) * e := Int.mul_nonneg (by omega) (by omega)
        have rt : ∀ {p : Nat} {f q : Int}, hp_aR (Wd b V lw (hp_set (hp_set (hp_set R (a + 2) (.inl (0, 16, .inl (hp_upI fo cnt (I v))))) (a + 3) (.inl (0, 16, .inl (hp_upI fe cnt (I e))))) a (scC 14 b n p f q (ckRest b a al)))) (some (a + 1)) 5 (I (cnt : Int)) = some (some tr) := fun {p f q} => by
          rw [o_aR (by omega) (by rw [s_n (by omega), s_n (by omega), s_n (by omega)]; exact r1) (by omega) (by omega) (by omega), tn, hF]
        have hO : ∀ {p : Nat} {f q : Int}, OT (hp_set (hp_set (hp_set R (a + 2) (.inl (0, 16, .inl (hp_upI fo cnt (I v))))) (a + 3) (.inl (0, 16, .inl (hp_upI fe cnt (I e))))) a (scC 14 b n p f q (ckRest b a al))) tr many S := fun {p f q} => h.c fun y y1 y2 => by rw [s_n (by omega), s_n (by omega), s_n (by omega)]
        have ro : ∀ {p : Nat} {f q : Int}, hp_aI (Wd b V lw (hp_set (hp_set (hp_set R (a + 2) (.inl (0, 16, .inl (hp_upI fo cnt (I v))))) (a + 3) (.inl (0, 16, .inl (hp_upI fe cnt (I e))))) a (scC 14 b n p f q (ckRest b a al)))) (some (a + 2)) 0 (I (cnt : Int)) = some (I v) := fun {p f q} => by
          rw [o_aI (by omega) (by rw [s_n (by omega), s_n (by omega), s_s]) (by omega) (by omega) (by omega), tn]
          unfold hp_upI
          rw [if_pos rfl]
        have re : ∀ {p : Nat} {f q : Int}, hp_aI (Wd b V lw (hp_set (hp_set (hp_set R (a + 2) (.inl (0, 16, .inl (hp_upI fo cnt (I v))))) (a + 3) (.inl (0, 16, .inl (hp_upI fe cnt (I e))))) a (scC 14 b n p f q (ckRest b a al)))) (some (a + 3)) 0 (I (cnt : Int)) = some (I e) := fun {p f q} => by
          rw [o_aI (by omega) (by rw [s_n (by omega), s_s]) (by omega) (by omega) (by omega), tn]
          unfold hp_upI
          rw [if_pos rfl]
        show match (if S 1 (many - 1) + (v - 1) * e < 1440 then _ else _ : (Int × Nat) ⊕ (Nat × Int × Int)) with | .inl (w, q') => _ | .inr (p', v, e) => _
        by_cases c2 : S 1 (many - 1) + (v - 1) * e < 1440
        · rw [if_pos c2]
          show fX18_repeats _ _ _ = _
          unfold fX18_repeats
          simp (disch := omega) only [sc_on ha, sc_goes ha, Option.bind_some, g6, k_0, k_1, k_2, k_3, k_24, k_43, k_720, k_1440, N1, w6, sc_g1 ha, I_inj, if_neg, sc_here ha hn, c1, if_true, sc_place ha, g7, N2, w7, g5, rt, ot_on hO ht, ot_ends hO ht h2, ro, re, I_sub, I_mul, I_add, I_lt, if_pos]
        · rw [if_neg c2]
          refine ⟨p2, v, e, by omega, by decide, by decide, ?_⟩
          unfold fX18_repeats
          simp (disch := omega) only [sc_on ha, sc_goes ha, Option.bind_some, g6, k_0, k_1, k_2, k_3, k_24, k_43, k_720, k_1440, N1, w6, sc_g1 ha, I_inj, if_neg, sc_here ha hn, c1, if_true, sc_place ha, g7, N2, w7, g5, rt, ot_on hO ht, ot_ends hO ht h2, ro, re, I_sub, I_mul, I_add, I_lt, sc_bad0 ha]
    · rw [if_neg c1]
      refine ⟨p1 + 1, v, 0, by omega, by decide, by decide, ?_⟩
      unfold fX18_repeats
      simp (disch := omega) only [sc_on ha, sc_goes ha, Option.bind_some, g6, k_0, k_1, k_2, k_3, k_24, k_43, k_720, N1, w6, sc_g1 ha, I_inj, if_neg, sc_here ha hn, sc_place ha, sc_bad0 ha, g7, sc_numF ha, w7, sc_g0 ha, if_true]
end CL
