/-! CALL: timetable, the class's text. No JVM here. -/
set_option maxRecDepth 100000
set_option linter.unusedVariables false
theorem iterA_s {σ ρ : Type} {b : σ → Nat → Option ((σ ⊕ ρ) × Nat × Nat)} {n nx d c d2 c2 : Nat} {s s' : σ} {r : ρ} (h : b s nx = some (.inl s', d, c)) (h2 : iterA b n s' (nx + d) = some (r, d2, c2)) : iterA b (n + 1) s nx = some (r, d + d2, c + c2) := by
  rw [iterA, h]
  show (iterA b n s' (nx + d)).map _ = _
  rw [h2]
  rfl
section CP
variable {b : Nat} {V0 V V' : Vw} {lw : Option Nat} {a n p tr many cnt all nx : Nat} {q x y s m al v e : Int} {S G : Vw} {rest : List Vl}
theorem line14 (m : Hp) (nx : Nat) (a0 : Option Nat) (a1 : Int32) : fX17_line 14 m nx a0 a1 = fX18_line m nx a0 a1 := rfl
theorem x_ckGo (ha : b + 305 ≤ a) (hn : n ≤ 160) : ∀ (fu cnt all p F nx : Nat) (R : Hp) (q : Int) (G : Vw), cnt + fu = 17 → cnt ≤ 16 → p ≤ n → fu + 2 ≤ F → all ≤ 48 → a + 3 < nx → XC b R a cnt all nx G → GK all G → ∃ m1 d1 c1, fX18_line (Wd b V lw (hp_set R a (scC 14 b n p 0 q (ckRest b a (all : Int))))) nx (some a) (I (cnt : Int)) = some (m1, d1, c1) ∧ ∃ (x : Int) (R' : Hp) (p' : Nat) (f q' al' : Int) (d c : Nat), iterA (fX17_read_L7 14 (some a)) F (I ((cnt : Int) + 1), m1) (nx + d1) = some ((I x, Wd b V lw (hp_set R' a (scC 14 b n p' f q' (ckRest b a al')))), d, c) ∧ d1 + d ≤ 3 * fu ∧ c1 + c ≤ 21 * fu ∧ (∀ y, y < a → R' y = R y) ∧ match svcGo (tk V n) n fu cnt all p G with
    | .inl (w, qq) => f = w ∧ q' = (qq : Int) ∧ 1 ≤ w ∧ w ≤ 8 ∧ qq ≤ 1000
    | .inr (k, all', G') => x = (k : Int) ∧ k ≤ 16 ∧ f = 0 ∧ all' ≤ 48 ∧ GK all' G' ∧ ∃ hi, XC b R' a k all' hi G'
  | 0, cnt, all, p, F, nx, R, q, G, e1, e2, e3, e4, hal, hnx, xc, gk => by omega
  | fu + 1, cnt, all, p, F, nx, R, q, G, e1, e2, e3, e4, hal, hnx, xc, gk => by
    obtain ⟨F, rfl⟩ : ∃ F', F = F' + 1 := ⟨F - 1, by omega⟩
    have L := x_ckLine (b := b) (V := V) (lw := lw) (q := q) (n := n) (p := p) ha hnx (by omega) (by omega) e2 hal xc
    have B := svcR_b (T := tk V n) (cnt := cnt) (all := all) (p := p) hal
    have hn2 : n ≤ 260 := by omega
    cases e : svcR (tk V n) cnt all p with
    | inl ee =>
      obtain ⟨w, q'⟩ := ee
      have go : svcGo (tk V n) n (fu + 1) cnt all p G = .inl (w, q') := by rw [svcGo, e]
      rw [e] at L B
      rw [go]
      obtain ⟨p', al', R', d, c, b1, b2, b3, b4, b5, b6, b7⟩ := L
      have B : 1 ≤ w ∧ w ≤ 8 ∧ p ≤ q' ∧ q' ≤ p + 70 := B
      refine ⟨_, d, c, b4, (cnt : Int) + 1, R', p', w, (q' : Int), al', 0, 0, iterA_r0 ?_, by omega, by omega, b7, rfl, rfl, b2, b3, by omega⟩
      unfold fX17_read_L7
      simp only [sc_on ha, sc_g0 ha (show 1 ≤ w ∧ w ≤ 100 by omega), Option.bind_some, k_0, if_true]
    | inr ee =>
      obtain ⟨p', many, S, v, e0⟩ := ee
      rw [e] at L B
      obtain ⟨R', w1, w2, w3⟩ := L
      have B : p < p' ∧ p' ≤ p + 70 ∧ 2 ≤ many ∧ many ≤ 8 ∧ SvK many S ∧ 1 ≤ v ∧ v ≤ 24 ∧ 0 ≤ e0 ∧ e0 ≤ 720 ∧ S 1 (many - 1) + (v - 1) * e0 ≤ 1439 ∧ (all : Int) + v ≤ 48 ∧ cnt ≠ 16 := B
      obtain ⟨B1, B2, B3, B4, B5, B6, B7, B8, B9, B10, B11, B12⟩ := B
      have gk2 := GK_s gk B3 B4 B5 ⟨B6, B7⟩ ⟨B8, B9⟩ B10
      have eall : (all : Int) + v = ((all + v.toNat : Nat) : Int) := by omega
      have tb := tk_b V n p'
      refine ⟨_, 3, 21, w1, ?_⟩
      by_cases c1 : n ≤ p'
      · have go : svcGo (tk V n) n (fu + 1) cnt all p G = .inr (cnt + 1, all + v.toNat, svcS G all many S v e0) := by
          rw [svcGo, e]
          exact if_pos c1
        rw [go]
        refine ⟨(cnt : Int) + 1, R', p', 0, q, (all : Int) + v, 0, 0, iterA_r0 ?_, by omega, by omega, w3, rfl, by omega, rfl, by omega, gk2, nx + 3, w2⟩
        unfold fX17_read_L7
        simp (disch := omega) only [sc_on ha, sc_g1 ha, Option.bind_some, k_0, I_inj, if_neg, sc_p ha, sc_n ha, I_le, if_pos]
      · by_cases c2 : tk V n p' = 59
        · have go : svcGo (tk V n) n (fu + 1) cnt all p G = svcGo (tk V n) n fu (cnt + 1) (all + v.toNat) (p' + 1) (svcS G all many S v e0) := by
            rw [svcGo, e]
            exact (if_neg c1).trans (if_pos c2)
          rw [go]
          obtain ⟨m2, d2, c2', g1, x, R2, p2, f, q2, al2, d, c, g2, g3, g4, g5, g6⟩ := x_ckGo ha hn fu (cnt + 1) (all + v.toNat) (p' + 1) F (nx + 3) R' q (svcS G all many S v e0) (by omega) (by omega) (by omega) (by omega) (by omega) (by omega) w2 gk2
          refine ⟨x, R2, p2, f, q2, al2, d2 + d, c2' + c, iterA_s ?_ g2, by omega, by omega, fun y hy => by rw [g5 y hy, w3 y hy], g6⟩
          rw [← eall] at g1
          have g1 : fX18_line (Wd b V lw (hp_set R' a (scC 14 b n (p' + 1) 0 q (ckRest b a ((all : Int) + v))))) (nx + 3) (some a) (I ((cnt : Int) + 1)) = some (m2, d2, c2') := g1
          unfold fX17_read_L7
          simp (disch := omega) only [sc_on ha, sc_g1 ha, Option.bind_some, k_0, k_59, I_inj, if_neg, sc_p ha, sc_n ha, I_le, sc_here ha hn2, c2, if_true, andA_0, k_1, sc_wp ha, line14, Nat.add_zero, g1, andA_s]
          rw [I_add, Nat.zero_add, Nat.zero_add]
          rfl
        · have go : svcGo (tk V n) n (fu + 1) cnt all p G = .inl (1, p') := by
            rw [svcGo, e]
            exact (if_neg c1).trans (if_neg c2)
          rw [go]
          obtain ⟨F, rfl⟩ : ∃ F', F = F' + 1 := ⟨F - 1, by omega⟩
          refine ⟨(cnt : Int) + 1 + 1, R', p' + 1, 1, (p' : Int), (all : Int) + v, 0, 0, ?_, by omega, by omega, w3, rfl, rfl, by decide, by decide, by omega⟩
          rw [iterA_s0 (s' := (I ((cnt : Int) + 1 + 1), Wd b V lw (hp_set R' a (scC 14 b n (p' + 1) 1 (p' : Int) (ckRest b a ((all : Int) + v))))))]
          · refine iterA_r0 ?_
            unfold fX17_read_L7
            simp only [sc_on ha, sc_g0 ha (show (1 : Int) ≤ 1 ∧ (1 : Int) ≤ 100 by decide), Option.bind_some, k_0, if_true]
          · unfold fX17_read_L7
            simp (disch := omega) only [sc_on ha, sc_g1 ha, sc_g0 ha (show (1 : Int) ≤ 1 ∧ (1 : Int) ≤ 100 by decide), Option.bind_some, k_0, k_59, I_inj, if_neg, sc_p ha, sc_n ha, I_le, sc_here ha hn2, andA_0, k_1, sc_bad0 ha, sc_wp ha, if_true]
            rw [I_add]
theorem x_ckRead (ha : b + 305 ≤ a) (hn : n ≤ 160) (hnx : a + 3 < nx) {R : Hp} (xc : XC b R a 0 0 nx G) (gk : GK 0 G) : ∃ (x : Int) (R' : Hp) (p' : Nat) (f q' al' : Int) (d c : Nat), fX17_read 14 (Wd b V lw (hp_set R a (scC 14 b n 0 0 0 (ckRest b a 0)))) nx (some a) = some ((I x, Wd b V lw (hp_set R' a (scC 14 b n p' f q' (ckRest b a al')))), d, c) ∧ d ≤ 51 ∧ c ≤ 357 ∧ (∀ y, y < a → R' y = R y) ∧ match svcGo (tk V n) n 17 0 0 0 G with
    | .inl (w, qq) => x = -1000 * w - (qq : Int) ∧ 1 ≤ w ∧ w ≤ 8 ∧ qq ≤ 1000
    | .inr (k, all', G') => x = (k : Int) ∧ k ≤ 16 ∧ all' ≤ 48 ∧ GK all' G' ∧ ∃ hi, XC b R' a k all' hi G' := by
  obtain ⟨m1, d1, c1, g1, x, R', p', f, q', al', d, c, g2, g3, g4, g5, g6⟩ := x_ckGo (V := V) (lw := lw) ha hn 17 0 0 0 FUEL nx R 0 G (by omega) (by omega) (by omega) (by unfold FUEL; omega) (by omega) hnx xc gk
  have g1 : fX18_line (Wd b V lw (hp_set R a (scC 14 b n 0 0 0 (ckRest b a 0)))) nx (some a) (I 0) = some (m1, d1, c1) := g1
  have g2 : iterA (fX17_read_L7 14 (some a)) FUEL (I 1, m1) (nx + d1) = _ := g2
  cases e : svcGo (tk V n) n 17 0 0 0 G with
  | inl ee =>
    obtain ⟨w, qq⟩ := ee
    rw [e] at g6
    obtain ⟨rfl, rfl, b1, b2, b3⟩ := g6
    refine ⟨-1000 * f - (qq : Int), R', p', f, (qq : Int), al', d1 + (d + 0), c1 + (c + 0), ?_, by omega, by omega, g5, rfl, b1, b2, b3⟩
    unfold fX17_read
    simp (disch := omega) only [sc_on ha, line14, k_0, g1, Option.bind_some, k_1, g2, sc_g0 ha (show 1 ≤ f ∧ f ≤ 100 by omega), if_true, sc_f ha, sc_q ha, k_1000, I_neg, I_mul, I_sub, andA_s]
  | inr ee =>
    obtain ⟨k, all', G'⟩ := ee
    rw [e] at g6
    obtain ⟨rfl, b1, rfl, b2⟩ := g6
    refine ⟨(k : Int), R', p', 0, q', al', d1 + (d + 0), c1 + (c + 0), ?_, by omega, by omega, g5, rfl, b1, b2⟩
    unfold fX17_read
    simp (disch := omega) only [sc_on ha, line14, k_0, g1, Option.bind_some, k_1, g2, sc_g1 ha, I_inj, if_neg, andA_s]
/-- the clerk is made -/
theorem x_ckInit {R : Hp} (hnx : b + 305 ≤ nx) : ∃ R', fX18_init (Wd b V lw (hp_set R nx (.inr (14, dfX18)))) (nx + 1) nx (some b) (I (n : Int)) = some (Wd b V lw (hp_set R' nx (scC 14 b n 0 0 0 (ckRest b nx 0))), 3, 48) ∧ (∀ y, y < nx → R' y = R y) ∧ XC b R' nx 0 0 (nx + 4) G := by
  refine ⟨hp_set (hp_set (hp_set R (nx + 1) (.inl (5, 16, .inr fun _ => none))) (nx + 2) (.inl (0, 16, .inl fun _ => 0))) (nx + 3) (.inl (0, 16, .inl fun _ => 0)), ?_, fun y hy => by rw [s_n (by omega), s_n (by omega), s_n (by omega)], fun _ => none, fun _ => 0, fun _ => 0, fun _ => 0, by rw [s_n (by omega), s_n (by omega), s_s], by rw [s_n (by omega), s_s], s_s _ _, fun i _ => rfl, rfl, rfl, fun i hi => absurd hi (Nat.not_lt_zero _)⟩
  have L10 : dfX18.length = 10 := rfl
  unfold fX18_init fX17_init hp_newa hp_newr hp_pR hp_pI
  rw [o_pV hnx (s_s nx _) (by rw [L10]; omega), s_ss, Option.bind_some, o_pV hnx (s_s nx _) (by simp only [List.length_set, L10]; omega), s_ss, Option.bind_some, o_pV hnx (s_s nx _) (by simp only [List.length_set, L10]; omega), s_ss, Option.bind_some, Option.bind_some, Option.bind_some, o_set (by omega), s_cm (by omega), o_pV hnx (s_s nx _) (by simp only [List.length_set, L10]; omega), s_ss, Option.bind_some, Option.bind_some, o_set (by omega), s_cm (by omega), o_pV hnx (s_s nx _) (by simp only [List.length_set, L10]; omega), s_ss, Option.bind_some, Option.bind_some, o_set (by omega), s_cm (by omega), o_pV hnx (s_s nx _) (by simp only [List.length_set, L10]; omega), s_ss, Option.bind_some]
  rfl
end CP
