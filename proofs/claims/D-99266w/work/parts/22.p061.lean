/-! CALL: orders, the class, II. No JVM here. -/
set_option maxRecDepth 100000
set_option linter.unusedVariables false
theorem iterA_r0 {σ ρ : Type} {b : σ → Nat → Option ((σ ⊕ ρ) × Nat × Nat)} {n nx : Nat} {s : σ} {r : ρ} (h : b s nx = some (.inr r, 0, 0)) : iterA b (n + 1) s nx = some (r, 0, 0) := by
  rw [iterA, h]
theorem iterA_s0 {σ ρ : Type} {b : σ → Nat → Option ((σ ⊕ ρ) × Nat × Nat)} {n nx : Nat} {s s' : σ} (h : b s nx = some (.inl s', 0, 0)) : iterA b (n + 1) s nx = iterA b n s' nx := by
  rw [iterA, h]
  show (iterA b n s' (nx + 0)).map (fun q => (q.1, 0 + q.2.1, 0 + q.2.2)) = _
  rw [Nat.add_zero]
  cases iterA b n s' nx with
  | none => rfl
  | some q =>
    obtain ⟨r, d, c⟩ := q
    simp
theorem iterA_for {σ ρ : Type} {b : σ → Nat → Option ((σ ⊕ ρ) × Nat × Nat)} (S : Nat → σ → Prop) (P : ρ → Prop) (n nx : Nat) (step : ∀ i s, S i s → i < n → ∃ s', b s nx = some (.inl s', 0, 0) ∧ S (i + 1) s') (fin : ∀ s, S n s → ∃ r, b s nx = some (.inr r, 0, 0) ∧ P r) : ∀ fuel i s, S i s → i ≤ n → n - i < fuel → ∃ r, iterA b fuel s nx = some (r, 0, 0) ∧ P r := by
  intro fuel
  induction fuel with
  | zero => intro i s _ _ h; omega
  | succ f ih =>
    intro i s hS hi hf
    by_cases e : i = n
    · subst e
      obtain ⟨r, h1, h2⟩ := fin s hS
      exact ⟨r, iterA_r0 h1, h2⟩
    · obtain ⟨s', h1, h2⟩ := step i s hS (by omega)
      rw [iterA_s0 h1]
      exact ih (i + 1) s' h2 (by omega) (by omega)
theorem andA_0 {α : Type} (x : Option (α × Nat × Nat)) : andA 0 0 x = x := by
  unfold andA
  cases x with
  | none => rfl
  | some q =>
    obtain ⟨r, d, c⟩ := q
    simp
theorem andA_s {α : Type} {d c d' c' : Nat} {r : α} : andA d c (some (r, d', c')) = some (r, d + d', c + c') := rfl
section OM
variable {b : Nat} {V0 V : Vw} {lw : Option Nat} {a ci n pa ra nx : Nat} {f x y lo hi : Int} {rest : List Vl}
theorem sc_g1 {R : Hp} {ci p : Nat} {q : Int} (h : b + 305 ≤ a) : fX17_isGood ci (Wd b V lw (hp_set R a (scC ci b n p 0 q rest))) (some a) = some (I 1) := by
  rw [sc_good h (by omega), bi_t rfl]
theorem line15 (m : Hp) (nx : Nat) (a0 : Option Nat) (a1 : Int32) : fX17_line 15 m nx a0 a1 = (fX19_line m a0 a1).map fun q => (q, 0, 0) := rfl
theorem x_ordGo (h : Rel V0 V) (ha : b + 305 ≤ a) (hpa : b + 305 ≤ pa) (hra : b + 305 ≤ ra) (n1 : a ≠ pa) (n2 : a ≠ ra) (n3 : pa ≠ ra) (hn : n ≤ 260) : ∀ (fu cnt p F : Nat) (R : Hp) (q : Int) (O : Vw), cnt + fu = 21 → cnt ≤ 20 → p ≤ n → fu + 2 ≤ F → XO R pa ra (nT V0) O → ∃ m1, fX19_line (Wd b V lw (hp_set R a (scC 15 b n p 0 q (oRest b pa ra)))) (some a) (I (cnt : Int)) = some m1 ∧ ∃ (x : Int) (R' : Hp) (p' : Nat) (f q' : Int), iterA (fX17_read_L7 15 (some a)) F (I ((cnt : Int) + 1), m1) nx = some ((I x, Wd b V lw (hp_set R' a (scC 15 b n p' f q' (oRest b pa ra)))), 0, 0) ∧ (∀ y, y ≠ pa → y ≠ ra → R' y = R y) ∧ match ordGo (tk V n) (nT V0) n fu cnt p O with
    | .inl (w, qq) => f = w ∧ q' = (qq : Int) ∧ 1 ≤ w ∧ w ≤ 7 ∧ qq ≤ 1000
    | .inr (k, O') => x = (k : Int) ∧ k ≤ 100 ∧ f = 0 ∧ XO R' pa ra (nT V0) O'
  | 0, cnt, p, F, R, q, O, e1, e2, e3, e4, xo => by omega
  | fu + 1, cnt, p, F, R, q, O, e1, e2, e3, e4, xo => by
    obtain ⟨F, rfl⟩ : ∃ F', F = F' + 1 := ⟨F - 1, by omega⟩
    have L := x_ordLine (b := b) (lw := lw) (q := q) (p := p) (cnt := cnt) h ha hpa hra n1 n2 n3 hn (by omega) e2 xo
    have B := ordR_b (T := tk V n) (N := nT V0) (cnt := cnt) (p := p)
    cases e : ordR (tk V n) (nT V0) cnt p with
    | inl ee =>
      obtain ⟨w, q'⟩ := ee
      have go : ordGo (tk V n) (nT V0) n (fu + 1) cnt p O = .inl (w, q') := by rw [ordGo, e]
      rw [e] at L B
      rw [go]
      obtain ⟨p', w1, w2⟩ := L
      have B : 1 ≤ w ∧ w ≤ 7 ∧ p ≤ q' ∧ q' ≤ p + 6 := B
      refine ⟨_, w2, (cnt : Int) + 1, R, p', w, (q' : Int), iterA_r0 ?_, fun _ _ _ => rfl, rfl, rfl, B.1, B.2.1, by omega⟩
      unfold fX17_read_L7
      simp (disch := omega) only [sc_on ha, sc_good ha, Option.bind_some, k_0, bi_if, if_neg]
    | inr ee =>
      obtain ⟨p', r, sg, v⟩ := ee
      rw [e] at L B
      obtain ⟨R', w1, w2, w3⟩ := L
      have B : p < p' ∧ p' ≤ p + 5 ∧ 0 ≤ r ∧ r < (nT V0 : Int) ∧ 0 ≤ v ∧ v ≤ 99 ∧ cnt ≠ 20 := B
      refine ⟨_, w1, ?_⟩
      have tb := tk_b V n p'
      skip
      by_cases c1 : n ≤ p'
      · have go : ordGo (tk V n) (nT V0) n (fu + 1) cnt p O = .inr (cnt + 1, ordS O r.toNat sg v) := by
          rw [ordGo, e]
          exact if_pos c1
        rw [go]
        refine ⟨(cnt : Int) + 1, R', p', 0, q, iterA_r0 ?_, w3, rfl, by omega, rfl, w2⟩
        unfold fX17_read_L7
        simp (disch := omega) only [sc_on ha, sc_good ha, Option.bind_some, k_0, bi_if, if_true, sc_p ha, sc_n ha, I_le, if_pos]
      · by_cases c2 : tk V n p' = 59
        · have go : ordGo (tk V n) (nT V0) n (fu + 1) cnt p O = ordGo (tk V n) (nT V0) n fu (cnt + 1) (p' + 1) (ordS O r.toNat sg v) := by
            rw [ordGo, e]
            exact (if_neg c1).trans (if_pos c2)
          rw [go]
          obtain ⟨m2, g1, x, R2, p2, f, q2, g2, g3, g4⟩ := x_ordGo h ha hpa hra n1 n2 n3 hn fu (cnt + 1) (p' + 1) F R' q (ordS O r.toNat sg v) (by omega) (by omega) (by omega) (by omega) w2
          refine ⟨x, R2, p2, f, q2, ?_, fun y y1 y2 => by rw [g3 y y1 y2, w3 y y1 y2], g4⟩
          rw [← g2]
          refine iterA_s0 ?_
          have g1 : fX19_line (Wd b V lw (hp_set R' a (scC 15 b n (p' + 1) 0 q (oRest b pa ra)))) (some a) (I ((cnt : Int) + 1)) = some m2 := g1
          unfold fX17_read_L7
          simp (disch := omega) only [sc_on ha, sc_good ha, Option.bind_some, k_0, k_59, bi_if, if_true, sc_p ha, sc_n ha, I_le, if_neg, sc_here ha hn, c2, andA_0, k_1, sc_wp ha, line15, g1, Option.map_some]
          rw [I_add]
          rfl
        · have go : ordGo (tk V n) (nT V0) n (fu + 1) cnt p O = .inl (1, p') := by
            rw [ordGo, e]
            exact (if_neg c1).trans (if_neg c2)
          rw [go]
          obtain ⟨F, rfl⟩ : ∃ F', F = F' + 1 := ⟨F - 1, by omega⟩
          refine ⟨(cnt : Int) + 1 + 1, R', p' + 1, 1, (p' : Int), ?_, w3, rfl, rfl, by decide, by decide, by omega⟩
          rw [iterA_s0 (s' := (I ((cnt : Int) + 1 + 1), Wd b V lw (hp_set R' a (scC 15 b n (p' + 1) 1 (p' : Int) (oRest b pa ra)))))]
          · refine iterA_r0 ?_
            unfold fX17_read_L7
            simp (disch := omega) only [sc_on ha, sc_good ha, Option.bind_some, k_0, bi_if, if_neg]
          · unfold fX17_read_L7
            simp (disch := omega) only [sc_on ha, sc_good ha, Option.bind_some, k_0, k_59, bi_if, if_true, sc_p ha, sc_n ha, I_le, if_neg, sc_here ha hn, I_inj, andA_0, k_1, sc_bad0 ha, sc_wp ha]
            rw [I_add]
theorem x_ordRead (h : Rel V0 V) (ha : b + 305 ≤ a) (hpa : b + 305 ≤ pa) (hra : b + 305 ≤ ra) (n1 : a ≠ pa) (n2 : a ≠ ra) (n3 : pa ≠ ra) (hn : n ≤ 260) {R : Hp} {O : Vw} (xo : XO R pa ra (nT V0) O) : ∃ (x : Int) (R' : Hp) (p' : Nat) (f q' : Int), fX17_read 15 (Wd b V lw (hp_set R a (scC 15 b n 0 0 0 (oRest b pa ra)))) nx (some a) = some ((I x, Wd b V lw (hp_set R' a (scC 15 b n p' f q' (oRest b pa ra)))), 0, 0) ∧ (∀ y, y ≠ pa → y ≠ ra → R' y = R y) ∧ match ordGo (tk V n) (nT V0) n 21 0 0 O with
    | .inl (w, qq) => x = -1000 * w - (qq : Int) ∧ 1 ≤ w ∧ w ≤ 7 ∧ qq ≤ 1000
    | .inr (k, O') => x = (k : Int) ∧ k ≤ 100 ∧ XO R' pa ra (nT V0) O' := by
  obtain ⟨m1, g1, x, R', p', f, q', g2, g3, g4⟩ := x_ordGo (lw := lw) (nx := nx) h ha hpa hra n1 n2 n3 hn 21 0 0 FUEL R 0 O (by omega) (by omega) (by omega) (by unfold FUEL; omega) xo
  have g1 : fX19_line (Wd b V lw (hp_set R a (scC 15 b n 0 0 0 (oRest b pa ra)))) (some a) (I 0) = some m1 := g1
  have g2 : iterA (fX17_read_L7 15 (some a)) FUEL (I 1, m1) nx = _ := g2
  cases e : ordGo (tk V n) (nT V0) n 21 0 0 O with
  | inl ee =>
    obtain ⟨w, qq⟩ := ee
    rw [e] at g4
    obtain ⟨rfl, rfl, b1, b2, b3⟩ := g4
    refine ⟨-1000 * f - (qq : Int), R', p', f, (qq : Int), ?_, g3, rfl, b1, b2, b3⟩
    unfold fX17_read
    simp (disch := omega) only [sc_on ha, line15, k_0, g1, Option.map_some, Option.bind_some, andA_0, Nat.add_zero, k_1, g2, sc_good ha, bi_if, if_neg, sc_f ha, sc_q ha, k_1000, I_neg, I_mul, I_sub]
  | inr ee =>
    obtain ⟨k, O'⟩ := ee
    rw [e] at g4
    obtain ⟨rfl, b1, rfl, b2⟩ := g4
    refine ⟨(k : Int), R', p', 0, q', ?_, g3, rfl, b1, b2⟩
    unfold fX17_read
    simp (disch := omega) only [sc_on ha, line15, k_0, g1, Option.map_some, Option.bind_some, andA_0, Nat.add_zero, k_1, g2, sc_g1 ha, I_inj, if_neg]
/-- the porter is made -/
theorem x_ordInit (h : Rel V0 V) {R : Hp} (hnx : b + 305 ≤ nx) (hn : n ≤ 260) : ∃ R', fX19_init (Wd b V lw (hp_set R nx (.inr (15, dfX19)))) (nx + 1) nx (some b) (I (n : Int)) = some (Wd b V lw (hp_set R' nx (scC 15 b n 0 0 0 (oRest b (nx + 1) (nx + 2)))), 2, 96) ∧ (∀ y, y < nx → R' y = R y) ∧ XO R' (nx + 1) (nx + 2) (nT V0) (fun o r => if o = 0 then pl V0 r else bi (ru V0 r)) := by
  have hn48 := n48 h
  obtain ⟨q, k1, R', k2, k3, k4⟩ := iterA_for (b := fX19_init_L29 (some nx) (some b)) (fun t s => ∃ R', s = (I (t : Int), Wd b V lw (hp_set R' nx (scC 15 b n 0 0 0 (oRest b (nx + 1) (nx + 2))))) ∧ (∀ y, y < nx → R' y = R y) ∧ XO R' (nx + 1) (nx + 2) t (fun o r => if o = 0 then pl V0 r else bi (ru V0 r))) (fun m => ∃ R', m = Wd b V lw (hp_set R' nx (scC 15 b n 0 0 0 (oRest b (nx + 1) (nx + 2)))) ∧ (∀ y, y < nx → R' y = R y) ∧ XO R' (nx + 1) (nx + 2) (nT V0) (fun o r => if o = 0 then pl V0 r else bi (ru V0 r))) (nT V0) (nx + 1 + 1 + 1) (fun t s hS ht => by
    obtain ⟨R', rfl, a1, f, g, a2, a3, a4⟩ := hS
    have h48 := r48 h ht
    refine ⟨(I ((t + 1 : Nat) : Int), Wd b V lw (hp_set (hp_set (hp_set R' (nx + 1) (.inl (0, 48, .inl (hp_upI f t (I (pl V0 t)))))) (nx + 2) (.inl (2, 48, .inl (hp_upI g t (I (bi (ru V0 t))))))) nx (scC 15 b n 0 0 0 (oRest b (nx + 1) (nx + 2))))), ?_, _, rfl, fun y hy => by rw [s_n (by omega), s_n (by omega)]; exact a1 y hy, hp_upI f t (I (pl V0 t)), hp_upI g t (I (bi (ru V0 t))), by rw [s_n (by omega), s_s], s_s _ _, fun r hr => ?_⟩
    · have g5 : ∀ {R p f q}, hp_gR (Wd b V lw (hp_set R nx (scC 15 b n p f q (oRest b (nx + 1) (nx + 2))))) (some nx) 15 5 = some (some (nx + 1)) := fun {R p f q} => o_gR hnx (s_s nx _) rfl
      have g6 : ∀ {R p f q}, hp_gR (Wd b V lw (hp_set R nx (scC 15 b n p f q (oRest b (nx + 1) (nx + 2))))) (some nx) 15 6 = some (some (nx + 2)) := fun {R p f q} => o_gR hnx (s_s nx _) rfl
      have w1 : hp_sI (Wd b V lw (hp_set R' nx (scC 15 b n 0 0 0 (oRest b (nx + 1) (nx + 2))))) (some (nx + 1)) 0 (I (t : Int)) (I (pl V0 t)) = some (Wd b V lw (hp_set (hp_set R' (nx + 1) (.inl (0, 48, .inl (hp_upI f t (I (pl V0 t)))))) nx (scC 15 b n 0 0 0 (oRest b (nx + 1) (nx + 2))))) := by
        rw [o_sI (by omega) (by rw [s_n (by omega)]; exact a2) (by omega) (by omega) (by omega), s_cm (by omega), tn]
        rfl
      have w2 : hp_sI (Wd b V lw (hp_set (hp_set R' (nx + 1) (.inl (0, 48, .inl (hp_upI f t (I (pl V0 t)))))) nx (scC 15 b n 0 0 0 (oRest b (nx + 1) (nx + 2))))) (some (nx + 2)) 2 (I (t : Int)) (I (bi (ru V0 t))) = some (Wd b V lw (hp_set (hp_set (hp_set R' (nx + 1) (.inl (0, 48, .inl (hp_upI f t (I (pl V0 t)))))) (nx + 2) (.inl (2, 48, .inl (hp_upI g t (I (bi (ru V0 t))))))) nx (scC 15 b n 0 0 0 (oRest b (nx + 1) (nx + 2))))) := by
        rw [o_sI (by omega) (by rw [s_n (by omega), s_n (by omega)]; exact a3) (by omega) (by omega) (by omega), s_cm (by omega), tn, nar2 (bi_01 _)]
      unfold fX19_init_L29
      simp (disch := omega) only [gI0_3, v_n h, Option.bind_some, I_le, if_neg, g5, g6, gR0_0, rTr, tn, gTr3, gTr4, v_pl h ht, v_ru h ht, w1, w2, k_1, I_add]
      rfl
    · unfold hp_upI
      by_cases e : r = t
      · rw [if_pos e, if_pos e, e]
        exact ⟨rfl, rfl⟩
      · rw [if_neg e, if_neg e]
        exact a4 r (by omega)) (fun s hS => by
    obtain ⟨R', rfl, a1, a2⟩ := hS
    refine ⟨_, ?_, R', rfl, a1, a2⟩
    unfold fX19_init_L29
    simp (disch := omega) only [gI0_3, v_n h, Option.bind_some, I_le, if_pos]) FUEL 0 (I 0, Wd b V lw (hp_set (hp_set (hp_set R (nx + 1) (.inl (0, 48, .inl fun _ => 0))) (nx + 2) (.inl (2, 48, .inl fun _ => 0))) nx (scC 15 b n 0 0 0 (oRest b (nx + 1) (nx + 2))))) ⟨_, rfl, fun y hy => by rw [s_n (by omega), s_n (by omega)], fun _ => 0, fun _ => 0, by rw [s_n (by omega), s_s], s_s _ _, fun r hr => by omega⟩ (Nat.zero_le _) (by unfold FUEL; omega)
  refine ⟨R', ?_, k3, k4⟩
  rw [k2] at k1
  have L8 : dfX19.length = 8 := rfl
  unfold fX19_init fX17_init hp_newa hp_pR hp_pI
  rw [o_pV hnx (s_s nx _) (by rw [L8]; omega), s_ss, Option.bind_some, o_pV hnx (s_s nx _) (by rw [List.length_set, L8]; omega), s_ss, Option.bind_some, o_pV hnx (s_s nx _) (by rw [List.length_set, List.length_set, L8]; omega), s_ss, Option.bind_some, Option.bind_some, Option.bind_some, o_set (by omega), s_cm (by omega), o_pV hnx (s_s nx _) (by rw [List.length_set, List.length_set, List.length_set, L8]; omega), s_ss, Option.bind_some, Option.bind_some, o_set (by omega), s_cm (by omega), o_pV hnx (s_s nx _) (by rw [List.length_set, List.length_set, List.length_set, List.length_set, L8]; omega), s_ss, Option.bind_some]
  have ec : (Sum.inr (15, ((((dfX19.set 7 (Sum.inr (some b))).set 4 (Sum.inr (some b))).set 0 (Sum.inl (I (n : Int)))).set 5 (Sum.inr (some (nx + 1)))).set 6 (Sum.inr (some (nx + 1 + 1)))) : Cel) = scC 15 b n 0 0 0 (oRest b (nx + 1) (nx + 2)) := rfl
  rw [ec]
  have k1' : iterA (fX19_init_L29 (some nx) (some b)) FUEL ((0 : Int32), Wd b V lw (hp_set (hp_set (hp_set R (nx + 1) (.inl (0, 48, .inl fun _ => 0))) (nx + 1 + 1) (.inl (2, 48, .inl fun _ => 0))) nx (scC 15 b n 0 0 0 (oRest b (nx + 1) (nx + 2))))) (nx + 1 + 1 + 1) = _ := k1
  rw [k1', Option.bind_some]
  rfl
end OM
