/-! CALL: orders, the class, III. No JVM here. -/
set_option maxRecDepth 100000
set_option linter.unusedVariables false
def oK (N : Nat) (O : Vw) : Prop := ∀ r, r < N → 0 ≤ O 0 r ∧ O 0 r ≤ 99 ∧ (O 1 r = 0 ∨ O 1 r = 1)
theorem oK_s {N : Nat} {O : Vw} (h : oK N O) (r : Nat) (sg : Int) {v : Int} (hv : 0 ≤ v ∧ v ≤ 99) : oK N (ordS O r sg v) := fun r' hr' => by
  have g := h r' hr'
  unfold ordS
  by_cases c : sg = 43
  · rw [if_pos c, up_r (show 1 ≠ 0 by omega)]
    by_cases e : r' = r
    · rw [e, up_s]
      rw [e] at g
      exact ⟨hv.1, hv.2, g.2.2⟩
    · rw [up_k e]
      exact g
  · rw [if_neg c, up_r (show 0 ≠ 1 by omega)]
    by_cases e : r' = r
    · rw [e, up_s]
      rw [e] at g
      refine ⟨g.1, g.2.1, ?_⟩
      split <;> omega
    · rw [up_k e]
      exact g
theorem ordGo_k {T : Nat → Int} {N n : Nat} : ∀ fu cnt p (O : Vw), oK N O → match ordGo T N n fu cnt p O with
    | .inl _ => True
    | .inr (k, O') => oK N O'
  | 0, _, _, _, _ => True.intro
  | fu + 1, cnt, p, O, h => by
    have B := ordR_b (T := T) (N := N) (cnt := cnt) (p := p)
    cases e : ordR T N cnt p with
    | inl ee =>
      have go : ordGo T N n (fu + 1) cnt p O = .inl ee := by rw [ordGo, e]
      rw [go]
      exact True.intro
    | inr ee =>
      obtain ⟨p', r, sg, v⟩ := ee
      rw [e] at B
      have B : p < p' ∧ p' ≤ p + 5 ∧ 0 ≤ r ∧ r < (N : Int) ∧ 0 ≤ v ∧ v ≤ 99 ∧ cnt ≠ 20 := B
      have k2 := oK_s h r.toNat sg (v := v) ⟨B.2.2.2.2.1, B.2.2.2.2.2.1⟩
      by_cases c1 : n ≤ p'
      · have go : ordGo T N n (fu + 1) cnt p O = .inr (cnt + 1, ordS O r.toNat sg v) := by
          rw [ordGo, e]
          exact if_pos c1
        rw [go]
        exact k2
      · by_cases c2 : T p' = 59
        · have go : ordGo T N n (fu + 1) cnt p O = ordGo T N n fu (cnt + 1) (p' + 1) (ordS O r.toNat sg v) := by
            rw [ordGo, e]
            exact (if_neg c1).trans (if_pos c2)
          rw [go]
          exact ordGo_k fu (cnt + 1) (p' + 1) _ k2
        · have go : ordGo T N n (fu + 1) cnt p O = .inl (1, p') := by
            rw [ordGo, e]
            exact (if_neg c1).trans (if_neg c2)
          rw [go]
          exact True.intro
section OS
variable {b : Nat} {V0 V : Vw} {lw : Option Nat} {a ci n p pa ra nx : Nat} {f q x y lo hi : Int} {rest : List Vl} {R : Hp} {O : Vw}
theorem x_ordStands (h : Rel V0 V) (ha : b + 305 ≤ a) (hpa : b + 305 ≤ pa) (hra : b + 305 ≤ ra) (n1 : a ≠ pa) (n2 : a ≠ ra) (xo : XO R pa ra (nT V0) O) (ok : oK (nT V0) O) : ∃ V', fX19_stands (Wd b V lw (hp_set R a (scC 15 b n p f q (oRest b pa ra)))) (some a) = some (Wd b V' lw (hp_set R a (scC 15 b n p f q (oRest b pa ra)))) ∧ (∀ o k, ¬ (114 ≤ o ∧ o < 258 ∧ o % 3 = 0 ∧ (k = 3 ∨ k = 4)) → V' o k = V o k) ∧ ∀ r, r < nT V0 → V' (114 + 3 * r) 3 = O 0 r ∧ V' (114 + 3 * r) 4 = O 1 r := by
  have hn48 := n48 h
  obtain ⟨f0, g0, xf, xg, xv⟩ := xo
  obtain ⟨m, k1, V', k2, k3, k4⟩ := iter_for (b := fX19_stands_L2 (some a)) (s := (I 0, Wd b V lw (hp_set R a (scC 15 b n p f q (oRest b pa ra))))) (fun t s => ∃ V', s = (I (t : Int), Wd b V' lw (hp_set R a (scC 15 b n p f q (oRest b pa ra)))) ∧ (∀ o k, ¬ (114 ≤ o ∧ o < 258 ∧ o % 3 = 0 ∧ (k = 3 ∨ k = 4)) → V' o k = V o k) ∧ ∀ r, r < t → V' (114 + 3 * r) 3 = O 0 r ∧ V' (114 + 3 * r) 4 = O 1 r) (fun m => ∃ V', m = Wd b V' lw (hp_set R a (scC 15 b n p f q (oRest b pa ra))) ∧ (∀ o k, ¬ (114 ≤ o ∧ o < 258 ∧ o % 3 = 0 ∧ (k = 3 ∨ k = 4)) → V' o k = V o k) ∧ ∀ r, r < nT V0 → V' (114 + 3 * r) 3 = O 0 r ∧ V' (114 + 3 * r) 4 = O 1 r) (nT V0) (by omega) ⟨V, rfl, fun _ _ _ => rfl, fun r hr => by omega⟩ (fun t s hS ht => by
    obtain ⟨V', rfl, a1, a2⟩ := hS
    have h48 := r48 h ht
    have vn : V' 0 3 = nT V0 := by
      rw [a1 0 3 (by omega)]
      exact v_n h
    have kt := ok t ht
    refine ⟨(I ((t + 1 : Nat) : Int), Wd b (up (up V' (114 + 3 * t) 3 (O 0 t)) (114 + 3 * t) 4 (O 1 t)) lw (hp_set R a (scC 15 b n p f q (oRest b pa ra)))), ?_, _, rfl, fun o k q => ?_, fun r hr => ?_⟩
    · have g5 : ∀ {V : Vw}, hp_gR (Wd b V lw (hp_set R a (scC 15 b n p f q (oRest b pa ra)))) (some a) 15 5 = some (some pa) := fun {V} => o_gR ha (s_s a _) rfl
      have g6 : ∀ {V : Vw}, hp_gR (Wd b V lw (hp_set R a (scC 15 b n p f q (oRest b pa ra)))) (some a) 15 6 = some (some ra) := fun {V} => o_gR ha (s_s a _) rfl
      have g7 : ∀ {V : Vw}, hp_gR (Wd b V lw (hp_set R a (scC 15 b n p f q (oRest b pa ra)))) (some a) 15 7 = some (some b) := fun {V} => o_gR ha (s_s a _) rfl
      have rp : ∀ {V : Vw}, hp_aI (Wd b V lw (hp_set R a (scC 15 b n p f q (oRest b pa ra)))) (some pa) 0 (I (t : Int)) = some (I (O 0 t)) := fun {V} => by
        rw [o_aI hpa (by rw [s_n (fun w => n1 w.symm)]; exact xf) (by omega) (by omega) (by omega), tn, (xv t ht).1]
      have rr : ∀ {V : Vw}, hp_aI (Wd b V lw (hp_set R a (scC 15 b n p f q (oRest b pa ra)))) (some ra) 2 (I (t : Int)) = some (I (O 1 t)) := fun {V} => by
        rw [o_aI hra (by rw [s_n (fun w => n2 w.symm)]; exact xg) (by omega) (by omega) (by omega), tn, (xv t ht).2]
      unfold fX19_stands_L2
      simp (disch := omega) only [g7, gI0_3, vn, Option.bind_some, I_le, if_neg, gR0_0, rTr, tn, g5, g6, rp, rr, pTr3, k_1, I_add]
      rw [pTr4 h48 kt.2.2]
      rfl
    · have e1 : ¬ (o = 114 + 3 * t ∧ k = 4) := by omega
      have e2 : ¬ (o = 114 + 3 * t ∧ k = 3) := by omega
      rw [show up (up V' (114 + 3 * t) 3 (O 0 t)) (114 + 3 * t) 4 (O 1 t) o k = up V' (114 + 3 * t) 3 (O 0 t) o k from if_neg e1, show up V' (114 + 3 * t) 3 (O 0 t) o k = V' o k from if_neg e2]
      exact a1 o k q
    · by_cases c : r = t
      · rw [c, up_k (by omega), up_s, up_s]
        exact ⟨rfl, rfl⟩
      · rw [up_r (by omega), up_r (by omega)]
        exact a2 r (by omega)) (fun s hS => by
    obtain ⟨V', rfl, a1, a2⟩ := hS
    have vn : V' 0 3 = nT V0 := by
      rw [a1 0 3 (by omega)]
      exact v_n h
    have g7 : ∀ {V : Vw}, hp_gR (Wd b V lw (hp_set R a (scC 15 b n p f q (oRest b pa ra)))) (some a) 15 7 = some (some b) := fun {V} => o_gR ha (s_s a _) rfl
    refine ⟨_, ?_, V', rfl, a1, a2⟩
    unfold fX19_stands_L2
    simp (disch := omega) only [g7, gI0_3, vn, Option.bind_some, I_le, if_pos])
  refine ⟨V', ?_, k3, k4⟩
  unfold fX19_stands
  rw [k_0, k1, k2]
  rfl
theorem x_orders (h : Rel V0 V) (hn : 1 ≤ n ∧ n ≤ 120) {W : Vw} (hW : W 0 12 = y) (hy : (n : Int) ≤ y ∧ y ≤ 260) (e : V = up W 0 12 0) (hnx : b + 305 ≤ nx) : ∃ (x : Int) (R' : Hp) (V' : Vw), fX0_orders (Wd b W lw R) nx (some b) (I (n : Int)) = some ((I x, Wd b V' lw R'), 3, 104) ∧ (∀ y, y < nx → R' y = R y) ∧ match ordGo (tk V n) (nT V0) n 21 0 0 (fun o r => if o = 0 then pl V0 r else bi (ru V0 r)) with
    | .inl (w, qq) => x = -1000 * w - (qq : Int) ∧ V' = V
    | .inr (k, O') => x = (k : Int) ∧ oK (nT V0) O' ∧ (∀ o k, ¬ (114 ≤ o ∧ o < 258 ∧ o % 3 = 0 ∧ (k = 3 ∨ k = 4)) → V' o k = V o k) ∧ ∀ r, r < nT V0 → V' (114 + 3 * r) 3 = O' 0 r ∧ V' (114 + 3 * r) 4 = O' 1 r := by
  obtain ⟨R1, a1, a2, a3⟩ := x_ordInit (lw := lw) (R := R) (n := n) h hnx (by omega)
  obtain ⟨x, R2, p', f, q', b1, b2, b3⟩ := x_ordRead (lw := lw) (nx := nx + 1 + 2) h hnx (show b + 305 ≤ nx + 1 by omega) (show b + 305 ≤ nx + 2 by omega) (by omega) (by omega) (by omega) (show n ≤ 260 by omega) a3
  have ok0 : oK (nT V0) (fun o r => if o = 0 then pl V0 r else bi (ru V0 r)) := fun r hr => by
    have := pl_b h hr
    exact ⟨this.1, this.2, bi_01 _⟩
  have K := ordGo_k (T := tk V n) (N := nT V0) (n := n) 21 0 0 _ ok0
  have frame : ∀ y, y < nx → hp_set R2 nx (scC 15 b n p' f q' (oRest b (nx + 1) (nx + 2))) y = R y := fun y hy => by
    rw [s_n (by omega), b2 y (by omega) (by omega), a2 y hy]
  cases hg : ordGo (tk V n) (nT V0) n 21 0 0 (fun o r => if o = 0 then pl V0 r else bi (ru V0 r)) with
  | inl ee =>
    obtain ⟨w, qq⟩ := ee
    rw [hg] at b3
    obtain ⟨rfl, c1, c2, c3⟩ := b3
    refine ⟨-1000 * w - (qq : Int), _, V, ?_, frame, rfl, rfl⟩
    unfold fX0_orders
    simp (disch := omega) only [k_0, k_1, k_120, x_within, Option.bind_some, bi_if, if_pos, gI0_12, hW, I_le, pI0_12, o_set hnx]
    rw [← e, a1]
    simp (disch := omega) only [Option.bind_some, sc_on hnx, b1, I_lt, if_pos]
    rfl
  | inr ee =>
    obtain ⟨k, O'⟩ := ee
    rw [hg] at b3 K
    obtain ⟨rfl, c1, c2⟩ := b3
    obtain ⟨V', d1, d2, d3⟩ := x_ordStands (lw := lw) (n := n) (p := p') (f := f) (q := q') h hnx (show b + 305 ≤ nx + 1 by omega) (show b + 305 ≤ nx + 2 by omega) (by omega) (by omega) c2 K
    refine ⟨(k : Int), _, V', ?_, frame, rfl, K, d2, d3⟩
    unfold fX0_orders
    simp (disch := omega) only [k_0, k_1, k_120, x_within, Option.bind_some, bi_if, if_pos, gI0_12, hW, I_le, pI0_12, o_set hnx]
    rw [← e, a1]
    simp (disch := omega) only [Option.bind_some, sc_on hnx, b1, I_lt, if_neg, d1]
    rfl
end OS
