/-! CALL: timetable, both. No JVM here. -/
set_option maxRecDepth 100000
set_option linter.unusedVariables false
theorem insAt_c {M M' : Nat → Int} {A : Nat → Nat} {c : Nat} (hc : M c = M' c) : ∀ n, (∀ i, i < n → M (A i) = M' (A i)) → insAt M A c n = insAt M' A c n
  | 0, _ => rfl
  | n + 1, h => by
    rw [insAt, insAt, h n (by omega), hc, insAt_c hc n fun i hi => h i (by omega)]
theorem srtK_c {M M' : Nat → Int} {r n0 : Nat} {A0 : Nat → Nat} (h0 : ∀ i, i < n0 → M (A0 i) = M' (A0 i)) : ∀ k, (∀ j, j < k → M (8 * r + j) = M' (8 * r + j)) → srtK M r n0 A0 k = srtK M' r n0 A0 k ∧ ∀ i, i < n0 + k → M (srtK M r n0 A0 k i) = M' (srtK M r n0 A0 k i)
  | 0, _ => ⟨rfl, h0⟩
  | k + 1, h => by
    obtain ⟨i1, i2⟩ := srtK_c h0 k fun j hj => h j (by omega)
    have ia := insAt_c (c := 8 * r + k) (h k (by omega)) (n0 + k) i2
    constructor
    · rw [srtK, srtK, ← i1]
      funext i
      unfold ins
      rw [ia]
    · intro i hi
      rw [srtK]
      have le := insAt_le (M := M) (A := srtK M r n0 A0 k) (c := 8 * r + k) (n0 + k)
      by_cases c1 : i < insAt M (srtK M r n0 A0 k) (8 * r + k) (n0 + k)
      · rw [ins_a c1]
        exact i2 i (by omega)
      · by_cases c2 : i = insAt M (srtK M r n0 A0 k) (8 * r + k) (n0 + k)
        · rw [c2, ins_b]
          exact h k (by omega)
        · rw [ins_c (by omega) (by omega)]
          exact i2 _ (by omega)
theorem srtA_c {M M' : Nat → Int} {sN : Nat → Nat} : ∀ r, (∀ q k, q < r → k < sN q → M (8 * q + k) = M' (8 * q + k)) → srtA M sN r = srtA M' sN r ∧ ∀ i, i < srtN sN r → M (srtA M sN r i) = M' (srtA M sN r i)
  | 0, _ => ⟨rfl, fun i hi => absurd hi (Nat.not_lt_zero _)⟩
  | r + 1, h => by
    obtain ⟨i1, i2⟩ := srtA_c r fun q k hq hk => h q k (by omega) hk
    obtain ⟨j1, j2⟩ := srtK_c (r := r) i2 (sN r) fun j hj => h r j (by omega) hj
    exact ⟨by rw [srtA, srtA, ← i1]; exact j1, j2⟩
theorem srtN_c {sN sN' : Nat → Nat} : ∀ r, (∀ q, q < r → sN q = sN' q) → srtN sN r = srtN sN' r
  | 0, _ => rfl
  | r + 1, h => by rw [srtN, srtN, srtN_c r fun q hq => h q (by omega), h r (by omega)]
section TT2
variable {b : Nat} {V0 V V' : Vw} {lw : Option Nat} {R : Hp} {a n p tr many cnt all nx r : Nat} {q x y z s m al v e d f : Int} {S G : Vw} {rest : List Vl}
def gN (G : Vw) (r : Nat) : Nat := (G 0 r).toNat
theorem x_timetable (hn : 1 ≤ n ∧ n ≤ 160) (hy : (n : Int) ≤ V 0 12 ∧ V 0 12 ≤ 260) (hnx : b + 305 ≤ nx) : ∃ (x : Int) (R' : Hp) (Vc : Vw) (d c : Nat), fX0_timetable (Wd b V lw R) nx (some b) (I (n : Int)) = some ((I x, Wd b Vc lw R'), d, c) ∧ d ≤ 55 ∧ c ≤ 415 ∧ (∀ y, y < nx → R' y = R y) ∧ match svcGo (tk V n) n 17 0 0 0 (fun _ _ => 0) with
    | .inl (w, qq) => x = -1000 * w - (qq : Int) ∧ Vc = up V 0 12 0
    | .inr (k, all, G) => x = (all : Int) ∧ all ≤ 48 ∧ GK all G ∧ xG Vc all G ∧ Vc 0 3 = (all : Int) ∧ xA Vc (srtN (gN G) all) (srtA (xM Vc) (gN G) all) ∧ Vc 0 12 = 0 ∧ ∀ o q, ¬ (114 ≤ o ∧ o < 258) → o ≠ 2 → o ≠ 3 → ¬ (o = 0 ∧ (q = 3 ∨ q = 4 ∨ q = 12)) → Vc o q = V o q := by
  have ek : tk (up V 0 12 0) n = tk V n := by
    funext p
    unfold tk
    rw [up_r (by omega)]
  obtain ⟨R1, i1, i2, i3⟩ := x_ckInit (b := b) (V := up V 0 12 0) (lw := lw) (R := R) (n := n) (G := fun _ _ => 0) hnx
  obtain ⟨x, R2, p', f, q', al', d, c, r1, r2, r3, r4, r5⟩ := x_ckRead (b := b) (V := up V 0 12 0) (lw := lw) (n := n) (nx := nx + 4) hnx (by omega) (by omega) i3 (fun r hr => absurd hr (Nat.not_lt_zero _))
  rw [ek] at r5
  have r1 : fX17_read 14 (Wd b (up V 0 12 0) lw (hp_set R1 nx (scC 14 b n 0 0 0 (ckRest b nx 0)))) (nx + 1 + 3) (some nx) = _ := r1
  have frame : ∀ y, y < nx → hp_set R2 nx (scC 14 b n p' f q' (ckRest b nx al')) y = R y := fun y hy => by
    rw [s_n (by omega), r4 y (by omega), i2 y hy]
  cases hg : svcGo (tk V n) n 17 0 0 0 (fun _ _ => 0) with
  | inl ee =>
    obtain ⟨w, qq⟩ := ee
    rw [hg] at r5
    obtain ⟨rfl, b1, b2, b3⟩ := r5
    refine ⟨-1000 * w - (qq : Int), _, up V 0 12 0, 1 + (3 + (d + 0)), 10 + (48 + (c + 0)), ?_, by omega, by omega, frame, rfl, rfl⟩
    unfold fX0_timetable
    simp (disch := omega) only [k_0, k_1, k_160, x_within, Option.bind_some, bi_if, if_pos, gI0_12, I_le, pI0_12, o_set hnx, i1, sc_on hnx, r1, if_neg, andA_s]
  | inr ee =>
    obtain ⟨k, all, G⟩ := ee
    rw [hg] at r5
    obtain ⟨rfl, b1, b2, b3, hi, b4⟩ := r5
    obtain ⟨V1, s1, s2, s3⟩ := x_ckStands (b := b) (V := up V 0 12 0) (lw := lw) (n := n) (p := p') (f := f) (q := q') (al := al') hnx b4 b3 b2 b1
    have tr : xTr (up V1 0 3 (all : Int)) all (gN G) := by
      refine ⟨b2, up_s, fun r hr => ?_⟩
      obtain ⟨m, g1, g2, g3, g4, g5⟩ := b3 r hr
      have t := s3 r hr
      have em : gN G r = m := by
        unfold gN
        rw [g1, tn]
      rw [em, up_r (by omega), up_r (by omega)]
      refine ⟨by rw [t.1, g1], g3, fun k hk => ?_⟩
      have := (t.2.2.2 k (by omega)).2
      rw [this]
      exact ⟨(g4 k hk).2.2.1, (g4 k hk).2.2.2⟩
    obtain ⟨V2, l1, l2, l3⟩ := x_lays (b := b) (lw := lw) (R := hp_set R2 nx (scC 14 b n p' f q' (ckRest b nx al'))) tr
    have c3 : V2 0 3 = (all : Int) := by rw [l2 _ _ (by omega), up_s]
    refine ⟨(all : Int), _, V2, 1 + (3 + (d + 0)), 10 + (48 + (c + 0)), ?_, by omega, by omega, frame, rfl, b2, b3, fun r hr => ?_, c3, ?_, ?_, fun o q w1 w2 w3 w4 => ?_⟩
    · unfold fX0_timetable
      simp (disch := omega) only [k_0, k_1, k_160, x_within, Option.bind_some, bi_if, if_pos, gI0_12, I_le, pI0_12, o_set hnx, i1, sc_on hnx, r1, s1, pI0_3, on0, l1, gI0_3, c3, andA_s]
    · have t := s3 r hr
      rw [l2 _ _ (by omega), l2 _ _ (by omega), l2 _ _ (by omega), up_r (by omega)]
      refine ⟨t.1, t.2.1, t.2.2.1, fun k hk => ?_⟩
      rw [l2 _ _ (by omega), l2 _ _ (by omega), up_r (by omega), up_r (by omega)]
      exact t.2.2.2 k hk
    · rw [xM_c l2]
      exact l3
    · rw [l2 _ _ (by omega), up_k (by omega), s2 _ _ (by omega), up_s]
    · have e1 : ¬ (o = 0 ∧ q = 3) := by omega
      have e2 : ¬ (o = 0 ∧ q = 12) := by omega
      rw [l2 o q (by omega), show up V1 0 3 (all : Int) o q = V1 o q from if_neg e1, s2 o q w1, show up V 0 12 0 o q = V o q from if_neg e2]
end TT2
