/-! CALL: days, II. No JVM here. -/
set_option maxRecDepth 100000
set_option linter.unusedVariables false
section YH
variable {b : Nat} {V0 V V' S : Vw} {lw : Option Nat} {R : Hp} {p k j i r e n nx : Nat} {s t z u v w many : Int} {sy : Int → (Nat → Int) → Bool} {tl : Int → (Nat → Int) → Int}
theorem Inv.rem (h : Inv V) : Rem V V := ⟨h, fun _ _ _ _ => rfl⟩
theorem xS0_S (h : InvP V) (e3 : ∀ p, p < 12 → V0 (j + 4 + p) 3 = V (5 + 4 + p) 3 ∧ V0 (j + 4 + p) 4 = V (5 + 4 + p) 4) (e4 : V0 j 3 = V 5 3 ∧ V0 j 4 = V 5 4) : dzQ (dzS (xS0 V0 j)) := by
  obtain ⟨h1, h2⟩ := h
  refine dzQ_S (fun p hp => ?_) ?_ ?_
  · have := h1 p hp
    have e := e3 p hp
    show 0 ≤ V0 (j + 4 + p) 3 ∧ V0 (j + 4 + p) 3 ≤ 9999 ∧ 0 ≤ V0 (j + 4 + p) 4 ∧ V0 (j + 4 + p) 4 ≤ 9999
    omega
  · show 0 ≤ V0 j 3 ∧ V0 j 3 ≤ 9999
    omega
  · show 0 ≤ V0 j 4 ∧ V0 j 4 ≤ 65535
    omega
theorem S0_e {W : Vw} : ∀ o, o ≠ 2 → o ≠ 3 → dzS (xS0 V j) o = dzS (yS0 V j W) o := fun o o2 o3 => by
  funext k
  unfold dzS
  by_cases c : o = 4
  · subst c
    by_cases k4 : k = 4
    · rw [k4, up_s, up_s]
    · rw [up_k k4, up_k k4]
      by_cases k3 : k = 3
      · rw [k3, up_s, up_s]
      · rw [up_k k3, up_k k3]
        by_cases k2 : k = 2
        · rw [k2, up_s, up_s]
        · rw [up_k k2, up_k k2]
          unfold yS0
          rw [if_neg (by omega), if_neg (by omega), if_neg (by omega)]
  · rw [up_r c, up_r c, up_r c, up_r c, up_r c, up_r c]
    unfold yS0
    rw [if_neg o2, if_neg o3, if_neg (by omega)]
/-- the memory after days: what else has not changed, and what the days say of people -/
theorem inv_days (h : Inv V) {V2 T : Vw} (c : ∀ o k, ¬ xCell 5 o k → ¬ yCell o k → V2 o k = V o k) (x : XS V V2 5 T) (y : ∀ p, p < 12 → V2 259 p = T 0 p ∧ V2 259 (12 + p) = T 1 p) (y4 : V2 259 24 = T 4 0 ∧ V2 259 25 = T 4 1) (g : dzQ T) : Inv V2 ∧ agL V V2 := by
  obtain ⟨i1, i2, i3, i4⟩ := h
  have row : ∀ o, (∀ k, ¬ xCell 5 o k) → (∀ k, ¬ yCell o k) → V2 o = V o := fun o h1 h2 => funext fun k => c o k (h1 k) (h2 k)
  have aT : agT V V2 := agT.of (c _ _ (by omega) (by omega)) (c _ _ (by omega) (by omega)) fun o q => row o (fun k => by omega) (fun k => by omega)
  refine ⟨⟨InvT_c aT i1, InvE_c aT (agE.of (c _ _ (by omega) (by omega)) (c _ _ (by omega) (by omega)) fun o q => row o (fun k => by omega) (fun k => by omega)) i1 i2, ?_, InvQ_c (by refine ⟨c _ _ (by omega) (by omega), c _ _ (by omega) (by omega), c _ _ (by omega) (by omega), c _ _ (by omega) (by omega), c _ _ (by omega) (by omega), c _ _ (by omega) (by omega), row _ (fun k => by omega) (fun k => by omega), row _ (fun k => by omega) (fun k => by omega)⟩) i4⟩, agL.of (c _ _ (by omega) (by omega)) fun o q => row o (fun k => by omega) (fun k => by omega)⟩
  obtain ⟨i31, i32⟩ := i3
  have d3 : V2 5 3 = T 4 0 := x.2.2 0 (by omega)
  have d4 : V2 5 4 = T 4 1 := x.2.2 1 (by omega)
  have e37 : ∀ p, p < 12 → V2 (37 + 4 + p) = V (37 + 4 + p) := fun p hp => row _ (fun k => by omega) (fun k => by omega)
  have rk : V2 261 = V 261 := row _ (fun k => by omega) (fun k => by omega)
  have rt : V2 270 = V 270 := row _ (fun k => by omega) (fun k => by omega)
  have rf : V2 262 = V 262 := row _ (fun k => by omega) (fun k => by omega)
  have ro : V2 263 = V 263 := row _ (fun k => by omega) (fun k => by omega)
  have rc : V2 264 = V 264 := row _ (fun k => by omega) (fun k => by omega)
  have k3 : V2 37 3 = V 37 3 := c _ _ (by omega) (by omega)
  have k4 : V2 37 4 = V 37 4 := c _ _ (by omega) (by omega)
  refine ⟨fun p hp => ?_, ?_⟩
  · obtain ⟨x1, x2, x3, x4, x5, x6, x7⟩ := x.1 p hp
    obtain ⟨y1, y2⟩ := y p hp
    have gb := g.1 p hp
    have q := i31 p hp
    simp only [x1, x2, x3, x4, x5, x6, y1, y2, e37 p hp, rk, rt, rf, ro, rc, true_and]
    omega
  · have gd := g.2
    simp only [d3, d4, y4.1, y4.2, k3, k4, rk, true_and, and_true]
    omega
theorem call_days (h : Inv V) (lo : LawOK b V lw R nx) (h1 : -2147483648 ≤ z) (h2 : z ≤ 2147483647) : Okc b V lw R (fun m => fX0_days m (some b) (I z)) (fun m => fX7_days m (some (b + 258)) (I z)) := by
  unfold Okc
  by_cases g : 1 ≤ z ∧ z ≤ 30
  · obtain ⟨n, rfl⟩ : ∃ q : Nat, z = q := ⟨z.toNat, by omega⟩
    obtain ⟨sy, tl, lx, ly⟩ := lo
    have i3 := h.2.2.1
    have xs : XS V V 5 (xS0 V 5) := ⟨fun p hp => ⟨rfl, rfl, rfl, rfl, rfl, rfl, rfl⟩, fun r hr => rfl, fun i hi => rfl⟩
    have gS : dzQ (dzS (xS0 V 5)) := xS0_S i3 (fun p hp => ⟨rfl, rfl⟩) ⟨rfl, rfl⟩
    obtain ⟨V1, e1, e2, e3⟩ := x_pgoes h.rem (Or.inl rfl) lx xs gS (n := n) (by omega)
    have r1 : Rem V V1 := h.rem.chg (Or.inl rfl) e2
    have a1 : agL V V1 := agL.of (e2 _ _ (by omega)) fun o q => funext fun k => e2 o k (by omega)
    have n1 : V1 259 = V 259 := funext fun k => e2 _ k (by omega)
    have ys : YS V V1 (yS0 V 5 V1) := by
      refine ⟨fun p hp => ?_, fun r hr => rfl, ?_, ?_, rfl, rfl, rfl⟩
      · have q := i3.1 p hp
        obtain ⟨q1, q2, q3, q4, q5, q6, q7, q8, q9, q10, q11, q12, q13, q14, q15, q16, q17, _⟩ := q
        rw [n1]
        exact ⟨q14, q17, rfl⟩
      · rw [n1]
        exact i3.2.2.2.1
      · rw [n1]
        exact i3.2.2.2.2.2.2.1
    have gY : dzQ (dzS (yS0 V 5 V1)) := by
      have e := S0_e (V := V) (j := 5) (W := V1)
      unfold dzQ at gS ⊢
      rw [← e 0 (by omega) (by omega), ← e 1 (by omega) (by omega), ← e 4 (by omega) (by omega)]
      exact gS
    obtain ⟨V2, f1, f2, f3⟩ := y_daysGo (b := b) (lw := lw) (R := R) r1 ly a1 (law_tb lx) ys gY (n := n) (by omega)
    have same := fun o o2 o3 => dzGo_c (sy := sy) (tl := tl) (V0 := V) (S0_e (V := V) (j := 5) (W := V1)) n o o2 o3
    have gT := dzQ_go (sy := sy) (tl := tl) h gS n
    have s0 := same 0 (by omega) (by omega)
    have s1 := same 1 (by omega) (by omega)
    have s4 := same 4 (by omega) (by omega)
    have x2 : XS V V2 5 (dzGo sy tl V (dzS (xS0 V 5)) n) := by
      obtain ⟨x1, x2, x3⟩ := e3
      refine ⟨fun p hp => ?_, fun r hr => ?_, fun i hi => ?_⟩
      · rw [f2 (5 + 4 + p) 0 (by omega), f2 (5 + 4 + p) 1 (by omega), f2 (5 + 4 + p) 2 (by omega), f2 (5 + 4 + p) 5 (by omega), f2 (5 + 4 + p) 3 (by omega), f2 (5 + 4 + p) 4 (by omega), f2 (5 + 3) p (by omega)]
        exact x1 p hp
      · rw [f2 (5 + 2) r (by omega)]
        exact x2 r hr
      · rw [f2 5 (3 + i) (by omega)]
        exact x3 i hi
    obtain ⟨iv, al⟩ := inv_days h (fun o k q1 q2 => (f2 o k q2).trans (e2 o k q1)) x2 (fun p hp => by
      obtain ⟨w1, w2, w3⟩ := f3.1 p hp
      rw [w1, w2, s0, s1]
      exact ⟨rfl, rfl⟩) (by
      rw [f3.2.2.1, f3.2.2.2.1, s4]
      exact ⟨rfl, rfl⟩) gT
    have v5 : V1 5 5 = dzGo sy tl V (dzS (xS0 V 5)) n 4 2 := e3.2.2 2 (by omega)
    refine ⟨I (dzGo sy tl V (dzS (xS0 V 5)) n 4 2), Wd b V1 lw R, V2, ?_, ?_, iv, al, cO258⟩
    · show fX0_days _ _ _ = _
      unfold fX0_days
      simp (disch := omega) only [k_0, k_1, k_30, I_neg, x_within, Option.bind_some, bi_if, if_pos, gR0_7, onPf, e1, gPf, v5]
    · show fX7_days _ _ _ = _
      unfold fX7_days
      simp (disch := omega) only [k_0, k_1, k_30, I_neg, y_in, Option.bind_some, bi_if, if_pos, on258, f1, gI258_52, f3.2.2.2.2.1]
      rw [s4]
  · refine ⟨I (-1), Wd b V lw R, V, ?_, ?_, h, agL.id V, cO258⟩
    · show fX0_days _ _ _ = _
      unfold fX0_days
      rw [k_0, k_1, k_30, I_neg, x_within h1 h2 (by omega) (by omega) (by omega) (by omega)]
      simp only [Option.bind_some, bi_if]
      rw [if_neg g]
    · show fX7_days _ _ _ = _
      unfold fX7_days
      rw [k_0, k_1, k_30, I_neg, y_in h1 h2 (by omega) (by omega) (by omega) (by omega)]
      simp only [Option.bind_some, bi_if]
      rw [if_neg g]
end YH
