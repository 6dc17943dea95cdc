/-! CALL: tried. No JVM here. -/
set_option maxRecDepth 100000
set_option linter.unusedVariables false
section YT
variable {b : Nat} {V0 V V' S : Vw} {lw : Option Nat} {R : Hp} {p k j i r e n nx : Nat} {s t z u v w many c : Int} {sy : Int → (Nat → Int) → Bool} {tl : Int → (Nat → Int) → Int}
theorem x_isTold3 (h : Rel V0 V) (h1 : -2147483648 ≤ z) (h2 : z ≤ 2147483647) (hc : 0 ≤ c ∧ c ≤ 2000) : fX0_isTold (Wd b V lw R) (some b) (I (z - c)) = some (I (bi (c ≤ z ∧ z < c + 12 ∧ pT V (z - c).toNat))) := by
  by_cases q : -2147483648 ≤ z - c
  · rw [x_isTold h q (by omega), bi_c (show 0 ≤ z - c ∧ z - c < 12 ∧ pT V (z - c).toNat ↔ c ≤ z ∧ z < c + 12 ∧ pT V (z - c).toNat from ⟨fun w => ⟨by omega, by omega, w.2.2⟩, fun w => ⟨by omega, by omega, w.2.2⟩⟩)]
  · rw [← I_wr, x_isTold h (by omega) (by omega), bi_f (by omega), bi_f (by omega)]
theorem y_isPerson3 (h : Rel V0 V) (h1 : -2147483648 ≤ z) (h2 : z ≤ 2147483647) (hc : 0 ≤ c ∧ c ≤ 2000) : fX7_isPerson (Wd b V lw R) (some (b + 258)) (I (z - c)) = some (I (bi (c ≤ z ∧ z < c + 12 ∧ pT V (z - c).toNat))) := by
  by_cases q : -2147483648 ≤ z - c
  · rw [y_isPerson h q (by omega), bi_c (show 0 ≤ z - c ∧ z - c < 12 ∧ pT V (z - c).toNat ↔ c ≤ z ∧ z < c + 12 ∧ pT V (z - c).toNat from ⟨fun w => ⟨by omega, by omega, w.2.2⟩, fun w => ⟨by omega, by omega, w.2.2⟩⟩)]
  · rw [← I_wr, y_isPerson h (by omega) (by omega), bi_f (by omega), bi_f (by omega)]
abbrev tG (V : Vw) (z : Int) : Prop := (0 ≤ z ∧ z < 3) ∨ (100 ≤ z ∧ z < 100 + 12 ∧ pT V (z - 100).toNat) ∨ (200 ≤ z ∧ z < 200 + 12 ∧ pT V (z - 200).toNat)
theorem x_tg (h : Rel V0 V) (h1 : -2147483648 ≤ z) (h2 : z ≤ 2147483647) (m : Hp) : ((if I (bi (0 ≤ z ∧ z < 3)) = I 0 then (hp_on (Wd b V lw R) (some b) 0 (fX0_isTold (Wd b V lw R) (some b) (I (z - 100)))).bind fun v30 => if v30 = I 0 then (hp_on (Wd b V lw R) (some b) 0 (fX0_isTold (Wd b V lw R) (some b) (I (z - 200)))).bind fun v32 => if v32 = I 0 then some (.inr (I (-1), m)) else some (.inl ()) else some (.inl ()) else some (.inl ())) : Option (Unit ⊕ (Int32 × Hp))) = some (if tG V z then .inl () else .inr (I (-1), m)) := by
  simp only [on0, x_isTold3 h h1 h2 (show 0 ≤ (100 : Int) ∧ (100 : Int) ≤ 2000 by decide), x_isTold3 h h1 h2 (show 0 ≤ (200 : Int) ∧ (200 : Int) ≤ 2000 by decide), Option.bind_some, bi_if]
  by_cases c1 : 0 ≤ z ∧ z < 3
  · rw [if_pos c1, if_pos (show tG V z from Or.inl c1)]
  · rw [if_neg c1]
    by_cases c2 : 100 ≤ z ∧ z < 100 + 12 ∧ pT V (z - 100).toNat
    · rw [if_pos c2, if_pos (show tG V z from Or.inr (Or.inl c2))]
    · rw [if_neg c2]
      by_cases c3 : 200 ≤ z ∧ z < 200 + 12 ∧ pT V (z - 200).toNat
      · rw [if_pos c3, if_pos (show tG V z from Or.inr (Or.inr c3))]
      · rw [if_neg c3, if_neg (show ¬ tG V z from fun q => q.elim c1 fun q => q.elim c2 c3)]
theorem y_tg (h : Rel V0 V) (h1 : -2147483648 ≤ z) (h2 : z ≤ 2147483647) (m : Hp) : ((if I (bi (0 ≤ z ∧ z ≤ 2)) = I 0 then (hp_on (Wd b V lw R) (some (b + 258)) 6 (fX7_isPerson (Wd b V lw R) (some (b + 258)) (I (z - 100)))).bind fun v30 => if v30 = I 0 then (hp_on (Wd b V lw R) (some (b + 258)) 6 (fX7_isPerson (Wd b V lw R) (some (b + 258)) (I (z - 200)))).bind fun v32 => if v32 = I 0 then some (.inr (I (-1), m)) else some (.inl ()) else some (.inl ()) else some (.inl ())) : Option (Unit ⊕ (Int32 × Hp))) = some (if tG V z then .inl () else .inr (I (-1), m)) := by
  simp only [on258, y_isPerson3 h h1 h2 (show 0 ≤ (100 : Int) ∧ (100 : Int) ≤ 2000 by decide), y_isPerson3 h h1 h2 (show 0 ≤ (200 : Int) ∧ (200 : Int) ≤ 2000 by decide), Option.bind_some, bi_if]
  by_cases c1 : 0 ≤ z ∧ z ≤ 2
  · rw [if_pos c1, if_pos (show tG V z from Or.inl (by omega))]
  · rw [if_neg c1]
    by_cases c2 : 100 ≤ z ∧ z < 100 + 12 ∧ pT V (z - 100).toNat
    · rw [if_pos c2, if_pos (show tG V z from Or.inr (Or.inl c2))]
    · rw [if_neg c2]
      by_cases c3 : 200 ≤ z ∧ z < 200 + 12 ∧ pT V (z - 200).toNat
      · rw [if_pos c3, if_pos (show tG V z from Or.inr (Or.inr c3))]
      · rw [if_neg c3, if_neg (show ¬ tG V z from fun q => q.elim (fun w => c1 (by omega)) fun q => q.elim c2 c3)]
def tV (T : Vw) (z : Int) : Int := if z = 0 then T 4 2 else if z = 1 then T 4 3 else if z = 2 then T 4 4 else if 200 ≤ z then T 0 (z - 200).toNat else T 1 (z - 100).toNat
theorem call_tried (h : Inv V) (lo : LawOK b V lw R nx) (h1 : -2147483648 ≤ t) (h2 : t ≤ 2147483647) (h3 : -2147483648 ≤ z) (h4 : z ≤ 2147483647) : Okc b V lw R (fun m => fX0_tried m (some b) (I t) (I z)) (fun m => fX7_tried m (some (b + 258)) (I t) (I z)) := by
  unfold Okc
  by_cases g : 1 ≤ t ∧ t ≤ 30
  · by_cases g2 : tG V z
    · obtain ⟨n, rfl⟩ : ∃ q : Nat, t = q := ⟨t.toNat, by omega⟩
      obtain ⟨sy, tl, lx, ly⟩ := lo
      have i3 := h.2.2.1
      have zr : z = 0 ∨ z = 1 ∨ z = 2 ∨ (100 ≤ z ∧ z < 112) ∨ (200 ≤ z ∧ z < 212) := by
        rcases g2 with w | w | w
        · omega
        · have := w.2.1
          have := w.1
          omega
        · have := w.2.1
          have := w.1
          omega
      -- the class
      obtain ⟨V1, d1, d2, d3, d4, d5, d6⟩ := x_takes (b := b) (V := V) (lw := lw) (R := R) (j := 21) (i := 5) (Or.inr (Or.inl rfl)) (Or.inl rfl) (by decide) (fun p hp => (i3.1 p hp).1)
      have r1 : Rem V V1 := ⟨h, fun o k q1 q2 => by
        by_cases c : (25 ≤ o ∧ o < 37) ∨ o = 21
        · exact absurd (by unfold scr; omega) q1
        · rw [d2 o (by omega) (by omega)]⟩
      have xs : XS V V1 21 (xS0 V1 21) := ⟨fun p hp => ⟨d6 p 0 hp (by omega), d6 p 1 hp (by omega), d6 p 2 hp (by omega), d6 p 5 hp (by omega), rfl, rfl, rfl⟩, fun r hr => rfl, fun i hi => rfl⟩
      have gS : dzQ (dzS (xS0 V1 21)) := xS0_S i3 (fun p hp => ⟨d6 p 3 hp (by omega), d6 p 4 hp (by omega)⟩) ⟨d4, d5⟩
      obtain ⟨V2, e1, e2, e3⟩ := x_pgoes r1 (Or.inr rfl) lx xs gS (n := n) (by omega)
      have r2 : Rem V V2 := r1.chg (Or.inr rfl) e2
      -- the reference
      obtain ⟨V3, m1, m2, m3⟩ := y_copies (b := b) (V := V2) (lw := lw) (R := R) (os := 259) (od := 260) (by decide) (by decide) (by decide)
      have r3 : Rem V V3 := ⟨h, fun o k q1 q2 => by
        by_cases c : o = 260
        · exact absurd (by unfold scr; omega) q1
        · rw [m2 o c]
          exact r2.2 o k q1 q2⟩
      have out3 : ∀ o k, ¬ xCell 21 o k → ¬ (25 ≤ o ∧ o < 37) → o ≠ 21 → o ≠ 260 → V3 o k = V o k := fun o k q1 q2 q3 q4 => by
        rw [m2 o q4, e2 o k q1, d2 o (by omega) q3]
      have a3 : agL V V3 := agL.of (out3 _ _ (by omega) (by omega) (by omega) (by omega)) fun o q => funext fun k => out3 o k (by omega) (by omega) (by omega) (by omega)
      have n3 : V3 259 = V 259 := funext fun k => out3 _ k (by omega) (by omega) (by omega) (by omega)
      have n2 : V2 259 = V 259 := by rw [← n3, m2 _ (by decide)]
      have ys : YS V V3 (yS0 V1 21 V3) := by
        refine ⟨fun p hp => ?_, fun r hr => rfl, ?_, ?_, rfl, rfl, rfl⟩
        · have q := i3.1 p hp
          obtain ⟨q1, q2, q3, q4, q5, q6, q7, q8, q9, q10, q11, q12, q13, q14, q15, q16, q17, _⟩ := q
          have w3 := d6 p 3 hp (by omega)
          have w4 := d6 p 4 hp (by omega)
          rw [n3]
          exact ⟨q14.trans w3.symm, q17.trans w4.symm, rfl⟩
        · rw [n3]
          exact i3.2.2.2.1.trans d4.symm
        · rw [n3]
          exact i3.2.2.2.2.2.2.1.trans d5.symm
      have gY : dzQ (dzS (yS0 V1 21 V3)) := by
        have e := S0_e (V := V1) (j := 21) (W := V3)
        unfold dzQ at gS ⊢
        rw [← e 0 (by omega) (by omega), ← e 1 (by omega) (by omega), ← e 4 (by omega) (by omega)]
        exact gS
      obtain ⟨V4, f1, f2, f3⟩ := y_daysGo (b := b) (lw := lw) (R := R) r3 ly a3 (law_tb lx) ys gY (n := n) (by omega)
      obtain ⟨V5, l1, l2, l3⟩ := y_copies (b := b) (V := V4) (lw := lw) (R := R) (os := 260) (od := 259) (by decide) (by decide) (by decide)
      have same := fun o o2 o3 => dzGo_c (sy := sy) (tl := tl) (V0 := V) (S0_e (V := V1) (j := 21) (W := V3)) n o o2 o3
      have s0 := same 0 (by omega) (by omega)
      have s1 := same 1 (by omega) (by omega)
      have s4 := same 4 (by omega) (by omega)
      have now5 : ∀ k, k < 26 → V5 259 k = V 259 k := fun k hk => by
        rw [l3 k hk, f2 260 k (by omega), m3 k hk, n2]
      have out5 : ∀ o k, ¬ xCell 21 o k → ¬ (25 ≤ o ∧ o < 37) → o ≠ 21 → o ≠ 260 → ¬ yCell o k → V5 o k = V o k := fun o k q1 q2 q3 q4 q5 => by
        rw [l2 o (by omega), f2 o k q5, out3 o k q1 q2 q3 q4]
      have row5 : ∀ o, (∀ k, ¬ xCell 21 o k) → ¬ (25 ≤ o ∧ o < 37) → o ≠ 21 → o ≠ 260 → (∀ k, ¬ yCell o k) → V5 o = V o := fun o q1 q2 q3 q4 q5 => funext fun k => out5 o k (q1 k) q2 q3 q4 (q5 k)
      have iv : Inv V5 ∧ agL V V5 := by
        obtain ⟨i1, i2, i3, i4⟩ := h
        have aT : agT V V5 := agT.of (out5 _ _ (by omega) (by omega) (by omega) (by omega) (by omega)) (out5 _ _ (by omega) (by omega) (by omega) (by omega) (by omega)) fun o q => row5 o (fun k => by omega) (by omega) (by omega) (by omega) (fun k => by omega)
        refine ⟨⟨InvT_c aT i1, InvE_c aT (agE.of (out5 _ _ (by omega) (by omega) (by omega) (by omega) (by omega)) (out5 _ _ (by omega) (by omega) (by omega) (by omega) (by omega)) fun o q => row5 o (fun k => by omega) (by omega) (by omega) (by omega) (fun k => by omega)) i1 i2, ?_, InvQ_c (by refine ⟨out5 _ _ (by omega) (by omega) (by omega) (by omega) (by omega), out5 _ _ (by omega) (by omega) (by omega) (by omega) (by omega), out5 _ _ (by omega) (by omega) (by omega) (by omega) (by omega), out5 _ _ (by omega) (by omega) (by omega) (by omega) (by omega), out5 _ _ (by omega) (by omega) (by omega) (by omega) (by omega), out5 _ _ (by omega) (by omega) (by omega) (by omega) (by omega), row5 _ (fun k => by omega) (by omega) (by omega) (by omega) (fun k => by omega), row5 _ (fun k => by omega) (by omega) (by omega) (by omega) (fun k => by omega)⟩) i4⟩, agL.of (out5 _ _ (by omega) (by omega) (by omega) (by omega) (by omega)) fun o q => row5 o (fun k => by omega) (by omega) (by omega) (by omega) (fun k => by omega)⟩
        obtain ⟨i31, i32⟩ := i3
        have e5 : V5 5 = V 5 := row5 _ (fun k => by omega) (by omega) (by omega) (by omega) (fun k => by omega)
        have e37 : V5 37 = V 37 := row5 _ (fun k => by omega) (by omega) (by omega) (by omega) (fun k => by omega)
        have rk : V5 261 = V 261 := row5 _ (fun k => by omega) (by omega) (by omega) (by omega) (fun k => by omega)
        have rt : V5 270 = V 270 := row5 _ (fun k => by omega) (by omega) (by omega) (by omega) (fun k => by omega)
        have rf : V5 262 = V 262 := row5 _ (fun k => by omega) (by omega) (by omega) (by omega) (fun k => by omega)
        have ro : V5 263 = V 263 := row5 _ (fun k => by omega) (by omega) (by omega) (by omega) (fun k => by omega)
        have rc : V5 264 = V 264 := row5 _ (fun k => by omega) (by omega) (by omega) (by omega) (fun k => by omega)
        refine ⟨fun p hp => ?_, ?_⟩
        · have q := i31 p hp
          have e9 : V5 (5 + 4 + p) = V (5 + 4 + p) := row5 _ (fun k => by omega) (by omega) (by omega) (by omega) (fun k => by omega)
          have e41 : V5 (37 + 4 + p) = V (37 + 4 + p) := row5 _ (fun k => by omega) (by omega) (by omega) (by omega) (fun k => by omega)
          rw [e9, e41, rk, rt, rf, ro, rc, now5 p (by omega), now5 (12 + p) (by omega)]
          exact q
        · rw [e5, e37, rk, now5 24 (by omega), now5 25 (by omega)]
          exact i32
      obtain ⟨T, hT⟩ : ∃ T, T = dzGo sy tl V (dzS (xS0 V1 21)) n := ⟨_, rfl⟩
      rw [← hT] at e3 s0 s1 s4
      refine ⟨I (tV T z), Wd b V2 lw R, V5, ?_, ?_, iv.1, iv.2, cO258⟩
      · show fX0_tried _ _ _ _ = _
        have t5 : V2 21 5 = T 4 2 := e3.2.2 2 (by omega)
        have t6 : V2 21 6 = T 4 3 := e3.2.2 3 (by omega)
        have t7 : V2 21 7 = T 4 4 := e3.2.2 4 (by omega)
        unfold fX0_tried
        rw [k_0, k_1, k_30, k_3, k_100, k_200, I_neg, I_sub, I_sub, x_within (by omega) (by omega) (by omega) (by omega) (by omega) (by omega), x_in h3 h4 (by omega) (by omega)]
        simp only [Option.bind_some, bi_if]
        rw [if_pos g]
        have tg := x_tg (b := b) (lw := lw) (R := R) h.rel h3 h4 (Wd b V lw R)
        simp only [bi_if] at tg
        rw [tg, if_pos g2]
        simp (disch := omega) only [Option.bind_some, gR0_8, gR0_7, onPf, d1, e1, k_2, I_inj, I_le]
        unfold tV
        rcases zr with c | c | c | c | c
        · rw [if_pos c, if_pos c]
          simp (disch := omega) only [gR0_8, gPf, Option.bind_some, t5]
        · rw [if_neg (show ¬ z = 0 by omega), if_pos c, if_neg (show ¬ z = 0 by omega), if_pos c]
          simp (disch := omega) only [gR0_8, gPf, Option.bind_some, t6]
        · rw [if_neg (show ¬ z = 0 by omega), if_neg (show ¬ z = 1 by omega), if_pos c, if_neg (show ¬ z = 0 by omega), if_neg (show ¬ z = 1 by omega), if_pos c]
          simp (disch := omega) only [gR0_8, gPf, Option.bind_some, t7]
        · rw [if_neg (show ¬ z = 0 by omega), if_neg (show ¬ z = 1 by omega), if_neg (show ¬ z = 2 by omega), if_neg (show ¬ 200 ≤ z by omega), if_neg (show ¬ z = 0 by omega), if_neg (show ¬ z = 1 by omega), if_neg (show ¬ z = 2 by omega), if_neg (show ¬ 200 ≤ z by omega)]
          have w := (e3.1 (z - 100).toNat (by omega)).2.2.2.2.2.1
          simp (disch := omega) only [gR0_8, gPf0, rPe, gPe, Option.bind_some, w]
        · rw [if_neg (show ¬ z = 0 by omega), if_neg (show ¬ z = 1 by omega), if_neg (show ¬ z = 2 by omega), if_pos (show 200 ≤ z by omega), if_neg (show ¬ z = 0 by omega), if_neg (show ¬ z = 1 by omega), if_neg (show ¬ z = 2 by omega), if_pos (show 200 ≤ z by omega)]
          have w := (e3.1 (z - 200).toNat (by omega)).2.2.2.2.1
          simp (disch := omega) only [gR0_8, gPf0, rPe, gPe, Option.bind_some, w]
      · show fX7_tried _ _ _ _ = _
        have r2' : Rel V V2 := ⟨h, fun o k q1 q2 => by
          by_cases c : (25 ≤ o ∧ o < 37) ∨ o = 21
          · exact absurd (by unfold scr; omega) q1
          · by_cases c2 : xCell 21 o k
            · exact absurd (by unfold scr; omega) q1
            · rw [e2 o k c2, d2 o (by omega) (by omega)]⟩
        have p2 : ∀ p, p < 12 → V2 (5 + 4 + p) 5 = V (5 + 4 + p) 5 := fun p hp => by rw [e2 _ _ (by omega), d2 _ (by omega) (by omega)]
        have g2' : tG V2 z := by
          rcases g2 with w | ⟨w1, w2, w3⟩ | ⟨w1, w2, w3⟩
          · exact Or.inl w
          · exact Or.inr (Or.inl ⟨w1, w2, (p2 _ (by omega)).trans w3⟩)
          · exact Or.inr (Or.inr ⟨w1, w2, (p2 _ (by omega)).trans w3⟩)
        have t52 : V4 258 52 = T 4 2 := by rw [f3.2.2.2.2.1, s4]
        have t53 : V4 258 53 = T 4 3 := by rw [f3.2.2.2.2.2.1, s4]
        have t54 : V4 258 54 = T 4 4 := by rw [f3.2.2.2.2.2.2, s4]
        unfold fX7_tried
        rw [k_0, k_1, k_30, k_2, k_100, k_200, I_neg, I_sub, I_sub, y_in (by omega) (by omega) (by omega) (by omega) (by omega) (by omega), y_in h3 h4 (by omega) (by omega) (by omega) (by omega)]
        simp only [Option.bind_some, bi_if]
        rw [if_pos g]
        have tg := y_tg (b := b) (lw := lw) (R := R) r2' h3 h4 (Wd b V2 lw R)
        simp only [bi_if] at tg
        rw [tg, if_pos g2']
        simp (disch := omega) only [Option.bind_some, gR258_0, gR258_1, m1, on258, f1, k_12, I_inj, I_le, I_add, I_sub]
        unfold tV
        rcases zr with c | c | c | c | c
        · rw [if_pos c, if_pos c]
          simp (disch := omega) only [gI258_52, Option.bind_some, t52, gR258_0, gR258_1, l1]
        · rw [if_neg (show ¬ z = 0 by omega), if_pos c, if_neg (show ¬ z = 0 by omega), if_pos c]
          simp (disch := omega) only [gI258_53, Option.bind_some, t53, gR258_0, gR258_1, l1]
        · rw [if_neg (show ¬ z = 0 by omega), if_neg (show ¬ z = 1 by omega), if_pos c, if_neg (show ¬ z = 0 by omega), if_neg (show ¬ z = 1 by omega), if_pos c]
          simp (disch := omega) only [gI258_54, Option.bind_some, t54, gR258_0, gR258_1, l1]
        · rw [if_neg (show ¬ z = 0 by omega), if_neg (show ¬ z = 1 by omega), if_neg (show ¬ z = 2 by omega), if_neg (show ¬ 200 ≤ z by omega), if_neg (show ¬ z = 0 by omega), if_neg (show ¬ z = 1 by omega), if_neg (show ¬ z = 2 by omega), if_neg (show ¬ 200 ≤ z by omega)]
          have w := (f3.1 (z - 100).toNat (by omega)).2.1
          rw [← s1] at w
          have ez : (12 + z - 100).toNat = 12 + (z - 100).toNat := by omega
          simp (disch := omega) only [gR258_0, gR258_1, rA259, ez, w, Option.bind_some, l1]
        · rw [if_neg (show ¬ z = 0 by omega), if_neg (show ¬ z = 1 by omega), if_neg (show ¬ z = 2 by omega), if_pos (show 200 ≤ z by omega), if_neg (show ¬ z = 0 by omega), if_neg (show ¬ z = 1 by omega), if_neg (show ¬ z = 2 by omega), if_pos (show 200 ≤ z by omega)]
          have w := (f3.1 (z - 200).toNat (by omega)).1
          rw [← s0] at w
          have ez : (0 + z - 200).toNat = (z - 200).toNat := by omega
          simp (disch := omega) only [gR258_0, gR258_1, rA259, ez, w, Option.bind_some, l1]
    · refine ⟨I (-1), Wd b V lw R, V, ?_, ?_, h, agL.id V, cO258⟩
      · show fX0_tried _ _ _ _ = _
        unfold fX0_tried
        rw [k_0, k_1, k_30, k_3, k_100, k_200, I_neg, I_sub, I_sub, x_within (by omega) (by omega) (by omega) (by omega) (by omega) (by omega), x_in h3 h4 (by omega) (by omega)]
        simp only [Option.bind_some, bi_if]
        rw [if_pos g]
        have tg := x_tg (b := b) (lw := lw) (R := R) h.rel h3 h4 (Wd b V lw R)
        simp only [bi_if] at tg
        rw [tg, if_neg g2]
        rfl
      · show fX7_tried _ _ _ _ = _
        unfold fX7_tried
        rw [k_0, k_1, k_30, k_2, k_100, k_200, I_neg, I_sub, I_sub, y_in (by omega) (by omega) (by omega) (by omega) (by omega) (by omega), y_in h3 h4 (by omega) (by omega) (by omega) (by omega)]
        simp only [Option.bind_some, bi_if]
        rw [if_pos g]
        have tg := y_tg (b := b) (lw := lw) (R := R) h.rel h3 h4 (Wd b V lw R)
        simp only [bi_if] at tg
        rw [tg, if_neg g2]
        rfl
  · refine ⟨I (-1), Wd b V lw R, V, ?_, ?_, h, agL.id V, cO258⟩
    · show fX0_tried _ _ _ _ = _
      unfold fX0_tried
      rw [k_0, k_1, k_30, I_neg, x_within h1 h2 (by omega) (by omega) (by omega) (by omega)]
      simp only [Option.bind_some, bi_if]
      rw [if_neg g]
    · show fX7_tried _ _ _ _ = _
      unfold fX7_tried
      rw [k_0, k_1, k_30, I_neg, y_in h1 h2 (by omega) (by omega) (by omega) (by omega)]
      simp only [Option.bind_some, bi_if]
      rw [if_neg g]
end YT
