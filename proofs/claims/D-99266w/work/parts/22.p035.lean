/-! CALL: best. No JVM here. -/
set_option maxRecDepth 100000
set_option linter.unusedVariables false
theorem I_wr (z : Int) : I (z + 4294967296) = I z := by
  apply Int32.toInt_inj.mp
  unfold I
  rw [Int32.toInt_ofInt, Int32.toInt_ofInt]
  exact Int.add_bmod_right z 4294967296
section BG
variable {b : Nat} {V0 V : Vw} {lw : Option Nat} {R : Hp} {p k j i r e n d f to : Nat} {s t z y w c lo hi m v : Int} {u : Int32} {A : Nat → Int}
theorem x_in3 (h1 : -2147483648 ≤ z) (h2 : z ≤ 2147483647) (hc : 0 ≤ c ∧ c ≤ 2000) (hn : 0 ≤ y ∧ y ≤ 100) : fX0_in (I (z - c)) (I y) = some (I (bi (c ≤ z ∧ z < c + y))) := by
  by_cases q : -2147483648 ≤ z - c
  · rw [x_in q (by omega) (by omega) (by omega)]
    rw [bi_c (show 0 ≤ z - c ∧ z - c < y ↔ c ≤ z ∧ z < c + y by omega)]
  · rw [← I_wr, x_in (by omega) (by omega) (by omega) (by omega), bi_f (by omega), bi_f (by omega)]
abbrev bG (z : Int) : Prop := z = 100 ∨ (1000 ≤ z ∧ z < 1048) ∨ (2000 ≤ z ∧ z < 2048)
theorem x_bg (h1 : -2147483648 ≤ z) (h2 : z ≤ 2147483647) (m : Hp) : ((if I z = I 100 then some (.inl ()) else (fX0_in (I (z - 1000)) (I 48)).bind fun v14 => if v14 = I 0 then (fX0_in (I (z - 2000)) (I 48)).bind fun v16 => if v16 = I 0 then some (.inr (I (-1), m)) else some (.inl ()) else some (.inl ())) : Option (Unit ⊕ (Int32 × Hp))) = some (if bG z then .inl () else .inr (I (-1), m)) := by
  rw [x_in3 h1 h2 (by omega) (by omega), x_in3 h1 h2 (by omega) (by omega)]
  simp (disch := omega) only [I_inj, Option.bind_some, bi_if]
  by_cases c1 : z = 100
  · rw [if_pos c1, if_pos (Or.inl c1)]
  · rw [if_neg c1]
    by_cases c2 : 1000 ≤ z ∧ z < 1000 + 48
    · rw [if_pos c2, if_pos (by omega)]
    · rw [if_neg c2]
      by_cases c3 : 2000 ≤ z ∧ z < 2000 + 48
      · rw [if_pos c3, if_pos (by omega)]
      · rw [if_neg c3, if_neg (by omega)]
theorem y_bg (h1 : -2147483648 ≤ z) (h2 : z ≤ 2147483647) (m : Hp) : ((if I z = I 100 then some (.inl ()) else (fX7_in (I z) (I 1000) (I 1047)).bind fun v14 => if v14 = I 0 then (fX7_in (I z) (I 2000) (I 2047)).bind fun v16 => if v16 = I 0 then some (.inr (I (-1), m)) else some (.inl ()) else some (.inl ())) : Option (Unit ⊕ (Int32 × Hp))) = some (if bG z then .inl () else .inr (I (-1), m)) := by
  rw [y_in h1 h2 (by omega) (by omega) (by omega) (by omega), y_in h1 h2 (by omega) (by omega) (by omega) (by omega)]
  simp (disch := omega) only [I_inj, Option.bind_some, bi_if]
  by_cases c1 : z = 100
  · rw [if_pos c1, if_pos (Or.inl c1)]
  · rw [if_neg c1]
    by_cases c2 : 1000 ≤ z ∧ z ≤ 1047
    · rw [if_pos c2, if_pos (by omega)]
    · rw [if_neg c2]
      by_cases c3 : 2000 ≤ z ∧ z ≤ 2047
      · rw [if_pos c3, if_pos (by omega)]
      · rw [if_neg c3, if_neg (by omega)]
theorem call_best (h : Inv V) (h1 : -2147483648 ≤ s) (h2 : s ≤ 2147483647) (h3 : -2147483648 ≤ t) (h4 : t ≤ 2147483647) (h5 : -2147483648 ≤ z) (h6 : z ≤ 2147483647) : Okc b V lw R (fun m => fX0_best m (some b) (I s) (I t) (I z)) (fun m => fX7_best m (some (b + 258)) (I s) (I t) (I z)) := by
  unfold Okc
  by_cases g : (0 ≤ s ∧ s < 10) ∧ (0 ≤ t ∧ t < 10) ∧ s ≠ t
  · obtain ⟨f, rfl⟩ : ∃ q : Nat, s = q := ⟨s.toNat, by omega⟩
    obtain ⟨to, rfl⟩ : ∃ q : Nat, t = q := ⟨t.toNat, by omega⟩
    have hf : f < 10 := by omega
    have hto : to < 10 := by omega
    have hne : to ≠ f := by omega
    by_cases g2 : bG z
    · obtain ⟨V1, e1, e2, e3⟩ := x_laysBest (b := b) (lw := lw) (R := R) h.rel hf hto
      have s1 : Sc V V1 := sc_60 e2
      have r1 : Rel V V1 := h.rel.sc s1
      obtain ⟨V2, f1, f2, f3⟩ := y_laysBest (b := b) (lw := lw) (R := R) r1 hf hto
      have s2 : Sc V V2 := s1.tr (sc_297 f2)
      rw [← bC_bY h.rel hf hto hne] at f1 f3
      have hl := bC_len (f := f) (to := to) h.rel 1440
      have hn := n48 h.rel
      obtain ⟨l, el⟩ : ∃ l, l = bC V f to 1440 := ⟨_, rfl⟩
      rw [← el] at e1 e3 f1 f3 hl
      have ec : ((l.length : Int) - 1 - z % 1000).toNat = l.length - 1 - (z % 1000).toNat := by omega
      have X0 : fX0_best (Wd b V lw R) (some b) (I (f : Int)) (I (to : Int)) (I z) = some (if z = 100 then I (l.length : Int) else if z % 1000 < (l.length : Int) then (if 2000 ≤ z then I (l.getD (z % 1000).toNat (0, 0)).2 else I (l.getD (z % 1000).toNat (0, 0)).1) else I (-4), Wd b V1 lw R) := by
        unfold fX0_best
        simp (disch := omega) only [k_0, k_1, k_4, k_48, k_100, k_1000, k_2000, I_neg, I_sub, x_two, Option.bind_some, bi_if, if_pos g]
        rw [x_bg h5 h6, if_pos g2]
        simp (disch := omega) only [Option.bind_some, on0, e1, I_inj]
        by_cases c1 : z = 100
        · rw [if_pos c1, if_pos c1]
        · rw [if_neg c1, if_neg c1]
          simp (disch := omega) only [I_rem, I_sub, I_le]
          by_cases c2 : 0 ≤ (l.length : Int) - 1 - z % 1000
          · have get := bAt_g l (z % 1000).toNat (by omega) e3
            rw [if_pos c2, if_pos (show z % 1000 < (l.length : Int) by omega)]
            by_cases c3 : 2000 ≤ z
            · rw [if_pos c3, if_pos c3]
              simp (disch := omega) only [gR0_17, rA61, Option.bind_some, ec]
              rw [get.2]
            · rw [if_neg c3, if_neg c3]
              simp (disch := omega) only [gR0_16, rA60, Option.bind_some, ec]
              rw [get.1]
          · rw [if_neg c2, if_neg (show ¬ z % 1000 < (l.length : Int) by omega)]
      have X7 : fX7_best (Wd b V1 lw R) (some (b + 258)) (I (f : Int)) (I (to : Int)) (I z) = some (if z = 100 then I (l.length : Int) else if z % 1000 < (l.length : Int) then (if 2000 ≤ z then I (l.getD (z % 1000).toNat (0, 0)).2 else I (l.getD (z % 1000).toNat (0, 0)).1) else I (-4), Wd b V2 lw R) := by
        unfold fX7_best
        simp (disch := omega) only [k_0, k_1, k_4, k_1047, k_2047, k_100, k_1000, k_2000, I_neg, I_sub, y_two, Option.bind_some, bi_if, if_pos g]
        rw [y_bg h5 h6, if_pos g2]
        simp (disch := omega) only [Option.bind_some, on258, f1, I_inj]
        by_cases c1 : z = 100
        · rw [if_pos c1, if_pos c1]
        · rw [if_neg c1, if_neg c1]
          simp (disch := omega) only [I_rem, I_sub, I_le, I_lt]
          by_cases c2 : z % 1000 < (l.length : Int)
          · have get := bAt_g l (z % 1000).toNat (by omega) f3
            rw [if_pos c2, if_pos c2]
            by_cases c3 : 2000 ≤ z
            · rw [if_pos c3, if_pos c3]
              simp (disch := omega) only [gR258_58, rA298, Option.bind_some, ec]
              rw [get.2]
            · rw [if_neg c3, if_neg c3]
              simp (disch := omega) only [gR258_57, rA297, Option.bind_some, ec]
              rw [get.1]
          · rw [if_neg c2, if_neg c2]
      exact ⟨_, _, V2, X0, X7, (h.sc s2).1, (h.sc s2).2, cO258⟩
    · refine ⟨I (-1), Wd b V lw R, V, ?_, ?_, h, agL.id V, cO258⟩
      · show fX0_best _ _ _ _ _ = _
        unfold fX0_best
        simp (disch := omega) only [k_0, k_1, k_48, k_100, k_1000, k_2000, I_neg, I_sub, x_two, Option.bind_some, bi_if, if_pos g]
        rw [x_bg h5 h6, if_neg g2]
        rfl
      · show fX7_best _ _ _ _ _ = _
        unfold fX7_best
        simp (disch := omega) only [k_0, k_1, k_1047, k_2047, k_100, k_1000, k_2000, I_neg, I_sub, y_two, Option.bind_some, bi_if, if_pos g]
        rw [y_bg h5 h6, if_neg g2]
        rfl
  · refine ⟨I (-1), Wd b V lw R, V, ?_, ?_, h, agL.id V, cO258⟩
    · show fX0_best _ _ _ _ _ = _
      unfold fX0_best
      simp only [k_0, k_1, I_neg, x_two h1 h2 h3 h4, Option.bind_some, bi_if]
      rw [if_neg g]
    · show fX7_best _ _ _ _ _ = _
      unfold fX7_best
      simp only [k_0, k_1, I_neg, y_two h1 h2 h3 h4, Option.bind_some, bi_if]
      rw [if_neg g]
end BG
