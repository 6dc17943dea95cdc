/-! CALL: earliest. No JVM here. -/
set_option maxRecDepth 100000
set_option linter.unusedVariables false
section EA
variable {b : Nat} {V0 V : Vw} {lw : Option Nat} {R : Hp} {p k j i r e n d f to : Nat} {s t z y w c lo hi m v : Int} {u : Int32}
theorem cF_sp (V : Vw) (f : Nat) (m : Int) (to : Nat) : ∀ k, (cT V f m k to = cT V f m 0 to ∧ cF V f m to k = 0) ∨ (1 ≤ cF V f m to k ∧ cF V f m to k ≤ k ∧ cT V f m (cF V f m to k) to = cT V f m k to ∧ ∀ j, j < cF V f m to k → cT V f m k to < cT V f m j to)
  | 0 => Or.inl ⟨rfl, rfl⟩
  | k + 1 => by
    have ih := cF_sp V f m to k
    have dn := cT_dn (V := V) (f := f) (m := m) (s := to) k
    rw [cF]
    by_cases c : cT V f m (k + 1) to < cT V f m k to
    · rw [if_pos c]
      refine Or.inr ⟨by omega, Nat.le_refl _, rfl, fun j hj => ?_⟩
      have := cT_dn2 (V := V) (f := f) (m := m) (s := to) j (k - j)
      rw [show j + (k - j) = k by omega] at this
      omega
    · rw [if_neg c]
      have e : cT V f m (k + 1) to = cT V f m k to := by omega
      rw [e]
      rcases ih with ih | ⟨i1, i2, i3, i4⟩
      · exact Or.inl ih
      · exact Or.inr ⟨i1, by omega, i3, i4⟩
theorem y_early (h : Rel V0 V) (hf : f < 10) (hto : to < 10) (hm : 0 ≤ m ∧ m ≤ 1439) (ht : ∀ s, s < 10 → V 295 s = yT V0 f m 0 s) : ∃ (i : Nat) (V' : Vw), iter (fX7_earliest_L68 (some (b + 258)) (I (to : Int)) (I (yT V0 f m 9 to))) FUEL (I 1, Wd b V lw R) = some (I ((i : Int) + 1), Wd b V' lw R) ∧ (∀ o, o ≠ 295 → o ≠ 296 → V' o = V o) ∧ i ≤ 9 ∧ yT V0 f m i to = yT V0 f m 9 to ∧ ∀ j, j < i → yT V0 f m j to ≠ yT V0 f m 9 to := by
  obtain ⟨q, h1, i, V', h2, h3, h4, h5, h6⟩ := iter_inv0 (b := fX7_earliest_L68 (some (b + 258)) (I (to : Int)) (I (yT V0 f m 9 to))) (s := (I 1, Wd b V lw R)) (fun i q => ∃ V', q = (I ((i : Int) + 1), Wd b V' lw R) ∧ (∀ o, o ≠ 295 → o ≠ 296 → V' o = V o) ∧ i ≤ 9 ∧ (∀ s, s < 10 → V' 295 s = yT V0 f m i s) ∧ ∀ j, j < i → yT V0 f m j to ≠ yT V0 f m 9 to) (fun q => ∃ (i : Nat) (V' : Vw), q = (I ((i : Int) + 1), Wd b V' lw R) ∧ (∀ o, o ≠ 295 → o ≠ 296 → V' o = V o) ∧ i ≤ 9 ∧ yT V0 f m i to = yT V0 f m 9 to ∧ ∀ j, j < i → yT V0 f m j to ≠ yT V0 f m 9 to) 9 (by decide) ⟨V, rfl, fun _ _ _ => rfl, by decide, ht, fun j hj => absurd hj (Nat.not_lt_zero _)⟩ (fun i q hS => by
      obtain ⟨V', rfl, a1, a2, a3, a4⟩ := hS
      have h' : Rel V0 V' := h.sc (sc_29x a1)
      have b1 := yT_b h (f := f) hm i to hto
      have b2 := yT_b h (f := f) hm 9 to hto
      by_cases c : yT V0 f m i to = yT V0 f m 9 to
      · refine Or.inr ⟨_, ?_, i, V', rfl, a1, a2, c, a4⟩
        unfold fX7_earliest_L68
        simp (disch := omega) only [gR258_55, Option.bind_some, rA295, tn, a3 to hto, I_inj, if_pos]
      · have hi : i < 9 := by
          by_cases c9 : i = 9
          · rw [c9] at c
            exact absurd rfl c
          · omega
        obtain ⟨V2, f1, f2, f3⟩ := y_oneRide (b := b) (lw := lw) (R := R) (c := ch V0) h' (ch_b h) (fun s hs => by rw [a3 s hs]; exact yT_b h hm i s hs)
        refine Or.inl ⟨(I (((i + 1 : Nat) : Int) + 1), Wd b V2 lw R), ?_, ⟨V2, rfl, fun o h1 h2 => by rw [f2 o h1 h2, a1 o h1 h2], by omega, fun s hs => ?_, fun j hj => ?_⟩, hi⟩
        · unfold fX7_earliest_L68
          simp (disch := omega) only [k_1, gR258_55, Option.bind_some, rA295, tn, a3 to hto, I_inj, if_neg, gI258_13, w_ch h', on258, f1, I_add]
          rfl
        · rw [f3 s hs, yT]
          exact tA_c h a3 a3 _ (Nat.le_refl _) s hs
        · by_cases e : j = i
          · rw [e]
            exact c
          · exact a4 j (by omega))
  exact ⟨i, V', by rw [h1, h2], h3, h4, h5, h6⟩
theorem call_earliest (h : Inv V) (h1 : -2147483648 ≤ s) (h2 : s ≤ 2147483647) (h3 : -2147483648 ≤ t) (h4 : t ≤ 2147483647) (h5 : -2147483648 ≤ z) (h6 : z ≤ 2147483647) (h7 : -2147483648 ≤ y) (h8 : y ≤ 2147483647) : Okc b V lw R (fun m => fX0_earliest m (some b) (I s) (I t) (I z) (I y)) (fun m => fX7_earliest m (some (b + 258)) (I s) (I t) (I z) (I y)) := by
  unfold Okc
  have b2 : (-2147483648 : Int) ≤ 2 ∧ (2 : Int) ≤ 2147483647 := by decide
  have b1 : (-2147483648 : Int) ≤ 1 ∧ (1 : Int) ≤ 2147483647 := by decide
  have b0 : (-2147483648 : Int) ≤ 0 ∧ (0 : Int) ≤ 2147483647 := by decide
  have b1440 : (-2147483648 : Int) ≤ 1440 ∧ (1440 : Int) ≤ 2147483647 := by decide
  have b1439 : (-2147483648 : Int) ≤ 1439 ∧ (1439 : Int) ≤ 2147483647 := by decide
  by_cases g : ((0 ≤ s ∧ s < 10) ∧ (0 ≤ t ∧ t < 10) ∧ s ≠ t) ∧ (0 ≤ z ∧ z < 1440) ∧ (0 ≤ y ∧ y < 2)
  · obtain ⟨g1, g2, g3⟩ := g
    obtain ⟨f, rfl⟩ : ∃ q : Nat, s = q := ⟨s.toNat, by omega⟩
    obtain ⟨to, rfl⟩ : ∃ q : Nat, t = q := ⟨t.toNat, by omega⟩
    have hf : f < 10 := by omega
    have hto : to < 10 := by omega
    have hne : to ≠ f := by omega
    have hz : 0 ≤ z ∧ z ≤ 1439 := by omega
    obtain ⟨V1, e1, e2, e3⟩ := x_laysThere (b := b) (lw := lw) (R := R) h.rel hf hto (m := z) (by omega)
    have s1 : Sc V V1 := sc_58 e2
    have r1 : Rel V V1 := h.rel.sc s1
    obtain ⟨V2, f1, f2, f3⟩ := y_soonest (b := b) (lw := lw) (R := R) r1 hf hto hz
    have s2 : Sc V V2 := s1.tr (sc_29x f2)
    have r2 : Rel V V2 := h.rel.sc s2
    have bc := cT_b h.rel (f := f) (m := z) (by omega) 10 to hto
    have by9 := yT_b h.rel (f := f) hz 9 to hto
    have X0 : fX0_earliest (Wd b V lw R) (some b) (I (f : Int)) (I (to : Int)) (I z) (I y) = if cT V f z 10 to = 268435456 then some (I (-2), Wd b V1 lw R) else if y = 0 then some (I (cT V f z 10 to), Wd b V1 lw R) else some (I (cF V f z to 10 : Nat), Wd b V1 lw R) := by
      unfold fX0_earliest
      simp (disch := omega) only [k_0, k_1, k_2, k_1440, k_268435456, I_neg, x_two, x_in, Option.bind_some, bi_if, if_pos, on0, e1, gR0_14, rA58, tn, e3 to hto, I_inj]
    have X7 : fX7_earliest (Wd b V1 lw R) (some (b + 258)) (I (f : Int)) (I (to : Int)) (I z) (I y) = if yT V f z 9 to = 1000000 then some (I (-2), Wd b V2 lw R) else if y = 0 then some (I (yT V f z 9 to), Wd b V2 lw R) else (fX7_beginsAt (Wd b V2 lw R) (some (b + 258)) (I (f : Int)) (I z)).bind fun m11 => (iter (fX7_earliest_L68 (some (b + 258)) (I (to : Int)) (I (yT V f z 9 to))) FUEL (I 1, m11)).bind fun r12 => (match r12 with | (v18, m19) => some (v18, m19)) := by
      unfold fX7_earliest
      simp (disch := omega) only [k_0, k_1, k_1439, k_1000000, k_2, I_neg, y_two, y_in, Option.bind_some, bi_if, if_pos, on258, f1, I_inj]
    have q0 : (cT V f z 10 to = yT V f z 9 to ∧ z ≤ yT V f z 9 to ∧ yT V f z 9 to ≤ 1439) ∨ (cT V f z 10 to = 268435456 ∧ yT V f z 9 to = 1000000) := cT_yT2 h.rel hz hf 9 hto hne
    rcases q0 with ⟨q1, q2, q3⟩ | ⟨q1, q2⟩
    · by_cases c : y = 0
      · refine ⟨I (yT V f z 9 to), Wd b V1 lw R, V2, ?_, ?_, (h.sc s2).1, (h.sc s2).2, cO258⟩
        · show fX0_earliest _ _ _ _ _ _ = _
          rw [X0, if_neg (by omega), if_pos c, q1]
        · show fX7_earliest _ _ _ _ _ _ = _
          rw [X7, if_neg (by omega), if_pos c]
      · obtain ⟨V3, d1, d2, d3⟩ := y_begins (b := b) (lw := lw) (R := R) r2 hf hz
        have s3 : Sc V V3 := s2.tr (sc_29x d2)
        have r3 : Rel V V3 := h.rel.sc s3
        obtain ⟨i, V4, k1, k2, k3, k4, k5⟩ := y_early (b := b) (lw := lw) (R := R) r3 hf hto hz d3
        have s4 : Sc V V4 := s3.tr (sc_29x k2)
        have key : cF V f z to 10 = i + 1 := by
          have big : cT V f z 0 to = 268435456 := if_neg hne
          rcases cF_sp V f z to 10 with ⟨w1, w2⟩ | ⟨w1, w2, w3, w4⟩
          · rw [big] at w1
            omega
          · have a1 : ¬ i + 1 < cF V f z to 10 := fun q => by
              have := w4 (i + 1) q
              rcases cT_yT2 h.rel hz hf i hto hne with ⟨p1, p2, p3⟩ | ⟨p1, p2⟩ <;> omega
            have a2 : ¬ cF V f z to 10 < i + 1 := fun q => by
              have := k5 (cF V f z to 10 - 1) (by omega)
              have e : cF V f z to 10 - 1 + 1 = cF V f z to 10 := by omega
              rcases cT_yT2 h.rel hz hf (cF V f z to 10 - 1) hto hne with ⟨p1, p2, p3⟩ | ⟨p1, p2⟩ <;> rw [e] at p1 <;> omega
            omega
        refine ⟨I (cF V f z to 10 : Nat), Wd b V1 lw R, V4, ?_, ?_, (h.sc s4).1, (h.sc s4).2, cO258⟩
        · show fX0_earliest _ _ _ _ _ _ = _
          rw [X0, if_neg (by omega), if_neg c]
        · show fX7_earliest _ _ _ _ _ _ = _
          rw [X7, if_neg (by omega), if_neg c, d1, Option.bind_some, k1, key]
          rfl
    · refine ⟨I (-2), Wd b V1 lw R, V2, ?_, ?_, (h.sc s2).1, (h.sc s2).2, cO258⟩
      · show fX0_earliest _ _ _ _ _ _ = _
        rw [X0, if_pos q1]
      · show fX7_earliest _ _ _ _ _ _ = _
        rw [X7, if_pos q2]
  · refine ⟨I (-1), Wd b V lw R, V, ?_, ?_, h, agL.id V, cO258⟩
    · show fX0_earliest _ _ _ _ _ _ = _
      unfold fX0_earliest
      simp only [k_0, k_1, k_2, k_1440, I_neg, x_two h1 h2 h3 h4, x_in h5 h6 b1440.1 b1440.2, x_in h7 h8 b2.1 b2.2, Option.bind_some, bi_if]
      by_cases c : (0 ≤ s ∧ s < 10) ∧ (0 ≤ t ∧ t < 10) ∧ s ≠ t
      · rw [if_pos c]
        by_cases c2 : 0 ≤ z ∧ z < 1440
        · rw [if_pos c2, if_neg (fun q => g ⟨c, c2, q⟩)]
        · rw [if_neg c2]
      · rw [if_neg c]
    · show fX7_earliest _ _ _ _ _ _ = _
      unfold fX7_earliest
      simp only [k_0, k_1, k_2, k_1439, I_neg, y_two h1 h2 h3 h4, y_in h5 h6 b1439.1 b1439.2 b0.1 b0.2, y_in h7 h8 b1.1 b1.2 b0.1 b0.2, Option.bind_some, bi_if]
      by_cases c : (0 ≤ s ∧ s < 10) ∧ (0 ≤ t ∧ t < 10) ∧ s ≠ t
      · rw [if_pos c]
        by_cases c2 : 0 ≤ z ∧ z ≤ 1439
        · rw [if_pos c2, if_neg (fun q => g ⟨c, by omega, by omega⟩)]
        · rw [if_neg c2]
      · rw [if_neg c]
end EA
