/-! CALL: inspector, the class. No JVM here. -/
set_option maxRecDepth 100000
set_option linter.unusedVariables false
abbrev iRel (V : Vw) (s z y : Int) (r : Nat) : Prop := leaves V r s ∧ (r : Int) ≠ y ∧ z ≤ minAt V r s
section IC
variable {b : Nat} {V0 V : Vw} {lw : Option Nat} {R : Hp} {p k j i r e n d f to : Nat} {s t z y w c lo hi m v : Int} {u : Int32} {A : Nat → Int}
theorem x_ridesFrom (h : Rel V0 V) (hs : 0 ≤ s ∧ s < 10) (hz : 0 ≤ z ∧ z ≤ 1500) (hy : -1 ≤ y ∧ y ≤ 48) (hW : ∀ r i, r < nT V0 → iRel V0 s z y r → sAn V0 r s < i → i < sm V0 r → 0 ≤ V (65 + r) i ∧ V (65 + r) i ≤ 1439) : ∃ v, fX0_ridesFrom (Wd b V lw R) (some b) (I s) (I z) (I y) = some (I v) ∧ 0 ≤ v ∧ v ≤ 1440 ∧ ∀ n : Nat, (n : Int) ≤ v ↔ n = 0 ∨ ∃ r, r < nT V0 ∧ iRel V0 s z y r ∧ ∃ i, sAn V0 r s < i ∧ i < sm V0 r ∧ (n : Int) ≤ 1 + V (65 + r) i := by
  have hn := n48 h
  obtain ⟨q, k1, v, k2, k3⟩ := iter_for (b := fX0_ridesFrom_L6 (Wd b V lw R) (some b) (I s) (I z) (I y)) (s := (I 0, I 0)) (fun t q => ∃ v, q = (I v, I (t : Int)) ∧ 0 ≤ v ∧ v ≤ 1440 ∧ ∀ n : Nat, (n : Int) ≤ v ↔ n = 0 ∨ ∃ r, r < t ∧ iRel V0 s z y r ∧ ∃ i, sAn V0 r s < i ∧ i < sm V0 r ∧ (n : Int) ≤ 1 + V (65 + r) i) (fun q => ∃ v, q = I v ∧ 0 ≤ v ∧ v ≤ 1440 ∧ ∀ n : Nat, (n : Int) ≤ v ↔ n = 0 ∨ ∃ r, r < nT V0 ∧ iRel V0 s z y r ∧ ∃ i, sAn V0 r s < i ∧ i < sm V0 r ∧ (n : Int) ≤ 1 + V (65 + r) i) (nT V0) (by omega) ⟨0, rfl, by omega, by omega, fun n => ⟨fun q => Or.inl (by omega), fun q => by
      rcases q with q | ⟨r, q, _⟩
      · omega
      · omega⟩⟩ (fun r q hS hr => by
    obtain ⟨v, rfl, a1, a2, a3⟩ := hS
    have h48 := r48 h hr
    have skip : ¬ iRel V0 s z y r → ∀ n : Nat, (n : Int) ≤ v ↔ n = 0 ∨ ∃ r', r' < r + 1 ∧ iRel V0 s z y r' ∧ ∃ i, sAn V0 r' s < i ∧ i < sm V0 r' ∧ (n : Int) ≤ 1 + V (65 + r') i := fun q n => by
      rw [a3 n]
      constructor
      · rintro (w | ⟨r', w1, w2⟩)
        · exact Or.inl w
        · exact Or.inr ⟨r', by omega, w2⟩
      · rintro (w | ⟨r', w1, w2, w3⟩)
        · exact Or.inl w
        · refine Or.inr ⟨r', ?_, w2, w3⟩
          by_cases e : r' = r
          · rw [e] at w2
            exact absurd w2 q
          · omega
    unfold fX0_ridesFrom_L6
    simp (disch := omega) only [k_1, k_0, I_le, if_neg, gI0_3, v_n h, Option.bind_some, I_inj]
    by_cases c1 : (r : Int) = y
    · rw [if_pos c1]
      exact ⟨_, rfl, v, by rw [I_add]; rfl, a1, a2, skip fun q => q.2.1 c1⟩
    · rw [if_neg c1]
      simp (disch := omega) only [gR0_0, rTr, tn, onTr, x_leaves h hr, Option.bind_some, bi_if]
      by_cases c2 : leaves V0 r s
      · have hm := minAt_b h hr c2.2.1
        obtain ⟨p1, p2, p3⟩ := sAt_of c2.2.1
        have hsm := sm2 h hr
        rw [if_pos c2]
        simp (disch := omega) only [x_minAt h hr, Option.bind_some, I_le]
        by_cases c3 : z ≤ minAt V0 r s
        · have rel : iRel V0 s z y r := ⟨c2, c1, c3⟩
          rw [if_pos c3]
          simp (disch := omega) only [x_stopAt h hr, Option.bind_some, I_add]
          obtain ⟨q2, l1, v2, l2, l3, l4, l5⟩ := iter_for (b := fX0_ridesFrom_L68 (Wd b V lw R) (some b) (I s) (I z) (I y) (I (r : Int))) (s := (I v, I (sAt V0 r s + 1))) (fun t q => ∃ v2, q = (I v2, I ((sAn V0 r s + 1 + t : Nat) : Int)) ∧ 0 ≤ v2 ∧ v2 ≤ 1440 ∧ ∀ n : Nat, (n : Int) ≤ v2 ↔ (n : Int) ≤ v ∨ ∃ i, sAn V0 r s < i ∧ i < sAn V0 r s + 1 + t ∧ (n : Int) ≤ 1 + V (65 + r) i) (fun q => ∃ v2, q = I v2 ∧ 0 ≤ v2 ∧ v2 ≤ 1440 ∧ ∀ n : Nat, (n : Int) ≤ v2 ↔ (n : Int) ≤ v ∨ ∃ i, sAn V0 r s < i ∧ i < sm V0 r ∧ (n : Int) ≤ 1 + V (65 + r) i) (sm V0 r - (sAn V0 r s + 1)) (by omega) ⟨v, by rw [p1]; rfl, a1, a2, fun n => ⟨Or.inl, fun q => by
              rcases q with q | ⟨i, q1, q2, _⟩
              · exact q
              · omega⟩⟩ (fun t q hS ht => by
            obtain ⟨v2, rfl, b1, b2, b3⟩ := hS
            have hw := hW r (sAn V0 r s + 1 + t) hr rel (by omega) (by omega)
            refine ⟨(I (max v2 (1 + V (65 + r) (sAn V0 r s + 1 + t))), I ((sAn V0 r s + 1 + (t + 1) : Nat) : Int)), ?_, max v2 (1 + V (65 + r) (sAn V0 r s + 1 + t)), rfl, by omega, by omega, fun n => ?_⟩
            · unfold fX0_ridesFrom_L68
              simp (disch := omega) only [k_1, k_0, gR0_0, rTr, tn, gTr2, v_sm h hr, Option.bind_some, I_le, if_neg, gR0_20, rFr, rFu, I_add, I_max]
              rfl
            · have e0 : (n : Int) ≤ max v2 (1 + V (65 + r) (sAn V0 r s + 1 + t)) ↔ (n : Int) ≤ v2 ∨ (n : Int) ≤ 1 + V (65 + r) (sAn V0 r s + 1 + t) := by omega
              rw [e0, b3 n]
              constructor
              · rintro ((w | ⟨i, w1, w2, w3⟩) | w)
                · exact Or.inl w
                · exact Or.inr ⟨i, w1, by omega, w3⟩
                · exact Or.inr ⟨_, by omega, by omega, w⟩
              · rintro (w | ⟨i, w1, w2, w3⟩)
                · exact Or.inl (Or.inl w)
                · by_cases e : i = sAn V0 r s + 1 + t
                  · rw [e] at w3
                    exact Or.inr w3
                  · exact Or.inl (Or.inr ⟨i, w1, by omega, w3⟩)) (fun q hS => by
            obtain ⟨v2, rfl, b1, b2, b3⟩ := hS
            rw [show sAn V0 r s + 1 + (sm V0 r - (sAn V0 r s + 1)) = sm V0 r by omega] at b3 ⊢
            refine ⟨_, ?_, v2, rfl, b1, b2, b3⟩
            unfold fX0_ridesFrom_L68
            simp (disch := omega) only [gR0_0, rTr, tn, gTr2, v_sm h hr, Option.bind_some, I_le, if_pos])
          rw [l1, l2]
          refine ⟨_, rfl, v2, rfl, l3, l4, fun n => ?_⟩
          rw [l5 n, a3 n]
          constructor
          · rintro ((w | ⟨r', w1, w2⟩) | w)
            · exact Or.inl w
            · exact Or.inr ⟨r', by omega, w2⟩
            · exact Or.inr ⟨r, by omega, rel, w⟩
          · rintro (w | ⟨r', w1, w2, w3⟩)
            · exact Or.inl (Or.inl w)
            · by_cases e : r' = r
              · rw [e] at w3
                exact Or.inr w3
              · exact Or.inl (Or.inr ⟨r', by omega, w2, w3⟩)
        · rw [if_neg c3]
          exact ⟨_, rfl, v, by rw [I_add]; rfl, a1, a2, skip fun q => c3 q.2.2⟩
      · rw [if_neg c2]
        exact ⟨_, rfl, v, by rw [I_add]; rfl, a1, a2, skip fun q => c2 q.1⟩) (fun q hS => by
    obtain ⟨v, rfl, a1, a2, a3⟩ := hS
    refine ⟨_, ?_, v, rfl, a1, a2, a3⟩
    unfold fX0_ridesFrom_L6
    simp (disch := omega) only [I_le, if_pos, gI0_3, v_n h, Option.bind_some])
  refine ⟨v, ?_, k3⟩
  unfold fX0_ridesFrom
  simp only [k_0, k1, k2, Option.bind_some]
end IC
