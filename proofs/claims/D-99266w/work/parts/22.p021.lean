/-! FARES: the call. No JVM here. -/
set_option maxRecDepth 100000
set_option linter.unusedVariables false
theorem up_cg {V V' : Vw} {o i : Nat} {x : Int} (h : V o = V' o) : up V o i x o = up V' o i x o := funext fun k => by
  by_cases c : k = i
  · subst c
    rw [up_s, up_s]
  · rw [up_k c, up_k c, h]
section FE
variable {b : Nat} {V0 V : Vw} {lw : Option Nat} {R : Hp} {p k j i r e n d : Nat} {s t z y w : Int} {u : Int32}
theorem call_fares (h : Inv V) (h1 : -2147483648 ≤ z) (h2 : z ≤ 2147483647) (h3 : -2147483648 ≤ y) (h4 : y ≤ 2147483647) : Okc b V lw R (fun m => fX0_fares m (some b) (I z) (I y)) (fun m => fX7_fares m (some (b + 258)) (I z) (I y)) := by
  unfold Okc
  have q := h.2.2.2
  have q6 := q.2.2.2.2.2.1
  have q7 := q.2.2.2.2.2.2.1
  have q8 := q.2.2.2.2.2.2.2.1
  by_cases g : ((1 ≤ z ∧ z ≤ 8) ∧ (0 ≤ y ∧ y < 1073741824)) ∧ 2 * z ≤ V 0 12
  · obtain ⟨n, rfl⟩ : ∃ n : Nat, z = n := ⟨z.toNat, by omega⟩
    have hn : n ≤ 8 := by omega
    have hn0 : 0 < n := by omega
    obtain ⟨i1, a1⟩ := h.tp (x := 0) (by decide) (by decide)
    have r0 := h.tp0 (x := 0) (by decide) (by decide)
    have X0 : fX0_fares (Wd b V lw R) (some b) (I (n : Int)) (I y) = (iter (fX0_fares_L39 (Wd b (up V 0 12 0) lw R) (some b) (I (n : Int)) (I y)) FUEL (I 0)).bind fun r8 => (match r8 with
      | .inl _ => (iter (fX0_fares_L86 (some b) (I (n : Int)) (I y)) FUEL (I 30, Wd b (up V 0 12 0) lw R)).bind fun r17 => (match r17 with
        | m44 => (hp_gR m44 (some b) 0 21).bind fun v45 => (hp_aI m44 v45 0 (I 0)).bind fun v46 => some (v46, m44))
      | .inr o => some o) := by
      unfold fX0_fares
      simp (disch := omega) only [k_0, k_1, k_2, k_8, k_30, k_1073741824, I_neg, x_within, x_in, Option.bind_some, bi_if, if_pos, gI0_12, I_mul, I_le, pI0_12]
      rfl
    have X7 : ∀ V2 : Vw, V2 258 = V 258 → fX7_fares (Wd b V2 lw R) (some (b + 258)) (I (n : Int)) (I y) = (iter (fX7_fares_L40 (Wd b (up V2 258 17 0) lw R) (some (b + 258)) (I (n : Int)) (I y)) FUEL (I 0)).bind fun r8 => (match r8 with
      | .inl _ => (iter (fX7_fares_L85 (some (b + 258)) (I (n : Int)) (I y)) FUEL (I 60, Wd b (up V2 258 17 0) lw R)).bind fun r15 => (match r15 with
        | m42 => (hp_gR m42 (some (b + 258)) 6 64).bind fun v43 => (hp_aI m42 v43 0 (I 0)).bind fun v44 => some (v44, m42))
      | .inr o => some o) := fun V2 e => by
      have e2 : V2 258 17 = V 0 12 := by rw [e]; exact q8
      unfold fX7_fares
      simp (disch := omega) only [k_0, k_1, k_2, k_8, k_60, k_1073741823, I_neg, y_in, Option.bind_some, bi_if, if_pos, gI258_17, e2, I_mul, I_le, pI258_17]
      rfl
    by_cases c : fnd (faB (up (up V 0 12 0) 258 17 0)) n < n
    · refine ⟨I (-2), Wd b (up V 0 12 0) lw R, up (up V 0 12 0) 258 17 0, ?_, ?_, i1, a1, cO258⟩
      · show fX0_fares _ _ _ _ = _
        rw [X0, x_f39 r0 hn, if_pos c]
        rfl
      · show fX7_fares _ _ _ _ = _
        rw [X7 _ (up_r (by decide)), y_f40 i1.rel hn, if_pos c]
        rfl
    · have good : ∀ i, i < n → (1 ≤ up (up V 0 12 0) 258 17 0 53 (2 * i) ∧ up (up V 0 12 0) 258 17 0 53 (2 * i) ≤ 30) ∧ up (up V 0 12 0) 258 17 0 53 (2 * i + 1) ≠ 0 := fun i hi => by
        have := fnd_no (faB (up (up V 0 12 0) 258 17 0)) n i (by omega)
        have hp : ¬ (¬ (1 ≤ up (up V 0 12 0) 258 17 0 53 (2 * i) ∧ up (up V 0 12 0) 258 17 0 53 (2 * i) ≤ 30) ∨ up (up V 0 12 0) 258 17 0 53 (2 * i + 1) = 0) := of_decide_eq_false this
        omega
      obtain ⟨V2, e1, e2, e3, e4⟩ := x_f86 (b := b) (lw := lw) (R := R) (u := I y) r0 hn0 hn (fun i hi => (good i hi).1)
      have rw0 : ∀ o, o ≠ 113 → up V2 258 17 0 o = up (up V 0 12 0) 258 17 0 o := fun o ho => by
        by_cases c : o = 258
        · rw [c]
          exact up_cg (e2 258 (by decide))
        · rw [up_r c, up_r c, e2 o ho]
      have r2 : Rel (up (up V 0 12 0) 258 17 0) (up V2 258 17 0) := i1.rel.sc (sc_113 rw0)
      obtain ⟨V4, f1, f2, f3, f4⟩ := y_f85 (b := b) (lw := lw) (R := R) (u := I y) r2 hn0 hn (fun i hi => (good i hi).1)
      have sc4 : Sc (up (up V 0 12 0) 258 17 0) V4 := (sc_113 rw0).tr (sc_304 f2)
      have fin := i1.sc sc4
      have law : V2 113 0 = V4 304 0 := fares_law hn0 (fun i hi => (good i hi).1) (fun i hi => by
        show 0 ≤ up (up V 0 12 0) 258 17 0 53 (2 * i + 1) % 256 ∧ up (up V 0 12 0) 258 17 0 53 (2 * i + 1) % 256 ≤ 255
        omega) e3 e4 f3 f4
      refine ⟨I (V2 113 0), Wd b V2 lw R, V4, ?_, ?_, fin.1, a1.tr fin.2, cO258⟩
      · show fX0_fares _ _ _ _ = _
        rw [X0, x_f39 r0 hn, if_neg c]
        simp (disch := omega) only [Option.bind_some, e1, gR0_21, rA113, Int.toNat_zero]
      · show fX7_fares _ _ _ _ = _
        rw [X7 V2 (by rw [e2 258 (by decide), up_r (by decide)]), y_f40 r2 hn, if_neg c]
        simp (disch := omega) only [Option.bind_some, f1, gR258_64, rA304, Int.toNat_zero, law]
  · refine ⟨I (-1), Wd b V lw R, V, ?_, ?_, h, agL.id V, cO258⟩
    · show fX0_fares _ _ _ _ = _
      unfold fX0_fares
      simp only [k_0, k_1, k_2, k_8, k_30, k_1073741824, I_neg, x_within h1 h2 (show -2147483648 ≤ 8 by decide) (show 8 ≤ 2147483647 by decide) (show -2147483648 ≤ 1 by decide) (show 1 ≤ 2147483647 by decide), x_in h3 h4 (show -2147483648 ≤ 1073741824 by decide) (show 1073741824 ≤ 2147483647 by decide), Option.bind_some, bi_if, gI0_12, I_mul]
      by_cases c : 1 ≤ z ∧ z ≤ 8
      · rw [if_pos c]
        by_cases c2 : 0 ≤ y ∧ y < 1073741824
        · rw [if_pos c2, if_neg (fun q => by rw [I_le (by omega) (by omega) (by omega) (by omega)] at q; exact g ⟨⟨c, c2⟩, q⟩)]
        · rw [if_neg c2]
      · rw [if_neg c]
    · show fX7_fares _ _ _ _ = _
      unfold fX7_fares
      simp only [k_0, k_1, k_2, k_8, k_60, k_1073741823, I_neg, y_in h1 h2 (show -2147483648 ≤ 8 by decide) (show 8 ≤ 2147483647 by decide) (show -2147483648 ≤ 1 by decide) (show 1 ≤ 2147483647 by decide), y_in h3 h4 (show -2147483648 ≤ 1073741823 by decide) (show 1073741823 ≤ 2147483647 by decide) (show -2147483648 ≤ 0 by decide) (show 0 ≤ 2147483647 by decide), Option.bind_some, bi_if, gI258_17, q8, I_mul]
      by_cases c : 1 ≤ z ∧ z ≤ 8
      · rw [if_pos c]
        by_cases c2 : 0 ≤ y ∧ y ≤ 1073741823
        · rw [if_pos c2, if_neg (fun q => by rw [I_le (by omega) (by omega) (by omega) (by omega)] at q; exact g ⟨⟨c, by omega⟩, q⟩)]
        · rw [if_neg c2]
      · rw [if_neg c]
end FE
