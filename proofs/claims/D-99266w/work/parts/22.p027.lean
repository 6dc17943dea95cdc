/-! CALL: comeTo. No JVM here. -/
set_option maxRecDepth 100000
set_option linter.unusedVariables false
/-- a set of stations -/
def stS (P : Nat → Bool) : Nat → Int32
  | 0 => I 0
  | n + 1 => if P n then stS P n ||| jshl (I 1) (I (n : Int)) else stS P n
theorem stS_has {P : Nat → Bool} {f : Nat} (hp : P f = true) : ∀ n, f < n → jshl (I 1) (I (f : Int)) ||| stS P n = stS P n
  | 0, h => absurd h (Nat.not_lt_zero _)
  | n + 1, h => by
    rw [stS]
    by_cases e : f = n
    · subst e
      rw [if_pos hp, Int32.or_comm, Int32.or_assoc, Int32.or_self]
    · have ih := stS_has hp n (by omega)
      split
      · rw [← Int32.or_assoc, ih]
      · exact ih
theorem stS_c {P Q : Nat → Bool} : ∀ n, (∀ i, i < n → P i = Q i) → stS P n = stS Q n
  | 0, _ => rfl
  | n + 1, h => by rw [stS, stS, stS_c n (fun i hi => h i (by omega)), h n (by omega)]
section CM
variable {b : Nat} {V0 V : Vw} {lw : Option Nat} {R : Hp} {p k j i r e n d f to : Nat} {s t z y w c lo hi m v : Int} {u : Int32} {A : Nat → Int}
theorem x_come (hA : ∀ s, s < 10 → V 58 s = A s) (hb : tbB A (-1) 268435456) : iter (fX0_comeTo_L33 (Wd b V lw R) (some b)) FUEL (I 0, I 0) = some (stS (fun s => decide (A s < 268435456)) 10) := by
  refine iter_det (fun i => (stS (fun s => decide (A s < 268435456)) i, I (i : Int))) 10 _ (by decide) (fun i hi => ?_) (by simp (disch := omega) only [fX0_comeTo_L33, k_10, I_le, if_pos])
  have b1 := hb i hi
  show _ = some (Sum.inl (stS _ (i + 1), I ((i + 1 : Nat) : Int)))
  rw [stS]
  simp (disch := omega) only [fX0_comeTo_L33, k_10, k_0, k_1, k_268435456, I_le, if_neg, gR0_14, Option.bind_some, rA58, tn, hA i hi, I_add]
  by_cases c : 268435456 ≤ A i
  · rw [if_pos c, if_neg (by simpa using c), show (I 0 : Int32) = 0 from rfl, Int32.or_zero]
    rfl
  · rw [if_neg c, if_pos (by simpa using c)]
    rfl
theorem y_come (u : Int32) (hA : ∀ s, s < 10 → V 295 s = A s) (hb : tbB A (-60) 1000000) : iter (fX7_comeTo_L35 (Wd b V lw R) (some (b + 258))) FUEL (u, I 0) = some (u ||| stS (fun s => decide (A s ≠ 1000000)) 10) := by
  have key := iter_det (b := fX7_comeTo_L35 (Wd b V lw R) (some (b + 258))) (fun i => (u ||| stS (fun s => decide (A s ≠ 1000000)) i, I (i : Int))) 10 (u ||| stS (fun s => decide (A s ≠ 1000000)) 10) (by decide) (fun i hi => by
    have b1 := hb i hi
    show _ = some (Sum.inl (u ||| stS _ (i + 1), I ((i + 1 : Nat) : Int)))
    rw [stS]
    simp (disch := omega) only [fX7_comeTo_L35, k_10, k_0, k_1, k_1000000, I_le, I_inj, if_neg, gR258_55, Option.bind_some, rA295, tn, hA i hi, I_add]
    by_cases c : A i = 1000000
    · rw [if_pos c, if_neg (by simpa using c)]
      rfl
    · rw [if_neg c, if_pos (by simpa using c), Int32.or_assoc]
      rfl) (by simp (disch := omega) only [fX7_comeTo_L35, k_10, I_le, if_pos])
  rw [← key]
  show iter _ FUEL (u, I 0) = iter _ FUEL (u ||| I 0, I 0)
  rw [show (I 0 : Int32) = 0 from rfl, Int32.or_zero]
theorem call_comeTo (h : Inv V) (h1 : -2147483648 ≤ s) (h2 : s ≤ 2147483647) (h5 : -2147483648 ≤ z) (h6 : z ≤ 2147483647) : Okc b V lw R (fun m => fX0_comeTo m (some b) (I s) (I z)) (fun m => fX7_comeTo m (some (b + 258)) (I s) (I z)) := by
  unfold Okc
  have b0 : (-2147483648 : Int) ≤ 0 ∧ (0 : Int) ≤ 2147483647 := by decide
  have b1440 : (-2147483648 : Int) ≤ 1440 ∧ (1440 : Int) ≤ 2147483647 := by decide
  have b1439 : (-2147483648 : Int) ≤ 1439 ∧ (1439 : Int) ≤ 2147483647 := by decide
  by_cases g : (0 ≤ s ∧ s < 10) ∧ (0 ≤ z ∧ z < 1440)
  · obtain ⟨g1, g2⟩ := g
    obtain ⟨f, rfl⟩ : ∃ q : Nat, s = q := ⟨s.toNat, by omega⟩
    have hf : f < 10 := by omega
    have hz : 0 ≤ z ∧ z ≤ 1439 := by omega
    obtain ⟨V1, e1, e2, e3⟩ := x_laysThere (b := b) (lw := lw) (R := R) h.rel hf hf (m := z) (by omega)
    have s1 : Sc V V1 := sc_58 e2
    have r1 : Rel V V1 := h.rel.sc s1
    obtain ⟨V2, f1, f2, f3⟩ := y_soonest (b := b) (lw := lw) (R := R) r1 hf hf hz
    have s2 : Sc V V2 := s1.tr (sc_29x f2)
    have xc := x_come (b := b) (lw := lw) (R := R) e3 (cT_b h.rel (f := f) (m := z) (by omega) 10)
    have yc := y_come (b := b) (lw := lw) (R := R) (jshl (I 1) (I (f : Int))) f3 (yT_b h.rel (f := f) hz 9)
    have hff : decide (cT V f z 10 f < 268435456) = true := decide_eq_true (by rw [cT_f h.rel hz.2 hf]; omega)
    have same : stS (fun s => decide (yT V f z 9 s ≠ 1000000)) 10 = stS (fun s => decide (cT V f z 10 s < 268435456)) 10 := stS_c 10 (fun i hi => by
      by_cases e : i = f
      · rw [e, hff]
        have := (yT_f h.rel hz.2 hf 9).1
        have hch := ch_b h.rel
        exact decide_eq_true (by omega)
      · have q0 : (cT V f z 10 i = yT V f z 9 i ∧ z ≤ yT V f z 9 i ∧ yT V f z 9 i ≤ 1439) ∨ (cT V f z 10 i = 268435456 ∧ yT V f z 9 i = 1000000) := cT_yT2 h.rel hz hf 9 hi e
        rcases q0 with ⟨q1, q2, q3⟩ | ⟨q1, q2⟩
        · rw [decide_eq_true (show yT V f z 9 i ≠ 1000000 by omega), decide_eq_true (show cT V f z 10 i < 268435456 by omega)]
        · rw [decide_eq_false (show ¬ yT V f z 9 i ≠ 1000000 by omega), decide_eq_false (show ¬ cT V f z 10 i < 268435456 by omega)])
    rw [same, stS_has (P := fun s => decide (cT V f z 10 s < 268435456)) hff 10 hf] at yc
    refine ⟨stS (fun s => decide (cT V f z 10 s < 268435456)) 10, Wd b V1 lw R, V2, ?_, ?_, (h.sc s2).1, (h.sc s2).2, cO258⟩
    · show fX0_comeTo _ _ _ _ = _
      unfold fX0_comeTo
      simp (disch := omega) only [k_0, k_1, k_1440, I_neg, x_isSt, x_in, Option.bind_some, bi_if, if_pos, on0, e1, xc]
    · show fX7_comeTo _ _ _ _ = _
      unfold fX7_comeTo
      simp (disch := omega) only [k_0, k_1, k_1439, I_neg, y_isSt, y_in, Option.bind_some, bi_if, if_pos, on258, f1, yc]
  · refine ⟨I (-1), Wd b V lw R, V, ?_, ?_, h, agL.id V, cO258⟩
    · show fX0_comeTo _ _ _ _ = _
      unfold fX0_comeTo
      simp only [k_0, k_1, k_1440, I_neg, x_isSt h1 h2, x_in h5 h6 b1440.1 b1440.2, Option.bind_some, bi_if]
      by_cases c : 0 ≤ s ∧ s < 10
      · rw [if_pos c, if_neg (fun q => g ⟨c, q⟩)]
      · rw [if_neg c]
    · show fX7_comeTo _ _ _ _ = _
      unfold fX7_comeTo
      simp only [k_0, k_1, k_1439, I_neg, y_isSt h1 h2, y_in h5 h6 b1439.1 b1439.2 b0.1 b0.2, Option.bind_some, bi_if]
      by_cases c : 0 ≤ s ∧ s < 10
      · rw [if_pos c, if_neg (fun q => g ⟨c, by omega⟩)]
      · rw [if_neg c]
end CM
