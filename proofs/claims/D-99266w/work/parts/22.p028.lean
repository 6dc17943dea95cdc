/-! CALL: fastest. No JVM here. -/
set_option maxRecDepth 100000
set_option linter.unusedVariables false
def fC (V : Vw) (f to : Nat) : Nat → Int
  | 0 => 268435456
  | r + 1 => if leaves V r (f : Int) then min (fC V f to r) (cT V f (minAt V r (f : Int)) 10 to - minAt V r (f : Int)) else fC V f to r
def fY (V : Vw) (f to : Nat) : Nat → Int
  | 0 => 1000000
  | r + 1 => if leaves V r (f : Int) then (if yT V f (minAt V r (f : Int)) 9 to = 1000000 then fY V f to r else min (fY V f to r) (yT V f (minAt V r (f : Int)) 9 to - minAt V r (f : Int))) else fY V f to r
section FS
variable {b : Nat} {V0 V : Vw} {lw : Option Nat} {R : Hp} {p k j i r e n d f to : Nat} {s t z y w c lo hi m v : Int} {u : Int32} {A : Nat → Int}
theorem cy10 (h : Rel V0 V) (hm : 0 ≤ m ∧ m ≤ 1439) (hf : f < 10) (hto : to < 10) (hne : to ≠ f) : (cT V0 f m 10 to = yT V0 f m 9 to ∧ m ≤ yT V0 f m 9 to ∧ yT V0 f m 9 to ≤ 1439) ∨ (cT V0 f m 10 to = 268435456 ∧ yT V0 f m 9 to = 1000000) := cT_yT2 h hm hf 9 hto hne
theorem fC_fY (h : Rel V0 V) (hf : f < 10) (hto : to < 10) (hne : to ≠ f) : ∀ r, r ≤ nT V0 → (fC V0 f to r = fY V0 f to r ∧ 0 ≤ fY V0 f to r ∧ fY V0 f to r ≤ 1439) ∨ (1440 ≤ fC V0 f to r ∧ fC V0 f to r ≤ 268435456 ∧ fY V0 f to r = 1000000)
  | 0, _ => Or.inr ⟨show (1440 : Int) ≤ 268435456 by decide, show (268435456 : Int) ≤ 268435456 by decide, rfl⟩
  | r + 1, hr => by
    have ih := fC_fY h hf hto hne r (by omega)
    rw [fC, fY]
    by_cases c : leaves V0 r (f : Int)
    · rw [if_pos c, if_pos c]
      have hm := minAt_b h (show r < nT V0 by omega) c.2.1
      rcases cy10 h hm hf hto hne with ⟨q1, q2, q3⟩ | ⟨q1, q2⟩
      · rw [if_neg (by omega), q1]
        rcases ih with ⟨i1, i2, i3⟩ | ⟨i1, i2, i3⟩ <;> omega
      · rw [if_pos q2, q1]
        rcases ih with ⟨i1, i2, i3⟩ | ⟨i1, i2, i3⟩ <;> omega
    · rw [if_neg c, if_neg c]
      exact ih
theorem x_arrival (h : Rel V0 V) (hf : f < 10) (hto : to < 10) (hm : -1 ≤ m ∧ m ≤ 1439) : ∃ V', fX0_arrivalFrom (Wd b V lw R) (some b) (I (f : Int)) (I (to : Int)) (I m) = some (I (cT V0 f m 10 to), Wd b V' lw R) ∧ (∀ o, o ≠ 58 → o ≠ 59 → V' o = V o) := by
  obtain ⟨V1, e1, e2, e3⟩ := x_laysThere (b := b) (lw := lw) (R := R) h hf hto hm
  refine ⟨V1, ?_, e2⟩
  unfold fX0_arrivalFrom
  simp (disch := omega) only [on0, e1, Option.bind_some, gR0_14, rA58, tn, e3 to hto]
theorem call_fastest (h : Inv V) (h1 : -2147483648 ≤ s) (h2 : s ≤ 2147483647) (h3 : -2147483648 ≤ t) (h4 : t ≤ 2147483647) : Okc b V lw R (fun m => fX0_fastest m (some b) (I s) (I t)) (fun m => fX7_fastest m (some (b + 258)) (I s) (I t)) := by
  unfold Okc
  by_cases g : (0 ≤ s ∧ s < 10) ∧ (0 ≤ t ∧ t < 10) ∧ s ≠ t
  · obtain ⟨f, rfl⟩ : ∃ q : Nat, s = q := ⟨s.toNat, by omega⟩
    obtain ⟨to, rfl⟩ : ∃ q : Nat, t = q := ⟨t.toNat, by omega⟩
    have hf : f < 10 := by omega
    have hto : to < 10 := by omega
    have hne : to ≠ f := by omega
    have hn := n48 h.rel
    have rl := fC_fY h.rel hf hto hne
    obtain ⟨q, k1, V1, k2, k3⟩ := iter_for (b := fX0_fastest_L16 (some b) (I (f : Int)) (I (to : Int))) (s := (I 268435456, I 0, Wd b V lw R)) (fun r q => ∃ V', q = (I (fC V f to r), I (r : Int), Wd b V' lw R) ∧ ∀ o, o ≠ 58 → o ≠ 59 → V' o = V o) (fun q => ∃ V', q = (I (fC V f to (nT V)), Wd b V' lw R) ∧ ∀ o, o ≠ 58 → o ≠ 59 → V' o = V o) (nT V) (by omega) ⟨V, rfl, fun _ _ _ => rfl⟩ (fun r q hS hr => by
      obtain ⟨V', rfl, a1⟩ := hS
      have h' : Rel V V' := h.rel.sc (sc_58 a1)
      have h48 := r48 h' hr
      by_cases c : leaves V r (f : Int)
      · have ha : 0 ≤ sAt V r (f : Int) := c.2.1
        have hm := minAt_b h.rel hr ha
        obtain ⟨V2, f1, f2⟩ := x_arrival (b := b) (lw := lw) (R := R) h' hf hto (m := minAt V r (f : Int)) (by omega)
        have h2 : Rel V V2 := h'.sc (sc_58 f2)
        have bc := cT_b h.rel (f := f) (m := minAt V r (f : Int)) (by omega) 10 to hto
        have br := rl r (by omega)
        refine ⟨(I (fC V f to (r + 1)), I ((r + 1 : Nat) : Int), Wd b V2 lw R), ?_, V2, rfl, fun o h1 h2 => by rw [f2 o h1 h2, a1 o h1 h2]⟩
        rw [fC, if_pos c]
        unfold fX0_fastest_L16
        simp (disch := omega) only [k_1, k_0, I_le, if_neg, gI0_3, v_n h', Option.bind_some, gR0_0, rTr, tn, onTr, x_leaves h' hr, bi_if, if_pos c, x_minAt h' hr, on0, f1, x_minAt h2 hr, I_sub, I_add]
        rw [I_min (by omega) (by omega) (by omega) (by omega)]
        rfl
      · refine ⟨(I (fC V f to (r + 1)), I ((r + 1 : Nat) : Int), Wd b V' lw R), ?_, V', rfl, a1⟩
        rw [fC, if_neg c]
        unfold fX0_fastest_L16
        simp (disch := omega) only [k_1, k_0, I_le, if_neg, gI0_3, v_n h', Option.bind_some, gR0_0, rTr, tn, onTr, x_leaves h' hr, bi_if, if_neg c, I_add]
        rfl) (fun q hS => by
      obtain ⟨V', rfl, a1⟩ := hS
      have h' : Rel V V' := h.rel.sc (sc_58 a1)
      refine ⟨_, ?_, V', rfl, a1⟩
      unfold fX0_fastest_L16
      simp (disch := omega) only [I_le, if_pos, gI0_3, v_n h', Option.bind_some])
    have s1 : Sc V V1 := sc_58 k3
    have r1 : Rel V V1 := h.rel.sc s1
    obtain ⟨q7, l1, V2, l2, l3⟩ := iter_for (b := fX7_fastest_L17 (some (b + 258)) (I (f : Int)) (I (to : Int))) (s := (I 1000000, I 0, Wd b V1 lw R)) (fun r q => ∃ V', q = (I (fY V f to r), I (r : Int), Wd b V' lw R) ∧ ∀ o, o ≠ 295 → o ≠ 296 → V' o = V1 o) (fun q => ∃ V', q = (I (fY V f to (nT V)), Wd b V' lw R) ∧ ∀ o, o ≠ 295 → o ≠ 296 → V' o = V1 o) (nT V) (by omega) ⟨V1, rfl, fun _ _ _ => rfl⟩ (fun r q hS hr => by
      obtain ⟨V', rfl, a1⟩ := hS
      have h' : Rel V V' := r1.sc (sc_29x a1)
      have h48 := r48 h' hr
      by_cases c : leaves V r (f : Int)
      · have ha : 0 ≤ sAt V r (f : Int) := c.2.1
        have hm := minAt_b h.rel hr ha
        obtain ⟨V2, f1, f2, f3⟩ := y_soonest (b := b) (lw := lw) (R := R) h' hf hto (m := minAt V r (f : Int)) hm
        have by9 := yT_b h.rel (f := f) hm 9 to hto
        have br := rl r (by omega)
        refine ⟨(I (fY V f to (r + 1)), I ((r + 1 : Nat) : Int), Wd b V2 lw R), ?_, V2, rfl, fun o h1 h2 => by rw [f2 o h1 h2, a1 o h1 h2]⟩
        rw [fY, if_pos c]
        unfold fX7_fastest_L17
        simp (disch := omega) only [k_1, k_0, k_1000000, I_le, if_neg, gI258_14, w_n h', Option.bind_some, y_leaves h' hr, bi_if, if_pos c, y_minAt h' hr, on258, f1, I_inj, I_sub, I_add]
        by_cases c2 : yT V f (minAt V r (f : Int)) 9 to = 1000000
        · rw [if_pos c2, if_pos c2]
          rfl
        · rw [if_neg c2, if_neg c2, y_min (by omega) (by omega) (by omega) (by omega)]
          rfl
      · refine ⟨(I (fY V f to (r + 1)), I ((r + 1 : Nat) : Int), Wd b V' lw R), ?_, V', rfl, a1⟩
        rw [fY, if_neg c]
        unfold fX7_fastest_L17
        simp (disch := omega) only [k_1, k_0, I_le, if_neg, gI258_14, w_n h', Option.bind_some, on258, y_leaves h' hr, bi_if, if_neg c, I_add]
        rfl) (fun q hS => by
      obtain ⟨V', rfl, a1⟩ := hS
      have h' : Rel V V' := r1.sc (sc_29x a1)
      refine ⟨_, ?_, V', rfl, a1⟩
      unfold fX7_fastest_L17
      simp (disch := omega) only [I_le, if_pos, gI258_14, w_n h', Option.bind_some])
    have s2 : Sc V V2 := s1.tr (sc_29x l3)
    have fin := rl (nT V) (Nat.le_refl _)
    refine ⟨if fY V f to (nT V) = 1000000 then I (-2) else I (fY V f to (nT V)), Wd b V1 lw R, V2, ?_, ?_, (h.sc s2).1, (h.sc s2).2, cO258⟩
    · show fX0_fastest _ _ _ _ = _
      unfold fX0_fastest
      simp (disch := omega) only [k_0, k_1, k_2, k_1440, k_268435456, I_neg, x_two, Option.bind_some, bi_if, if_pos g, k1, k2, I_lt]
      rcases fin with ⟨i1, i2, i3⟩ | ⟨i1, i2, i3⟩
      · rw [if_pos (by omega), if_neg (by omega), i1]
      · rw [if_neg (by omega), if_pos i3]
    · show fX7_fastest _ _ _ _ = _
      unfold fX7_fastest
      simp (disch := omega) only [k_0, k_1, k_2, k_1000000, I_neg, y_two, Option.bind_some, bi_if, if_pos g, l1, l2, I_inj]
      by_cases c : fY V f to (nT V) = 1000000
      · rw [if_pos c, if_pos c]
      · rw [if_neg c, if_neg c]
  · refine ⟨I (-1), Wd b V lw R, V, ?_, ?_, h, agL.id V, cO258⟩
    · show fX0_fastest _ _ _ _ = _
      unfold fX0_fastest
      simp only [k_0, k_1, I_neg, x_two h1 h2 h3 h4, Option.bind_some, bi_if]
      rw [if_neg g]
    · show fX7_fastest _ _ _ _ = _
      unfold fX7_fastest
      simp only [k_0, k_1, I_neg, y_two h1 h2 h3 h4, Option.bind_some, bi_if]
      rw [if_neg g]
end FS
