/-! CALL: timetable, events in order, the reference. No JVM here. -/
set_option maxRecDepth 100000
set_option linter.unusedVariables false
def yTr (V : Vw) (N : Nat) (sN : Nat → Nat) : Prop := N ≤ 48 ∧ V 258 14 = (N : Int) ∧ ∀ r, r < N → V 265 r = (sN r : Int) ∧ sN r ≤ 8 ∧ ∀ k, k < sN r → 0 ≤ V 267 (8 * r + k) ∧ V 267 (8 * r + k) ≤ 1439
def yA (V : Vw) (n : Nat) (A : Nat → Nat) : Prop := V 258 15 = (n : Int) ∧ ∀ i, i < n → V 269 i = (A i : Int)
abbrev yEc (o k : Nat) : Prop := o = 269 ∨ (o = 258 ∧ k = 15)
def yEf (V V' : Vw) : Prop := ∀ o k, ¬ yEc o k → V' o k = V o k
section EW
variable {b : Nat} {V0 V V' : Vw} {lw : Option Nat} {R : Hp} {n N r k : Nat} {sN : Nat → Nat} {A : Nat → Nat}
theorem yEf.tr {V1 V2 V3 : Vw} (h : yEf V1 V2) (g : yEf V2 V3) : yEf V1 V3 := fun o k q => (g o k q).trans (h o k q)
theorem yTr.c (h : yTr V N sN) (f : yEf V V') : yTr V' N sN := by
  obtain ⟨h1, h2, h3⟩ := h
  refine ⟨h1, by rw [f _ _ (by omega)]; exact h2, fun r hr => ?_⟩
  obtain ⟨g1, g2, g3⟩ := h3 r hr
  refine ⟨by rw [f _ _ (by omega)]; exact g1, g2, fun k hk => ?_⟩
  rw [f _ _ (by omega)]
  exact g3 k hk
theorem yM_c (f : yEf V V') : V' 267 = V 267 := funext fun c => f _ _ (by omega)
theorem y_insert (h : yTr V N sN) (hr : r < N) (hk : k < sN r) (hn : n < 384) (a : yA V n A) (hA : ∀ i, i < n → ∃ q j, q < N ∧ j < sN q ∧ A i = 8 * q + j) : ∃ V', iter (fX7_sortsEvents_L32 (some (b + 258)) (I (r : Int)) (I (k : Int))) FUEL (I (n : Int), Wd b V lw R) = some (I (insAt (V 267) A (8 * r + k) n : Int), Wd b V' lw R) ∧ (∀ o i, ¬ (o = 269 ∧ insAt (V 267) A (8 * r + k) n < i ∧ i ≤ n) → V' o i = V o i) ∧ ∀ i, insAt (V 267) A (8 * r + k) n < i → i ≤ n → V' 269 i = V 269 (i - 1) := by
  obtain ⟨a1, a2⟩ := a
  have le := insAt_le (M := V 267) (A := A) (c := 8 * r + k) n
  have h48 : r < 48 := by have := h.1; omega
  have hs := (h.2.2 r hr).2.1
  have mk := (h.2.2 r hr).2.2 k hk
  obtain ⟨p, hp⟩ : ∃ p, p = insAt (V 267) A (8 * r + k) n := ⟨_, rfl⟩
  rw [← hp] at le ⊢
  have ea : ((8 : Int) * (r : Int) + (k : Int)).toNat = 8 * r + k := by omega
  have rd : ∀ (V' : Vw) (at_ : Nat), 0 < at_ → at_ ≤ n → (∀ o i, ¬ (o = 269 ∧ at_ < i ∧ i ≤ n) → V' o i = V o i) → V' 269 (at_ - 1) = (A (at_ - 1) : Int) ∧ A (at_ - 1) < 384 ∧ V' 267 (A (at_ - 1)) = V 267 (A (at_ - 1)) ∧ 0 ≤ V 267 (A (at_ - 1)) ∧ V 267 (A (at_ - 1)) ≤ 1439 := fun V' at_ p0 p1 f => by
    obtain ⟨q, j, q1, q2, q3⟩ := hA (at_ - 1) (by omega)
    have hq := h.2.2 q q1
    have h48 := h.1
    have e := hq.2.2 j q2
    rw [← q3] at e
    exact ⟨by rw [f _ _ (by omega)]; exact a2 _ (by omega), by omega, f _ _ (by omega), e.1, e.2⟩
  obtain ⟨rr, k1, V', k2, k3, k4⟩ := iter_for (b := fX7_sortsEvents_L32 (some (b + 258)) (I (r : Int)) (I (k : Int))) (s := (I (n : Int), Wd b V lw R)) (fun t s => ∃ V', s = (I ((n - t : Nat) : Int), Wd b V' lw R) ∧ (∀ o i, ¬ (o = 269 ∧ n - t < i ∧ i ≤ n) → V' o i = V o i) ∧ ∀ i, n - t < i → i ≤ n → V' 269 i = V 269 (i - 1)) (fun s => ∃ V', s = (I (p : Int), Wd b V' lw R) ∧ (∀ o i, ¬ (o = 269 ∧ p < i ∧ i ≤ n) → V' o i = V o i) ∧ ∀ i, p < i → i ≤ n → V' 269 i = V 269 (i - 1)) (n - p) (by omega) ⟨V, rfl, fun _ _ _ => rfl, fun i h1 h2 => by omega⟩ (fun t s hS ht => by
    obtain ⟨V', rfl, b1, b2⟩ := hS
    obtain ⟨at_, hat⟩ : ∃ at_, at_ = n - t := ⟨_, rfl⟩
    rw [← hat] at b1 b2 ⊢
    obtain ⟨c1, c2, c3, c4, c5⟩ := rd V' at_ (by omega) (by omega) b1
    have gt := insAt_hi (M := V 267) (A := A) (c := 8 * r + k) n (at_ - 1) (by omega) (by omega)
    have rkk : V' 267 (8 * r + k) = V 267 (8 * r + k) := b1 _ _ (by omega)
    have et : ((at_ : Int) - 1).toNat = at_ - 1 := by omega
    have ev : (A (at_ - 1) : Int) = V 269 (at_ - 1) := (a2 _ (by omega)).symm
    refine ⟨(I ((at_ : Int) - 1), Wd b (up V' 269 at_ (V 269 (at_ - 1))) lw R), ?_, _, by rw [show ((n - (t + 1) : Nat) : Int) = (at_ : Int) - 1 by omega], fun o i w => ?_, fun i w1 w2 => ?_⟩
    · unfold fX7_sortsEvents_L32 fX7_at
      simp (disch := omega) only [k_0, k_1, k_8, I_le, if_neg, I_sub, gR258_8, gR258_10, rA269, et, c1, rA267, tn, c3, I_mul, I_add, ea, rkk, Option.bind_some, wA269]
      rw [ev]
    · have e1 : ¬ (o = 269 ∧ i = at_) := by omega
      rw [show up V' 269 at_ (V 269 (at_ - 1)) o i = V' o i from if_neg e1]
      exact b1 o i (by omega)
    · by_cases c : i = at_
      · rw [c, up_s]
      · rw [up_k c]
        exact b2 i (by omega) w2) (fun s hS => by
    obtain ⟨V', rfl, b1, b2⟩ := hS
    rw [show n - (n - p) = p by omega] at b1 b2 ⊢
    refine ⟨_, ?_, V', rfl, b1, b2⟩
    unfold fX7_sortsEvents_L32 fX7_at
    by_cases c : p = 0
    · rw [c]
      simp (disch := omega) only [k_0, I_le, if_pos]
    · obtain ⟨c1, c2, c3, c4, c5⟩ := rd V' p (by omega) (by omega) b1
      have lo := insAt_lo (M := V 267) (A := A) (c := 8 * r + k) n (by omega)
      rw [← hp] at lo
      have rkk : V' 267 (8 * r + k) = V 267 (8 * r + k) := b1 _ _ (by omega)
      have et : ((p : Int) - 1).toNat = p - 1 := by omega
      simp (disch := omega) only [k_0, k_1, k_8, I_le, if_neg, I_sub, gR258_8, gR258_10, rA269, et, c1, rA267, tn, c3, I_mul, I_add, ea, rkk, Option.bind_some, if_pos])
  exact ⟨V', by rw [k1, k2], k3, k4⟩
theorem y_sortK (h : yTr V N sN) (hr : r < N) (n0 : Nat) (A0 : Nat → Nat) (a : yA V n0 A0) (hn : n0 ≤ 8 * r) (hA : ∀ i, i < n0 → ∃ q j, q < N ∧ j < sN q ∧ A0 i = 8 * q + j) : ∃ V', iter (fX7_sortsEvents_L17 (some (b + 258)) (I (r : Int))) FUEL (I 0, Wd b V lw R) = some (Wd b V' lw R) ∧ yEf V V' ∧ yA V' (n0 + sN r) (srtK (V 267) r n0 A0 (sN r)) ∧ ∀ i, i < n0 + sN r → ∃ q j, q < N ∧ j < sN q ∧ srtK (V 267) r n0 A0 (sN r) i = 8 * q + j := by
  have h48 : r < 48 := by have := h.1; omega
  have hs := (h.2.2 r hr).2.1
  obtain ⟨m, k1, V', k2, k3, k4, k5⟩ := iter_for (b := fX7_sortsEvents_L17 (some (b + 258)) (I (r : Int))) (s := (I 0, Wd b V lw R)) (fun t s => ∃ V', s = (I (t : Int), Wd b V' lw R) ∧ yEf V V' ∧ yA V' (n0 + t) (srtK (V 267) r n0 A0 t) ∧ ∀ i, i < n0 + t → ∃ q j, q < N ∧ j < sN q ∧ srtK (V 267) r n0 A0 t i = 8 * q + j) (fun m => ∃ V', m = Wd b V' lw R ∧ yEf V V' ∧ yA V' (n0 + sN r) (srtK (V 267) r n0 A0 (sN r)) ∧ ∀ i, i < n0 + sN r → ∃ q j, q < N ∧ j < sN q ∧ srtK (V 267) r n0 A0 (sN r) i = 8 * q + j) (sN r) (by omega) ⟨V, rfl, fun _ _ _ => rfl, a, hA⟩ (fun t s hS ht => by
    obtain ⟨V', rfl, f, a', g⟩ := hS
    have h' := h.c f
    have sm' := (h'.2.2 r hr).1
    obtain ⟨V2, b1, b2, b3⟩ := y_insert (b := b) (lw := lw) (R := R) h' hr ht (n := n0 + t) (by omega) a' g
    rw [yM_c f] at b1 b2 b3
    have le := insAt_le (M := V 267) (A := srtK (V 267) r n0 A0 t) (c := 8 * r + t) (n0 + t)
    obtain ⟨p, hp⟩ : ∃ p, p = insAt (V 267) (srtK (V 267) r n0 A0 t) (8 * r + t) (n0 + t) := ⟨_, rfl⟩
    rw [← hp] at b1 b2 b3 le
    have e4 : V' 258 15 = ((n0 + t : Nat) : Int) := a'.1
    have e4' : up V2 269 p ((8 * r + t : Nat) : Int) 258 15 = ((n0 + t : Nat) : Int) := by rw [up_r (by omega), b2 _ _ (by omega)]; exact e4
    have ec : ((8 : Int) * (r : Int) + (t : Int)) = ((8 * r + t : Nat) : Int) := by omega
    refine ⟨(I ((t + 1 : Nat) : Int), Wd b (up (up V2 269 p ((8 * r + t : Nat) : Int)) 258 15 (((n0 + t : Nat) : Int) + 1)) lw R), ?_, _, rfl, fun o i w => ?_, ⟨by rw [up_s]; rfl, fun i hi => ?_⟩, fun i hi => ?_⟩
    · unfold fX7_sortsEvents_L17 fX7_at
      simp (disch := omega) only [k_1, k_8, gR258_6, rA265, tn, sm', Option.bind_some, I_le, if_neg, gI258_15, e4, b1, gR258_10, I_mul, I_add, ec, wA269, e4', pI258_15]
      rfl
    · have e1 : ¬ (o = 258 ∧ i = 15) := by omega
      have e2 : ¬ (o = 269 ∧ i = p) := by omega
      rw [show up (up V2 269 p ((8 * r + t : Nat) : Int)) 258 15 (((n0 + t : Nat) : Int) + 1) o i = up V2 269 p ((8 * r + t : Nat) : Int) o i from if_neg e1, show up V2 269 p ((8 * r + t : Nat) : Int) o i = V2 o i from if_neg e2, b2 o i (by omega)]
      exact f o i w
    · rw [up_r (show 269 ≠ 258 by omega), srtK]
      by_cases c : i = p
      · rw [c, up_s, hp, ins_b]
      · rw [up_k c]
        by_cases c2 : i < p
        · rw [ins_a (by rw [← hp]; exact c2), b2 _ _ (by omega)]
          exact a'.2 i (by omega)
        · rw [ins_c (by rw [← hp]; omega) (by omega), b3 i (by omega) (by omega)]
          exact a'.2 (i - 1) (by omega)
    · rw [srtK]
      by_cases c : i = p
      · rw [c, hp, ins_b]
        exact ⟨r, t, hr, ht, rfl⟩
      · by_cases c2 : i < p
        · rw [ins_a (by rw [← hp]; exact c2)]
          exact g i (by omega)
        · rw [ins_c (by rw [← hp]; omega) (by omega)]
          exact g (i - 1) (by omega)) (fun s hS => by
    obtain ⟨V', rfl, f, a', g⟩ := hS
    have sm' := ((h.c f).2.2 r hr).1
    refine ⟨_, ?_, V', rfl, f, a', g⟩
    unfold fX7_sortsEvents_L17
    simp (disch := omega) only [gR258_6, rA265, tn, sm', Option.bind_some, I_le, if_pos])
  exact ⟨V', by rw [k1, k2], k3, k4, k5⟩
theorem y_sorts (h : yTr V N sN) : ∃ V', fX7_sortsEvents (Wd b V lw R) (some (b + 258)) = some (Wd b V' lw R) ∧ yEf V V' ∧ yA V' (srtN sN N) (srtA (V 267) sN N) := by
  have f0 : yEf V (up V 258 15 0) := fun o i w => by
    have e : ¬ (o = 258 ∧ i = 15) := by omega
    exact if_neg e
  obtain ⟨m, k1, V', k2, k3, k4, k5⟩ := iter_for (b := fX7_sortsEvents_L7 (some (b + 258))) (s := (I 0, Wd b (up V 258 15 0) lw R)) (fun t s => ∃ V', s = (I (t : Int), Wd b V' lw R) ∧ yEf V V' ∧ yA V' (srtN sN t) (srtA (V 267) sN t) ∧ ∀ i, i < srtN sN t → ∃ q j, q < N ∧ j < sN q ∧ srtA (V 267) sN t i = 8 * q + j) (fun m => ∃ V', m = Wd b V' lw R ∧ yEf V V' ∧ yA V' (srtN sN N) (srtA (V 267) sN N) ∧ ∀ i, i < srtN sN N → ∃ q j, q < N ∧ j < sN q ∧ srtA (V 267) sN N i = 8 * q + j) N (by have := h.1; omega) ⟨_, rfl, f0, ⟨up_s, fun i hi => absurd hi (Nat.not_lt_zero _)⟩, fun i hi => absurd hi (Nat.not_lt_zero _)⟩ (fun t s hS ht => by
    obtain ⟨V', rfl, f, a', g⟩ := hS
    have h' := h.c f
    have le := srtN_le (sN := sN) t fun q hq => (h.2.2 q (by omega)).2.1
    have h48 := h.1
    obtain ⟨V2, b1, b2, b3, b4⟩ := y_sortK (b := b) (lw := lw) (R := R) h' ht (srtN sN t) (srtA (V 267) sN t) a' le g
    rw [yM_c f] at b3 b4
    refine ⟨(I ((t + 1 : Nat) : Int), Wd b V2 lw R), ?_, V2, rfl, f.tr b2, b3, b4⟩
    unfold fX7_sortsEvents_L7
    simp (disch := omega) only [k_0, k_1, gI258_14, h'.2.1, Option.bind_some, I_le, if_neg, b1, I_add]
    rfl) (fun s hS => by
    obtain ⟨V', rfl, f, a', g⟩ := hS
    have h48 := h.1
    refine ⟨_, ?_, V', rfl, f, a', g⟩
    unfold fX7_sortsEvents_L7
    simp (disch := omega) only [gI258_14, (h.c f).2.1, Option.bind_some, I_le, if_pos])
  refine ⟨V', ?_, k3, k4⟩
  unfold fX7_sortsEvents
  simp only [k_0, pI258_15, Option.bind_some, k1, k2]
end EW
