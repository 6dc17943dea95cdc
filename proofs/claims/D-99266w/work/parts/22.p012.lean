/-! CALLS: keep, undo; copies of a platform. No JVM here. -/
set_option maxRecDepth 100000
set_option linter.unusedVariables false
section KP
variable {b : Nat} {V0 V : Vw} {lw : Option Nat} {R : Hp} {p k j i : Nat} {s t z y w : Int}
theorem y_copies {os od : Nat} (hs : dK os = (1, 0, 26)) (hd : dK od = (1, 0, 26)) (ne : os ≠ od) : ∃ V', fX7_copies (Wd b V lw R) (some (b + os)) (some (b + od)) = some (Wd b V' lw R) ∧ (∀ o, o ≠ od → V' o = V o) ∧ ∀ k, k < 26 → V' od k = V os k := by
  obtain ⟨r, h1, V', h2, h3, h4⟩ := iter_for (b := fX7_copies_L2 (some (b + os)) (some (b + od))) (s := (I 0, Wd b V lw R)) (fun n s => ∃ V', s = (I (n : Int), Wd b V' lw R) ∧ (∀ o, o ≠ od → V' o = V o) ∧ ∀ k, k < n → V' od k = V os k) (fun r => ∃ V', r = Wd b V' lw R ∧ (∀ o, o ≠ od → V' o = V o) ∧ ∀ k, k < 26 → V' od k = V os k) 26 (by decide) ⟨V, rfl, fun _ _ => rfl, fun k h => absurd h (Nat.not_lt_zero _)⟩ (fun n s hS hn => by
      obtain ⟨V', rfl, h1, h2⟩ := hS
      refine ⟨(I ((n + 1 : Nat) : Int), Wd b (up V' od n (V os n)) lw R), ?_, up V' od n (V os n), rfl, fun o ho => by rw [up_r ho, h1 o ho], fun k hk => ?_⟩
      · unfold fX7_copies_L2
        simp (disch := omega) only [k_26, k_1, I_le, if_neg, rdA hs (show 0 ≤ (n : Int) by omega) (show (n : Int) < (26 : Nat) by omega) (by decide), Option.bind_some, wrA hd (show 0 ≤ (n : Int) by omega) (show (n : Int) < (26 : Nat) by omega) (by decide) rfl, tn, h1 os ne, I_add]
        rfl
      · by_cases e : k = n
        · subst e
          rw [up_s]
        · rw [up_k e, h2 k (by omega)]) (fun s hS => by
      obtain ⟨V', rfl, h1, h2⟩ := hS
      exact ⟨Wd b V' lw R, by unfold fX7_copies_L2; simp (disch := omega) only [k_26, I_le, if_pos], V', rfl, h1, h2⟩)
  refine ⟨V', ?_, h3, h4⟩
  unfold fX7_copies
  rw [k_0, h1, h2]
  rfl
theorem x_takes1 {j i : Nat} (hj : j = 5 ∨ j = 21 ∨ j = 37) (hi : i = 5 ∨ i = 21 ∨ i = 37) (ne : i ≠ j) (hp : p < 12) (h01 : V (i + 4 + p) 5 = 0 ∨ V (i + 4 + p) 5 = 1) : ∃ V', fX4_takes (Wd b V lw R) (some (b + (j + 4 + p))) (some (b + (i + 4 + p))) = some (Wd b V' lw R) ∧ (∀ o, o ≠ j + 4 + p → V' o = V o) ∧ ∀ k, k < 6 → V' (j + 4 + p) k = V (i + 4 + p) k := by
  have n1 : i + 4 + p ≠ j + 4 + p := by omega
  refine ⟨up (up (up (up (up (up V (j + 4 + p) 0 (V (i + 4 + p) 0)) (j + 4 + p) 1 (V (i + 4 + p) 1)) (j + 4 + p) 2 (V (i + 4 + p) 2)) (j + 4 + p) 3 (V (i + 4 + p) 3)) (j + 4 + p) 4 (V (i + 4 + p) 4)) (j + 4 + p) 5 (V (i + 4 + p) 5), ?_, fun o ho => by simp only [up_r ho], fun k hk => ?_⟩
  · unfold fX4_takes
    simp only [gPe hi hp (show 0 < 6 by decide), gPe hi hp (show 1 < 6 by decide), gPe hi hp (show 2 < 6 by decide), gPe hi hp (show 3 < 6 by decide), gPe hi hp (show 4 < 6 by decide), gPe hi hp (show 5 < 6 by decide), pPe hj hp (show 0 < 6 by decide), pPe hj hp (show 1 < 6 by decide), pPe hj hp (show 2 < 6 by decide), pPe hj hp (show 3 < 6 by decide), pPe hj hp (show 4 < 6 by decide), Option.bind_some, up_r n1, pPeZ hj hp h01]
  · rcases (show k = 0 ∨ k = 1 ∨ k = 2 ∨ k = 3 ∨ k = 4 ∨ k = 5 by omega) with rfl | rfl | rfl | rfl | rfl | rfl <;> simp (disch := omega) only [up_s, up_k]
theorem x_takes {j i : Nat} (hj : j = 5 ∨ j = 21 ∨ j = 37) (hi : i = 5 ∨ i = 21 ∨ i = 37) (ne : i ≠ j) (h01 : ∀ p, p < 12 → V (i + 4 + p) 5 = 0 ∨ V (i + 4 + p) 5 = 1) : ∃ V', fX3_takes (Wd b V lw R) (some (b + j)) (some (b + i)) = some (some (b + j), Wd b V' lw R) ∧ (∀ o, ¬ (j + 4 ≤ o ∧ o < j + 16) → o ≠ j → V' o = V o) ∧ (∀ k, k ≠ 3 → k ≠ 4 → V' j k = V j k) ∧ V' j 3 = V i 3 ∧ V' j 4 = V i 4 ∧ ∀ p k, p < 12 → k < 6 → V' (j + 4 + p) k = V (i + 4 + p) k := by
  obtain ⟨r, h1, V', h2, h3, h4⟩ := iter_for (b := fX3_takes_L2 (some (b + j)) (some (b + i))) (s := (I 0, Wd b V lw R)) (fun n s => ∃ V', s = (I (n : Int), Wd b V' lw R) ∧ (∀ o, ¬ (j + 4 ≤ o ∧ o < j + 16) → V' o = V o) ∧ (∀ p k, p < n → k < 6 → V' (j + 4 + p) k = V (i + 4 + p) k)) (fun r => ∃ V', r = Wd b V' lw R ∧ (∀ o, ¬ (j + 4 ≤ o ∧ o < j + 16) → V' o = V o) ∧ (∀ p k, p < 12 → k < 6 → V' (j + 4 + p) k = V (i + 4 + p) k)) 12 (by decide) ⟨V, rfl, fun _ _ => rfl, fun p k h => absurd h (Nat.not_lt_zero _)⟩ (fun n s hS hn => by
      obtain ⟨V', rfl, h1, h2⟩ := hS
      have es : V' (i + 4 + n) = V (i + 4 + n) := h1 _ (by omega)
      obtain ⟨V2, e1, e2, e3⟩ := x_takes1 (b := b) (V := V') (lw := lw) (R := R) hj hi ne hn (by rw [es]; exact h01 n hn)
      refine ⟨(I ((n + 1 : Nat) : Int), Wd b V2 lw R), ?_, V2, rfl, fun o ho => by rw [e2 o (by omega), h1 o ho], fun p k hp hk => ?_⟩
      · unfold fX3_takes_L2
        simp (disch := omega) only [k_12, k_1, I_le, if_neg, gPf0 hj, gPf0 hi, rPe hj, rPe hi, Option.bind_some, tn, onPe hj hn, e1, I_add]
        rfl
      · by_cases e : p = n
        · subst e
          rw [e3 k hk, es]
        · rw [e2 _ (by omega), h2 p k (by omega) hk]) (fun s hS => by
      obtain ⟨V', rfl, h1, h2⟩ := hS
      exact ⟨Wd b V' lw R, by unfold fX3_takes_L2; simp (disch := omega) only [k_12, I_le, if_pos], V', rfl, h1, h2⟩)
  have e3 : V' i 3 = V i 3 := by rw [h3 i (by omega)]
  have e4 : V' i 4 = V i 4 := by rw [h3 i (by omega)]
  refine ⟨up (up V' j 3 (V i 3)) j 4 (V i 4), ?_, fun o h1 h2 => by rw [up_r h2, up_r h2, h3 o h1], fun k h1 h2 => by rw [up_k h2, up_k h1, h3 j (by omega)], by rw [up_k (by decide), up_s], by rw [up_s], fun p k hp hk => by rw [up_r (by omega), up_r (by omega), h4 p k hp hk]⟩
  unfold fX3_takes
  rw [k_0, h1, h2]
  simp only [Option.bind_some, gPf hi (show 3 ≤ 3 ∧ 3 < 8 by decide), gPf hi (show 3 ≤ 4 ∧ 4 < 8 by decide), pPf hj (show 3 ≤ 3 ∧ 3 < 8 by decide), pPf hj (show 3 ≤ 4 ∧ 4 < 8 by decide), e3, up_r ne, e4]
theorem x_isAgain {j i : Nat} (hj : j = 5 ∨ j = 21 ∨ j = 37) (hi : i = 5 ∨ i = 21 ∨ i = 37) (ne : i ≠ j) : ∃ V', fX3_isAgain (Wd b V lw R) (some (b + j)) (some (b + i)) = some (Wd b V' lw R) ∧ (∀ o, ¬ (j + 4 ≤ o ∧ o < j + 16) → o ≠ j → V' o = V o) ∧ (∀ k, k ≠ 3 → k ≠ 4 → V' j k = V j k) ∧ V' j 3 = V i 3 ∧ V' j 4 = V i 4 ∧ (∀ p, p < 12 → V' (j + 4 + p) 3 = V (i + 4 + p) 3 ∧ V' (j + 4 + p) 4 = V (i + 4 + p) 4) ∧ ∀ p k, k ≠ 3 → k ≠ 4 → V' (j + 4 + p) k = V (j + 4 + p) k := by
  obtain ⟨r, h1, V', h2, h3, h4, h5⟩ := iter_for (b := fX3_isAgain_L2 (some (b + j)) (some (b + i))) (s := (I 0, Wd b V lw R)) (fun n s => ∃ V', s = (I (n : Int), Wd b V' lw R) ∧ (∀ o, ¬ (j + 4 ≤ o ∧ o < j + 16) → V' o = V o) ∧ (∀ p, p < n → V' (j + 4 + p) 3 = V (i + 4 + p) 3 ∧ V' (j + 4 + p) 4 = V (i + 4 + p) 4) ∧ ∀ p k, k ≠ 3 → k ≠ 4 → V' (j + 4 + p) k = V (j + 4 + p) k) (fun r => ∃ V', r = Wd b V' lw R ∧ (∀ o, ¬ (j + 4 ≤ o ∧ o < j + 16) → V' o = V o) ∧ (∀ p, p < 12 → V' (j + 4 + p) 3 = V (i + 4 + p) 3 ∧ V' (j + 4 + p) 4 = V (i + 4 + p) 4) ∧ ∀ p k, k ≠ 3 → k ≠ 4 → V' (j + 4 + p) k = V (j + 4 + p) k) 12 (by decide) ⟨V, rfl, fun _ _ => rfl, fun p h => absurd h (Nat.not_lt_zero _), fun _ _ _ _ => rfl⟩ (fun n s hS hn => by
      obtain ⟨V', rfl, h1, h2, h5⟩ := hS
      have es : V' (i + 4 + n) = V (i + 4 + n) := h1 _ (by omega)
      have n1 : i + 4 + n ≠ j + 4 + n := by omega
      refine ⟨(I ((n + 1 : Nat) : Int), Wd b (up (up V' (j + 4 + n) 3 (V (i + 4 + n) 3)) (j + 4 + n) 4 (V (i + 4 + n) 4)) lw R), ?_, _, rfl, fun o ho => by rw [up_r (by omega), up_r (by omega), h1 o ho], fun p hp => ?_, fun p k k3 k4 => by rw [up_k k4, up_k k3, h5 p k k3 k4]⟩
      · unfold fX3_isAgain_L2
        simp (disch := omega) only [k_12, k_1, I_le, if_neg, gPf0 hj, gPf0 hi, rPe hj, rPe hi, Option.bind_some, tn, gPe hi hn, pPe hj hn, I_add, up_r n1, es]
        rfl
      · by_cases e : p = n
        · subst e
          exact ⟨by rw [up_k (by decide), up_s], by rw [up_s]⟩
        · rw [up_r (by omega), up_r (by omega)]
          exact h2 p (by omega)) (fun s hS => by
      obtain ⟨V', rfl, h1, h2, h5⟩ := hS
      exact ⟨Wd b V' lw R, by unfold fX3_isAgain_L2; simp (disch := omega) only [k_12, I_le, if_pos], V', rfl, h1, h2, h5⟩)
  have e3 : V' i 3 = V i 3 := by rw [h3 i (by omega)]
  have e4 : V' i 4 = V i 4 := by rw [h3 i (by omega)]
  refine ⟨up (up V' j 3 (V i 3)) j 4 (V i 4), ?_, fun o h1 h2 => by rw [up_r h2, up_r h2, h3 o h1], fun k h1 h2 => by rw [up_k h2, up_k h1, h3 j (by omega)], by rw [up_k (by decide), up_s], by rw [up_s], fun p hp => by rw [up_r (by omega), up_r (by omega)]; exact h4 p hp, fun p k k3 k4 => by rw [up_r (by omega), up_r (by omega)]; exact h5 p k k3 k4⟩
  unfold fX3_isAgain
  rw [k_0, h1, h2]
  simp only [Option.bind_some, gPf hi (show 3 ≤ 3 ∧ 3 < 8 by decide), gPf hi (show 3 ≤ 4 ∧ 4 < 8 by decide), pPf hj (show 3 ≤ 3 ∧ 3 < 8 by decide), pPf hj (show 3 ≤ 4 ∧ 4 < 8 by decide), e3, up_r ne, e4]
theorem pZ13 {x : Int} (hx : x = 0 ∨ x = 1) : hp_pZ (Wd b V lw R) (some b) 0 13 (I x) = some (Wd b (up V 0 13 x) lw R) := by
  unfold hp_pZ
  rw [if_pos (I01 hx)]
  exact pI0_13
theorem pZ65 {x : Int} (hx : x = 0 ∨ x = 1) : hp_pZ (Wd b V lw R) (some (b + 258)) 6 65 (I x) = some (Wd b (up V 258 65 x) lw R) := by
  unfold hp_pZ
  rw [if_pos (I01 hx)]
  exact pI258_65
theorem call_keep (h : Inv V) : Okc b V lw R (fun m => fX0_keep m (some b)) (fun m => fX7_keep m (some (b + 258))) := by
  unfold Okc
  obtain ⟨i1, i2, i3, i4⟩ := h
  obtain ⟨j1, j2⟩ := i3
  obtain ⟨V1, e1, e2, e3, e4, e5, e6⟩ := x_takes (b := b) (V := up V 0 13 1) (lw := lw) (R := R) (j := 37) (i := 5) (Or.inr (Or.inr rfl)) (Or.inl rfl) (by decide) (fun p hp => by rw [up_r (by omega)]; exact (j1 p hp).1)
  obtain ⟨V2, f1, f2, f3⟩ := y_copies (b := b) (V := up V1 258 65 1) (lw := lw) (R := R) (os := 259) (od := 261) (by decide) (by decide) (by decide)
  have r : ∀ o, ¬ (41 ≤ o ∧ o < 53) → o ≠ 37 → o ≠ 0 → o ≠ 258 → o ≠ 261 → V2 o = V o := fun o h1 h2 h3 h4 h5 => by
    rw [f2 o h5, up_r h4, e2 o (by omega) h2, up_r h3]
  have r0 : ∀ k, k ≠ 13 → V2 0 k = V 0 k := fun k hk => by rw [f2 0 (by decide), up_r (by decide), e2 0 (by omega) (by decide), up_k hk]
  have r258 : ∀ k, k ≠ 65 → V2 258 k = V 258 k := fun k hk => by rw [f2 258 (by decide), up_k hk, e2 258 (by omega) (by decide), up_r (by decide)]
  have v13 : V2 0 13 = 1 := by rw [f2 0 (by decide), up_r (by decide), e2 0 (by omega) (by decide), up_s]
  have v65 : V2 258 65 = 1 := by rw [f2 258 (by decide), up_s]
  have v53 : V1 5 3 = V 5 3 := by rw [e2 5 (by omega) (by decide), up_r (by decide)]
  have vn : V2 259 = V 259 := r _ (by omega) (by decide) (by decide) (by decide) (by decide)
  have c37 : ∀ p k, p < 12 → k < 6 → V2 (37 + 4 + p) k = V (5 + 4 + p) k := fun p k hp hk => by
    rw [f2 _ (by omega), up_r (by omega), e6 p k hp hk, up_r (by omega)]
  have ck : ∀ k, k < 26 → V2 261 k = V 259 k := fun k hk => by
    rw [f3 k hk, up_r (by decide), e2 _ (by omega) (by decide), up_r (by decide)]
  have d3 : V2 37 3 = V 5 3 := by rw [f2 _ (by decide), up_r (by decide), e4, up_r (by decide)]
  have d4 : V2 37 4 = V 5 4 := by rw [f2 _ (by decide), up_r (by decide), e5, up_r (by decide)]
  refine ⟨I (V 5 3), Wd b V1 lw R, V2, ?_, ?_, ?_, (agL.of (r258 _ (by decide)) fun o ho => r o (by omega) (by omega) (by omega) (by omega) (by omega)), cO258⟩
  · unfold fX0_keep
    simp only [k_1, pZ13 (x := 1) (Or.inr rfl), Option.bind_some, gR0_9, gR0_7, on37, e1, gI5_3, v53]
  · unfold fX7_keep
    simp only [k_1, k_24, pZ65 (x := 1) (Or.inr rfl), Option.bind_some, gR258_0, gR258_2, f1]
    rw [rA259 (by decide) (by decide), Option.bind_some, vn, show (24 : Int).toNat = 24 from rfl, j2.2.2.1]
  · have aT : agT V V2 := agT.of (r0 _ (by decide)) (r258 _ (by decide)) fun o q => r o (by omega) (by omega) (by omega) (by omega) (by omega)
    refine ⟨InvT_c aT i1, InvE_c aT (agE.of (r0 _ (by decide)) (r258 _ (by decide)) fun o q => r o (by omega) (by omega) (by omega) (by omega) (by omega)) i1 i2, ⟨fun p hp => ?_, ?_⟩, ?_⟩
    · have q := j1 p hp
      rw [c37 p 3 hp (by decide), c37 p 4 hp (by decide), ck p (by omega), ck (12 + p) (by omega), vn, r (5 + 4 + p) (by omega) (by omega) (by omega) (by omega) (by omega), r 270 (by omega) (by decide) (by decide) (by decide) (by decide), r 262 (by omega) (by decide) (by decide) (by decide) (by decide), r 263 (by omega) (by decide) (by decide) (by decide) (by decide), r 264 (by omega) (by decide) (by decide) (by decide) (by decide)]
      omega
    · rw [d3, d4, ck 24 (by decide), ck 25 (by decide), vn, r 5 (by omega) (by decide) (by decide) (by decide) (by decide)]
      omega
    · obtain ⟨q1, q2, q3, q4, q5, q6, q7, q8, q9⟩ := i4
      unfold InvQ
      rw [v13, v65, r0 5 (by decide), r0 12 (by decide), r258 13 (by decide), r258 17 (by decide), r 272 (by omega) (by decide) (by decide) (by decide) (by decide), r 53 (by omega) (by decide) (by decide) (by decide) (by decide)]
      exact ⟨q1, q2, q3, Or.inr rfl, rfl, q6, q7, q8, q9⟩
theorem call_undo (h : Inv V) : Okc b V lw R (fun m => fX0_undo m (some b)) (fun m => fX7_undo m (some (b + 258))) := by
  unfold Okc
  have h0 := h
  obtain ⟨i1, i2, i3, i4⟩ := h
  obtain ⟨j1, j2⟩ := i3
  obtain ⟨q1, q2, q3, q4, q5, q6, q7, q8, q9⟩ := id i4
  by_cases g : V 0 13 = 0
  · refine ⟨I 0, Wd b V lw R, V, ?_, ?_, h0, agL.id V, cO258⟩
    · show fX0_undo _ _ = _
      unfold fX0_undo
      rw [gI0_13, Option.bind_some, g, k_0, if_pos rfl]
    · show fX7_undo _ _ = _
      unfold fX7_undo
      rw [gI258_65, Option.bind_some, q5, g, k_0, if_pos rfl]
  have g : V 0 13 = 1 := by omega
  obtain ⟨V1, e1, e2, e3, e4, e5, e6, e7⟩ := x_isAgain (b := b) (V := V) (lw := lw) (R := R) (j := 5) (i := 37) (Or.inl rfl) (Or.inr (Or.inr rfl)) (by decide)
  obtain ⟨V2, f1, f2, f3⟩ := y_copies (b := b) (V := V1) (lw := lw) (R := R) (os := 261) (od := 259) (by decide) (by decide) (by decide)
  have r : ∀ o, ¬ (9 ≤ o ∧ o < 21) → o ≠ 5 → o ≠ 259 → V2 o = V o := fun o h1 h2 h3 => by
    rw [f2 o h3, e2 o (by omega) h2]
  have vk : V1 261 = V 261 := e2 _ (by omega) (by decide)
  have c5 : ∀ p k, p < 12 → k = 3 ∨ k = 4 → V2 (5 + 4 + p) k = V (37 + 4 + p) k := fun p k hp hk => by
    rw [f2 _ (by omega)]
    rcases hk with rfl | rfl
    · exact (e6 p hp).1
    · exact (e6 p hp).2
  have c5o : ∀ p k, p < 12 → k ≠ 3 → k ≠ 4 → V2 (5 + 4 + p) k = V (5 + 4 + p) k := fun p k hp h3 h4 => by
    rw [f2 _ (by omega), e7 p k h3 h4]
  have cn : ∀ k, k < 26 → V2 259 k = V 261 k := fun k hk => by rw [f3 k hk, vk]
  have d3 : V2 5 3 = V 37 3 := by rw [f2 _ (by decide), e4]
  have d4 : V2 5 4 = V 37 4 := by rw [f2 _ (by decide), e5]
  refine ⟨I 1, Wd b V1 lw R, V2, ?_, ?_, ?_, (agL.of (by rw [r 258 (by omega) (by decide) (by decide)]) fun o ho => r o (by omega) (by omega) (by omega)), cO258⟩
  · show fX0_undo _ _ = _
    unfold fX0_undo
    rw [gI0_13, Option.bind_some, g, k_0, if_neg (by decide), gR0_7, Option.bind_some, gR0_9, Option.bind_some, on5, e1]
    rfl
  · show fX7_undo _ _ = _
    unfold fX7_undo
    have e : V1 258 65 = 1 := by rw [e2 258 (by omega) (by decide), q5, g]
    rw [gI258_65, Option.bind_some, e, k_0, if_neg (by decide), gR258_2, Option.bind_some, gR258_0, Option.bind_some, f1]
    rfl
  · have aT : agT V V2 := agT.of (by rw [r 0 (by omega) (by decide) (by decide)]) (by rw [r 258 (by omega) (by decide) (by decide)]) fun o q => r o (by omega) (by omega) (by omega)
    refine ⟨InvT_c aT i1, InvE_c aT (agE.of (by rw [r 0 (by omega) (by decide) (by decide)]) (by rw [r 258 (by omega) (by decide) (by decide)]) fun o q => r o (by omega) (by omega) (by omega)) i1 i2, ⟨fun p hp => ?_, ?_⟩, ?_⟩
    · have q := j1 p hp
      rw [c5 p 3 hp (Or.inl rfl), c5 p 4 hp (Or.inr rfl), cn p (by omega), cn (12 + p) (by omega), c5o p 5 hp (by decide) (by decide), c5o p 0 hp (by decide) (by decide), c5o p 1 hp (by decide) (by decide), c5o p 2 hp (by decide) (by decide), r (37 + 4 + p) (by omega) (by omega) (by omega), r 270 (by omega) (by decide) (by decide), r 262 (by omega) (by decide) (by decide), r 263 (by omega) (by decide) (by decide), r 264 (by omega) (by decide) (by decide), r 261 (by omega) (by decide) (by decide)]
      omega
    · rw [d3, d4, cn 24 (by decide), cn 25 (by decide), r 37 (by omega) (by decide) (by decide), r 261 (by omega) (by decide) (by decide)]
      omega
    · unfold InvQ
      rw [r 0 (by omega) (by decide) (by decide), r 258 (by omega) (by decide) (by decide), r 272 (by omega) (by decide) (by decide), r 53 (by omega) (by decide) (by decide)]
      exact i4
end KP
