/-! CALL: sets. No JVM here. -/
set_option maxRecDepth 100000
set_option linter.unusedVariables false
section SV
variable {b : Nat} {V0 V : Vw} {lw : Option Nat} {R : Hp} {p k j i r e n d f to q x y first many : Nat} {s z w c lo hi m : Int} {u : Int32} {A M : Nat → Int} {t : Nat}
theorem y_nextL2 (h : Rel V0 V) : ∃ V', iter (fX7_findsNext_L2 (some (b + 258)) u) FUEL (I 0, Wd b V lw R) = some (Wd b V' lw R) ∧ (∀ o, o ≠ 301 → V' o = V o) ∧ ∀ x, x < nT V0 → V' 301 x = -1 := by
  have hn := n48 h
  obtain ⟨q, k1, V1, k2, k3, k4⟩ := iter_for (b := fX7_findsNext_L2 (some (b + 258)) u) (s := (I 0, Wd b V lw R)) (fun n q => ∃ V', q = (I (n : Int), Wd b V' lw R) ∧ (∀ o, o ≠ 301 → V' o = V o) ∧ ∀ x, x < n → V' 301 x = -1) (fun q => ∃ V', q = Wd b V' lw R ∧ (∀ o, o ≠ 301 → V' o = V o) ∧ ∀ x, x < nT V0 → V' 301 x = -1) (nT V0) (by omega) ⟨V, rfl, fun _ _ => rfl, fun x hx => by omega⟩ (fun n q hS hn => by
    obtain ⟨V', rfl, a1, a2⟩ := hS
    have h' : Rel V0 V' := h.sc (sc_300 fun o _ o1 _ => a1 o o1)
    refine ⟨(I ((n + 1 : Nat) : Int), Wd b (up V' 301 n (-1)) lw R), ?_, up V' 301 n (-1), rfl, fun o ho => by rw [up_r ho, a1 o ho], fun x hx => ?_⟩
    · unfold fX7_findsNext_L2
      simp (disch := omega) only [k_0, k_1, I_neg, gI258_14, w_n h', I_le, if_neg, gR258_61, wA301, tn, Option.bind_some, I_add]
      rfl
    · by_cases c : x = n
      · rw [c, up_s]
      · rw [up_k c]
        exact a2 x (by omega)) (fun q hS => by
    obtain ⟨V', rfl, a1, a2⟩ := hS
    have h' : Rel V0 V' := h.sc (sc_300 fun o _ o1 _ => a1 o o1)
    refine ⟨_, ?_, V', rfl, a1, a2⟩
    unfold fX7_findsNext_L2
    simp (disch := omega) only [gI258_14, w_n h', Option.bind_some, I_le, if_pos])
  exact ⟨V1, by rw [k1, k2], k3, k4⟩
/-- the search: found, or a set that is closed -/
theorem y_findsNext (h : Rel V0 V) (hM : mV V0 (V 300)) (hf : first < nT V0) (h0 : ¬ mC V0 (V 300) first) : ∃ (v : Bool) (V' : Vw), fX7_findsNext (Wd b V lw R) (some (b + 258)) (I (first : Int)) = some (I (if v = true then 1 else 0), Wd b V' lw R) ∧ (∀ o, o ≠ 300 → o ≠ 301 → o ≠ 302 → V' o = V o) ∧ (v = true → mV V0 (V' 300) ∧ ∀ x, mC V0 (V' 300) x ↔ mC V0 (V 300) x ∨ x = first) ∧ (v = false → V' 300 = V 300 ∧ ¬ ∃ M', mV V0 M' ∧ ∀ x, mC V0 M' x ↔ mC V0 (V 300) x ∨ x = first) := by
  have hn := n48 h
  have hf48 := r48 h hf
  obtain ⟨V1, e1, e2, e3⟩ := y_nextL2 (b := b) (lw := lw) (R := R) (u := I (first : Int)) h
  have eA : up V1 302 0 (first : Int) 300 = V 300 := by rw [up_r (by omega), e2 _ (by omega)]
  have r1 : Rel V0 V1 := h.sc (sc_300 fun o _ o1 _ => e2 o o1)
  have r2 : Rel V0 (up V1 302 0 (first : Int)) := r1.upd (Or.inl (by unfold scr; omega))
  have q0 : qN (up V1 302 0 (first : Int)) 0 = first := by
    unfold qN
    rw [up_s, tn]
  have K0 : yK V0 (up V1 302 0 (first : Int)) (V 300) first 0 0 1 := by
    refine ⟨eA, by omega, ⟨fun j hj => ?_, fun j l hj hl _ => by omega, q0, fun l h1 h2 => by omega⟩, fun q hq => Or.inl (by rw [up_r (by omega), e3 q hq]), ?_, fun j q hj hq w _ => by omega⟩
    · have : j = 0 := by omega
      rw [this, q0, up_s]
      exact ⟨rfl, hf⟩
    · have : ¬ 0 < cnt (fun q => decide (up V1 302 0 (first : Int) 301 q ≠ -1)) (nT V0) := fun w => by
        obtain ⟨q, w1, w2⟩ := (cnt_pos _).mp w
        have w2 := of_decide_eq_true w2
        rw [up_r (by omega), e3 q w1] at w2
        exact w2 rfl
      have := (cnt_le (fun q => decide (up V1 302 0 (first : Int) 301 q ≠ -1)) (nT V0)).1
      omega
  obtain ⟨rr, k1, k2⟩ := iter_inv0 (b := fX7_findsNext_L34 (some (b + 258)) (I (first : Int))) (s := (I 1, I 0, Wd b (up V1 302 0 (first : Int)) lw R)) (fun i s => ∃ V' many, s = (I ((many : Nat) : Int), I (i : Int), Wd b V' lw R) ∧ i ≤ many ∧ (∀ o, o ≠ 301 → o ≠ 302 → V' o = V o) ∧ yK V0 V' (V 300) first i 0 many) (fun rr => (∃ V' many, rr = .inl (Wd b V' lw R) ∧ (∀ o, o ≠ 301 → o ≠ 302 → V' o = V o) ∧ yK V0 V' (V 300) first many 0 many) ∨ ∃ V', rr = .inr (I 1, Wd b V' lw R) ∧ (∀ o, o ≠ 300 → o ≠ 301 → o ≠ 302 → V' o = V o) ∧ mV V0 (V' 300) ∧ ∀ x, mC V0 (V' 300) x ↔ mC V0 (V 300) x ∨ x = first) 48 (by omega) ⟨_, 1, rfl, by omega, fun o o1 o2 => by rw [up_r o2, e2 o o1], K0⟩ (fun i s hS => by
    obtain ⟨V', many, rfl, a0, a1, a2⟩ := hS
    have h' : Rel V0 V' := h.sc (sc_300 fun o _ o2 o3 => a1 o o2 o3)
    have m48 : many ≤ 48 := by
      obtain ⟨d1, d2, d3, d4, d5, d6⟩ := a2
      have := yK_b (first := first) hM hf h0 (P := fun q => decide (V' 301 q ≠ -1)) fun q hq hp => by
        rcases d4 q hq with w | ⟨j, l, w1, w2, w3, w4, w5⟩
        · exact absurd w (of_decide_eq_true hp)
        · exact ⟨_, w5⟩
      omega
    by_cases hi : i = many
    · rw [hi] at a2 ⊢
      refine Or.inr ⟨_, ?_, Or.inl ⟨V', many, rfl, a1, a2⟩⟩
      unfold fX7_findsNext_L34
      simp (disch := omega) only [I_le, if_pos]
    · have hi : i < many := by omega
      obtain ⟨rr, f1, f2⟩ := y_nextL50 (b := b) (lw := lw) (R := R) (u1 := I (i : Int)) hM hf h0 h' a2 hi
      have qi := a2.2.2.1.1 i hi
      unfold fX7_findsNext_L34
      simp (disch := omega) only [k_0, I_le, if_neg, gR258_62, rA302, tn, Option.bind_some]
      rw [qi.1, f1, Option.bind_some]
      rcases f2 with ⟨V2, many2, rfl, g1, g0, g2⟩ | ⟨V2, rfl, g1, g2, g3⟩
      · exact Or.inl ⟨_, rfl, ⟨V2, many2, by rw [k_1, I_add]; rfl, by omega, fun o o1 o2 => by rw [g1 o o1 o2, a1 o o1 o2], g2⟩, by omega⟩
      · exact Or.inr ⟨_, rfl, Or.inr ⟨V2, rfl, fun o o1 o2 o3 => by rw [g1 o o1 o2 o3, a1 o o2 o3], g2, g3⟩⟩)
  unfold fX7_findsNext
  rw [k_0, e1, Option.bind_some]
  simp (disch := omega) only [k_1, gR258_62, wA302, Option.bind_some, Int.toNat_zero]
  rw [k1]
  rcases k2 with ⟨V2, many, rfl, g1, g2⟩ | ⟨V2, rfl, g1, g2, g3⟩
  · refine ⟨false, V2, rfl, fun o _ o2 o3 => g1 o o2 o3, fun w => absurd w (by decide), fun _ => ⟨g2.1, fun ⟨M', gM, gC⟩ => ?_⟩⟩
    obtain ⟨a1, a2, ⟨p1, p2, p3, p4⟩, a4, a5, a6⟩ := g2
    have inS : ∀ l, l < many → 0 < cnt (fun j => decide (qN V2 j = qN V2 l)) many := fun l hl => (cnt_pos _).mpr ⟨l, hl, decide_eq_true rfl⟩
    refine mt_key (S := fun x => decide (0 < cnt (fun j => decide (qN V2 j = x)) many)) hM hf h0 (decide_eq_true (by rw [← p3]; exact inS 0 (by omega))) (fun x hx => ?_) (fun x q hx hq he => ?_) gM gC
    · obtain ⟨j, w1, w2⟩ := (cnt_pos _).mp (of_decide_eq_true hx)
      have w2 := of_decide_eq_true w2
      by_cases c : j = 0
      · rw [c, p3] at w2
        exact Or.inl w2.symm
      · obtain ⟨q, x1, x2, _⟩ := p4 j (by omega) w1
        exact Or.inr ⟨q, x1, by rw [x2, w2]⟩
    · obtain ⟨j, w1, w2⟩ := (cnt_pos _).mp (of_decide_eq_true hx)
      have w2 := of_decide_eq_true w2
      have vis := a6 j q w1 hq (Or.inl w1) (by rw [w2]; exact he)
      rcases a4 q hq with w | ⟨j', l, y1, y2, y3, y4, y5⟩
      · exact absurd w vis
      · exact ⟨qN V2 l, y5, decide_eq_true (inS l y2)⟩
  · exact ⟨true, V2, rfl, g1, fun _ => ⟨g2, g3⟩, fun w => absurd w (by decide)⟩
theorem y_setsL4 {u2 : Int32} : ∃ V', iter (fX7_sets_L4 (some (b + 258)) u2) FUEL (I 0, Wd b V lw R) = some (Wd b V' lw R) ∧ (∀ o, o ≠ 300 → V' o = V o) ∧ ∀ x, x < 48 → V' 300 x = -1 := by
  obtain ⟨q, k1, V1, k2, k3, k4⟩ := iter_for (b := fX7_sets_L4 (some (b + 258)) u2) (s := (I 0, Wd b V lw R)) (fun n q => ∃ V', q = (I (n : Int), Wd b V' lw R) ∧ (∀ o, o ≠ 300 → V' o = V o) ∧ ∀ x, x < n → V' 300 x = -1) (fun q => ∃ V', q = Wd b V' lw R ∧ (∀ o, o ≠ 300 → V' o = V o) ∧ ∀ x, x < 48 → V' 300 x = -1) 48 (by omega) ⟨V, rfl, fun _ _ => rfl, fun x hx => by omega⟩ (fun n q hS hn => by
    obtain ⟨V', rfl, a1, a2⟩ := hS
    refine ⟨(I ((n + 1 : Nat) : Int), Wd b (up V' 300 n (-1)) lw R), ?_, up V' 300 n (-1), rfl, fun o ho => by rw [up_r ho, a1 o ho], fun x hx => ?_⟩
    · unfold fX7_sets_L4
      simp (disch := omega) only [k_0, k_1, k_48, I_neg, I_le, if_neg, gR258_60, wA300, tn, Option.bind_some, I_add]
      rfl
    · by_cases c : x = n
      · rw [c, up_s]
      · rw [up_k c]
        exact a2 x (by omega)) (fun q hS => by
    obtain ⟨V', rfl, a1, a2⟩ := hS
    refine ⟨_, ?_, V', rfl, a1, a2⟩
    unfold fX7_sets_L4
    simp (disch := omega) only [k_48, I_le, if_pos])
  exact ⟨V1, by rw [k1, k2], k3, k4⟩
theorem y_sets (h : Rel V0 V) : ∃ (V' : Vw) (succ : Nat → Bool), fX7_sets (Wd b V lw R) (some (b + 258)) = some (I (cnt (fun r => decide (ru V0 r)) (nT V0) - cnt succ (nT V0)), Wd b V' lw R) ∧ (∀ o, o ≠ 300 → o ≠ 301 → o ≠ 302 → V' o = V o) ∧ mG V0 (nT V0) succ := by
  have hn := n48 h
  obtain ⟨V1, e1, e2, e3⟩ := y_setsL4 (b := b) (V := V) (lw := lw) (R := R) (u2 := I 0)
  have r1 : Rel V0 V1 := h.sc (sc_300 fun o o1 _ _ => e2 o o1)
  have z3 : ∀ x, x < nT V0 → V1 300 x = -1 := fun x hx => e3 x (by omega)
  obtain ⟨q, k1, V2, succ, k2, k3, k4⟩ := iter_for (b := fX7_sets_L25 (some (b + 258))) (s := (I 0, I 0, Wd b V1 lw R)) (fun r q => ∃ (V' : Vw) (succ : Nat → Bool), q = (I (cnt (fun r => decide (ru V0 r)) r - cnt succ r), I (r : Int), Wd b V' lw R) ∧ (∀ o, o ≠ 300 → o ≠ 301 → o ≠ 302 → V' o = V o) ∧ mG V0 r succ ∧ mV V0 (V' 300) ∧ ∀ x, mC V0 (V' 300) x ↔ x < r ∧ succ x = true) (fun q => ∃ (V' : Vw) (succ : Nat → Bool), q = (I (cnt (fun r => decide (ru V0 r)) (nT V0) - cnt succ (nT V0)), Wd b V' lw R) ∧ (∀ o, o ≠ 300 → o ≠ 301 → o ≠ 302 → V' o = V o) ∧ mG V0 (nT V0) succ) (nT V0) (by omega) ⟨V1, fun _ => false, rfl, fun o o1 _ _ => e2 o o1, fun r hr => by omega, (mV_0 z3).1, fun x => ⟨fun w => absurd w ((mV_0 z3).2 x), fun w => by omega⟩⟩ (fun r q hS hr => by
    obtain ⟨V', succ, rfl, a1, a2, a3, a4⟩ := hS
    have h' : Rel V0 V' := h.sc (sc_300 a1)
    have h48 := r48 h hr
    have c0 : ¬ mC V0 (V' 300) r := fun w => by
      have := (a4 r).mp w
      omega
    unfold fX7_sets_L25
    simp (disch := omega) only [k_0, k_1, gI258_14, w_n h', I_le, if_neg, on258, y_runs h' hr, Option.bind_some, bi_if, I_add]
    by_cases c : ru V0 r
    · rw [if_pos c]
      obtain ⟨v, V3, g3, o1, o4, o5⟩ := y_findsNext (b := b) (lw := lw) (R := R) h' a3 hr c0
      obtain ⟨s2, s3, s4, s5, s6⟩ := mG_s (M' := V3 300) (v := v) a2 hr a3 a4 o4 (fun w => ⟨fun q _ => by rw [(o5 w).1], (o5 w).2⟩)
      refine ⟨(I (cnt (fun r => decide (ru V0 r)) (r + 1) - cnt s2 (r + 1)), I ((r + 1 : Nat) : Int), Wd b V3 lw R), ?_, V3, s2, rfl, fun o p1 p2 p3 => by rw [o1 o p1 p2 p3, a1 o p1 p2 p3], s3, s4, s5⟩
      rw [g3, Option.bind_some, s6]
      have er : cnt (fun r => decide (ru V0 r)) (r + 1) = cnt (fun r => decide (ru V0 r)) r + 1 := by
        rw [cnt, if_pos (decide_eq_true c)]
      rw [er]
      cases v with
      | true =>
        simp only [if_true]
        rw [if_neg (show ¬ I 1 = I 0 by decide), I_sub, show cnt (fun r => decide (ru V0 r)) r + 1 - (cnt succ r + 1) = cnt (fun r => decide (ru V0 r)) r - cnt succ r + 1 - 1 by omega]
        rfl
      | false =>
        simp only [Bool.false_eq_true, if_false, if_true, Int.add_zero]
        rw [show cnt (fun r => decide (ru V0 r)) r + 1 - cnt succ r = cnt (fun r => decide (ru V0 r)) r - cnt succ r + 1 by omega]
        rfl
    · rw [if_neg c]
      obtain ⟨s2, s3, s4, s5, s6⟩ := mG_s (M' := V' 300) (v := false) a2 hr a3 a4 (fun w => absurd w (by decide)) (fun _ => ⟨fun _ _ => rfl, fun ⟨M', gM, gC⟩ => by
        obtain ⟨q, q1, q2⟩ := (gC r).mpr (Or.inr rfl)
        rcases gM.1 q q1 with w | ⟨r', w1, w2, w3⟩
        · omega
        · have : r' = r := by omega
          rw [this] at w3
          exact c w3.1⟩)
      refine ⟨_, rfl, V', s2, ?_, a1, s3, s4, s5⟩
      have er : cnt (fun r => decide (ru V0 r)) (r + 1) = cnt (fun r => decide (ru V0 r)) r := by
        rw [cnt, if_neg (fun w => c (of_decide_eq_true w)), Int.add_zero]
      rw [er, s6]
      simp only [Bool.false_eq_true, if_false, Int.add_zero]
      rfl) (fun q hS => by
    obtain ⟨V', succ, rfl, a1, a2, a3, a4⟩ := hS
    have h' : Rel V0 V' := h.sc (sc_300 a1)
    refine ⟨_, ?_, V', succ, rfl, a1, a2⟩
    unfold fX7_sets_L25
    simp (disch := omega) only [gI258_14, w_n h', Option.bind_some, I_le, if_pos])
  refine ⟨V2, succ, ?_, k3, k4⟩
  unfold fX7_sets
  simp only [k_0, Option.bind_some, e1, k1, k2]
theorem call_sets (h : Inv V) : Okc b V lw R (fun m => fX0_sets m (some b)) (fun m => fX7_sets m (some (b + 258))) := by
  unfold Okc
  obtain ⟨V1, s1, e1, e2, e3⟩ := x_sets (b := b) (lw := lw) (R := R) h.rel
  have c1 : Sc V V1 := sc_62 e2
  have r1 : Rel V V1 := h.rel.sc c1
  obtain ⟨V2, s2, f1, f2, f3⟩ := y_sets (b := b) (lw := lw) (R := R) r1
  have c2 : Sc V V2 := c1.tr (sc_300 f2)
  have : cnt s1 (nT V) = cnt s2 (nT V) := cnt_c (nT V) (mG_u e3 f3)
  rw [← this] at f1
  exact ⟨_, _, V2, e1, f1, (h.sc c2).1, (h.sc c2).2, cO258⟩
end SV
