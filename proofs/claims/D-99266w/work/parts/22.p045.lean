/-! CALL: sets, the reference, II. No JVM here. -/
set_option maxRecDepth 100000
set_option linter.unusedVariables false
def yK (V0 V : Vw) (M : Nat → Int) (first i t many : Nat) : Prop := V 300 = M ∧ 1 ≤ many ∧ yP V0 V M first many ∧ (∀ q, q < nT V0 → V 301 q = -1 ∨ ∃ j k, j < many ∧ k < many ∧ 1 ≤ k ∧ V 301 q = (qN V j : Int) ∧ M q = (qN V k : Int)) ∧ (many : Int) = 1 + cnt (fun q => decide (V 301 q ≠ -1)) (nT V0) ∧ ∀ j q, j < many → q < nT V0 → (j < i ∨ (j = i ∧ q < t)) → fE V0 (qN V j) q → V 301 q ≠ -1
section SW
variable {b : Nat} {V0 V : Vw} {lw : Option Nat} {R : Hp} {p k j i r e n d f to q x y first many : Nat} {s z w c lo hi m : Int} {u : Int32} {A M : Nat → Int} {t : Nat}
theorem cnt_put {p p' : Nat → Bool} {q n : Nat} (hq : q < n) (h0 : p q = false) (h1 : p' q = true) (h : ∀ x, x < n → x ≠ q → p' x = p x) : cnt p' n = cnt p n + 1 := by
  rw [← cnt_del n q hq h1]
  congr 1
  refine cnt_c n fun x hx => ?_
  by_cases c : x = q
  · rw [c, h0]
    simp
  · rw [h x hx c, decide_eq_true c, Bool.and_true]
theorem yK_b (hM : mV V0 M) (hf : first < nT V0) (h0 : ¬ mC V0 M first) {P : Nat → Bool} (h : ∀ q, q < nT V0 → P q = true → ∃ y, M q = ((y : Nat) : Int)) : cnt P (nT V0) + 1 ≤ nT V0 := by
  have a := cnt_inj (p := P) (q := fun x => true && decide (x ≠ first)) (m := nT V0) (fun q => (M q).toNat) (nT V0) (fun q hq hp => by
    obtain ⟨y, hy⟩ := h q hq hp
    rw [hy, tn]
    have ylt : y < nT V0 := by
      rcases hM.1 q hq with w | ⟨r', w1, w2, w3⟩ <;> omega
    have yf : y ≠ first := fun w => h0 ⟨q, hq, by rw [hy, w]⟩
    refine ⟨ylt, ?_⟩
    rw [decide_eq_true yf]
    rfl) (fun q q' hq hq' hp hp' e => by
    obtain ⟨y, hy⟩ := h q hq hp
    obtain ⟨y', hy'⟩ := h q' hq' hp'
    rw [hy, hy', tn, tn] at e
    by_cases c : q = q'
    · exact c
    · have := hM.2 q q' hq hq' c (by rw [hy, hy', e])
      omega)
  have c := cnt_del (p := fun _ => true) (nT V0) first hf rfl
  have d := (cnt_le (fun _ => true) (nT V0)).2
  omega
theorem yK_n (k : yK V0 V M first i t many) (hc : V 301 t ≠ -1 ∨ ¬ fE V0 (qN V i) t) : yK V0 V M first i (t + 1) many := by
  obtain ⟨a1, a2, a3, a4, a5, a6⟩ := k
  refine ⟨a1, a2, a3, a4, a5, fun j q hj hq w he => ?_⟩
  by_cases c : j = i ∧ q = t
  · obtain ⟨c1, c2⟩ := c
    rw [c1, c2] at he
    rw [c2]
    exact hc.elim id fun w => absurd he w
  · exact a6 j q hj hq (by omega) he
theorem yK_e (k : yK V0 V M first i (nT V0) many) : yK V0 V M first (i + 1) 0 many := by
  obtain ⟨a1, a2, a3, a4, a5, a6⟩ := k
  exact ⟨a1, a2, a3, a4, a5, fun j q hj hq w he => a6 j q hj hq (by omega) he⟩
theorem yK_a (hM : mV V0 M) (h0 : ¬ mC V0 M first) (k : yK V0 V M first i t many) (hi : i < many) (ht : t < nT V0) (hc : V 301 t = -1) (he : fE V0 (qN V i) t) (hy : M t = (y : Int)) : yK V0 (up (up V 301 t (qN V i : Int)) 302 many (y : Int)) M first i (t + 1) (many + 1) := by
  obtain ⟨a1, a2, ⟨p1, p2, p3, p4⟩, a4, a5, a6⟩ := k
  have e1 : up (up V 301 t (qN V i : Int)) 302 many (y : Int) 300 = V 300 := by rw [up_r (by omega), up_r (by omega)]
  have eq : ∀ j, j ≠ many → qN (up (up V 301 t (qN V i : Int)) 302 many (y : Int)) j = qN V j := fun j hj => by
    unfold qN
    rw [up_k hj, up_r (by omega)]
  have em : qN (up (up V 301 t (qN V i : Int)) 302 many (y : Int)) many = y := by
    unfold qN
    rw [up_s, tn]
  have ec : ∀ q, q ≠ t → up (up V 301 t (qN V i : Int)) 302 many (y : Int) 301 q = V 301 q := fun q hq => by rw [up_r (by omega), up_k hq]
  have ect : up (up V 301 t (qN V i : Int)) 302 many (y : Int) 301 t = (qN V i : Int) := by rw [up_r (by omega), up_s]
  have ylt : y < nT V0 := by
    rcases hM.1 t ht with w | ⟨r', w1, w2, w3⟩ <;> omega
  have fresh : ∀ j, 1 ≤ j → j < many → qN V j ≠ y := fun j j1 hj w => by
    obtain ⟨q, w1, w2, l, w3, w4, w5⟩ := p4 j j1 hj
    by_cases c : q = t
    · rw [c, hc] at w4
      omega
    · have := hM.2 q t w1 ht c (by rw [w2, hy, w])
      omega
  refine ⟨by rw [e1]; exact a1, by omega, ⟨fun j hj => ?_, fun j l hj hl e => ?_, ?_, fun l l1 hl => ?_⟩, fun q hq => ?_, ?_, fun j q hj hq w he => ?_⟩
  · by_cases c : j = many
    · rw [c, em, up_s]
      exact ⟨rfl, ylt⟩
    · rw [eq j c, up_k c, up_r (by omega)]
      exact p1 j (by omega)
  · have fr : ∀ j, j < many → qN V j ≠ y := fun j hj w => by
      by_cases c : j = 0
      · rw [c, p3] at w
        exact h0 ⟨t, ht, by rw [hy, w]⟩
      · exact fresh j (by omega) hj w
    by_cases c : j = many
    · by_cases c2 : l = many
      · omega
      · rw [c, em, eq l c2] at e
        exact absurd e.symm (fr l (by omega))
    · by_cases c2 : l = many
      · rw [c2, em, eq j c] at e
        exact absurd e (fr j (by omega))
      · rw [eq j c, eq l c2] at e
        exact p2 j l (by omega) (by omega) e
  · rw [eq 0 (by omega), p3]
  · by_cases c : l = many
    · rw [c, em]
      exact ⟨t, ht, hy, i, hi, by rw [ect, eq i (by omega)], by rw [eq i (by omega)]; exact he⟩
    · rw [eq l c]
      obtain ⟨q, w1, w2, j, w3, w4, w5⟩ := p4 l l1 (by omega)
      have nq : q ≠ t := fun w => by
        rw [w, hc] at w4
        omega
      exact ⟨q, w1, w2, j, w3, by rw [ec q nq, eq j (by omega)]; exact w4, by rw [eq j (by omega)]; exact w5⟩
  · by_cases c : q = t
    · rw [c, ect]
      exact Or.inr ⟨i, many, by omega, by omega, a2, by rw [eq i (by omega)], by rw [em]; exact hy⟩
    · rw [ec q c]
      rcases a4 q hq with w | ⟨j, l, w1, w2, w3, w4, w5⟩
      · exact Or.inl w
      · exact Or.inr ⟨j, l, by omega, by omega, w3, by rw [eq j (by omega)]; exact w4, by rw [eq l (by omega)]; exact w5⟩
  · have := cnt_put (p := fun q => decide (V 301 q ≠ -1)) (p' := fun q => decide (up (up V 301 t (qN V i : Int)) 302 many (y : Int) 301 q ≠ -1)) ht (by simp [hc]) (by
      rw [ect]
      exact decide_eq_true (by omega)) (fun x hx hne => by
      show decide _ = decide _
      rw [ec x hne])
    omega
  · by_cases c : q = t
    · rw [c, ect]
      omega
    · rw [ec q c]
      by_cases c2 : j = many
      · omega
      · rw [eq j c2] at he
        exact a6 j q (by omega) hq (by omega) he
/-- one train of the queue -/
theorem y_nextL50 (hM : mV V0 M) (hf : first < nT V0) (h0 : ¬ mC V0 M first) (h : Rel V0 V) (k : yK V0 V M first i 0 many) (hi : i < many) {u1 : Int32} : ∃ rr, iter (fX7_findsNext_L50 (some (b + 258)) (I (first : Int)) u1 (I (qN V i : Int))) FUEL (I (many : Int), I 0, Wd b V lw R) = some rr ∧ ((∃ V' many', rr = .inl (I ((many' : Nat) : Int), Wd b V' lw R) ∧ (∀ o, o ≠ 301 → o ≠ 302 → V' o = V o) ∧ i < many' ∧ yK V0 V' M first (i + 1) 0 many') ∨ ∃ V', rr = .inr (.inr (.inr (I 1, Wd b V' lw R))) ∧ (∀ o, o ≠ 300 → o ≠ 301 → o ≠ 302 → V' o = V o) ∧ mV V0 (V' 300) ∧ ∀ x, mC V0 (V' 300) x ↔ mC V0 M x ∨ x = first) := by
  have hn := n48 h
  obtain ⟨rr, k1, k2⟩ := iter_inv0 (b := fX7_findsNext_L50 (some (b + 258)) (I (first : Int)) u1 (I (qN V i : Int))) (s := (I (many : Int), I 0, Wd b V lw R)) (fun t s => ∃ V' many', s = (I ((many' : Nat) : Int), I (t : Int), Wd b V' lw R) ∧ t ≤ nT V0 ∧ (∀ o, o ≠ 301 → o ≠ 302 → V' o = V o) ∧ qN V' i = qN V i ∧ i < many' ∧ yK V0 V' M first i t many') (fun rr => (∃ V' many', rr = .inl (I ((many' : Nat) : Int), Wd b V' lw R) ∧ (∀ o, o ≠ 301 → o ≠ 302 → V' o = V o) ∧ i < many' ∧ yK V0 V' M first (i + 1) 0 many') ∨ ∃ V', rr = .inr (.inr (.inr (I 1, Wd b V' lw R))) ∧ (∀ o, o ≠ 300 → o ≠ 301 → o ≠ 302 → V' o = V o) ∧ mV V0 (V' 300) ∧ ∀ x, mC V0 (V' 300) x ↔ mC V0 M x ∨ x = first) (nT V0) (by omega) ⟨V, many, rfl, Nat.zero_le _, fun _ _ _ => rfl, rfl, hi, k⟩ (fun t s hS => by
    obtain ⟨V', many', rfl, a0, a1, a2, a3, a4⟩ := hS
    have h' : Rel V0 V' := h.sc (sc_300 fun o _ o2 o3 => a1 o o2 o3)
    by_cases ht : t = nT V0
    · rw [ht] at a4
      refine Or.inr ⟨_, ?_, Or.inl ⟨V', many', rfl, a1, a3, yK_e a4⟩⟩
      rw [ht]
      unfold fX7_findsNext_L50
      simp (disch := omega) only [gI258_14, w_n h', Option.bind_some, I_le, if_pos]
    · have ht : t < nT V0 := by omega
      have h48 := r48 h ht
      obtain ⟨b1, b2, b3, b4, b5, b6⟩ := a4
      have qi := b3.1 i a3
      have qi48 := r48 h qi.2
      have cb : -1 ≤ V' 301 t ∧ V' 301 t ≤ 48 := by
        rcases b4 t ht with w | ⟨j, l, w1, w2, w3, w4, w5⟩
        · omega
        · have := (b3.1 j w1).2
          omega
      unfold fX7_findsNext_L50
      simp (disch := omega) only [k_0, k_1, I_neg, gI258_14, w_n h', Option.bind_some, I_le, if_neg, gR258_61, rA301, tn, I_inj]
      by_cases c : V' 301 t = -1
      · rw [if_pos c]
        rw [← a2]
        simp (disch := omega) only [on258, y_goesOn h' qi.2 ht, Option.bind_some, bi_if]
        by_cases ce : fE V0 (qN V' i) t
        · rw [if_pos ce]
          simp (disch := omega) only [gR258_61, wA301, tn, Option.bind_some, gR258_60, rA300]
          have e300 : up V' 301 t (qN V' i : Int) 300 = M := by rw [up_r (by omega), b1]
          have r1 : Rel V0 (up V' 301 t (qN V' i : Int)) := h'.upd (Or.inl (by unfold scr; omega))
          rw [e300]
          rcases hM.1 t ht with cm | ⟨y, hy, cm, _⟩
          · rw [if_pos (by rw [cm])]
            have ec : ∀ q, q ≠ t → up V' 301 t (qN V' i : Int) 301 q = V' 301 q := fun q hq => up_k hq
            have eq : ∀ j, qN (up V' 301 t (qN V' i : Int)) j = qN V' j := fun j => by
              unfold qN
              rw [up_r (by omega)]
            have equ : up V' 301 t (qN V' i : Int) 302 = V' 302 := up_r (by omega)
            have yp : yP V0 (up V' 301 t (qN V' i : Int)) M first many' := by
              obtain ⟨p1, p2, p3, p4⟩ := b3
              unfold yP
              simp only [eq, equ]
              refine ⟨p1, p2, p3, fun l l1 hl => ?_⟩
              obtain ⟨q, w1, w2, j, w3, w4, w5⟩ := p4 l l1 hl
              have nq : q ≠ t := fun w => by
                rw [w, cm] at w2
                omega
              exact ⟨q, w1, w2, j, w3, by rw [ec q nq]; exact w4, w5⟩
            have e1 : ∀ p, p < nT V0 → mU (up V' 301 t (qN V' i : Int) 300) t (-1) p = M p := fun p hp => by
              rw [e300]
              by_cases w : p = t
              · rw [w, mU_s, cm]
              · rw [mU_n w]
            have many48 : i < 48 := by
              have := yK_b (first := first) hM hf h0 (P := fun q => decide (V' 301 q ≠ -1)) fun q hq hp => by
                rcases b4 q hq with w | ⟨j, l, w1, w2, w3, w4, w5⟩
                · exact absurd w (of_decide_eq_true hp)
                · exact ⟨_, w5⟩
              omega
            obtain ⟨V2, f1, f2, f3, f4⟩ := y_chg (b := b) (lw := lw) (R := R) hM hf h0 hn i FUEL t (up V' 301 t (qN V' i : Int)) r1 yp a3 (by unfold FUEL; omega) ht (by rw [up_s, eq]) (by rw [eq]; exact ce) (mV_c e1 hM) (fun x => mC_c e1) (fun p j _ _ _ => by rw [e300])
            unfold fX7_changesAlong
            simp (disch := omega) only [on258, f1, Option.bind_some]
            exact Or.inr ⟨_, rfl, Or.inr ⟨V2, rfl, fun o o1 o2 o3 => by rw [f2 o o1, up_r o2, a1 o o2 o3], f3, f4⟩⟩
          · have hy48 := r48 h hy
            rw [if_neg (by rw [cm, I_inj (by omega) (by omega) (by omega) (by omega)]; omega)]
            have next := yK_a hM h0 (⟨b1, b2, b3, b4, b5, b6⟩ : yK V0 V' M first i t many') a3 ht c ce cm
            have m48 : many' < 48 := by
              obtain ⟨d1, d2, d3, d4, d5, d6⟩ := next
              have := yK_b (first := first) hM hf h0 (P := fun q => decide (up (up V' 301 t (qN V' i : Int)) 302 many' (y : Int) 301 q ≠ -1)) fun q hq hp => by
                rcases d4 q hq with w | ⟨j, l, w1, w2, w3, w4, w5⟩
                · exact absurd w (of_decide_eq_true hp)
                · exact ⟨_, w5⟩
              omega
            rw [cm]
            simp (disch := omega) only [gR258_62, gR258_60, rA300, tn, e300, cm, wA302, Option.bind_some, I_add]
            refine Or.inl ⟨_, rfl, ⟨_, many' + 1, rfl, by omega, fun o o1 o2 => by rw [up_r o2, up_r o1, a1 o o1 o2], ?_, by omega, next⟩, ht⟩
            unfold qN
            rw [up_k (by omega), up_r (by omega)]
        · rw [if_neg ce, I_add]
          exact Or.inl ⟨_, rfl, ⟨V', many', rfl, by omega, a1, rfl, a3, yK_n ⟨b1, b2, b3, b4, b5, b6⟩ (Or.inr ce)⟩, ht⟩
      · rw [if_neg c, I_add]
        exact Or.inl ⟨_, rfl, ⟨V', many', rfl, by omega, a1, a2, a3, yK_n ⟨b1, b2, b3, b4, b5, b6⟩ (Or.inl c)⟩, ht⟩)
  exact ⟨rr, k1, k2⟩
end SW
