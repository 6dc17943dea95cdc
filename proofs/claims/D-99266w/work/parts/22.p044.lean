/-! CALL: sets, the reference. No JVM here. -/
set_option maxRecDepth 100000
set_option linter.unusedVariables false
/-- the last place where p holds, or -1 -/
def lst (p : Nat → Bool) : Nat → Int
  | 0 => -1
  | n + 1 => if p n then (n : Int) else lst p n
theorem lst_b (p : Nat → Bool) : ∀ n : Nat, -1 ≤ lst p n ∧ lst p n < n
  | 0 => ⟨show (-1 : Int) ≤ -1 by decide, show (-1 : Int) < 0 by decide⟩
  | n + 1 => by
    have := lst_b p n
    rw [lst]
    split <;> omega
theorem lst_u {p : Nat → Bool} {q : Nat} (hp : p q = true) : ∀ n : Nat, q < n → (∀ e, e < n → p e = true → e = q) → lst p n = (q : Int)
  | 0, h, _ => absurd h (Nat.not_lt_zero _)
  | n + 1, h, u => by
    rw [lst]
    by_cases c : p n = true
    · rw [if_pos c, u n (by omega) c]
    · rw [if_neg c]
      have : q ≠ n := fun w => c (w ▸ hp)
      exact lst_u hp n (by omega) fun e he => u e (by omega)
def qN (V : Vw) (j : Nat) : Nat := (V 302 j).toNat
/-- the queue and where its trains come from -/
def yP (V0 V : Vw) (M : Nat → Int) (first many : Nat) : Prop := (∀ j, j < many → V 302 j = (qN V j : Int) ∧ qN V j < nT V0) ∧ (∀ j k, j < many → k < many → qN V j = qN V k → j = k) ∧ qN V 0 = first ∧ ∀ k, 1 ≤ k → k < many → ∃ q, q < nT V0 ∧ M q = (qN V k : Int) ∧ ∃ j, j < k ∧ V 301 q = (qN V j : Int) ∧ fE V0 (qN V j) q
section SY
variable {b : Nat} {V0 V : Vw} {lw : Option Nat} {R : Hp} {p k j i r e n d f to q x y first many : Nat} {s t z w c lo hi m : Int} {u : Int32} {A M : Nat → Int}
theorem y_goesOn (h : Rel V0 V) (hr : r < nT V0) (hq : q < nT V0) : fX7_goesOn (Wd b V lw R) (some (b + 258)) (I (r : Int)) (I (q : Int)) = some (I (bi (fE V0 r q))) := by
  have hr48 := r48 h hr
  have hq48 := r48 h hq
  have sr := sm2 h hr
  have sq := sm2 h hq
  have b1 := st_b h hr (show sm V0 r - 1 < sm V0 r by omega)
  have b2 := st_b h hq (show 0 < sm V0 q by omega)
  have b3 := mi_b h hr (show sm V0 r - 1 < sm V0 r by omega)
  have b4 := mi_b h hq (show 0 < sm V0 q by omega)
  have b5 := ch_b h
  have t4 : trIs V0 r 4 = st V0 r (sm V0 r - 1) := rfl
  have t3 : trIs V0 q 3 = st V0 q 0 := rfl
  have t5 : trIs V0 q 5 = mi V0 q 0 := rfl
  have t6 : trIs V0 r 6 = mi V0 r (sm V0 r - 1) := rfl
  unfold fX7_goesOn
  simp (disch := omega) only [k_0, k_1, k_3, k_4, k_5, k_6, on258, y_runs h hr, y_runs h hq, Option.bind_some, bi_if]
  by_cases c1 : ru V0 r
  · rw [if_pos c1]
    by_cases c2 : ru V0 q
    · rw [if_pos c2]
      simp (disch := omega) only [y_trainIs h hr, y_trainIs h hq, t3, t4, Option.bind_some, I_inj]
      by_cases c3 : st V0 r (sm V0 r - 1) = st V0 q 0
      · rw [if_pos c3]
        simp (disch := omega) only [t5, t6, gI258_13, w_ch h, Option.bind_some, I_add, I_lt]
        by_cases c4 : mi V0 q 0 < mi V0 r (sm V0 r - 1) + ch V0
        · rw [if_pos c4, bi_f (fun w => by have := w.2.2.2; omega)]
        · rw [if_neg c4, bi_t ⟨c1, c2, c3, by omega⟩]
      · rw [if_neg c3, bi_f (fun w => c3 w.2.2.1)]
    · rw [if_neg c2, bi_f (fun w => c2 w.2.1)]
  · rw [if_neg c1, bi_f (fun w => c1 w.1)]
theorem sc_300 {V V' : Vw} (h : ∀ o, o ≠ 300 → o ≠ 301 → o ≠ 302 → V' o = V o) : Sc V V' := fun o k q => by rw [h o (fun e => q (by unfold scr; omega)) (fun e => q (by unfold scr; omega)) (fun e => q (by unfold scr; omega))]
theorem y_had (h : Rel V0 V) {u1 u2 : Int32} (hr : r < nT V0) (hM : ∀ e, e < nT V0 → -1 ≤ V 300 e ∧ V 300 e ≤ 48) : iter (fX7_changesAlong_L16 (Wd b V lw R) (some (b + 258)) u1 u2 (I (r : Int))) FUEL (I (-1), I 0) = some (I (lst (fun e => decide (V 300 e = (r : Int))) (nT V0))) := by
  have hn := n48 h
  have hr48 := r48 h hr
  exact iter_det (b := fX7_changesAlong_L16 (Wd b V lw R) (some (b + 258)) u1 u2 (I (r : Int))) (fun e => (I (lst (fun e => decide (V 300 e = (r : Int))) e), I (e : Int))) (nT V0) _ (by omega) (fun e he => by
    have he48 := r48 h he
    have hm := hM e he
    unfold fX7_changesAlong_L16
    simp (disch := omega) only [k_1, gI258_14, w_n h, Option.bind_some, I_le, if_neg, gR258_60, rA300, tn, I_inj, I_add]
    rw [lst]
    by_cases c : V 300 e = (r : Int)
    · rw [if_pos c, if_pos (decide_eq_true c)]
      rfl
    · rw [if_neg c, if_neg (fun w => c (of_decide_eq_true w))]
      rfl) (by
    unfold fX7_changesAlong_L16
    simp (disch := omega) only [gI258_14, w_n h, Option.bind_some, I_le, if_pos])
theorem y_chg (hM : mV V0 M) (hf : first < nT V0) (h0 : ¬ mC V0 M first) (hN : nT V0 ≤ 48) : ∀ (i : Nat) (fuel q : Nat) (V : Vw), Rel V0 V → yP V0 V M first many → i < many → i < fuel → q < nT V0 → V 301 q = (qN V i : Int) → fE V0 (qN V i) q → mV V0 (mU (V 300) q (-1)) → (∀ x, mC V0 (mU (V 300) q (-1)) x ↔ mC V0 M x) → (∀ p j, p < nT V0 → j ≤ i → V 301 p = (qN V j : Int) → V 300 p = M p) → ∃ V', iter (fX7_changesAlong_L2 (some (b + 258)) (I (first : Int))) fuel (I (q : Int), Wd b V lw R) = some (Wd b V' lw R) ∧ (∀ o, o ≠ 300 → V' o = V o) ∧ mV V0 (V' 300) ∧ ∀ x, mC V0 (V' 300) x ↔ mC V0 M x ∨ x = first := by
  intro i
  induction i using Nat.strongRecOn with
  | _ i ih =>
    intro fuel q V h yp hi hfu hq hcb he g1 g2 g3
    obtain ⟨p1, p2, p3, p4⟩ := yp
    obtain ⟨fu, rfl⟩ : ∃ fu, fuel = fu + 1 := ⟨fuel - 1, by omega⟩
    have hq48 := r48 h hq
    have hr := (p1 i hi).2
    have hr48 := r48 h hr
    have hMb : ∀ e, e < nT V0 → -1 ≤ V 300 e ∧ V 300 e ≤ 48 := fun e he => by
      by_cases c : e = q
      · rw [c, g3 q i hq (Nat.le_refl _) hcb]
        rcases hM.1 q hq with w | ⟨r', w1, w2, _⟩ <;> omega
      · have := g1.1 e he
        rw [mU_n c] at this
        rcases this with w | ⟨r', w1, w2, _⟩ <;> omega
    have step : fX7_changesAlong_L2 (some (b + 258)) (I (first : Int)) (I (q : Int), Wd b V lw R) = some (if qN V i = first then .inr (Wd b (up V 300 q (qN V i : Int)) lw R) else .inl (I (lst (fun e => decide (V 300 e = (qN V i : Int))) (nT V0)), Wd b (up V 300 q (qN V i : Int)) lw R)) := by
      unfold fX7_changesAlong_L2
      simp (disch := omega) only [k_0, k_1, I_neg, gR258_61, rA301, tn, Option.bind_some, hcb, y_had h hr hMb, gR258_60, wA300, I_inj]
      by_cases c : qN V i = first
      · rw [if_pos c, if_pos (by omega)]
      · rw [if_neg c, if_neg (by omega)]
    by_cases c : qN V i = first
    · rw [if_pos c] at step
      rw [c] at he step
      obtain ⟨a1, a2⟩ := mV_put g1 hq mU_s hf he (fun w => h0 ((g2 first).mp w))
      have e1 : ∀ p, p < nT V0 → up V 300 q (first : Int) 300 p = mU (mU (V 300) q (-1)) q (first : Int) p := fun p hp => by
        rw [up_mU]
        by_cases w : p = q
        · rw [w, mU_s, mU_s]
        · rw [mU_n w, mU_n w, mU_n w]
      exact ⟨up V 300 q (first : Int), iter_r step, fun o ho => up_r ho, mV_c e1 a1, fun x => by rw [mC_c e1, a2 x, g2 x]⟩
    · rw [if_neg c] at step
      have i1 : 1 ≤ i := by
        by_cases w : i = 0
        · rw [w] at c
          exact absurd p3 c
        · omega
      obtain ⟨q', w1, w2, j, w3, w4, w5⟩ := p4 i i1 hi
      have nq : q' ≠ q := fun w => by
        rw [w, hcb] at w4
        have := p2 i j hi (by omega) (by omega)
        omega
      have mq' : V 300 q' = (qN V i : Int) := by rw [g3 q' j w1 (by omega) w4, w2]
      have uni : lst (fun e => decide (V 300 e = (qN V i : Int))) (nT V0) = (q' : Int) := lst_u (decide_eq_true mq') (nT V0) w1 fun e he hp => by
        have hp := of_decide_eq_true hp
        by_cases c1 : e = q
        · rw [c1, g3 q i hq (Nat.le_refl _) hcb] at hp
          have := hM.2 q q' hq w1 (fun w => nq w.symm) (by rw [hp, w2])
          omega
        · by_cases c2 : e = q'
          · exact c2
          · have := g1.2 e q' he w1 c2 (by rw [mU_n c1, mU_n nq, hp, mq'])
            rw [mU_n c1, hp] at this
            omega
      rw [uni] at step
      rw [iter_s step]
      have hqN : ∀ j, qN (up V 300 q (qN V i : Int)) j = qN V j := fun j => by
        unfold qN
        rw [up_r (by omega)]
      have hcb2 : up V 300 q (qN V i : Int) 301 = V 301 := up_r (by omega)
      have hqu2 : up V 300 q (qN V i : Int) 302 = V 302 := up_r (by omega)
      have yp2 : yP V0 (up V 300 q (qN V i : Int)) M first many := by
        unfold yP
        simp only [hqN, hcb2, hqu2]
        exact ⟨p1, p2, p3, p4⟩
      have mMv : mU (V 300) q (-1) q' = (qN V i : Int) := by rw [mU_n nq, mq']
      obtain ⟨d1, d2⟩ := mV_del g1 w1 mMv
      obtain ⟨a1, a2⟩ := mV_put d1 hq (by rw [mU_n (fun w => nq w.symm), mU_s]) hr he (fun w => ((d2 _).mp w).2 rfl)
      have e1 : ∀ p, p < nT V0 → mU (up V 300 q (qN V i : Int) 300) q' (-1) p = mU (mU (mU (V 300) q (-1)) q' (-1)) q (qN V i : Int) p := fun p hp => by
        rw [up_mU]
        by_cases x1 : p = q
        · rw [x1, mU_n (fun w => nq w.symm), mU_s, mU_s]
        · by_cases x2 : p = q'
          · rw [x2, mU_s, mU_n nq, mU_s]
          · rw [mU_n x2, mU_n x1, mU_n x1, mU_n x2, mU_n x1]
      obtain ⟨V', f1, f2, f3, f4⟩ := ih j w3 fu q' (up V 300 q (qN V i : Int)) (h.upd (Or.inl (by unfold scr; omega))) yp2 (by omega) (by omega) w1 (by rw [hcb2, hqN, w4]) (by rw [hqN]; exact w5) (mV_c e1 a1) (fun x => by
        rw [mC_c e1, a2 x, d2 x, g2 x]
        constructor
        · rintro (y1 | y1)
          · exact y1.1
          · exact ⟨q', w1, by rw [w2, y1]⟩
        · intro y1
          by_cases y2 : x = qN V i
          · exact Or.inr y2
          · exact Or.inl ⟨y1, y2⟩) (fun p k hp hk hc => by
        rw [hcb2, hqN] at hc
        have ne : p ≠ q := fun w => by
          rw [w, hcb] at hc
          have := p2 i k hi (by omega) (by omega)
          omega
        rw [up_k ne]
        exact g3 p k hp (by omega) hc)
      exact ⟨V', f1, fun o ho => by rw [f2 o ho, up_r ho], f3, f4⟩
end SY
