/-! CALL: sets, the class. No JVM here. -/
set_option maxRecDepth 100000
set_option linter.unusedVariables false
section SX
variable {b : Nat} {V0 V : Vw} {lw : Option Nat} {R : Hp} {p k j i r e n d f to q x y : Nat} {s t z w c lo hi m : Int} {u : Int32} {A : Nat → Int}
theorem x_canFollow (h : Rel V0 V) (hr : r < nT V0) (hq : q < nT V0) : fX0_canFollow (Wd b V lw R) (some b) (I (r : Int)) (I (q : Int)) = some (I (bi (fE V0 r q))) := by
  have hr48 := r48 h hr
  have hq48 := r48 h hq
  have sr := sm2 h hr
  have sq := sm2 h hq
  have b1 := st_b h hr (show sm V0 r - 1 < sm V0 r by omega)
  have b2 := st_b h hq (show 0 < sm V0 q by omega)
  have b3 := mi_b h hr (show sm V0 r - 1 < sm V0 r by omega)
  have b4 := mi_b h hq (show 0 < sm V0 q by omega)
  have b5 := ch_b h
  unfold fX0_canFollow
  simp (disch := omega) only [k_0, k_1, gR0_0, rTr, tn, gTr4, v_ru h hr, v_ru h hq, Option.bind_some, bi_if]
  by_cases c1 : ru V0 r
  · rw [if_pos c1]
    by_cases c2 : ru V0 q
    · rw [if_pos c2]
      simp (disch := omega) only [onTr, x_last h hr, x_first h hq, Option.bind_some, I_inj]
      by_cases c3 : st V0 r (sm V0 r - 1) = st V0 q 0
      · rw [if_pos c3]
        simp (disch := omega) only [x_ends h hr, gI0_5, v_ch h, gTr1, rMi, v_mi h hq, Option.bind_some, I_add, I_lt, Int.toNat_zero]
        by_cases c4 : mi V0 q 0 < mi V0 r (sm V0 r - 1) + ch V0
        · rw [if_pos c4, bi_f (fun w => by have := w.2.2.2; omega)]
        · rw [if_neg c4, bi_t ⟨c1, c2, c3, by omega⟩]
      · rw [if_neg c3, bi_f (fun w => c3 w.2.2.1)]
    · rw [if_neg c2, bi_f (fun w => c2 w.2.1)]
  · rw [if_neg c1, bi_f (fun w => c1 w.1)]
def fGood (V0 V : Vw) : Prop := ∀ q, q < nT V0 → (V 62 q = -1 ∨ ∃ y, y < nT V0 ∧ V 62 q = ((y : Nat) : Int)) ∧ (V 63 q = 0 ∨ V 63 q = 1)
def fOut (V0 V : Vw) (x : Nat) (v : Bool) (V' : Vw) : Prop := (∀ o, o ≠ 62 → o ≠ 63 → V' o = V o) ∧ fGood V0 V' ∧ (∀ q, V 63 q = 1 → V' 63 q = 1) ∧ (v = true → mS V0 x (fun q => V 63 q = 1) (V 62) (V' 62)) ∧ (v = false → V' 62 = V 62 ∧ (∀ q, q < nT V0 → fE V0 x q → V' 63 q = 1) ∧ ∀ q, q < nT V0 → V' 63 q = 1 → V 63 q = 1 ∨ ∃ y, V 62 q = ((y : Nat) : Int) ∧ ∀ q', q' < nT V0 → fE V0 y q' → V' 63 q' = 1)
theorem sc_62 {V V' : Vw} (h : ∀ o, o ≠ 62 → o ≠ 63 → V' o = V o) : Sc V V' := fun o k q => by rw [h o (fun e => q (by unfold scr; omega)) (fun e => q (by unfold scr; omega))]
theorem up_mU {V : Vw} {o : Nat} {v : Int} : up V o q v o = mU (V o) q v := by
  funext p
  unfold up mU
  by_cases c : p = q
  · rw [if_pos ⟨rfl, c⟩, if_pos c]
  · rw [if_neg (fun w => c w.2), if_neg c]
theorem cnt_mono {p q : Nat → Bool} (n : Nat) (h : ∀ i, i < n → p i = true → q i = true) : cnt p n ≤ cnt q n := cnt_inj (fun i => i) n (fun i hi hp => ⟨hi, h i hi hp⟩) (fun i k _ _ _ _ e => e)
theorem x_finds : ∀ (n : Nat) (V : Vw) (x : Nat), Rel V0 V → fGood V0 V → x < nT V0 → cnt (fun q => decide (V 63 q = 0)) (nT V0) < n → ∃ (v : Bool) (V' : Vw), fX0_finds n (Wd b V lw R) (some b) (I (x : Int)) = some (I (if v = true then 1 else 0), Wd b V' lw R) ∧ fOut V0 V x v V'
  | 0, V, x, h, g, hx, hc => by
    have := cnt_le (fun q => decide (V 63 q = 0)) (nT V0)
    omega
  | n + 1, V, x, h, g, hx, hc => by
    have hn := n48 h
    obtain ⟨rr, k1, k2⟩ := iter_inv0 (b := fX0_findsB_L2 (fX0_finds n) (some b) (I (x : Int))) (s := (I 0, Wd b V lw R)) (fun t s => ∃ V', s = (I (t : Int), Wd b V' lw R) ∧ t ≤ nT V0 ∧ (∀ o, o ≠ 62 → o ≠ 63 → V' o = V o) ∧ fGood V0 V' ∧ (∀ q, V 63 q = 1 → V' 63 q = 1) ∧ V' 62 = V 62 ∧ (∀ q, q < t → fE V0 x q → V' 63 q = 1) ∧ ∀ q, q < nT V0 → V' 63 q = 1 → V 63 q = 1 ∨ ∃ y, V 62 q = ((y : Nat) : Int) ∧ ∀ q', q' < nT V0 → fE V0 y q' → V' 63 q' = 1) (fun rr => (∃ V', rr = .inl (Wd b V' lw R) ∧ fOut V0 V x false V') ∨ ∃ V', rr = .inr (I 1, Wd b V' lw R) ∧ fOut V0 V x true V') (nT V0) (by omega) ⟨V, rfl, Nat.zero_le _, fun _ _ _ => rfl, g, fun _ q => q, rfl, fun q hq => by omega, fun q _ w => Or.inl w⟩ (fun t s hS => by
      obtain ⟨V', rfl, a0, a1, a2, a3, a4, a5, a6⟩ := hS
      have h' : Rel V0 V' := h.sc (sc_62 a1)
      by_cases ht : t = nT V0
      · refine Or.inr ⟨.inl (Wd b V' lw R), ?_, Or.inl ⟨V', rfl, a1, a2, a3, fun w => absurd w (by decide), fun _ => ⟨a4, fun q hq => a5 q (by omega), a6⟩⟩⟩
        unfold fX0_findsB_L2
        simp (disch := omega) only [gI0_3, v_n h', Option.bind_some, I_le, if_pos]
      · have ht : t < nT V0 := by omega
        have h48 := r48 h ht
        have next : (V' 63 t = 1 ∨ ¬ fE V0 x t) → (∃ s', (some (.inl (I ((t : Int) + 1), Wd b V' lw R)) : Option ((Int32 × Hp) ⊕ (Hp ⊕ (Int32 × Hp)))) = some (.inl s') ∧ (∃ V', s' = (I ((t + 1 : Nat) : Int), Wd b V' lw R) ∧ t + 1 ≤ nT V0 ∧ (∀ o, o ≠ 62 → o ≠ 63 → V' o = V o) ∧ fGood V0 V' ∧ (∀ q, V 63 q = 1 → V' 63 q = 1) ∧ V' 62 = V 62 ∧ (∀ q, q < t + 1 → fE V0 x q → V' 63 q = 1) ∧ ∀ q, q < nT V0 → V' 63 q = 1 → V 63 q = 1 ∨ ∃ y, V 62 q = ((y : Nat) : Int) ∧ ∀ q', q' < nT V0 → fE V0 y q' → V' 63 q' = 1) ∧ t < nT V0) := fun w => by
          refine ⟨_, rfl, ⟨V', rfl, by omega, a1, a2, a3, a4, fun q hq he => ?_, a6⟩, ht⟩
          by_cases c : q = t
          · rw [c] at he ⊢
            exact w.elim id fun w => absurd he w
          · exact a5 q (by omega) he
        unfold fX0_findsB_L2
        simp (disch := omega) only [k_0, k_1, I_neg, gI0_3, v_n h', Option.bind_some, I_le, if_neg, gR0_19, rA63, tn]
        rcases (a2 t ht).2 with c | c
        · have hs0 : ¬ V 63 t = 1 := fun w => by
            have := a3 t w
            omega
          rw [if_pos (by rw [c])]
          simp (disch := omega) only [on0, x_canFollow h' hx ht, Option.bind_some, bi_if, I_add]
          by_cases ce : fE V0 x t
          · rw [if_pos ce]
            simp (disch := omega) only [gR0_19, wA63, tn, gR0_18, rA62, Option.bind_some]
            have e62 : up V' 63 t 1 62 = V 62 := by rw [up_r (by omega), a4]
            rw [e62]
            have g1 : fGood V0 (up V' 63 t 1) := fun q hq => by
              rw [up_r (by omega)]
              refine ⟨(a2 q hq).1, ?_⟩
              by_cases w : q = t
              · rw [w, up_s]
                exact Or.inr rfl
              · rw [up_k w]
                exact (a2 q hq).2
            rcases (a2 t ht).1 with cm | ⟨y, hy, cm⟩
            · rw [a4] at cm
              rw [if_pos (by rw [cm])]
              simp (disch := omega) only [wA62, tn, Option.bind_some]
              refine Or.inr ⟨_, rfl, Or.inr ⟨up (up V' 63 t 1) 62 t (x : Int), rfl, fun o o1 o2 => by rw [up_r o1, up_r o2, a1 o o1 o2], fun q hq => ?_, fun q hq => ?_, fun _ => ?_, fun w => by cases w⟩⟩
              · rw [up_mU, e62, up_r (by omega)]
                refine ⟨?_, (g1 q hq).2⟩
                by_cases w : q = t
                · rw [w, mU_s]
                  exact Or.inr ⟨x, hx, rfl⟩
                · rw [mU_n w]
                  have := (a2 q hq).1
                  rw [a4] at this
                  exact this
              · rw [up_r (by omega)]
                by_cases w : q = t
                · rw [w, up_s]
                · rw [up_k w]
                  exact a3 q hq
              · rw [up_mU, e62]
                exact mS_1 ht hs0 hx ce cm
            · rw [a4] at cm
              have hy48 := r48 h hy
              rw [if_neg (by rw [cm, I_inj (by omega) (by omega) (by omega) (by omega)]; omega)]
              have r1 : Rel V0 (up V' 63 t 1) := h'.upd (Or.inl (by unfold scr; omega))
              have cn : cnt (fun q => decide (up V' 63 t 1 63 q = 0)) (nT V0) < n := by
                have w1 := cnt_del (p := fun q => decide (V 63 q = 0)) (nT V0) t ht (decide_eq_true (by have := (g t ht).2; omega))
                have w2 : cnt (fun q => decide (up V' 63 t 1 63 q = 0)) (nT V0) ≤ cnt (fun q => decide (V 63 q = 0) && decide (q ≠ t)) (nT V0) := cnt_mono (nT V0) fun i hi hp => by
                  have hp := of_decide_eq_true hp
                  have ne : i ≠ t := fun w => by
                    rw [w, up_s] at hp
                    omega
                  rw [up_k ne] at hp
                  have : V 63 i = 0 := by
                    rcases (g i hi).2 with w | w
                    · exact w
                    · have := a3 i w
                      omega
                  rw [decide_eq_true this, decide_eq_true ne]
                  rfl
                omega
              obtain ⟨v2, V2, f1, f2, f3, f4, f5, f6⟩ := x_finds n (up V' 63 t 1) y r1 g1 hy cn
              rw [cm]
              simp (disch := omega) only [on0, f1, Option.bind_some]
              cases v2 with
              | false =>
                obtain ⟨f6a, f6b, f6c⟩ := f6 rfl
                rw [if_pos (by simp)]
                refine Or.inl ⟨_, rfl, ⟨V2, rfl, by omega, fun o o1 o2 => by rw [f2 o o1 o2, up_r o2, a1 o o1 o2], f3, fun q hq => f4 q ?_, by rw [f6a, e62], fun q hq he => f4 q ?_, fun q hq hs => ?_⟩, ht⟩
                · by_cases w : q = t
                  · rw [w, up_s]
                  · rw [up_k w]
                    exact a3 q hq
                · by_cases w : q = t
                  · rw [w, up_s]
                  · rw [up_k w]
                    exact a5 q (by omega) he
                · rcases f6c q hq hs with w | ⟨y', w1, w2⟩
                  · by_cases w3 : q = t
                    · rw [w3]
                      exact Or.inr ⟨y, cm, f6b⟩
                    · rw [up_k w3] at w
                      rcases a6 q hq w with w4 | ⟨y', w4, w5⟩
                      · exact Or.inl w4
                      · refine Or.inr ⟨y', w4, fun q' hq' he' => f4 q' ?_⟩
                        by_cases w6 : q' = t
                        · rw [w6, up_s]
                        · rw [up_k w6]
                          exact w5 q' hq' he'
                  · rw [e62] at w1
                    exact Or.inr ⟨y', w1, w2⟩
              | true =>
                rw [if_neg (by simp; decide)]
                simp (disch := omega) only [gR0_18, wA62, tn, Option.bind_some]
                refine Or.inr ⟨_, rfl, Or.inr ⟨up V2 62 t (x : Int), rfl, fun o o1 o2 => by rw [up_r o1, f2 o o1 o2, up_r o2, a1 o o1 o2], fun q hq => ?_, fun q hq => ?_, fun _ => ?_, fun w => by cases w⟩⟩
                · rw [up_mU, up_r (by omega)]
                  refine ⟨?_, (f3 q hq).2⟩
                  by_cases w : q = t
                  · rw [w, mU_s]
                    exact Or.inr ⟨x, hx, rfl⟩
                  · rw [mU_n w]
                    exact (f3 q hq).1
                · rw [up_r (by omega)]
                  refine f4 q ?_
                  by_cases w : q = t
                  · rw [w, up_s]
                  · rw [up_k w]
                    exact a3 q hq
                · have ih := f5 rfl
                  rw [e62] at ih
                  have es : (fun q => up V' 63 t 1 63 q = 1) = (fun p => V' 63 p = 1 ∨ p = t) := funext fun p => propext (by
                    by_cases w : p = t
                    · rw [w, up_s]
                      exact ⟨fun _ => Or.inr rfl, fun _ => rfl⟩
                    · rw [up_k w]
                      exact ⟨Or.inl, fun q => q.elim id fun q => absurd q w⟩)
                  rw [es] at ih
                  rw [up_mU]
                  exact mS_2 ht (fun w => by omega) a3 hx ce cm ih
          · rw [if_neg ce]
            exact Or.inl (next (Or.inr ce))
        · rw [if_neg (by rw [c]; decide), I_add]
          exact Or.inl (next (Or.inl c)))
    rcases k2 with ⟨V', rfl, k3⟩ | ⟨V', rfl, k3⟩
    · refine ⟨false, V', ?_, k3⟩
      rw [fX0_finds]
      unfold fX0_findsB
      rw [k_0, k1]
      rfl
    · refine ⟨true, V', ?_, k3⟩
      rw [fX0_finds]
      unfold fX0_findsB
      rw [k_0, k1]
      rfl
end SX
