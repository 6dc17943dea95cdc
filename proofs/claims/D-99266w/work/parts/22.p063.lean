/-! CALL: orders, the reference. No JVM here. -/
set_option maxRecDepth 100000
set_option linter.unusedVariables false
abbrev yOc (o k : Nat) : Prop := (o = 258 ∧ (k = 17 ∨ (18 ≤ k ∧ k ≤ 25) ∨ k = 49)) ∨ ((o = 268 ∨ o = 271) ∧ k < 48)
def yOf (V V' : Vw) : Prop := ∀ o k, ¬ yOc o k → V' o k = V o k
def yO (V : Vw) (N : Nat) (O : Vw) : Prop := ∀ r, r < N → V 268 r = O 0 r ∧ V 271 r = 1 - O 1 r
theorem yOf.tr {V1 V2 V3 : Vw} (h : yOf V1 V2) (g : yOf V2 V3) : yOf V1 V3 := fun o k q => (g o k q).trans (h o k q)
theorem yOf.id {V : Vw} : yOf V V := fun _ _ _ => rfl
theorem yOf.up {V : Vw} {o k : Nat} {x : Int} (hk : yOc o k) : yOf V (up V o k x) := fun o2 i q => by
  rw [up_e, if_neg (fun e => q (by rw [e.1, e.2]; exact hk))]
theorem yOf.fr {V V' : Vw} (h : yFr V V') : yOf V V' := fun o k q => h o k (by omega)
theorem yk_of {V V' : Vw} (h : ∀ k, V' 272 k = V 272 k) (n p : Nat) : yk V' n p = yk V n p := by
  unfold yk
  rw [h p]
section OY
variable {b : Nat} {V0 V : Vw} {lw : Option Nat} {R : Hp} {n p N cnt : Nat} {x y : Int} {O : Vw}
theorem yPl.to {V' : Vw} (h : yPl V n p) {p' : Nat} (h1 : V' 258 18 = (p' : Int)) (h2 : V' 258 19 = V 258 19) (hp : p' ≤ 1000) : yPl V' n p' := ⟨h1, by rw [h2]; exact h.2.1, h.2.2.1, hp⟩
theorem yO_c {V' : Vw} (h : yO V N O) (e1 : V' 268 = V 268) (e2 : V' 271 = V 271) : yO V' N O := fun r hr => by
  rw [e1, e2]
  exact h r hr
theorem y_order (hN : V 258 14 = (N : Int)) (h48 : N ≤ 48) (h : yPl V n p) (hp : p ≤ 400) (hc : V 258 49 = (cnt : Int)) (hc2 : cnt ≤ 20) (ho : yO V N O) : ∃ V', yOf V V' ∧ V' 258 19 = V 258 19 ∧ V' 258 17 = V 258 17 ∧ match ordR (yk V n) N cnt p with
    | .inl (w, q) => fX7_readsOrder (Wd b V lw R) (some (b + 258)) = some (I 0, Wd b V' lw R) ∧ V' 258 20 = -1000 * w - (q : Int)
    | .inr (p', r, sg, v) => fX7_readsOrder (Wd b V lw R) (some (b + 258)) = some (I 1, Wd b V' lw R) ∧ V' 258 18 = (p' : Int) ∧ V' 258 49 = (cnt : Int) + 1 ∧ yO V' N (ordS O r.toNat sg v) := by
  have h1 := h.1
  have tb := yk_b V n
  unfold ordR
  by_cases d : isDg (yk V n) p
  · rw [if_neg (not_not_intro d)]
    by_cases c : cnt = 20
    · rw [if_pos c]
      refine ⟨up V 258 20 (-1000 * 4 - (p : Int)), yOf.up (by omega), up_k (by omega), up_k (by omega), ?_, up_s⟩
      unfold fX7_readsOrder
      simp (disch := omega) only [on258, y_isDg h, Option.bind_some, k_0, k_20, k_4, bi_if, if_pos d, gI258_49, hc, I_inj, if_pos, gI258_18, h1, y_wrong, z_0]
    · rw [if_neg c]
      have hA : yPl (up V 258 49 ((cnt : Int) + 1)) n p := h.to (by rw [up_k (by omega)]; exact h1) (up_k (by omega)) (by omega)
      obtain ⟨V1, a1, a2, a3⟩ := y_readsW (b := b) (lw := lw) (R := R) (dg := 2) (lo := 0) (hi := 99) hA (by omega) (by omega) (by omega) (by omega) (by omega)
      have ek : yk (up V 258 49 ((cnt : Int) + 1)) n = yk V n := funext fun q => yk_of (fun k => by rw [up_r (by omega)]) n q
      have ek1 : ∀ q, yk V1 n q = yk V n q := fun q => by rw [yk_fr a1, ek]
      rw [ek] at a2
      have e2 : I ((2 : Nat) : Int) = I 2 := rfl
      rw [e2] at a2
      have f0 : yOf V (up V 258 49 ((cnt : Int) + 1)) := yOf.up (by omega)
      have f1 : yOf V V1 := f0.tr (yOf.fr a1)
      have l1 : V1 258 19 = V 258 19 := by rw [a3 _ (by omega) (by omega) (by omega), up_k (by omega)]
      have t1 : V1 258 17 = V 258 17 := by rw [a3 _ (by omega) (by omega) (by omega), up_k (by omega)]
      have c1 : V1 258 49 = (cnt : Int) + 1 := by rw [a3 _ (by omega) (by omega) (by omega), up_s]
      have n1 : V1 258 14 = (N : Int) := by rw [a3 _ (by omega) (by omega) (by omega), up_k (by omega)]; exact hN
      have r1 : V1 268 = V 268 := funext fun k => by rw [a1 _ _ (by omega), up_r (by omega)]
      have r2 : V1 271 = V 271 := funext fun k => by rw [a1 _ _ (by omega), up_r (by omega)]
      have B1 := numR_b (T := yk V n) (dg := 2) (p := p) (lo := 0) (hi := 99) (by decide)
      cases e1 : numR (yk V n) 2 0 99 p with
      | inl e =>
        obtain ⟨w, q'⟩ := e
        rw [e1] at a2
        obtain ⟨b1, b2⟩ := a2
        refine ⟨V1, f1, l1, t1, ?_, b2⟩
        unfold fX7_readsOrder
        simp (disch := omega) only [on258, y_isDg h, Option.bind_some, k_0, k_1, k_2, k_99, k_20, k_4, bi_if, if_pos d, gI258_49, hc, I_inj, if_neg, I_add, pI258_49, gI258_18, up_k, h1, b1, if_true]
      | inr qq =>
        obtain ⟨r, p1⟩ := qq
        rw [e1] at a2 B1
        obtain ⟨b1, b2, b3⟩ := a2
        have B1 : 0 ≤ r ∧ r ≤ 99 ∧ p < p1 ∧ p1 ≤ p + 2 := B1
        have P1 : yPl V1 n p1 := h.to b3 l1 (by omega)
        have tb1 := tb p1
        show ∃ V', _ ∧ _ ∧ _ ∧ match (if (N : Int) ≤ r then _ else _ : (Int × Nat) ⊕ (Nat × Int × Int × Int)) with | .inl (w, q) => _ | .inr (p', r, sg, v) => _
        by_cases c2 : (N : Int) ≤ r
        · rw [if_pos c2]
          refine ⟨up V1 258 20 (-1000 * 7 - (p : Int)), f1.tr (yOf.up (by omega)), by rw [up_k (by omega)]; exact l1, by rw [up_k (by omega)]; exact t1, ?_, up_s⟩
          unfold fX7_readsOrder
          simp (disch := omega) only [on258, y_isDg h, Option.bind_some, k_0, k_1, k_2, k_99, k_20, k_4, k_7, bi_if, if_pos d, gI258_49, hc, I_inj, if_neg, I_add, pI258_49, gI258_18, up_k, h1, b1, gI258_21, b2, gI258_14, n1, I_lt, y_wrong, z_0]
        · rw [if_neg c2]
          have er : r.toNat < N := by omega
          have PA : yPl (up V1 258 18 ((p1 : Int) + 1)) n (p1 + 1) := P1.to up_s (up_k (by omega)) (by omega)
          by_cases c3 : yk V n p1 = 33 ∨ yk V n p1 = 63
          · rw [if_pos c3]
            have wO : ∀ x : Int, yO (up (up V1 258 18 ((p1 : Int) + 1)) 271 r.toNat (1 - x)) N (up O 1 r.toNat x) := fun x r' hr' => by
              rw [up_r (show 268 ≠ 271 by omega), up_r (show 268 ≠ 258 by omega), up_r (show 0 ≠ 1 by omega), r1]
              refine ⟨(ho r' hr').1, ?_⟩
              by_cases e : r' = r.toNat
              · rw [e, up_s, up_s]
              · rw [up_k e, up_k e, up_r (by omega), r2]
                exact (ho r' hr').2
            have fin : ∀ x : Int, yOf V (up (up V1 258 18 ((p1 : Int) + 1)) 271 r.toNat x) ∧ up (up V1 258 18 ((p1 : Int) + 1)) 271 r.toNat x 258 19 = V 258 19 ∧ up (up V1 258 18 ((p1 : Int) + 1)) 271 r.toNat x 258 17 = V 258 17 ∧ up (up V1 258 18 ((p1 : Int) + 1)) 271 r.toNat x 258 18 = ((p1 + 1 : Nat) : Int) ∧ up (up V1 258 18 ((p1 : Int) + 1)) 271 r.toNat x 258 49 = (cnt : Int) + 1 := fun x => by
              refine ⟨f1.tr ((yOf.up (by omega)).tr (yOf.up (by omega))), ?_, ?_, ?_, ?_⟩
              · rw [up_r (by omega), up_k (by omega)]
                exact l1
              · rw [up_r (by omega), up_k (by omega)]
                exact t1
              · rw [up_r (by omega), up_s]
                rfl
              · rw [up_r (by omega), up_k (by omega)]
                exact c1
            rcases c3 with c3 | c3
            · refine ⟨up (up V1 258 18 ((p1 : Int) + 1)) 271 r.toNat (1 - 0), (fin _).1, (fin _).2.1, (fin _).2.2.1, ?_, (fin _).2.2.2.1, (fin _).2.2.2.2, by rw [c3]; exact wO 0⟩
              unfold fX7_readsOrder
              simp (disch := omega) only [on258, y_isDg h, Option.bind_some, k_0, k_1, k_2, k_99, k_20, k_4, k_7, k_33, k_63, k_43, bi_if, if_pos d, gI258_49, hc, I_inj, if_neg, I_add, pI258_49, gI258_18, up_k, h1, b1, gI258_21, b2, gI258_14, n1, I_lt, if_pos, y_here P1, ek1, c3, if_true, b3, pI258_18, gR258_12, wA271]
              rfl
            · refine ⟨up (up V1 258 18 ((p1 : Int) + 1)) 271 r.toNat (1 - 1), (fin _).1, (fin _).2.1, (fin _).2.2.1, ?_, (fin _).2.2.2.1, (fin _).2.2.2.2, by rw [c3]; exact wO 1⟩
              unfold fX7_readsOrder
              simp (disch := omega) only [on258, y_isDg h, Option.bind_some, k_0, k_1, k_2, k_99, k_20, k_4, k_7, k_33, k_63, k_43, bi_if, if_pos d, gI258_49, hc, I_inj, if_neg, I_add, pI258_49, gI258_18, up_k, h1, b1, gI258_21, b2, gI258_14, n1, I_lt, if_pos, y_here P1, ek1, c3, if_true, b3, pI258_18, gR258_12, wA271]
              rfl
          · rw [if_neg c3]
            have c5 : ¬ yk V n p1 = 33 := fun w => c3 (Or.inl w)
            have c6 : ¬ yk V n p1 = 63 := fun w => c3 (Or.inr w)
            by_cases c4 : yk V n p1 = 43
            · rw [if_pos c4]
              obtain ⟨V2, d1, d2, d3⟩ := y_readsW (b := b) (lw := lw) (R := R) (dg := 2) (lo := 0) (hi := 99) PA (by omega) (by omega) (by omega) (by omega) (by omega)
              have ekA : yk (up V1 258 18 ((p1 : Int) + 1)) n = yk V n := funext fun q => by
                rw [yk_of (fun k => by rw [up_r (by omega)]) n q, ek1]
              rw [ekA, e2] at d2
              have g2 : yOf V V2 := f1.tr ((yOf.up (o := 258) (k := 18) (x := (p1 : Int) + 1) (by omega)).tr (yOf.fr d1))
              have m2 : V2 258 19 = V 258 19 := by rw [d3 _ (by omega) (by omega) (by omega), up_k (by omega)]; exact l1
              have u2 : V2 258 17 = V 258 17 := by rw [d3 _ (by omega) (by omega) (by omega), up_k (by omega)]; exact t1
              have v2 : V2 258 49 = (cnt : Int) + 1 := by rw [d3 _ (by omega) (by omega) (by omega), up_k (by omega)]; exact c1
              have s1 : V2 268 = V 268 := funext fun k => by rw [d1 _ _ (by omega), up_r (by omega), r1]
              have s2 : V2 271 = V 271 := funext fun k => by rw [d1 _ _ (by omega), up_r (by omega), r2]
              have B2 := numR_b (T := yk V n) (dg := 2) (p := p1 + 1) (lo := 0) (hi := 99) (by decide)
              cases e3 : numR (yk V n) 2 0 99 (p1 + 1) with
              | inl e =>
                obtain ⟨w, q'⟩ := e
                rw [e3] at d2
                obtain ⟨q1, q2⟩ := d2
                refine ⟨V2, g2, m2, u2, ?_, q2⟩
                unfold fX7_readsOrder
                simp (disch := omega) only [on258, y_isDg h, Option.bind_some, k_0, k_1, k_2, k_99, k_20, k_4, k_7, k_33, k_63, k_43, bi_if, if_pos d, gI258_49, hc, I_inj, if_neg, I_add, pI258_49, gI258_18, up_k, h1, b1, gI258_21, b2, gI258_14, n1, I_lt, if_pos, y_here P1, ek1, c4, if_true, b3, pI258_18, q1]
              | inr qq =>
                obtain ⟨v, p2⟩ := qq
                rw [e3] at d2 B2
                obtain ⟨q1, q2, q3⟩ := d2
                have B2 : 0 ≤ v ∧ v ≤ 99 ∧ p1 + 1 < p2 ∧ p2 ≤ p1 + 1 + 2 := B2
                refine ⟨up V2 268 r.toNat v, g2.tr (yOf.up (by omega)), by rw [up_r (by omega)]; exact m2, by rw [up_r (by omega)]; exact u2, ?_, by rw [up_r (by omega)]; exact q3, by rw [up_r (by omega)]; exact v2, fun r' hr' => ?_⟩
                · unfold fX7_readsOrder
                  simp (disch := omega) only [on258, y_isDg h, Option.bind_some, k_0, k_1, k_2, k_99, k_20, k_4, k_7, k_33, k_63, k_43, bi_if, if_pos d, gI258_49, hc, I_inj, if_neg, I_add, pI258_49, gI258_18, up_k, h1, b1, gI258_21, b2, gI258_14, n1, I_lt, if_pos, y_here P1, ek1, c4, if_true, b3, pI258_18, q1, gR258_9, q2, wA268]
                · unfold ordS
                  rw [if_pos rfl, up_r (show 271 ≠ 268 by omega), up_r (show 1 ≠ 0 by omega), s2]
                  refine ⟨?_, (ho r' hr').2⟩
                  by_cases e : r' = r.toNat
                  · rw [e, up_s, up_s]
                  · rw [up_k e, up_k e, s1]
                    exact (ho r' hr').1
            · rw [if_neg c4]
              refine ⟨up V1 258 20 (-1000 * 1 - (p1 : Int)), f1.tr (yOf.up (by omega)), by rw [up_k (by omega)]; exact l1, by rw [up_k (by omega)]; exact t1, ?_, up_s⟩
              unfold fX7_readsOrder
              simp (disch := omega) only [on258, y_isDg h, Option.bind_some, k_0, k_1, k_2, k_99, k_20, k_4, k_7, k_33, k_63, k_43, bi_if, if_pos d, gI258_49, hc, I_inj, if_neg, I_add, pI258_49, gI258_18, up_k, h1, b1, gI258_21, b2, gI258_14, n1, I_lt, if_pos, y_here P1, ek1, b3, y_wrong, z_0]
  · rw [if_pos d]
    refine ⟨up V 258 20 (-1000 * 1 - (p : Int)), yOf.up (by omega), up_k (by omega), up_k (by omega), ?_, up_s⟩
    unfold fX7_readsOrder
    simp (disch := omega) only [on258, y_isDg h, Option.bind_some, k_0, k_1, bi_if, if_neg d, gI258_18, h1, y_wrong, z_0]
end OY
