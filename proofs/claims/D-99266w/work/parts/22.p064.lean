/-! CALL: orders. No JVM here. -/
set_option maxRecDepth 100000
set_option linter.unusedVariables false
section OZ
variable {b : Nat} {V0 V : Vw} {lw : Option Nat} {R : Hp} {n p N cnt nx : Nat} {x y z : Int} {O : Vw}
theorem y_ordGo (h48 : N ≤ 48) (hn : n ≤ 260) : ∀ (fu cnt p F : Nat) (V : Vw) (O : Vw), cnt + fu = 21 → cnt ≤ 20 → p ≤ n → fu + 2 ≤ F → V 258 14 = (N : Int) → yPl V n p → V 258 49 = (cnt : Int) → yO V N O → ∃ s1 m1, fX7_readsOrder (Wd b V lw R) (some (b + 258)) = some (I s1, m1) ∧ (s1 = 0 ∨ s1 = 1) ∧ ∃ (s2 : Int) (V' : Vw), iter (fX7_orders_L73 (some (b + 258))) F (I s1, m1) = some (I s2, Wd b V' lw R) ∧ yOf V V' ∧ V' 258 17 = V 258 17 ∧ match ordGo (yk V n) N n fu cnt p O with
    | .inl (w, q) => s2 = 0 ∧ V' 258 20 = -1000 * w - (q : Int)
    | .inr (k, O') => s2 = 1 ∧ V' 258 49 = (k : Int) ∧ yO V' N O'
  | 0, cnt, p, F, V, O, e1, e2, e3, e4, hN, h, hc, ho => by omega
  | fu + 1, cnt, p, F, V, O, e1, e2, e3, e4, hN, h, hc, ho => by
    obtain ⟨F, rfl⟩ : ∃ F', F = F' + 1 := ⟨F - 1, by omega⟩
    obtain ⟨V1, a1, a2, a3, a4⟩ := y_order (b := b) (lw := lw) (R := R) hN h48 h (by omega) hc e2 ho
    have B := ordR_b (T := yk V n) (N := N) (cnt := cnt) (p := p)
    have ek : yk V1 n = yk V n := funext fun q => yk_of (fun k => a1 _ _ (by omega)) n q
    cases e : ordR (yk V n) N cnt p with
    | inl ee =>
      obtain ⟨w, q'⟩ := ee
      have go : ordGo (yk V n) N n (fu + 1) cnt p O = .inl (w, q') := by rw [ordGo, e]
      rw [e] at a4
      rw [go]
      obtain ⟨b1, b2⟩ := a4
      refine ⟨0, _, b1, Or.inl rfl, 0, V1, iter_r ?_, a1, a3, rfl, b2⟩
      unfold fX7_orders_L73
      simp only [k_0, if_true]
    | inr ee =>
      obtain ⟨p', r, sg, v⟩ := ee
      rw [e] at a4 B
      obtain ⟨b1, b2, b3, b4⟩ := a4
      have B : p < p' ∧ p' ≤ p + 5 ∧ 0 ≤ r ∧ r < (N : Int) ∧ 0 ≤ v ∧ v ≤ 99 ∧ cnt ≠ 20 := B
      have P1 : yPl V1 n p' := h.to b2 a2 (by omega)
      have len : V1 258 19 = (n : Int) := P1.2.1
      have tb := yk_b V n p'
      by_cases c1 : n ≤ p'
      · have go : ordGo (yk V n) N n (fu + 1) cnt p O = .inr (cnt + 1, ordS O r.toNat sg v) := by
          rw [ordGo, e]
          exact if_pos c1
        rw [go]
        refine ⟨1, _, b1, Or.inr rfl, 1, V1, iter_r ?_, a1, a3, rfl, by rw [b3]; rfl, b4⟩
        unfold fX7_orders_L73
        simp (disch := omega) only [k_0, I_inj, if_neg, gI258_18, gI258_19, b2, len, Option.bind_some, I_le, if_pos]
      · by_cases c2 : yk V n p' = 59
        · have go : ordGo (yk V n) N n (fu + 1) cnt p O = ordGo (yk V n) N n fu (cnt + 1) (p' + 1) (ordS O r.toNat sg v) := by
            rw [ordGo, e]
            exact (if_neg c1).trans (if_pos c2)
          rw [go]
          have PA : yPl (up V1 258 18 ((p' : Int) + 1)) n (p' + 1) := P1.to up_s (up_k (by omega)) (by omega)
          have n2 : up V1 258 18 ((p' : Int) + 1) 258 14 = (N : Int) := by
            rw [up_k (by omega), a1 _ _ (by omega)]
            exact hN
          have ek2 : yk (up V1 258 18 ((p' : Int) + 1)) n = yk V n := funext fun q => by rw [yk_of (fun k => by rw [up_r (by omega)]) n q, ek]
          obtain ⟨s1, m1, g1, g2, s2, V2, g3, g4, g5, g6⟩ := y_ordGo h48 hn fu (cnt + 1) (p' + 1) F (up V1 258 18 ((p' : Int) + 1)) (ordS O r.toNat sg v) (by omega) (by omega) (by omega) (by omega) n2 PA (by rw [up_k (by omega), b3]; rfl) (yO_c b4 (up_r (by omega)) (up_r (by omega)))
          rw [ek2] at g6
          refine ⟨1, _, b1, Or.inr rfl, s2, V2, ?_, a1.tr ((yOf.up (by omega)).tr g4), by rw [g5, up_k (by omega)]; exact a3, g6⟩
          rw [← g3]
          refine iter_s ?_
          have tk := y_takes (b := b) (lw := lw) (R := R) (x := 59) P1 (by omega)
          rw [ek, if_pos c2] at tk
          unfold fX7_orders_L73
          simp (disch := omega) only [k_0, k_1, k_59, I_inj, if_neg, gI258_18, gI258_19, b2, len, Option.bind_some, I_le, on258, tk, g1]
          rcases g2 with rfl | rfl
          · rw [if_pos rfl]
          · rw [if_neg (by decide)]
        · have go : ordGo (yk V n) N n (fu + 1) cnt p O = .inl (1, p') := by
            rw [ordGo, e]
            exact (if_neg c1).trans (if_neg c2)
          rw [go]
          obtain ⟨F, rfl⟩ : ∃ F', F = F' + 1 := ⟨F - 1, by omega⟩
          refine ⟨1, _, b1, Or.inr rfl, 0, up V1 258 20 (-1000 * 1 - (p' : Int)), ?_, a1.tr (yOf.up (by omega)), by rw [up_k (by omega)]; exact a3, rfl, up_s⟩
          have tk := y_takes (b := b) (lw := lw) (R := R) (x := 59) P1 (by omega)
          rw [ek, if_neg c2] at tk
          rw [iter_s (s' := (I 0, Wd b (up V1 258 20 (-1000 * 1 - (p' : Int))) lw R))]
          · refine iter_r ?_
            unfold fX7_orders_L73
            simp only [k_0, if_true]
          · unfold fX7_orders_L73
            simp (disch := omega) only [k_0, k_1, k_59, I_inj, if_neg, gI258_18, gI258_19, b2, len, Option.bind_some, I_le, on258, tk, if_true]
/-- backed up, put back -/
theorem wBo {o : Nat} (ho : dK o = (1, 2, 48)) {z x : Int} (h0 : 0 ≤ z) (h1 : z < 48) : ∃ y, hp_sI (Wd b V lw R) (some (b + o)) 2 (I z) (I x) = some (Wd b (up V o z.toNat y) lw R) ∧ (x = 0 ∨ x = 1 → y = x) := by
  by_cases c : x = 0 ∨ x = 1
  · exact ⟨x, wrA (n := 48) ho h0 h1 (by decide) (nar2 c), fun _ => rfl⟩
  · exact ⟨(hp_nar 2 (I x)).toInt, wrA (n := 48) ho h0 h1 (by decide) (I_ot _).symm, fun w => absurd w c⟩
theorem y_ordL32 : ∃ V', iter (fX7_orders_L32 (some (b + 258))) FUEL (I 0, Wd b V lw R) = some (Wd b V' lw R) ∧ (∀ o, o ≠ 291 → o ≠ 292 → V' o = V o) ∧ ∀ r, r < 48 → V' 291 r = V 268 r ∧ (V 271 r = 0 ∨ V 271 r = 1 → V' 292 r = V 271 r) := by
  obtain ⟨q, k1, V1, k2, k3, k4⟩ := iter_for (b := fX7_orders_L32 (some (b + 258))) (s := (I 0, Wd b V lw R)) (fun t s => ∃ V', s = (I (t : Int), Wd b V' lw R) ∧ (∀ o, o ≠ 291 → o ≠ 292 → V' o = V o) ∧ ∀ r, r < t → V' 291 r = V 268 r ∧ (V 271 r = 0 ∨ V 271 r = 1 → V' 292 r = V 271 r)) (fun m => ∃ V', m = Wd b V' lw R ∧ (∀ o, o ≠ 291 → o ≠ 292 → V' o = V o) ∧ ∀ r, r < 48 → V' 291 r = V 268 r ∧ (V 271 r = 0 ∨ V 271 r = 1 → V' 292 r = V 271 r)) 48 (by omega) ⟨V, rfl, fun _ _ _ => rfl, fun r hr => by omega⟩ (fun t s hS ht => by
    obtain ⟨V', rfl, a1, a2⟩ := hS
    obtain ⟨yy, y1, y2⟩ := wBo (b := b) (V := up V' 291 t (V 268 t)) (lw := lw) (R := R) (o := 292) (by decide) (z := (t : Int)) (x := V 271 t) (by omega) (by omega)
    rw [tn] at y1
    refine ⟨(I ((t + 1 : Nat) : Int), Wd b (up (up V' 291 t (V 268 t)) 292 t yy) lw R), ?_, _, rfl, fun o o1 o2 => by rw [up_r o2, up_r o1, a1 o o1 o2], fun r hr => ?_⟩
    · have e1 : V' 268 t = V 268 t := by rw [a1 _ (by omega) (by omega)]
      have e2 : up V' 291 t (V 268 t) 271 t = V 271 t := by rw [up_r (by omega), a1 _ (by omega) (by omega)]
      unfold fX7_orders_L32
      simp (disch := omega) only [k_48, k_1, I_le, if_neg, gR258_47, gR258_9, rA268, tn, e1, wA291, Option.bind_some, gR258_48, gR258_12, rA271, e2, y1, I_add]
      rfl
    · by_cases c : r = t
      · rw [c, up_r (by omega), up_s, up_s]
        exact ⟨rfl, y2⟩
      · rw [up_r (by omega), up_k c, up_k c, up_r (by omega)]
        exact a2 r (by omega)) (fun s hS => by
    obtain ⟨V', rfl, a1, a2⟩ := hS
    refine ⟨_, ?_, V', rfl, a1, a2⟩
    unfold fX7_orders_L32
    simp (disch := omega) only [k_48, I_le, if_pos])
  exact ⟨V1, by rw [k1, k2], k3, k4⟩
theorem y_ordL129 : ∃ V', iter (fX7_orders_L129 (some (b + 258))) FUEL (I 0, Wd b V lw R) = some (Wd b V' lw R) ∧ (∀ o k, ¬ ((o = 268 ∨ o = 271) ∧ k < 48) → V' o k = V o k) ∧ ∀ r, r < 48 → V' 268 r = V 291 r ∧ (V 292 r = 0 ∨ V 292 r = 1 → V' 271 r = V 292 r) := by
  obtain ⟨q, k1, V1, k2, k3, k4⟩ := iter_for (b := fX7_orders_L129 (some (b + 258))) (s := (I 0, Wd b V lw R)) (fun t s => ∃ V', s = (I (t : Int), Wd b V' lw R) ∧ (∀ o k, ¬ ((o = 268 ∨ o = 271) ∧ k < 48) → V' o k = V o k) ∧ ∀ r, r < t → V' 268 r = V 291 r ∧ (V 292 r = 0 ∨ V 292 r = 1 → V' 271 r = V 292 r)) (fun m => ∃ V', m = Wd b V' lw R ∧ (∀ o k, ¬ ((o = 268 ∨ o = 271) ∧ k < 48) → V' o k = V o k) ∧ ∀ r, r < 48 → V' 268 r = V 291 r ∧ (V 292 r = 0 ∨ V 292 r = 1 → V' 271 r = V 292 r)) 48 (by omega) ⟨V, rfl, fun _ _ _ => rfl, fun r hr => by omega⟩ (fun t s hS ht => by
    obtain ⟨V', rfl, a1, a2⟩ := hS
    obtain ⟨yy, y1, y2⟩ := wBo (b := b) (V := up V' 268 t (V 291 t)) (lw := lw) (R := R) (o := 271) (by decide) (z := (t : Int)) (x := V 292 t) (by omega) (by omega)
    rw [tn] at y1
    refine ⟨(I ((t + 1 : Nat) : Int), Wd b (up (up V' 268 t (V 291 t)) 271 t yy) lw R), ?_, _, rfl, fun o k q => ?_, fun r hr => ?_⟩
    · have e1 : V' 291 t = V 291 t := a1 _ _ (by omega)
      have e2 : up V' 268 t (V 291 t) 292 t = V 292 t := by rw [up_r (by omega), a1 _ _ (by omega)]
      unfold fX7_orders_L129
      simp (disch := omega) only [k_48, k_1, I_le, if_neg, gR258_47, gR258_9, rA291, tn, e1, wA268, Option.bind_some, gR258_48, gR258_12, rA292, e2, y1, I_add]
      rfl
    · have e1 : ¬ (o = 271 ∧ k = t) := by omega
      have e2 : ¬ (o = 268 ∧ k = t) := by omega
      rw [show up (up V' 268 t (V 291 t)) 271 t yy o k = up V' 268 t (V 291 t) o k from if_neg e1, show up V' 268 t (V 291 t) o k = V' o k from if_neg e2]
      exact a1 o k q
    · by_cases c : r = t
      · rw [c, up_r (by omega), up_s, up_s]
        exact ⟨rfl, y2⟩
      · rw [up_r (by omega), up_k c, up_k c, up_r (by omega)]
        exact a2 r (by omega)) (fun s hS => by
    obtain ⟨V', rfl, a1, a2⟩ := hS
    refine ⟨_, ?_, V', rfl, a1, a2⟩
    unfold fX7_orders_L129
    simp (disch := omega) only [k_48, I_le, if_pos])
  exact ⟨V1, by rw [k1, k2], k3, k4⟩
/-- what a call that makes objects owes: d and c are what it takes at most -/
def Oka (b nx : Nat) (V : Vw) (lw : Option Nat) (R : Hp) (d c : Nat) (f : Hp → Option ((Int32 × Hp) × Nat × Nat)) (g : Hp → Option (Int32 × Hp)) : Prop := ∃ (v : Int32) (m1 : Hp) (V' : Vw) (R' : Hp) (d' c' : Nat), f (Wd b V lw R) = some ((v, m1), d', c') ∧ g m1 = some (v, Wd b V' lw R') ∧ Inv V' ∧ agL V V' ∧ d' ≤ d ∧ c' ≤ c ∧ (∀ q, q < nx → R' q = R q) ∧ hp_cls m1 (some (b + 258)) = some 6
end OZ
