/-! CALL: timetable, the reference's text. No JVM here. -/
set_option maxRecDepth 100000
set_option linter.unusedVariables false
section TC
variable {b : Nat} {V0 V V' : Vw} {lw : Option Nat} {R : Hp} {n p N cnt many all : Nat} {x y s m v e : Int} {S G : Vw}
theorem y_svcGo (hn : n ≤ 200) : ∀ (fu cnt all p F : Nat) (V G : Vw), cnt + fu = 17 → cnt ≤ 16 → p ≤ n → fu + 2 ≤ F → yPl V n p → V 258 43 = (all : Int) → V 258 44 = (cnt : Int) → all ≤ 48 → yG V all G → GK all G → ∃ s1 m1, fX7_readsService (Wd b V lw R) (some (b + 258)) = some (I s1, m1) ∧ (s1 = 0 ∨ s1 = 1) ∧ ∃ (s2 : Int) (V' : Vw), iter (fX7_timetable_L41 (some (b + 258))) F (I s1, m1) = some (I s2, Wd b V' lw R) ∧ yTf V V' ∧ V' 258 17 = V 258 17 ∧ match svcGo (yk V n) n fu cnt all p G with
    | .inl (w, q) => s2 = 0 ∧ V' 258 20 = -1000 * w - (q : Int)
    | .inr (k, all', G') => s2 = 1 ∧ V' 258 43 = (all' : Int) ∧ yG V' all' G' ∧ GK all' G' ∧ all' ≤ 48
  | 0, cnt, all, p, F, V, G, e1, e2, e3, e4, h, hv, hc, hal, g, gk => by omega
  | fu + 1, cnt, all, p, F, V, G, e1, e2, e3, e4, h, hv, hc, hal, g, gk => by
    obtain ⟨F, rfl⟩ : ∃ F', F = F' + 1 := ⟨F - 1, by omega⟩
    obtain ⟨V1, a1, a2, a3, a4⟩ := y_svc (b := b) (lw := lw) (R := R) h (by omega) hv hc e2 hal g gk
    have B := svcR_b (T := yk V n) (cnt := cnt) (all := all) (p := p) hal
    have ek : yk V1 n = yk V n := funext fun q => yk_of (fun k => a1 _ _ (by omega)) n q
    cases e : svcR (yk V n) cnt all p with
    | inl ee =>
      obtain ⟨w, q'⟩ := ee
      have go : svcGo (yk V n) n (fu + 1) cnt all p G = .inl (w, q') := by rw [svcGo, e]
      rw [e] at a4
      rw [go]
      obtain ⟨b1, b2⟩ := a4
      refine ⟨0, _, b1, Or.inl rfl, 0, V1, iter_r ?_, a1, a3, rfl, b2⟩
      unfold fX7_timetable_L41
      simp only [k_0, if_true]
    | inr ee =>
      obtain ⟨p', many, S, v, e0⟩ := ee
      rw [e] at a4 B
      obtain ⟨b1, b2, b3, b4, b5⟩ := a4
      have B : p < p' ∧ p' ≤ p + 70 ∧ 2 ≤ many ∧ many ≤ 8 ∧ SvK many S ∧ 1 ≤ v ∧ v ≤ 24 ∧ 0 ≤ e0 ∧ e0 ≤ 720 ∧ S 1 (many - 1) + (v - 1) * e0 ≤ 1439 ∧ (all : Int) + v ≤ 48 ∧ cnt ≠ 16 := B
      obtain ⟨B1, B2, B3, B4, B5, B6, B7, B8, B9, B10, B11, B12⟩ := B
      have P1 : yPl V1 n p' := h.to b2 a2 (by omega)
      have len : V1 258 19 = (n : Int) := P1.2.1
      have tb := yk_b V n p'
      have gk2 := GK_s gk B3 B4 B5 ⟨B6, B7⟩ ⟨B8, B9⟩ B10
      have nt : V1 258 43 = ((all + v.toNat : Nat) : Int) := by rw [b3]; omega
      by_cases c1 : n ≤ p'
      · have go : svcGo (yk V n) n (fu + 1) cnt all p G = .inr (cnt + 1, all + v.toNat, svcS G all many S v e0) := by
          rw [svcGo, e]
          exact if_pos c1
        rw [go]
        refine ⟨1, _, b1, Or.inr rfl, 1, V1, iter_r ?_, a1, a3, rfl, nt, b5, gk2, by omega⟩
        unfold fX7_timetable_L41
        simp (disch := omega) only [k_0, I_inj, if_neg, gI258_18, gI258_19, b2, len, Option.bind_some, I_le, if_pos]
      · by_cases c2 : yk V n p' = 59
        · have go : svcGo (yk V n) n (fu + 1) cnt all p G = svcGo (yk V n) n fu (cnt + 1) (all + v.toNat) (p' + 1) (svcS G all many S v e0) := by
            rw [svcGo, e]
            exact (if_neg c1).trans (if_pos c2)
          rw [go]
          have PA : yPl (up V1 258 18 ((p' : Int) + 1)) n (p' + 1) := P1.to up_s (up_k (by omega)) (by omega)
          have ek2 : yk (up V1 258 18 ((p' : Int) + 1)) n = yk V n := funext fun q => by rw [yk_of (fun k => by rw [up_r (by omega)]) n q, ek]
          obtain ⟨s1, m1, g1, g2, s2, V2, g3, g4, g5, g6⟩ := y_svcGo hn fu (cnt + 1) (all + v.toNat) (p' + 1) F (up V1 258 18 ((p' : Int) + 1)) (svcS G all many S v e0) (by omega) (by omega) (by omega) (by omega) PA (by rw [up_k (by omega)]; exact nt) (by rw [up_k (by omega)]; exact b4) (by omega) (yG_c b5 (up_r (by omega)) (up_r (by omega)) (up_r (by omega))) gk2
          rw [ek2] at g6
          refine ⟨1, _, b1, Or.inr rfl, s2, V2, ?_, a1.tr ((yTf.up (by omega)).tr g4), by rw [g5, up_k (by omega)]; exact a3, g6⟩
          rw [← g3]
          refine iter_s ?_
          have tk := y_takes (b := b) (lw := lw) (R := R) (x := 59) P1 (by omega)
          rw [ek, if_pos c2] at tk
          unfold fX7_timetable_L41
          simp (disch := omega) only [k_0, k_1, k_59, I_inj, if_neg, gI258_18, gI258_19, b2, len, Option.bind_some, I_le, on258, tk, g1]
          rcases g2 with rfl | rfl
          · rw [if_pos rfl]
          · rw [if_neg (by decide)]
        · have go : svcGo (yk V n) n (fu + 1) cnt all p G = .inl (1, p') := by
            rw [svcGo, e]
            exact (if_neg c1).trans (if_neg c2)
          rw [go]
          obtain ⟨F, rfl⟩ : ∃ F', F = F' + 1 := ⟨F - 1, by omega⟩
          refine ⟨1, _, b1, Or.inr rfl, 0, up V1 258 20 (-1000 * 1 - (p' : Int)), ?_, a1.tr (yTf.up (by omega)), by rw [up_k (by omega)]; exact a3, rfl, up_s⟩
          have tk := y_takes (b := b) (lw := lw) (R := R) (x := 59) P1 (by omega)
          rw [ek, if_neg c2] at tk
          rw [iter_s (s' := (I 0, Wd b (up V1 258 20 (-1000 * 1 - (p' : Int))) lw R))]
          · refine iter_r ?_
            unfold fX7_timetable_L41
            simp only [k_0, if_true]
          · unfold fX7_timetable_L41
            simp (disch := omega) only [k_0, k_1, k_59, I_inj, if_neg, gI258_18, gI258_19, b2, len, Option.bind_some, I_le, on258, tk, if_true]
theorem y_ttL105 : ∃ V', iter (fX7_timetable_L105 (some (b + 258))) FUEL (I 0, Wd b V lw R) = some (Wd b V' lw R) ∧ (∀ o, o ≠ 265 → o ≠ 268 → o ≠ 271 → V' o = V o) ∧ ∀ r, r < 48 → V' 265 r = V 286 r ∧ V' 268 r = 0 ∧ V' 271 r = 0 := by
  obtain ⟨q, k1, V1, k2, k3, k4⟩ := iter_for (b := fX7_timetable_L105 (some (b + 258))) (s := (I 0, Wd b V lw R)) (fun t s => ∃ V', s = (I (t : Int), Wd b V' lw R) ∧ (∀ o, o ≠ 265 → o ≠ 268 → o ≠ 271 → V' o = V o) ∧ ∀ r, r < t → V' 265 r = V 286 r ∧ V' 268 r = 0 ∧ V' 271 r = 0) (fun m => ∃ V', m = Wd b V' lw R ∧ (∀ o, o ≠ 265 → o ≠ 268 → o ≠ 271 → V' o = V o) ∧ ∀ r, r < 48 → V' 265 r = V 286 r ∧ V' 268 r = 0 ∧ V' 271 r = 0) 48 (by omega) ⟨V, rfl, fun _ _ _ _ => rfl, fun r hr => by omega⟩ (fun t s hS ht => by
    obtain ⟨V', rfl, a1, a2⟩ := hS
    have e1 : V' 286 t = V 286 t := by rw [a1 _ (by omega) (by omega) (by omega)]
    refine ⟨(I ((t + 1 : Nat) : Int), Wd b (up (up (up V' 265 t (V 286 t)) 268 t 0) 271 t 0) lw R), ?_, _, rfl, fun o o1 o2 o3 => by rw [up_r o3, up_r o2, up_r o1, a1 o o1 o2 o3], fun r hr => ?_⟩
    · unfold fX7_timetable_L105
      simp (disch := omega) only [k_0, k_48, k_1, I_le, if_neg, gR258_6, gR258_40, rA286, tn, e1, wA265, Option.bind_some, gR258_9, wA268, gR258_12, wA271, I_add]
      rfl
    · by_cases c : r = t
      · rw [c, up_s, up_r (show 265 ≠ 271 by omega), up_r (show 265 ≠ 268 by omega), up_s, up_r (show 268 ≠ 271 by omega), up_s]
        exact ⟨rfl, rfl, rfl⟩
      · simp (disch := first | exact c | omega) only [up_k, up_r]
        exact a2 r (by omega)) (fun s hS => by
    obtain ⟨V', rfl, a1, a2⟩ := hS
    refine ⟨_, ?_, V', rfl, a1, a2⟩
    unfold fX7_timetable_L105
    simp (disch := omega) only [k_48, I_le, if_pos])
  exact ⟨V1, by rw [k1, k2], k3, k4⟩
theorem y_ttL145 : ∃ V', iter (fX7_timetable_L145 (some (b + 258))) FUEL (I 0, Wd b V lw R) = some (Wd b V' lw R) ∧ (∀ o, o ≠ 266 → o ≠ 267 → V' o = V o) ∧ ∀ r, r < 384 → V' 266 r = V 287 r ∧ V' 267 r = V 288 r := by
  obtain ⟨q, k1, V1, k2, k3, k4⟩ := iter_for (b := fX7_timetable_L145 (some (b + 258))) (s := (I 0, Wd b V lw R)) (fun t s => ∃ V', s = (I (t : Int), Wd b V' lw R) ∧ (∀ o, o ≠ 266 → o ≠ 267 → V' o = V o) ∧ ∀ r, r < t → V' 266 r = V 287 r ∧ V' 267 r = V 288 r) (fun m => ∃ V', m = Wd b V' lw R ∧ (∀ o, o ≠ 266 → o ≠ 267 → V' o = V o) ∧ ∀ r, r < 384 → V' 266 r = V 287 r ∧ V' 267 r = V 288 r) 384 (by omega) ⟨V, rfl, fun _ _ _ => rfl, fun r hr => by omega⟩ (fun t s hS ht => by
    obtain ⟨V', rfl, a1, a2⟩ := hS
    have e1 : V' 287 t = V 287 t := by rw [a1 _ (by omega) (by omega)]
    have e2 : up V' 266 t (V 287 t) 288 t = V 288 t := by rw [up_r (by omega), a1 _ (by omega) (by omega)]
    refine ⟨(I ((t + 1 : Nat) : Int), Wd b (up (up V' 266 t (V 287 t)) 267 t (V 288 t)) lw R), ?_, _, rfl, fun o o1 o2 => by rw [up_r o2, up_r o1, a1 o o1 o2], fun r hr => ?_⟩
    · unfold fX7_timetable_L145
      simp (disch := omega) only [k_384, k_1, I_le, if_neg, gR258_7, gR258_41, rA287, tn, e1, wA266, Option.bind_some, gR258_8, gR258_42, rA288, e2, wA267, I_add]
      rfl
    · by_cases c : r = t
      · rw [c, up_r (show 266 ≠ 267 by omega), up_s, up_s]
        exact ⟨rfl, rfl⟩
      · rw [up_r (show 266 ≠ 267 by omega), up_k c, up_k c, up_r (show 267 ≠ 266 by omega)]
        exact a2 r (by omega)) (fun s hS => by
    obtain ⟨V', rfl, a1, a2⟩ := hS
    refine ⟨_, ?_, V', rfl, a1, a2⟩
    unfold fX7_timetable_L145
    simp (disch := omega) only [k_384, I_le, if_pos])
  exact ⟨V1, by rw [k1, k2], k3, k4⟩
end TC
