/-! CALL: timetable, the class's lines, II. No JVM here. -/
set_option maxRecDepth 100000
set_option linter.unusedVariables false
/-- what the clerk keeps of the services so far -/
def XC (b : Nat) (R : Hp) (a cnt all hi : Nat) (G : Vw) : Prop := ∃ (F : Nat → Option Nat) (fo fe : Nat → Int32) (off : Nat → Nat), R (a + 1) = some (.inl (5, 16, .inr F)) ∧ R (a + 2) = some (.inl (0, 16, .inl fo)) ∧ R (a + 3) = some (.inl (0, 16, .inl fe)) ∧ (∀ i, cnt ≤ i → fe i = I 0) ∧ off 0 = 0 ∧ off cnt = all ∧ ∀ i, i < cnt → ∃ (tr many : Nat) (S : Vw) (v e : Int), F i = some tr ∧ a + 3 < tr ∧ tr + 2 < hi ∧ OT R tr many S ∧ 2 ≤ many ∧ many ≤ 8 ∧ SvK many S ∧ fo i = I v ∧ fe i = I e ∧ 1 ≤ v ∧ v ≤ 24 ∧ 0 ≤ e ∧ e ≤ 720 ∧ off (i + 1) = off i + v.toNat ∧ off (i + 1) ≤ all ∧ ∀ t, t < v.toNat → G 0 (off i + t) = (many : Int) ∧ ∀ k, k < many → G 1 (8 * (off i + t) + k) = S 0 k ∧ G 2 (8 * (off i + t) + k) = S 1 k + (t : Int) * e
section CM
variable {b : Nat} {V0 V V' : Vw} {lw : Option Nat} {R : Hp} {a n p tr many cnt all nx : Nat} {q x y s m al v e : Int} {S G : Vw} {rest : List Vl}
theorem svc_1 {r : Nat} (h1 : all ≤ r) (h2 : (r : Int) < all + v) : svcS G all many S v e 0 r = (many : Int) := by
  show (if all ≤ r ∧ (r : Int) < all + v then (many : Int) else G 0 r) = _
  rw [if_pos ⟨h1, h2⟩]
theorem svc_2 {r k : Nat} (h1 : all ≤ r) (h2 : (r : Int) < all + v) (h3 : k < many) (h8 : many ≤ 8) : svcS G all many S v e 1 (8 * r + k) = S 0 k ∧ svcS G all many S v e 2 (8 * r + k) = S 1 k + ((r : Int) - all) * e := by
  have d1 : (8 * r + k) / 8 = r := by omega
  have d2 : (8 * r + k) % 8 = k := by omega
  constructor
  · show (if all ≤ (8 * r + k) / 8 ∧ (((8 * r + k) / 8 : Nat) : Int) < all + v ∧ (8 * r + k) % 8 < many then S 0 ((8 * r + k) % 8) else G 1 (8 * r + k)) = _
    rw [d1, d2, if_pos ⟨h1, h2, h3⟩]
  · show (if all ≤ (8 * r + k) / 8 ∧ (((8 * r + k) / 8 : Nat) : Int) < all + v ∧ (8 * r + k) % 8 < many then S 1 ((8 * r + k) % 8) + ((((8 * r + k) / 8 : Nat) : Int) - all) * e else G 2 (8 * r + k)) = _
    rw [d1, d2, if_pos ⟨h1, h2, h3⟩]
theorem svc_3 {r : Nat} (h1 : r < all) : svcS G all many S v e 0 r = G 0 r := by
  show (if all ≤ r ∧ (r : Int) < all + v then (many : Int) else G 0 r) = _
  rw [if_neg (fun w => by have := w.1; omega)]
theorem svc_4 {r k : Nat} (h1 : r < all) (h3 : k < 8) : svcS G all many S v e 1 (8 * r + k) = G 1 (8 * r + k) ∧ svcS G all many S v e 2 (8 * r + k) = G 2 (8 * r + k) := by
  constructor
  · show (if all ≤ (8 * r + k) / 8 ∧ (((8 * r + k) / 8 : Nat) : Int) < all + v ∧ (8 * r + k) % 8 < many then S 0 ((8 * r + k) % 8) else G 1 (8 * r + k)) = _
    rw [if_neg (fun w => by have := w.1; omega)]
  · show (if all ≤ (8 * r + k) / 8 ∧ (((8 * r + k) / 8 : Nat) : Int) < all + v ∧ (8 * r + k) % 8 < many then S 1 ((8 * r + k) % 8) + ((((8 * r + k) / 8 : Nat) : Int) - all) * e else G 2 (8 * r + k)) = _
    rw [if_neg (fun w => by have := w.1; omega)]
/-- one service more -/
theorem XC_s {R R' : Hp} {hi hi' : Nat} (xc : XC b R a cnt all hi G) {F : Nat → Option Nat} {fo fe : Nat → Int32} (r1 : R (a + 1) = some (.inl (5, 16, .inr F))) (r2 : R (a + 2) = some (.inl (0, 16, .inl fo))) (r3 : R (a + 3) = some (.inl (0, 16, .inl fe))) (r1' : R' (a + 1) = some (.inl (5, 16, .inr (hp_upR F cnt (some tr))))) {fo' fe' : Nat → Int32} (r2' : R' (a + 2) = some (.inl (0, 16, .inl fo'))) (r3' : R' (a + 3) = some (.inl (0, 16, .inl fe'))) (o1 : ∀ i, i ≠ cnt → fo' i = fo i) (o2 : fo' cnt = I v) (o3 : ∀ i, i ≠ cnt → fe' i = fe i) (o4 : fe' cnt = I e) (fr : ∀ y, a + 3 < y → y < hi → R' y = R y) (ht : hi ≤ tr) (ht2 : tr + 2 < hi') (ha : a + 3 < tr) (ot : OT R' tr many S) (h2 : 2 ≤ many) (h8 : many ≤ 8) (k : SvK many S) (hv : 1 ≤ v ∧ v ≤ 24) (he : 0 ≤ e ∧ e ≤ 720) : XC b R' a (cnt + 1) (all + v.toNat) hi' (svcS G all many S v e) := by
  obtain ⟨F0, fo0, fe0, off, x1, x2, x3, x4, x5, x6, x7⟩ := xc
  rw [r1] at x1
  rw [r2] at x2
  rw [r3] at x3
  have eF : F = F0 := by injection x1 with x1; injection x1 with x1; injection x1 with _ x1; injection x1 with _ x1; injection x1
  have eo : fo = fo0 := by injection x2 with x2; injection x2 with x2; injection x2 with _ x2; injection x2 with _ x2; injection x2
  have ee : fe = fe0 := by injection x3 with x3; injection x3 with x3; injection x3 with _ x3; injection x3 with _ x3; injection x3
  subst eF eo ee
  obtain ⟨off', f1, f2⟩ : ∃ off' : Nat → Nat, (∀ i, i ≤ cnt → off' i = off i) ∧ off' (cnt + 1) = all + v.toNat := ⟨fun i => if i ≤ cnt then off i else all + v.toNat, fun i hi => if_pos hi, if_neg (by omega)⟩
  refine ⟨_, fo', fe', off', r1', r2', r3', fun i hi => by rw [o3 i (by omega)]; exact x4 i (by omega), by rw [f1 0 (by omega)]; exact x5, f2, fun i hi => ?_⟩
  by_cases c : i = cnt
  · subst c
    refine ⟨tr, many, S, v, e, by unfold hp_upR; rw [if_pos rfl], ha, ht2, ot, h2, h8, k, o2, o4, hv.1, hv.2, he.1, he.2, by rw [f2, f1 i (by omega), x6], by rw [f2]; omega, fun t ht => ?_⟩
    rw [f1 i (by omega), x6]
    refine ⟨svc_1 (by omega) (by omega), fun k2 hk => ?_⟩
    have := svc_2 (G := G) (S := S) (e := e) (v := v) (r := all + t) (all := all) (by omega) (by omega) hk h8
    rw [this.1, this.2, show (((all + t : Nat) : Int) - (all : Int)) = (t : Int) by omega]
    exact ⟨rfl, rfl⟩
  · obtain ⟨tr0, m0, S0, v0, e0, q1, q2, q3, q4, q5, q6, q7, q8, q9, q10, q11, q12, q13, q14, q15, q16⟩ := x7 i (by omega)
    refine ⟨tr0, m0, S0, v0, e0, by unfold hp_upR; rw [if_neg c]; exact q1, q2, by omega, q4.c fun y y1 y2 => fr y (by omega) (by omega), q5, q6, q7, by rw [o1 i c]; exact q8, by rw [o3 i c]; exact q9, q10, q11, q12, q13, by rw [f1 (i + 1) (by omega), f1 i (by omega)]; exact q14, by rw [f1 (i + 1) (by omega)]; omega, fun t ht => ?_⟩
    rw [f1 i (by omega)]
    have := q16 t ht
    refine ⟨by rw [svc_3 (by omega)]; exact this.1, fun k2 hk => ?_⟩
    have s4 := svc_4 (G := G) (S := S) (e := e) (v := v) (many := many) (r := off i + t) (all := all) (k := k2) (by omega) (by omega)
    rw [s4.1, s4.2]
    exact this.2 k2 hk
/-- a train is made -/
theorem x_newTrain (ha : b + 305 ≤ nx) : ∃ R', fX6_init (Wd b V lw (hp_set R nx (.inr (5, dfX6)))) (nx + 1) nx = some (Wd b V lw R', 2, 16) ∧ OT R' nx 0 S ∧ ∀ y, ¬ (nx ≤ y ∧ y ≤ nx + 2) → R' y = R y := by
  refine ⟨hp_set (hp_set (hp_set R (nx + 1) (.inl (0, 8, .inl fun _ => 0))) (nx + 2) (.inl (0, 8, .inl fun _ => 0))) nx (trC (nx + 1) (nx + 2) 0), ?_, ⟨fun _ => 0, fun _ => 0, s_s _ _, by rw [s_n (by omega), s_n (by omega), s_s], by rw [s_n (by omega), s_s], fun k hk => absurd hk (Nat.not_lt_zero _)⟩, fun y hy => by rw [s_n (by omega), s_n (by omega), s_n (by omega)]⟩
  have L5 : dfX6.length = 5 := rfl
  unfold fX6_init hp_newa hp_pR hp_pZ
  rw [Option.bind_some, o_set (by omega), s_cm (by omega), o_pV ha (s_s nx _) (by rw [L5]; omega), s_ss, Option.bind_some, Option.bind_some, o_set (by omega), s_cm (by omega), o_pV ha (s_s nx _) (by rw [List.length_set, L5]; omega), s_ss, Option.bind_some, if_pos (Or.inr rfl), o_pV ha (s_s nx _) (by rw [List.length_set, List.length_set, L5]; omega), s_ss, Option.bind_some]
  rfl
end CM
