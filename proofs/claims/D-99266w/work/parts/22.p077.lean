/-! CALL: timetable, the class's lines, III. No JVM here. -/
set_option maxRecDepth 100000
set_option linter.unusedVariables false
def ckT (a0 : Option Nat) (a1 v1 : Int32) (tr : Option Nat) (m25 : Hp) : Option (Hp × Nat × Nat) :=
    (hp_on m25 a0 14 (fX17_isGood 14 m25 a0)).bind fun v27 =>
    if v27 = 0 then
      some (m25, 0, 0)
    else
    (hp_gR m25 a0 14 5).bind fun v29 =>
    (hp_sR m25 v29 5 a1 tr).bind fun m30 =>
    (hp_gR m30 a0 14 6).bind fun v31 =>
    (hp_sI m30 v31 0 a1 (1 : Int32)).bind fun m32 =>
    (hp_on m32 a0 14 (fX17_isGood 14 m32 a0)).bind fun v33 =>
    ((if v33 = 0 then
      some (m32, 0, 0)
    else
    (hp_on m32 a0 14 (fX17_here 14 m32 a0)).bind fun v47 =>
    if v47 = (120 : Int32) then
      (hp_on m32 a0 14 (fX18_repeats m32 a0 a1)).bind fun m49 =>
      some (m49, 0, 0)
    else
    some (m32, 0, 0) : Option (Hp × Nat × Nat))).bind fun (m34, d35, c35) =>
    andA d35 c35 (
    (hp_gI m34 a0 14 8).bind fun v37 =>
    (hp_gR m34 a0 14 6).bind fun v38 =>
    (hp_aI m34 v38 0 a1).bind fun v39 =>
    (hp_pI m34 a0 14 8 (v37 + v39)).bind fun m40 =>
    (hp_on m40 a0 14 (fX17_isGood 14 m40 a0)).bind fun v41 =>
    if v41 = 0 then
      some (m40, 0, 0)
    else
    (hp_gI m40 a0 14 8).bind fun v43 =>
    if v43 ≤ (48 : Int32) then
      some (m40, 0, 0)
    else
    (hp_on m40 a0 14 (fX17_bad 14 m40 a0 (8 : Int32) v1)).bind fun m45 =>
    some (m45, 0, 0))
theorem ckl_eq (m : Hp) (nx : Nat) (a0 : Option Nat) (a1 : Int32) : fX18_line m nx a0 a1 = ((hp_on m a0 14 (fX17_place 14 m a0)).bind fun v1 =>
  (hp_on m a0 14 (fX18_seesStation m a0)).bind fun v2 =>
  ((if v2 = 0 then
    some (m, 0, 0)
  else
  if a1 = (16 : Int32) then
    (hp_on m a0 14 (fX17_bad 14 m a0 (4 : Int32) v1)).bind fun m54 =>
    some (m54, 0, 0)
  else
  some (m, 0, 0) : Option (Hp × Nat × Nat))).bind fun (m3, d4, c4) =>
  andA d4 c4 (
  (hp_on m3 a0 14 (fX17_isGood 14 m3 a0)).bind fun v6 =>
  if v6 = 0 then
    some (m3, 0, 0)
  else
  (some (hp_set m3 (nx + d4) (.inr (5, dfX6)))).bind fun m8 =>
  andA 1 5 (
  (fX6_init m8 (nx + d4 + 1) (nx + d4)).bind fun (m10, d11, c12) =>
  andA d11 c12 (
  (hp_on m10 a0 14 (fX18_stop m10 a0 (some (nx + d4)))).bind fun m14 =>
  (hp_on m14 a0 14 (fX17_isGood 14 m14 a0)).bind fun v15 =>
  ((if v15 = 0 then
    some (m14, 0, 0)
  else
  (hp_on m14 a0 14 (fX18_stop m14 a0 (some (nx + d4)))).bind fun m51 =>
  some (m51, 0, 0) : Option (Hp × Nat × Nat))).bind fun (m16, d17, c17) =>
  andA d17 c17 (
  (iterA (fX18_line_L57 a0 a1 v1 (some (nx + d4))) FUEL m16 (nx + d4 + 1 + d11 + d17)).bind fun (r19, e19, f19) =>
  andA e19 f19 (
  match r19 with
  | m25 =>
    ckT a0 a1 v1 (some (nx + d4)) m25)))))) := rfl
section CN
variable {b : Nat} {V0 V V' : Vw} {lw : Option Nat} {R : Hp} {a n p tr many cnt all nx : Nat} {q x y s m al v e : Int} {S G : Vw} {rest : List Vl}
theorem ck_g8 {f : Int} (h : b + 305 ≤ a) : hp_gI (Wd b V lw (hp_set R a (scC 14 b n p f q (ckRest b a al)))) (some a) 14 8 = some (I al) := o_gI h (s_s a _) rfl
theorem ck_w8 {f : Int} (h : b + 305 ≤ a) : hp_pI (Wd b V lw (hp_set R a (scC 14 b n p f q (ckRest b a al)))) (some a) 14 8 (I x) = some (Wd b V lw (hp_set R a (scC 14 b n p f q (ckRest b a x)))) := by
  unfold hp_pI scC ckRest
  rw [o_pV h (s_s a _) (by simp), s_ss]
  rfl
theorem x_ckT {p0 : Nat} (ha : b + 305 ≤ a) (ht : a + 3 < tr) (hn : n ≤ 260) (hp : p ≤ 400) (hp0 : p0 ≤ 400) (hc : cnt < 16) (hal : all ≤ 48) (h : OT R tr many S) (k : SvK many S) (h2 : 2 ≤ many ∧ many ≤ 8) {F : Nat → Option Nat} {fo fe : Nat → Int32} (r1 : R (a + 1) = some (.inl (5, 16, .inr F))) (r2 : R (a + 2) = some (.inl (0, 16, .inl fo))) (r3 : R (a + 3) = some (.inl (0, 16, .inl fe))) (z : fe cnt = I 0) : match repR (tk V n) p (S 1 (many - 1)) with
    | .inl (w, q') => ∃ p' al' R', p' ≤ 1000 ∧ 1 ≤ w ∧ w ≤ 8 ∧ ckT (some a) (I (cnt : Int)) (I (p0 : Int)) (some tr) (Wd b V lw (hp_set R a (scC 14 b n p 0 q (ckRest b a (all : Int))))) = some (Wd b V lw (hp_set R' a (scC 14 b n p' w (q' : Int) (ckRest b a al'))), 0, 0) ∧ ∀ y, ¬ (a + 1 ≤ y ∧ y ≤ a + 3) → R' y = R y
    | .inr (p', v, e) => if (all : Int) + v ≤ 48 then ∃ R' fo' fe', ckT (some a) (I (cnt : Int)) (I (p0 : Int)) (some tr) (Wd b V lw (hp_set R a (scC 14 b n p 0 q (ckRest b a (all : Int))))) = some (Wd b V lw (hp_set R' a (scC 14 b n p' 0 q (ckRest b a ((all : Int) + v)))), 0, 0) ∧ R' (a + 1) = some (.inl (5, 16, .inr (hp_upR F cnt (some tr)))) ∧ R' (a + 2) = some (.inl (0, 16, .inl fo')) ∧ R' (a + 3) = some (.inl (0, 16, .inl fe')) ∧ (∀ i, i ≠ cnt → fo' i = fo i) ∧ fo' cnt = I v ∧ (∀ i, i ≠ cnt → fe' i = fe i) ∧ fe' cnt = I e ∧ ∀ y, ¬ (a + 1 ≤ y ∧ y ≤ a + 3) → R' y = R y
      else ∃ p' al' R', p' ≤ 1000 ∧ ckT (some a) (I (cnt : Int)) (I (p0 : Int)) (some tr) (Wd b V lw (hp_set R a (scC 14 b n p 0 q (ckRest b a (all : Int))))) = some (Wd b V lw (hp_set R' a (scC 14 b n p' 8 (p0 : Int) (ckRest b a al'))), 0, 0) ∧ ∀ y, ¬ (a + 1 ≤ y ∧ y ≤ a + 3) → R' y = R y := by
  have tb := tk_b V n p
  have g5 : ∀ {R p f q al}, hp_gR (Wd b V lw (hp_set R a (scC 14 b n p f q (ckRest b a al)))) (some a) 14 5 = some (some (a + 1)) := fun {R p f q al} => o_gR ha (s_s a _) rfl
  have g6 : ∀ {R p f q al}, hp_gR (Wd b V lw (hp_set R a (scC 14 b n p f q (ckRest b a al)))) (some a) 14 6 = some (some (a + 2)) := fun {R p f q al} => o_gR ha (s_s a _) rfl
  -- told, often
  have ok : hp_okr (Wd b V lw (hp_set R a (scC 14 b n p 0 q (ckRest b a (all : Int))))) 5 (some tr) = true := by
    obtain ⟨f0, g0, t1, t2, t3, t4⟩ := h
    unfold hp_okr
    rw [o_cl (c := 5) (by omega) (by rw [s_n (by omega)]; exact t1)]
    rfl
  have w5 : hp_sR (Wd b V lw (hp_set R a (scC 14 b n p 0 q (ckRest b a (all : Int))))) (some (a + 1)) 5 (I (cnt : Int)) (some tr) = some (Wd b V lw (hp_set (hp_set R (a + 1) (.inl (5, 16, .inr (hp_upR F cnt (some tr))))) a (scC 14 b n p 0 q (ckRest b a (all : Int))))) := by
    rw [o_sR (by omega) (by rw [s_n (by omega)]; exact r1) (by omega) (by omega) (by omega) ok, s_cm (by omega), tn]
  obtain ⟨R1, hR1⟩ : ∃ R1, R1 = hp_set (hp_set R (a + 1) (.inl (5, 16, .inr (hp_upR F cnt (some tr))))) (a + 2) (.inl (0, 16, .inl (hp_upI fo cnt (I 1)))) := ⟨_, rfl⟩
  have w6 : hp_sI (Wd b V lw (hp_set (hp_set R (a + 1) (.inl (5, 16, .inr (hp_upR F cnt (some tr))))) a (scC 14 b n p 0 q (ckRest b a (all : Int))))) (some (a + 2)) 0 (I (cnt : Int)) (I 1) = some (Wd b V lw (hp_set R1 a (scC 14 b n p 0 q (ckRest b a (all : Int))))) := by
    rw [o_sI (by omega) (by rw [s_n (by omega), s_n (by omega)]; exact r2) (by omega) (by omega) (by omega), s_cm (by omega), tn, hR1]
    rfl
  have q1 : R1 (a + 1) = some (.inl (5, 16, .inr (hp_upR F cnt (some tr)))) := by rw [hR1, s_n (by omega), s_s]
  have q2 : R1 (a + 2) = some (.inl (0, 16, .inl (hp_upI fo cnt (I 1)))) := by rw [hR1, s_s]
  have q3 : R1 (a + 3) = some (.inl (0, 16, .inl fe)) := by rw [hR1, s_n (by omega), s_n (by omega)]; exact r3
  have fr1 : ∀ y, ¬ (a + 1 ≤ y ∧ y ≤ a + 3) → R1 y = R y := fun y hy => by rw [hR1, s_n (by omega), s_n (by omega)]
  have h1 : OT R1 tr many S := h.c fun y y1 y2 => fr1 y (by omega)
  by_cases hx : tk V n p = 120
  · have rp := x_repeats (b := b) (V := V) (lw := lw) (q := q) (al := (all : Int)) ha (show b + 305 ≤ tr by omega) ht hn hp hc h1 k h2 q1 q2 q3 (show hp_upR F cnt (some tr) cnt = some tr by unfold hp_upR; rw [if_pos rfl]) hx
    have rb := repR_b (T := tk V n) (p := p) (x := S 1 (many - 1))
    have uu : hp_upI (hp_upI fo cnt (I 1)) cnt = hp_upI fo cnt := by
      funext x j
      unfold hp_upI
      by_cases c : j = cnt
      · rw [if_pos c, if_pos c]
      · rw [if_neg c, if_neg c, if_neg c]
    rw [uu] at rp
    cases e1 : repR (tk V n) p (S 1 (many - 1)) with
    | inl ee =>
      obtain ⟨w, q'⟩ := ee
      rw [e1] at rp
      obtain ⟨p', v, e, c1, c2, c3, c4⟩ := rp
      have ro : ∀ {p : Nat} {f q al : Int}, hp_aI (Wd b V lw (hp_set (hp_set (hp_set R1 (a + 2) (.inl (0, 16, .inl (hp_upI fo cnt (I v))))) (a + 3) (.inl (0, 16, .inl (hp_upI fe cnt (I e))))) a (scC 14 b n p f q (ckRest b a al)))) (some (a + 2)) 0 (I (cnt : Int)) = some (I v) := fun {p f q al} => by
        rw [o_aI (by omega) (by rw [s_n (by omega), s_n (by omega), s_s]) (by omega) (by omega) (by omega), tn]
        unfold hp_upI
        rw [if_pos rfl]
      refine ⟨p', (all : Int) + v, hp_set (hp_set R1 (a + 2) (.inl (0, 16, .inl (hp_upI fo cnt (I v))))) (a + 3) (.inl (0, 16, .inl (hp_upI fe cnt (I e)))), by omega, c2, by omega, ?_, fun y hy => by rw [s_n (by omega), s_n (by omega)]; exact fr1 y hy⟩
      unfold ckT
      simp (disch := omega) only [sc_on ha, sc_g1 ha, Option.bind_some, k_0, k_1, k_120, I_inj, if_neg, g5, w5, g6, w6, sc_here ha hn, hx, if_true, c4, andA_0, ck_g8 ha, ro, I_add, ck_w8 ha, sc_g0 ha]
    | inr ee =>
      obtain ⟨p', v, e⟩ := ee
      rw [e1] at rp rb
      have rb : p ≤ p' ∧ p' ≤ p + 7 ∧ 1 ≤ v ∧ v ≤ 24 ∧ 0 ≤ e ∧ e ≤ 720 ∧ (S 1 (many - 1) ≤ 1439 → S 1 (many - 1) + (v - 1) * e ≤ 1439) := rb
      have rp : fX18_repeats _ _ _ = _ := rp
      have ro : ∀ {p : Nat} {f q al : Int}, hp_aI (Wd b V lw (hp_set (hp_set (hp_set R1 (a + 2) (.inl (0, 16, .inl (hp_upI fo cnt (I v))))) (a + 3) (.inl (0, 16, .inl (hp_upI fe cnt (I e))))) a (scC 14 b n p f q (ckRest b a al)))) (some (a + 2)) 0 (I (cnt : Int)) = some (I v) := fun {p f q al} => by
        rw [o_aI (by omega) (by rw [s_n (by omega), s_n (by omega), s_s]) (by omega) (by omega) (by omega), tn]
        unfold hp_upI
        rw [if_pos rfl]
      show if (all : Int) + v ≤ 48 then _ else _
      by_cases c3 : (all : Int) + v ≤ 48
      · rw [if_pos c3]
        refine ⟨hp_set (hp_set R1 (a + 2) (.inl (0, 16, .inl (hp_upI fo cnt (I v))))) (a + 3) (.inl (0, 16, .inl (hp_upI fe cnt (I e)))), hp_upI fo cnt (I v), hp_upI fe cnt (I e), ?_, by rw [s_n (by omega), s_n (by omega)]; exact q1, by rw [s_n (by omega), s_s], s_s _ _, fun i hi => if_neg hi, if_pos rfl, fun i hi => if_neg hi, if_pos rfl, fun y hy => by rw [s_n (by omega), s_n (by omega)]; exact fr1 y hy⟩
        unfold ckT
        simp (disch := omega) only [sc_on ha, sc_g1 ha, Option.bind_some, k_0, k_1, k_48, k_120, I_inj, if_neg, g5, w5, g6, w6, sc_here ha hn, hx, if_true, rp, andA_0, ck_g8 ha, ro, I_add, ck_w8 ha, I_le, if_pos]
      · rw [if_neg c3]
        refine ⟨p', (all : Int) + v, hp_set (hp_set R1 (a + 2) (.inl (0, 16, .inl (hp_upI fo cnt (I v))))) (a + 3) (.inl (0, 16, .inl (hp_upI fe cnt (I e)))), by omega, ?_, fun y hy => by rw [s_n (by omega), s_n (by omega)]; exact fr1 y hy⟩
        unfold ckT
        simp (disch := omega) only [sc_on ha, sc_g1 ha, Option.bind_some, k_0, k_1, k_8, k_48, k_120, I_inj, if_neg, g5, w5, g6, w6, sc_here ha hn, hx, if_true, rp, andA_0, ck_g8 ha, ro, I_add, ck_w8 ha, I_le, sc_bad0 ha]
  · have e1 : repR (tk V n) p (S 1 (many - 1)) = .inr (p, 1, 0) := if_neg hx
    rw [e1]
    have ro : ∀ {p : Nat} {f q al : Int}, hp_aI (Wd b V lw (hp_set R1 a (scC 14 b n p f q (ckRest b a al)))) (some (a + 2)) 0 (I (cnt : Int)) = some (I 1) := fun {p f q al} => by
      rw [o_aI (by omega) (by rw [s_n (by omega)]; exact q2) (by omega) (by omega) (by omega), tn]
      unfold hp_upI
      rw [if_pos rfl]
    show if (all : Int) + 1 ≤ 48 then _ else _
    by_cases c3 : (all : Int) + 1 ≤ 48
    · rw [if_pos c3]
      refine ⟨R1, hp_upI fo cnt (I 1), fe, ?_, q1, q2, q3, fun i hi => if_neg hi, if_pos rfl, fun i hi => rfl, z, fr1⟩
      unfold ckT
      simp (disch := omega) only [sc_on ha, sc_g1 ha, Option.bind_some, k_0, k_1, k_48, k_120, I_inj, if_neg, g5, w5, g6, w6, sc_here ha hn, andA_0, ck_g8 ha, ro, I_add, ck_w8 ha, I_le, if_pos]
    · rw [if_neg c3]
      refine ⟨p, (all : Int) + 1, R1, by omega, ?_, fr1⟩
      unfold ckT
      simp (disch := omega) only [sc_on ha, sc_g1 ha, Option.bind_some, k_0, k_1, k_8, k_48, k_120, I_inj, if_neg, g5, w5, g6, w6, sc_here ha hn, andA_0, ck_g8 ha, ro, I_add, ck_w8 ha, I_le, sc_bad0 ha]
end CN
