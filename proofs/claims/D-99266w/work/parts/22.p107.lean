/-! CALL: law. No JVM here. -/
set_option maxRecDepth 100000
set_option linter.unusedVariables false
set_option linter.unusedSimpArgs false
section LZ
variable {b : Nat} {V : Vw} {lw : Option Nat} {R : Hp} {n nx : Nat} {z : Int}
def lawV (V : Vw) (n : Nat) : Vw := up (up (up (up (up V 0 12 0) 258 18 0) 258 19 (n : Int)) 258 23 0) 258 25 0
theorem lawV_o {o k : Nat} (h : ¬ (o = 0 ∧ k = 12)) (h2 : ¬ (o = 258 ∧ (k = 18 ∨ k = 19 ∨ k = 23 ∨ k = 25))) : lawV V n o k = V o k := by
  unfold lawV
  rw [up_o (by omega), up_o (by omega), up_o (by omega), up_o (by omega), up_o (by omega)]
theorem lawV_LR (hn : n ≤ 240) : LR n (lawV V n) (lawV V n) 0 [] [] := by
  refine ⟨fun _ _ _ => rfl, ?_, ?_, ?_, fun i hi => absurd hi (Nat.not_lt_zero _), fun x hx => (List.not_mem_nil hx).elim, Nat.le_refl _, Nat.zero_le _, hn, ?_, Nat.zero_le _, fun j q hj => (by cases hj), fun q hq => (List.not_mem_nil hq).elim⟩
  · unfold lawV
    simp (disch := omega) only [up_k, up_s]
    rfl
  · unfold lawV
    simp (disch := omega) only [up_k, up_s]
    rfl
  · unfold lawV
    rw [up_s]
    rfl
  · unfold lawV
    simp (disch := omega) only [up_k, up_s]
/-- the class's side, whole -/
theorem x_lawO {R' : Hp} {p' d cc : Nat} {cls : List Cls} (hn : 1 ≤ n ∧ n ≤ 240) (hg : (n : Int) ≤ V 0 12) (h260 : V 0 12 ≤ 260) (hnx : b + 305 ≤ nx) {R1 : Hp} (e1 : fX8_init (Wd b (up V 0 12 0) lw (hp_set R nx (.inr (7, dfX8)))) (nx + 1) nx (some b) (I (n : Int)) = some (RW b (up V 0 12 0) lw nx n (nx + 1) R1 0 0 0 0, 4, 52)) (e2 : iterA (fX8_read_L2 (some nx)) FUEL (I 1, RW b (up V 0 12 0) lw nx n (nx + 1) R1 0 0 0 0) (nx + 5) = some (RW b (up V 0 12 0) lw nx n (nx + 1) R' p' 0 0 0, d, cc)) (e3 : hp_gI (RW b (up V 0 12 0) lw nx n (nx + 1) R' p' 0 0 0) (some (nx + 1)) 4 3 = some (I (cls.length : Int))) (h16 : cls.length ≤ 16) : fX0_law (Wd b V lw R) nx (some b) (I (n : Int)) = some ((I (cls.length : Int), Wd b (up V 0 12 0) (some (nx + 1)) (hp_set R' nx (rC b n (nx + 1) p' 0 0 0))), 1 + (4 + (d + 0)), 7 + (52 + (cc + 0))) := by
  have rd : fX8_read (RW b (up V 0 12 0) lw nx n (nx + 1) R1 0 0 0 0) (nx + 1 + 4) (some nx) = some ((I (cls.length : Int), RW b (up V 0 12 0) lw nx n (nx + 1) R' p' 0 0 0), d + 0, cc + 0) := by
    unfold fX8_read
    rw [show nx + 1 + 4 = nx + 5 by omega, k_1, e2, Option.bind_some]
    dsimp only
    rw [rr_on hnx, rr_g1 hnx, Option.bind_some, if_neg (show ¬ I 1 = 0 by decide), rr_tx hnx, Option.bind_some, e3]
    rfl
  unfold fX0_law
  rw [show (1 : Int32) = I 1 from rfl, show (240 : Int32) = I 240 from rfl, x_within (by omega) (by omega) (by omega) (by omega) (by omega) (by omega), Option.bind_some, bi_t (show (1 : Int) ≤ (n : Int) ∧ (n : Int) ≤ 240 by omega), if_neg (show ¬ I 1 = 0 by decide), gI0_12, Option.bind_some, if_pos (by rw [I_le (by omega) (by omega) (by omega) (by omega)]; exact hg), k_0, pI0_12, Option.bind_some, Option.bind_some, o_set hnx, e1, Option.bind_some]
  dsimp only
  rw [rr_on hnx, rd, Option.bind_some]
  dsimp only
  rw [if_neg (by rw [I_lt (by omega) (by omega) (by omega) (by omega)]; omega), rr_tx hnx, Option.bind_some, wrL]
  rfl
theorem x_lawE {R' : Hp} {p' d cc w q : Nat} {o' : Int} (hn : 1 ≤ n ∧ n ≤ 240) (hg : (n : Int) ≤ V 0 12) (h260 : V 0 12 ≤ 260) (hnx : b + 305 ≤ nx) {R1 : Hp} (e1 : fX8_init (Wd b (up V 0 12 0) lw (hp_set R nx (.inr (7, dfX8)))) (nx + 1) nx (some b) (I (n : Int)) = some (RW b (up V 0 12 0) lw nx n (nx + 1) R1 0 0 0 0, 4, 52)) (e2 : iterA (fX8_read_L2 (some nx)) FUEL (I 1, RW b (up V 0 12 0) lw nx n (nx + 1) R1 0 0 0 0) (nx + 5) = some (RW b (up V 0 12 0) lw nx n (nx + 1) R' p' o' (w : Int) (q : Int), d, cc)) (hw : 1 ≤ w ∧ w ≤ 5) (hq : q ≤ 1000) : fX0_law (Wd b V lw R) nx (some b) (I (n : Int)) = some ((I (-1000 * (w : Int) - (q : Int)), Wd b (up V 0 12 0) lw (hp_set R' nx (rC b n (nx + 1) p' o' (w : Int) (q : Int)))), 1 + (4 + (d + 0)), 7 + (52 + (cc + 0))) := by
  have rd : fX8_read (RW b (up V 0 12 0) lw nx n (nx + 1) R1 0 0 0 0) (nx + 1 + 4) (some nx) = some ((I (-1000 * (w : Int) - (q : Int)), RW b (up V 0 12 0) lw nx n (nx + 1) R' p' o' (w : Int) (q : Int)), d + 0, cc + 0) := by
    unfold fX8_read
    rw [show nx + 1 + 4 = nx + 5 by omega, k_1, e2, Option.bind_some]
    dsimp only
    rw [rr_on hnx, rr_g0 hnx (by omega), Option.bind_some, if_pos (show I 0 = 0 from rfl), rr_f hnx, Option.bind_some, rr_q hnx, Option.bind_some, show (-1000 : Int32) = I (-1000) from rfl, I_mul, I_sub]
    rfl
  unfold fX0_law
  rw [show (1 : Int32) = I 1 from rfl, show (240 : Int32) = I 240 from rfl, x_within (by omega) (by omega) (by omega) (by omega) (by omega) (by omega), Option.bind_some, bi_t (show (1 : Int) ≤ (n : Int) ∧ (n : Int) ≤ 240 by omega), if_neg (show ¬ I 1 = 0 by decide), gI0_12, Option.bind_some, if_pos (by rw [I_le (by omega) (by omega) (by omega) (by omega)]; exact hg), k_0, pI0_12, Option.bind_some, Option.bind_some, o_set hnx, e1, Option.bind_some]
  dsimp only
  rw [rr_on hnx, rd, Option.bind_some]
  dsimp only
  rw [if_pos (by rw [I_lt (by omega) (by omega) (by omega) (by omega)]; omega)]
  rfl
/-- the reference begins -/
theorem y_law0 (hn : 1 ≤ n ∧ n ≤ 240) (hg : (n : Int) ≤ V 258 17) (h260 : V 258 17 ≤ 260) {s1 s2 : Int} {m1 m2 : Hp} (e1 : fX7_readsRule (Wd b (lawV V n) lw R) (some (b + 258)) = some (I s1, m1)) (e2 : iter (fX7_law_L31 (some (b + 258))) FUEL (I s1, m1) = some (I s2, m2)) : fX7_law (Wd b (up V 0 12 0) lw R) (some (b + 258)) (I (n : Int)) = (hp_pI m2 (some (b + 258)) 6 17 (0 : Int32)).bind fun m21 =>
      if I s2 = 0 then
        (hp_gI m21 (some (b + 258)) 6 20).bind fun v54 =>
        some (v54, m21)
      else
      (hp_gI m21 (some (b + 258)) 6 25).bind fun v23 =>
      (hp_pI m21 (some (b + 258)) 6 26 v23).bind fun m24 =>
      (iter (fX7_law_L95 (some (b + 258))) FUEL ((0 : Int32), m24)).bind fun m32 =>
        (iter (fX7_law_L123 (some (b + 258))) FUEL ((0 : Int32), m32)).bind fun m52 =>
          (hp_gI m52 (some (b + 258)) 6 25).bind fun v53 =>
          some (v53, m52) := by
  have bt : fX7_beginsText (Wd b (up V 0 12 0) lw R) (some (b + 258)) (I (n : Int)) = some (Wd b (lawV V n) lw R) := by
    unfold fX7_beginsText
    rw [k_0, pI258_18, Option.bind_some, pI258_19, Option.bind_some, pI258_23, Option.bind_some, pI258_25]
    rfl
  unfold fX7_law
  rw [show (1 : Int32) = I 1 from rfl, show (240 : Int32) = I 240 from rfl, y_in (by omega) (by omega) (by omega) (by omega) (by omega) (by omega), Option.bind_some, bi_t (show (1 : Int) ≤ (n : Int) ∧ (n : Int) ≤ 240 by omega), if_neg (show ¬ I 1 = 0 by decide), gI258_17, up_r (by omega), Option.bind_some, if_pos (by rw [I_le (by omega) (by omega) (by omega) (by omega)]; exact hg), on258, bt, Option.bind_some, on258, e1, Option.bind_some]
  dsimp only
  rw [e2]
  rfl
theorem law_Inv {V' V5 : Vw} (h : Inv V) (hV : ∀ q k, ¬ yRc q k → V' q k = lawV V n q k) (h5 : ∀ o k, ¬ (279 ≤ o ∧ o ≤ 283) → ¬ (o = 258 ∧ k = 26) → V5 o k = up V' 258 17 0 o k) : Inv V5 := by
  refine (h.tp (x := 0) (by omega) (by omega)).1.lw fun o k h1 h2 h3 => ?_
  rw [h5 o k h3 h2]
  by_cases c : o = 258 ∧ k = 17
  · rw [c.1, c.2, up_s, up_s]
  · rw [up_o (by omega), up_o (by omega), hV o k (by unfold scr at h1; omega)]
    by_cases c2 : o = 0 ∧ k = 12
    · rw [c2.1, c2.2, up_s]
      unfold lawV
      rw [up_o (by omega), up_o (by omega), up_o (by omega), up_o (by omega), up_s]
    · rw [lawV_o c2 (by unfold scr at h1; omega), up_o (by omega)]
theorem call_law (h : Inv V) (hnx : b + 305 ≤ nx) (lo : LawOK b V lw R nx) (h1 : -2147483648 ≤ z) (h2 : z ≤ 2147483647) : ∃ (v : Int32) (m1 : Hp) (V' : Vw) (lw' : Option Nat) (R' : Hp) (d' c' : Nat), fX0_law (Wd b V lw R) nx (some b) (I z) = some ((v, m1), d', c') ∧ fX7_law m1 (some (b + 258)) (I z) = some (v, Wd b V' lw' R') ∧ Inv V' ∧ LawOK b V' lw' R' (nx + d') ∧ d' ≤ 2000 ∧ c' ≤ 6000 ∧ hp_cls m1 (some (b + 258)) = some 6 := by
  have q0 := h.2.2.2
  obtain ⟨q1, q2, q3, q4, q5, q6, q7, q8, q9⟩ := q0
  by_cases g : 1 ≤ z ∧ z ≤ 240
  · by_cases g2 : z ≤ V 0 12
    · obtain ⟨n, rfl⟩ : ∃ q : Nat, z = q := ⟨z.toNat, by omega⟩
      have q8 : V 258 17 = V 0 12 := q8
      have hn : 1 ≤ n ∧ n ≤ 240 := by omega
      obtain ⟨R1, i1, i2, i3⟩ := x_lawInit (b := b) (V := up V 0 12 0) (lw := lw) (R := R) (n := n) hnx
      have t : TxOK (up V 0 12 0) n (yk (lawV V n) n) := tx_ok q9 hn.2 (fun k => by rw [up_r (by omega)]) (fun k => lawV_o (by omega) (by omega))
      have LK := fun (lw' : Option Nat) (Rr : Hp) => lock (lw := lw) (lw' := lw') (Rr := Rr) hnx t (show nx < nx + 1 by omega) (show nx + 1 + 3 < nx + 5 by omega) FUEL 0 R1 (nx + 5) 0 (lawV V n) [] [] (by unfold FUEL; omega) (by omega) (Nat.le_refl _) i3 (lawV_LR hn.2)
      obtain ⟨R', p', d, cc, _, _, r1, r2, r3, r4, r5, _, _, r6⟩ := LK lw R
      have fr : ∀ {c : Cel}, ∀ q, q < nx → hp_set R' nx c q = R q := fun {c} q hq => by rw [s_n (by omega), r1 q (by omega), i2 q hq]
      rcases r6 with ⟨x1, _⟩ | ⟨o', w, q, _, x1, x2, x3, x4, _⟩
      · obtain ⟨R2, p2, d2, c2, s1, m1, y1, y2, y3, y4, y5, y6, y7, y8⟩ := LK (some (nx + 1)) (hp_set R' nx (rC b n (nx + 1) p' 0 0 0))
        rcases y8 with ⟨z1, V', c', cls, z2, z3, z4⟩ | ⟨o', w, q, V', z1, z2, z3, z4, z5, z6, z7⟩
        · rw [x1] at z1
          have z1 := Option.some.inj z1
          have em : RW b (up V 0 12 0) lw nx n (nx + 1) R' p' 0 0 0 = RW b (up V 0 12 0) lw nx n (nx + 1) R2 p2 0 0 0 := congrArg Prod.fst z1
          have ed : d = d2 := congrArg (fun q => q.2.1) z1
          have eR : ∀ y, nx + 1 ≤ y → hp_set R' nx (rC b n (nx + 1) p' 0 0 0) y = R2 y := fun y hy => by
            have := congrFun em y
            unfold RW at this
            rw [o_at (by omega), o_at (by omega)] at this
            rw [this, s_n (by omega)]
          have TI := TxI_m (R' := hp_set R' nx (rC b n (nx + 1) p' 0 0 0)) z4 (Nat.le_refl _) (fun y yy _ => eR y yy) (by omega) (by omega)
          have h16 := z3.ss
          obtain ⟨fl, fs, fc, k, _⟩ := id TI
          have L := x_lawO (cls := cls) hn g2 q7 hnx i1 x1 (tx_g3 (by omega) k) h16
          have cl := z3.cl
          have e1 : up V' 258 17 0 258 25 = (cls.length : Int) := by rw [up_k (by omega)]; exact z3.sm
          obtain ⟨V4, w1, w2, w3⟩ := y_copy1 (b := b) (V := up (up V' 258 17 0) 258 26 (cls.length : Int)) (lw := some (nx + 1)) (R := hp_set R' nx (rC b n (nx + 1) p' 0 0 0)) (c := c') (by rw [up_k (by omega), up_k (by omega)]; exact z3.cm) (by omega) (CAt_c (fun i hi => by rw [up_r (by omega), up_r (by omega)]) z3.cc)
          have e4 : V4 258 25 = (cls.length : Int) := by rw [w2 _ (by omega), up_k (by omega)]; exact e1
          obtain ⟨V5, w4, w5, w6⟩ := y_copy2 (b := b) (V := V4) (lw := some (nx + 1)) (R := hp_set R' nx (rC b n (nx + 1) p' 0 0 0)) e4 h16
          have e5 : V5 258 25 = (cls.length : Int) := by rw [w5 _ (by omega)]; exact e4
          have fr5 : ∀ o k, ¬ (279 ≤ o ∧ o ≤ 283) → ¬ (o = 258 ∧ k = 26) → V5 o k = up V' 258 17 0 o k := fun o k a1 a2 => by
            rw [w5 _ (by omega), w2 _ (by omega), up_o (by omega)]
          have yd : YD V5 cls c' := by
            refine ⟨by rw [w5 _ (by omega), w2 _ (by omega), up_s], h16, by omega, fun k hk => ⟨by rw [w5 _ (by omega)]; exact w3 k hk, ?_⟩, fun j q hj => ?_, z3.ok⟩
            · rw [List.getD_eq_getElem?_getD, List.getElem?_eq_getElem hk]
              exact z3.ck _ (List.getElem_mem hk)
            · have jl : j < cls.length := (List.getElem?_eq_some_iff.mp hj).1
              have r := z3.rw' j q hj
              have r2 := w6 j jl
              have v4 : ∀ o, o ≠ 258 → o ≠ 279 → V4 o = V' o := fun o h1 h2 => by rw [w2 _ h2, up_r h1, up_r h1]
              rw [v4 _ (by omega) (by omega), v4 _ (by omega) (by omega), v4 _ (by omega) (by omega), v4 _ (by omega) (by omega)] at r2
              exact ⟨r2.1.trans r.1, r2.2.1.trans r.2.1, r2.2.2.1.trans r.2.2.1, r2.2.2.2.trans r.2.2.2⟩
          refine ⟨_, _, V5, some (nx + 1), hp_set R' nx (rC b n (nx + 1) p' 0 0 0), _, _, L, ?_, law_Inv h z3.fr fr5, ⟨_, _, ?_, law_Y yd⟩, by omega, by omega, cO258⟩
          · rw [y_law0 hn (by omega) (by omega) y7 z2]
            rw [k_0, pI258_17, Option.bind_some, if_neg (show ¬ I 1 = I 0 by decide), gI258_25, e1, Option.bind_some, pI258_26, Option.bind_some, w1, Option.bind_some, w4, Option.bind_some, gI258_25, e5]
            rfl
          · rw [yd.1]
            exact law_X (by omega) (by omega) (by omega) (by omega) h16 TI
        · exfalso
          rw [x1] at z1
          have em : RW b (up V 0 12 0) lw nx n (nx + 1) R' p' 0 0 0 = RW b (up V 0 12 0) lw nx n (nx + 1) R2 p2 o' (w : Int) (q : Int) := congrArg Prod.fst (Option.some.inj z1)
          have f1 : hp_gI (RW b (up V 0 12 0) lw nx n (nx + 1) R' p' 0 0 0) (some nx) 7 4 = some (I 0) := rr_f hnx
          rw [em, rr_f hnx] at f1
          have := Option.some.inj f1
          rw [I_inj (by omega) (by omega) (by omega) (by omega)] at this
          omega
      · have L := x_lawE hn g2 q7 hnx i1 x1 ⟨x2, x3⟩ x4
        obtain ⟨R2, p2, d2, c2, s1, m1, y1, y2, y3, y4, y5, y6, y7, y8⟩ := LK lw (hp_set R' nx (rC b n (nx + 1) p' o' (w : Int) (q : Int)))
        rcases y8 with ⟨z1, V', c', cls, z2, z3, z4⟩ | ⟨o2, w2, q2, V', z1, z2, z3, z4, z5, z6, z7⟩
        · exfalso
          rw [x1] at z1
          have em : RW b (up V 0 12 0) lw nx n (nx + 1) R' p' o' (w : Int) (q : Int) = RW b (up V 0 12 0) lw nx n (nx + 1) R2 p2 0 0 0 := congrArg Prod.fst (Option.some.inj z1)
          have f1 : hp_gI (RW b (up V 0 12 0) lw nx n (nx + 1) R' p' o' (w : Int) (q : Int)) (some nx) 7 4 = some (I (w : Int)) := rr_f hnx
          rw [em, rr_f hnx] at f1
          have := Option.some.inj f1
          rw [I_inj (by omega) (by omega) (by omega) (by omega)] at this
          omega
        · rw [x1] at z1
          have em : RW b (up V 0 12 0) lw nx n (nx + 1) R' p' o' (w : Int) (q : Int) = RW b (up V 0 12 0) lw nx n (nx + 1) R2 p2 o2 (w2 : Int) (q2 : Int) := congrArg Prod.fst (Option.some.inj z1)
          have f1 : hp_gI (RW b (up V 0 12 0) lw nx n (nx + 1) R' p' o' (w : Int) (q : Int)) (some nx) 7 4 = some (I (w : Int)) := rr_f hnx
          rw [em, rr_f hnx] at f1
          have f1 := Option.some.inj f1
          rw [I_inj (by omega) (by omega) (by omega) (by omega)] at f1
          have f2 : hp_gI (RW b (up V 0 12 0) lw nx n (nx + 1) R' p' o' (w : Int) (q : Int)) (some nx) 7 5 = some (I (q : Int)) := rr_q hnx
          rw [em, rr_q hnx] at f2
          have f2 := Option.some.inj f2
          rw [I_inj (by omega) (by omega) (by omega) (by omega)] at f2
          have iv : Inv (up V' 258 17 0) := law_Inv h z6 fun o k _ _ => rfl
          have ag : agL V (up V' 258 17 0) := by
            refine agL.of ?_ fun o ho => funext fun k => ?_
            · rw [up_k (by omega), z6 _ _ (by omega), lawV_o (by omega) (by omega)]
            · rw [up_r (by omega), z6 _ _ (by omega), lawV_o (by omega) (by omega)]
          refine ⟨_, _, up V' 258 17 0, lw, hp_set R' nx (rC b n (nx + 1) p' o' (w : Int) (q : Int)), _, _, L, ?_, iv, lo.keep ag (fun q hq => fr q hq) (by omega), by omega, by omega, cO258⟩
          rw [y_law0 hn (by omega) (by omega) y7 z5]
          rw [k_0, pI258_17, Option.bind_some, if_pos rfl, gI258_20, up_k (by omega), z7, f1, f2]
          rfl
    · refine ⟨I (-1), Wd b V lw R, V, lw, R, 0, 0, ?_, ?_, h, lo, by omega, by omega, cO258⟩
      · unfold fX0_law
        rw [show (1 : Int32) = I 1 from rfl, show (240 : Int32) = I 240 from rfl, x_within (by omega) (by omega) (by omega) (by omega) (by omega) (by omega), Option.bind_some, bi_t g, if_neg (show ¬ I 1 = 0 by decide), gI0_12, Option.bind_some, if_neg (by rw [I_le (by omega) (by omega) (by omega) (by omega)]; omega)]
        rfl
      · unfold fX7_law
        rw [show (1 : Int32) = I 1 from rfl, show (240 : Int32) = I 240 from rfl, y_in (by omega) (by omega) (by omega) (by omega) (by omega) (by omega), Option.bind_some, bi_t g, if_neg (show ¬ I 1 = 0 by decide), gI258_17, q8, Option.bind_some, if_neg (by rw [I_le (by omega) (by omega) (by omega) (by omega)]; omega)]
        rfl
  · refine ⟨I (-1), Wd b V lw R, V, lw, R, 0, 0, ?_, ?_, h, lo, by omega, by omega, cO258⟩
    · unfold fX0_law
      rw [show (1 : Int32) = I 1 from rfl, show (240 : Int32) = I 240 from rfl, x_within (by omega) (by omega) (by omega) (by omega) (by omega) (by omega), Option.bind_some, bi_f g]
      rfl
    · unfold fX7_law
      rw [show (1 : Int32) = I 1 from rfl, show (240 : Int32) = I 240 from rfl, y_in (by omega) (by omega) (by omega) (by omega) (by omega) (by omega), Option.bind_some, bi_f g]
      rfl
end LZ
