/-! LAW: the class reads clauses, II. No JVM here. -/
set_option maxRecDepth 100000
set_option linter.unusedVariables false
set_option linter.unusedSimpArgs false
section CM
variable {b : Nat} {V : Vw} {lw : Option Nat} {R R1 R' : Hp} {a n tx p nx s lo hi : Nat} {T : Nat → Int} {v v1 v2 : Option Nat} {p' d c : Nat} {o o' f q : Int} {fl : Nat → Int32} {fs fc : Nat → Option Nat} {cls : List Cls}
theorem x_strC {t : Int} (h : 0 ≤ t ∧ t ≤ 255) : (0 ≤ strC (I t)) = ltrs t := by
  have e : ∀ c : Int, 0 ≤ c → c ≤ 255 → (I t = I c) = (t = c) := fun c h1 h2 => I_inj (by omega) (by omega) (by omega) (by omega)
  unfold strC ltrs
  simp (disch := omega) only [jidx, show (100 : Int32) = I 100 from rfl, show (99 : Int32) = I 99 from rfl, show (109 : Int32) = I 109 from rfl, e]
  by_cases c1 : t = 100
  · subst c1; decide
  by_cases c2 : t = 99
  · subst c2; decide
  by_cases c3 : t = 109
  · subst c3; decide
  simp only [c1, c2, c3, if_false, or_self]
  decide
/-- what a clause comes to -/
def ClO (T : Nat → Int) (b : Nat) (V : Vw) (lw : Option Nat) (a n tx lo : Nat) (R : Hp) (cls : List Cls) (nx p : Nat) (x : Option (Hp × Nat × Nat)) : Prop := ∃ (R' : Hp) (p' d c : Nat), (∀ y, y < tx → R' y = R y) ∧ p ≤ p' ∧ p' ≤ n + 2 ∧ d ≤ 8 * (p' - p) ∧ c ≤ 3 * d ∧ ((p < p' ∧ p' ≤ n ∧ x = some (RW b V lw a n tx R' p' 0 0 0, d, c) ∧ ∃ (l : Int) (p1 : Nat) (A : List Cd) (p2 : Nat) (B : Nat → List Cd) (m : Nat) (f : Fm) (g : Gm), cls.length < 16 ∧ RuS T n p l p1 A ∧ T p1 = 40 ∧ RC T n 2 (p1 + 1) 1 p2 B ∧ T p2 = 41 ∧ p' = p2 + 1 ∧ MC m B g ∧ (l ≠ 109 → MS A f) ∧ ∀ x y z, TxI b R' tx lo (nx + d) (cls ++ [(l, x, y, z, f, g)])) ∨ ∃ (o' : Int) (w q : Nat), x = some (RW b V lw a n tx R' p' o' (w : Int) (q : Int), d, c) ∧ 1 ≤ w ∧ w ≤ 5 ∧ q ≤ 1000 ∧ RuE T n p cls.length w q)
theorem x_clause (h : b + 305 ≤ a) (t : TxOK V n T) (hat : a < tx) (hlo : tx + 3 < lo) (hnx : lo ≤ nx) (hp : p ≤ n) (hI : TxI b R tx lo nx cls) (hc : cls.length ≤ 16) : ClO T b V lw a n tx lo R cls nx p (fX8_clause (RW b V lw a n tx R p o 0 0) nx (some a)) := by
  have nn := t.nn
  have tb := t.b p
  have cb := cz_b t p
  obtain ⟨fl, fs, fc, k, hq⟩ := id hI
  have sc := x_strC cb
  have g3 : hp_gI (RW b V lw a n tx R p o 0 0) (some tx) 4 3 = some (I (cls.length : Int)) := o_gI (c := 4) (fs := [.inr (some (tx + 1)), .inr (some (tx + 2)), .inr (some (tx + 3)), .inl (I (cls.length : Int))]) (by omega) (by rw [s_n (by omega), k.1]; rfl) rfl
  have czl : ltrs (cz (T p)) → cz (T p) = T p := fun q => by
    unfold cz at q ⊢
    split
    · rename_i w
      rw [if_pos w] at q
      omega
    · rfl
  have bad : ∀ w : Nat, 1 ≤ w → w ≤ 5 → RuE T n p cls.length w p → ((if I (cz (T p)) = 0 then
    (hp_gI (RW b V lw a n tx R p o 0 0) (some a) 7 2).bind fun v59 =>
    (hp_on (RW b V lw a n tx R p o 0 0) (some a) 7 (fX8_bad (RW b V lw a n tx R p o 0 0) (some a) (1 : Int32) v59)).bind fun m60 =>
    some (m60, 0, 0)
  else
  if 0 ≤ (strC (I (cz (T p)))) then
    (hp_gR (RW b V lw a n tx R p o 0 0) (some a) 7 1).bind fun v62 =>
    (hp_gI (RW b V lw a n tx R p o 0 0) v62 4 3).bind fun v63 =>
    if v63 = (16 : Int32) then
      (hp_gI (RW b V lw a n tx R p o 0 0) (some a) 7 2).bind fun v65 =>
      (hp_on (RW b V lw a n tx R p o 0 0) (some a) 7 (fX8_bad (RW b V lw a n tx R p o 0 0) (some a) (4 : Int32) v65)).bind fun m66 =>
      some (m66, 0, 0)
    else
    some (RW b V lw a n tx R p o 0 0, 0, 0)
  else
  (hp_gI (RW b V lw a n tx R p o 0 0) (some a) 7 2).bind fun v67 =>
  (hp_on (RW b V lw a n tx R p o 0 0) (some a) 7 (fX8_bad (RW b V lw a n tx R p o 0 0) (some a) (1 : Int32) v67)).bind fun m68 =>
  some (m68, 0, 0)) : Option (Hp × Nat × Nat)) = some (RW b V lw a n tx R p o (w : Int) (p : Int), 0, 0) → ClO T b V lw a n tx lo R cls nx p (fX8_clause (RW b V lw a n tx R p o 0 0) nx (some a)) := fun w w1 w2 w3 e => by
    have e2 : fX8_clause (RW b V lw a n tx R p o 0 0) nx (some a) = some (RW b V lw a n tx R p o (w : Int) (p : Int), 0, 0) := by
      unfold fX8_clause
      rw [rr_on h, rr_here h t (by omega), Option.bind_some, e, Option.bind_some]
      dsimp only
      rw [andA_0, rr_on h, rr_g0 h (by omega), Option.bind_some, if_pos (show I 0 = 0 from rfl)]
    rw [e2]
    exact ⟨R, p, 0, 0, fun _ _ => rfl, by omega, by omega, by omega, by omega, Or.inr ⟨o, w, p, rfl, w1, w2, by omega, w3⟩⟩
  by_cases cl : ltrs (T p)
  · have lt := t.l p (by have := ltrs_b cl; omega)
    have e0 : cz (T p) = T p := by
      unfold cz
      rw [if_neg (by have := ltrs_b cl; omega)]
    have n0 : ¬ I (cz (T p)) = 0 := by
      rw [e0, k_0, I_inj (by omega) (by omega) (by omega) (by omega)]
      have := ltrs_b cl
      omega
    have s0 : 0 ≤ strC (I (cz (T p))) := by
      rw [sc, e0]
      exact cl
    by_cases c16 : cls.length = 16
    · refine bad 4 (by omega) (by omega) (Or.inr (Or.inl ⟨cl, c16, rfl, rfl⟩)) ?_
      rw [if_neg n0, if_pos s0, rr_tx h, Option.bind_some, g3, c16, Option.bind_some, if_pos (show I ((16 : Nat) : Int) = 16 from rfl), rr_p h, Option.bind_some, rr_on h, show (4 : Int32) = I 4 from rfl, rr_bad h]
      rfl
    · have n16 : ¬ I (cls.length : Int) = 16 := by
        rw [show (16 : Int32) = I 16 from rfl, I_inj (by omega) (by omega) (by omega) (by omega)]
        omega
      -- the head
      have hd : ∀ {v10 : Option Nat} {m11 : Hp} {d12 c12 : Nat}, ((if I (cz (T p)) = (109 : Int32) then
    some ((none, RW b V lw a n tx R (p + 1) 0 0 0), 0, 0)
  else
  (hp_on (RW b V lw a n tx R (p + 1) 0 0 0) (some a) 7 (fX8_sum 60 (RW b V lw a n tx R (p + 1) 0 0 0) nx (some a))).bind fun ((v53, m54), d55, c56) =>
  andA d55 c56 (
  some ((v53, m54), 0, 0)) : Option ((Option Nat × Hp) × Nat × Nat))) = some ((v10, m11), d12, c12) → fX8_clause (RW b V lw a n tx R p o 0 0) nx (some a) = andA d12 c12 (clRem (some a) (I (cz (T p))) v10 m11 (nx + d12)) := fun {v10 m11 d12 c12} e => by
        unfold fX8_clause
        rw [rr_on h, rr_here h t (by omega), Option.bind_some, if_neg n0, if_pos s0, rr_tx h, Option.bind_some, g3, Option.bind_some, if_neg n16, Option.bind_some]
        dsimp only
        rw [andA_0, rr_on h, rr_g1 h, Option.bind_some, if_neg (show ¬ I 1 = 0 by decide), rr_p h, Option.bind_some, k_1, rr_wp h, Option.bind_some, k_0, rr_wo h, Option.bind_some]
        dsimp only [Nat.add_zero]
        rw [show (I 0 : Int32) = 0 from rfl, show (I 1 : Int32) = 1 from rfl] at *
        rw [e, Option.bind_some]
        rfl
      have f109 : (I (cz (T p)) = I 109) = (T p = 109) := cz_I t p (by omega)
      by_cases c9 : T p = 109
      · have e := hd (v10 := none) (m11 := RW b V lw a n tx R (p + 1) 0 0 0) (d12 := 0) (c12 := 0) (by rw [show (109 : Int32) = I 109 from rfl, if_pos (by rw [f109]; exact c9)])
        rw [e, andA_0, e0]
        obtain ⟨R', p', d, c, r1, r2, r3, r4, r5, r6⟩ := x_rem (V := V) (lw := lw) (n := n) (f := fNum 0) (v1 := none) (l := T p) h t hat hlo hnx (show p + 1 ≤ n by omega) hI (by omega) (fun w => absurd c9 w) (fun _ => rfl)
        rcases r6 with ⟨q1, q2, q3, p2, B, m, g, q4, q5, q6, q7, q8, q9⟩ | ⟨o', w, q, q1, q2, q3, q4, q5⟩
        · exact ⟨R', p', d, c, r1, by omega, by omega, by omega, r5, Or.inl ⟨by omega, q2, q3, T p, p + 1, [], p2, B, m, fNum 0, g, by omega, ⟨cl, rfl, Or.inl ⟨c9, rfl, rfl⟩⟩, q4, q5, q6, q7, q8, fun w => absurd c9 w, q9⟩⟩
        · refine ⟨R', p', d, c, r1, by omega, by omega, by omega, r5, Or.inr ⟨o', w, q, q1, q2, q3, q4, Or.inr (Or.inr (Or.inr ⟨T p, p + 1, [], by omega, ⟨cl, rfl, Or.inl ⟨c9, rfl, rfl⟩⟩, q5⟩))⟩⟩
      · obtain ⟨v, R1, p1, d1, c1, r1, r2, r3, r4, r5, r6⟩ := x_sum (V := V) (lw := lw) (tx := tx) h t 60 0 (by omega) (by omega) R nx (p + 1) (by omega) (by omega)
        have ag : ∀ y, tx ≤ y → y < nx → R1 y = R y := fun y y1 y2 => r1 y y2
        rcases r6 with ⟨q1, q2, q3, A, f, q4, q5, q6⟩ | ⟨o', w, q, q1, q2, q3, q4, q5, q6⟩
        · have q2 : fX8_sum 60 (RW b V lw a n tx R (p + 1) 0 0 0) nx (some a) = some ((v, RW b V lw a n tx R1 p1 0 0 0), d1, c1) := q2
          have e := hd (v10 := v) (m11 := RW b V lw a n tx R1 p1 0 0 0) (d12 := d1) (c12 := c1) (by rw [show (109 : Int32) = I 109 from rfl, if_neg (by rw [f109]; exact c9), rr_on h, q2]; rfl)
          rw [e, e0]
          obtain ⟨R', p', d, c, z1, z2, z3, z4, z5, z6⟩ := x_rem (V := V) (lw := lw) (n := n) (f := f) (v1 := v) (l := T p) (nx := nx + d1) (cls := cls) h t hat hlo (by omega) q1 (TxI_m hI (by omega) ag hlo hnx) (by omega) (fun _ => q6.mono (by omega) hnx (Nat.le_refl _) fun _ _ _ => rfl) (fun w => absurd w c9)
          have ru : RuS T n p (T p) p1 A := ⟨cl, rfl, Or.inr ⟨c9, q4, q3.2 rfl⟩⟩
          rcases z6 with ⟨y1, y2, y3, p2, B, m, g, y4, y5, y6, y7, y8, y9⟩ | ⟨o', w, q, y1, y2, y3, y4, y5⟩
          · refine ⟨R', p', d1 + d, c1 + c, fun y hy => by rw [z1 y hy, r1 y (by omega)], by omega, by omega, by omega, by omega, Or.inl ⟨by omega, y2, by rw [y3]; rfl, T p, p1, A, p2, B, m, f, g, by omega, ru, y4, y5, y6, y7, y8, fun _ => q5, fun x y z => ?_⟩⟩
            rw [show nx + (d1 + d) = nx + d1 + d by omega]
            exact y9 x y z
          · exact ⟨R', p', d1 + d, c1 + c, fun y hy => by rw [z1 y hy, r1 y (by omega)], by omega, by omega, by omega, by omega, Or.inr ⟨o', w, q, by rw [y1]; rfl, y2, y3, y4, Or.inr (Or.inr (Or.inr ⟨T p, p1, A, by omega, ru, y5⟩))⟩⟩
        · have q1 : fX8_sum 60 (RW b V lw a n tx R (p + 1) 0 0 0) nx (some a) = some ((v, RW b V lw a n tx R1 p1 o' (w : Int) (q : Int)), d1, c1) := q1
          have e := hd (v10 := v) (m11 := RW b V lw a n tx R1 p1 o' (w : Int) (q : Int)) (d12 := d1) (c12 := c1) (by rw [show (109 : Int32) = I 109 from rfl, if_neg (by rw [f109]; exact c9), rr_on h, q1]; rfl)
          obtain ⟨s', v', n', rfl, hv⟩ := q6 (by omega)
          have k' : TxK R1 tx cls.length fl fs fc := ⟨by rw [r1 _ (by omega)]; exact k.1, by rw [r1 _ (by omega)]; exact k.2.1, by rw [r1 _ (by omega)]; exact k.2.2.1, by rw [r1 _ (by omega)]; exact k.2.2.2⟩
          have tl := tail_eq (V := V) (lw := lw) (n := n) (p := p1) (o := o') (f := (w : Int)) (q := (q : Int)) (v1 := some nx) (v2 := none) (l := T p) h hat (by omega) k' (fun V lw R2 hR => okr_at (by omega) ((hR nx (by omega)).trans hv) (by omega) (by decide)) fun _ _ _ _ => rfl
          have e3 : clRem (some a) (I (T p)) (some nx) (RW b V lw a n tx R1 p1 o' (w : Int) (q : Int)) (nx + d1) = some (RW b V lw a n tx (tailR R1 tx cls.length fl fs fc (I (T p)) (some nx) none) p1 o' (w : Int) (q : Int), 0, 0) := by
            unfold clRem
            rw [rr_on h, rr_g0 h (by omega), Option.bind_some, if_pos (show I 0 = 0 from rfl), Option.bind_some]
            dsimp only [Nat.add_zero]
            rw [andA_0, rr_on h, rr_g0 h (by omega), Option.bind_some, if_pos (show I 0 = 0 from rfl), Option.bind_some]
            dsimp only
            rw [andA_0]
            exact tl
          rw [e, e0, e3]
          exact ⟨_, p1, d1 + 0, c1 + 0, fun y hy => by rw [tail_o (Or.inl hy), r1 y (by omega)], by omega, by omega, by omega, by omega, Or.inr ⟨o', w, q, rfl, q2, q3, q4, Or.inr (Or.inr (Or.inl ⟨by omega, cl, c9, q5⟩))⟩⟩
  · have s0 : ¬ 0 ≤ strC (I (cz (T p))) := by
      rw [sc]
      exact fun q => cl (by rw [← czl q]; exact q)
    refine bad 1 (by omega) (by omega) (Or.inl ⟨cl, rfl, rfl⟩) ?_
    by_cases n0 : I (cz (T p)) = 0
    · rw [if_pos n0, rr_p h, Option.bind_some, rr_on h, k_1, rr_bad h]
      rfl
    · rw [if_neg n0, if_neg s0, rr_p h, Option.bind_some, rr_on h, k_1, rr_bad h]
      rfl
end CM
