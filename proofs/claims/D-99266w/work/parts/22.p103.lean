/-! LAW: both read, side by side. No JVM here. -/
set_option maxRecDepth 100000
set_option linter.unusedVariables false
set_option linter.unusedSimpArgs false
section LK
variable {b : Nat} {V VC V0 : Vw} {lw lw' : Option Nat} {R R1 R' Rr : Hp} {a n tx p nx s lo hi : Nat} {T : Nat → Int} {c : List Cd} {cls : List Cls} {o : Int}
theorem LR.place (h : LR n V0 V p c cls) (lt : p < n) : LR n V0 (up V 258 18 ((p : Int) + 1)) (p + 1) c cls := by
  have cl := h.cl
  refine ⟨fun q k hq => by rw [up_o (by omega), h.fr _ _ hq], by rw [up_s]; omega, by rw [up_k (by omega)]; exact h.cm, by rw [up_k (by omega)]; exact h.sm, CAt_c (fun i hi => by rw [up_r (by omega)]) h.cc, h.ck, by omega, lt, h.nn, h.ln, h.ss, fun j q hj => ?_, h.ok⟩
  rw [up_r (by omega), up_r (by omega), up_r (by omega), up_r (by omega)]
  exact h.rw' j q hj
theorem iterA_c {σ ρ : Type} {b : σ → Nat → Option ((σ ⊕ ρ) × Nat × Nat)} {n nx d c d2 c2 : Nat} {s s' : σ} {r : ρ} (h : b s nx = some (.inl s', d, c)) (g : iterA b n s' (nx + d) = some (r, d2, c2)) : iterA b (n + 1) s nx = some (r, d + d2, c + c2) := by
  rw [iterA, h]
  show (iterA b n s' (nx + d)).map _ = _
  rw [g]
  rfl
/-- what the two readings come to -/
def LkO (T : Nat → Int) (b : Nat) (VC V0 V : Vw) (lw lw' : Option Nat) (a n tx lo : Nat) (R Rr : Hp) (nx p : Nat) (x : Option (Hp × Nat × Nat)) (fu : Nat) : Prop := ∃ (R' : Hp) (p' d cc : Nat) (s1 : Int) (m1 : Hp), (∀ y, y < tx → R' y = R y) ∧ p ≤ p' ∧ p' ≤ n + 2 ∧ d ≤ 8 * (p' - p) ∧ cc ≤ 3 * d ∧ (s1 = 0 ∨ s1 = 1) ∧ fX7_readsRule (Wd b V lw' Rr) (some (b + 258)) = some (I s1, m1) ∧ ((x = some (RW b VC lw a n tx R' p' 0 0 0, d, cc) ∧ ∃ (V' : Vw) (c' : List Cd) (cls' : List Cls), iter (fX7_law_L31 (some (b + 258))) fu (I s1, m1) = some (I 1, Wd b V' lw' Rr) ∧ LR n V0 V' n c' cls' ∧ TxI b R' tx lo (nx + d) cls') ∨ ∃ (o' : Int) (w q : Nat) (V' : Vw), x = some (RW b VC lw a n tx R' p' o' (w : Int) (q : Int), d, cc) ∧ 1 ≤ w ∧ w ≤ 5 ∧ q ≤ 1000 ∧ iter (fX7_law_L31 (some (b + 258))) fu (I s1, m1) = some (I 0, Wd b V' lw' Rr) ∧ (∀ q k, ¬ yRc q k → V' q k = V0 q k) ∧ V' 258 20 = -1000 * (w : Int) - (q : Int))
theorem x_rdStop {o' : Int} {w q : Nat} {m : Hp} : fX8_read_L2 (some a) (I 0, m) nx = some (.inr m, 0, 0) := by
  unfold fX8_read_L2
  exact if_pos rfl
theorem lock (h : b + 305 ≤ a) (t : TxOK VC n (yk V0 n)) (hat : a < tx) (hlo : tx + 3 < lo) : ∀ (fu : Nat) (p : Nat) (R : Hp) (nx : Nat) (o : Int) (V : Vw) (c : List Cd) (cls : List Cls), n - p + 3 ≤ fu → p ≤ n → lo ≤ nx → TxI b R tx lo nx cls → LR n V0 V p c cls → LkO (yk V0 n) b VC V0 V lw lw' a n tx lo R Rr nx p (iterA (fX8_read_L2 (some a)) fu (I 1, RW b VC lw a n tx R p o 0 0) nx) fu
  | 0, p, R, nx, o, V, c, cls, e1, e2, e3, e4, e5 => by omega
  | fu + 1, p, R, nx, o, V, c, cls, e1, e2, e3, e4, e5 => by
    have nn := t.nn
    obtain ⟨fu', rfl⟩ : ∃ f, fu = f + 1 := ⟨fu - 1, by omega⟩
    obtain ⟨R1, p1, d, cc, r1, r2, r3, r4, r5, r6⟩ := x_clause (V := VC) (lw := lw) (n := n) (o := o) h t hat hlo e3 e2 e4 e5.ss
    rcases r6 with ⟨q1, q2, q3, l, p2, A, p3, B, m, f, g, q4, q5, q6, q7, q8, q9, q10, q11, q12⟩ | ⟨o', w, q, q1, q2, q3, q4, q5⟩
    · obtain ⟨V1, w1, w2⟩ := rule_O (b := b) (lw := lw') (R := Rr) e5 q4 q5 q6 q7 q8 q10 q11
      rw [← q9] at w2
      have TI := q12 c.length (c.length + A.length) (c.length + A.length + m)
      by_cases cn : n ≤ p1
      · have pn : p1 = n := by omega
        have st : fX8_read_L2 (some a) (I 1, RW b VC lw a n tx R p o 0 0) nx = some (.inl (I 0, RW b VC lw a n tx R1 p1 0 0 0), d + (0 + 0), cc + (0 + 0)) := by
          unfold fX8_read_L2
          dsimp only
          rw [if_neg (show ¬ I 1 = 0 by decide), rr_on h, rr_g1 h, Option.bind_some, if_neg (show ¬ I 1 = 0 by decide), rr_on h, q3, Option.bind_some]
          dsimp only
          rw [rr_on h, rr_g1 h, Option.bind_some, if_neg (show ¬ I 1 = 0 by decide), rr_p h, Option.bind_some, rr_n h, Option.bind_some, if_pos (by rw [I_le (by omega) (by omega) (by omega) (by omega)]; omega), Option.bind_some]
          dsimp only
          rw [if_pos rfl]
          rfl
        have it := iterA_c (n := fu' + 1) st (iterA_r0 (n := fu') (x_rdStop (o' := 0) (w := 0) (q := 0) (a := a)))
        refine ⟨R1, p1, d + (0 + 0) + 0, cc + (0 + 0) + 0, 1, _, r1, r2, r3, by omega, by omega, Or.inr rfl, w1, Or.inl ⟨it, V1, _, _, iter_r ?_, by rw [pn] at w2; exact w2, TI⟩⟩
        unfold fX7_law_L31
        dsimp only
        rw [if_neg (show ¬ I 1 = 0 by decide), gI258_18, w2.pl, Option.bind_some, gI258_19, w2.fr _ _ (by omega), w2.ln, Option.bind_some, if_pos (by rw [I_le (by omega) (by omega) (by omega) (by omega)]; omega)]
      · have lt : p1 < n := by omega
        have tk := y_takes (b := b) (V := V1) (lw := lw') (R := Rr) (x := 59) w2.yp (by omega)
        rw [w2.yt] at tk
        have mu := rr_must (b := b) (V := VC) (lw := lw) (R := R1) (a := a) (n := n) (tx := tx) (p := p1) (o := 0) h t (by omega) (x := 59) (by omega)
        have st : ∀ {m : Hp}, fX8_must (RW b VC lw a n tx R1 p1 0 0 0) (some a) (I 59) = some m → fX8_read_L2 (some a) (I 1, RW b VC lw a n tx R p o 0 0) nx = some (.inl (I 1, m), d + (0 + 0), cc + (0 + 0)) := fun {m} e => by
          unfold fX8_read_L2
          dsimp only
          rw [if_neg (show ¬ I 1 = 0 by decide), rr_on h, rr_g1 h, Option.bind_some, if_neg (show ¬ I 1 = 0 by decide), rr_on h, q3, Option.bind_some]
          dsimp only
          rw [rr_on h, rr_g1 h, Option.bind_some, if_neg (show ¬ I 1 = 0 by decide), rr_p h, Option.bind_some, rr_n h, Option.bind_some, if_neg (by rw [I_le (by omega) (by omega) (by omega) (by omega)]; omega), Option.bind_some]
          dsimp only
          rw [if_neg (show ¬ (1 : Int32) = 0 by decide), rr_on h, show (59 : Int32) = I 59 from rfl, e]
          rfl
        by_cases c59 : yk V0 n p1 = 59
        · rw [if_pos c59] at tk mu
          have st := st mu
          obtain ⟨R2, pp, d2, c2, s1, m1, z1, z2, z3, z4, z5, z6, z7, z8⟩ := lock h t hat hlo (fu' + 1) (p1 + 1) R1 (nx + (d + (0 + 0))) 0 (up V1 258 18 ((p1 : Int) + 1)) _ _ (by omega) (by omega) (by omega) TI (w2.place lt)
          have stR : fX7_law_L31 (some (b + 258)) (I 1, Wd b V1 lw' Rr) = some (.inl (I s1, m1)) := by
            unfold fX7_law_L31
            dsimp only
            rw [if_neg (show ¬ I 1 = 0 by decide), gI258_18, w2.pl, Option.bind_some, gI258_19, w2.fr _ _ (by omega), w2.ln, Option.bind_some, if_neg (by rw [I_le (by omega) (by omega) (by omega) (by omega)]; omega), on258, show (59 : Int32) = I 59 from rfl, tk, Option.bind_some]
            dsimp only
            rw [if_neg (show ¬ I 1 = 0 by decide), on258, z7, Option.bind_some]
            dsimp only
            rcases z6 with rfl | rfl
            · rw [if_pos (show I 0 = 0 from rfl)]
              rfl
            · rw [if_neg (show ¬ I 1 = 0 by decide)]
              rfl
          rcases z8 with ⟨y1, V', c', cls', y2, y3, y4⟩ | ⟨o', w, q, V', y1, y2, y3, y4, y5, y6, y7⟩
          · refine ⟨R2, pp, d + (0 + 0) + d2, cc + (0 + 0) + c2, 1, _, fun y hy => by rw [z1 y hy, r1 y hy], by omega, by omega, by omega, by omega, Or.inr rfl, w1, Or.inl ⟨iterA_c st y1, V', c', cls', ?_, y3, ?_⟩⟩
            · rw [iter_s stR, y2]
            · rw [show nx + (d + (0 + 0) + d2) = nx + (d + (0 + 0)) + d2 by omega]
              exact y4
          · refine ⟨R2, pp, d + (0 + 0) + d2, cc + (0 + 0) + c2, 1, _, fun y hy => by rw [z1 y hy, r1 y hy], by omega, by omega, by omega, by omega, Or.inr rfl, w1, Or.inr ⟨o', w, q, V', iterA_c st y1, y2, y3, y4, ?_, y6, y7⟩⟩
            rw [iter_s stR, y5]
        · rw [if_neg c59] at tk mu
          have st := st mu
          have sp : fX8_read_L2 (some a) (I 1, RW b VC lw a n tx R1 (p1 + 1) 0 ((1 : Nat) : Int) (p1 : Int)) (nx + (d + (0 + 0))) = some (.inr (RW b VC lw a n tx R1 (p1 + 1) 0 ((1 : Nat) : Int) (p1 : Int)), 0, 0) := by
            unfold fX8_read_L2
            dsimp only
            rw [if_neg (show ¬ I 1 = 0 by decide), rr_on h, rr_g0 h (by omega), Option.bind_some, if_pos (show I 0 = 0 from rfl)]
          have stR : fX7_law_L31 (some (b + 258)) (I 1, Wd b V1 lw' Rr) = some (.inl (I 0, Wd b (up V1 258 20 (-1000 * 1 - (p1 : Int))) lw' Rr)) := by
            unfold fX7_law_L31
            dsimp only
            rw [if_neg (show ¬ I 1 = 0 by decide), gI258_18, w2.pl, Option.bind_some, gI258_19, w2.fr _ _ (by omega), w2.ln, Option.bind_some, if_neg (by rw [I_le (by omega) (by omega) (by omega) (by omega)]; omega), on258, show (59 : Int32) = I 59 from rfl, tk, Option.bind_some]
            dsimp only
            rw [if_pos (show I 0 = 0 from rfl)]
            rfl
          refine ⟨R1, p1 + 1, d + (0 + 0) + 0, cc + (0 + 0) + 0, 1, _, r1, by omega, by omega, by omega, by omega, Or.inr rfl, w1, Or.inr ⟨0, 1, p1, up V1 258 20 (-1000 * 1 - (p1 : Int)), iterA_c st (iterA_r0 sp), by omega, by omega, by omega, ?_, fun q k hq => by rw [up_o (by omega), w2.fr _ _ hq], by rw [up_s]; rfl⟩⟩
          rw [iter_s stR]
          refine iter_r ?_
          unfold fX7_law_L31
          exact if_pos rfl
    · obtain ⟨V1, w1, w2, w3⟩ := rule_E (b := b) (lw := lw') (R := Rr) e5 q5
      have st : fX8_read_L2 (some a) (I 1, RW b VC lw a n tx R p o 0 0) nx = some (.inl (I 0, RW b VC lw a n tx R1 p1 o' (w : Int) (q : Int)), d + (0 + 0), cc + (0 + 0)) := by
        unfold fX8_read_L2
        dsimp only
        rw [if_neg (show ¬ I 1 = 0 by decide), rr_on h, rr_g1 h, Option.bind_some, if_neg (show ¬ I 1 = 0 by decide), rr_on h, q1, Option.bind_some]
        dsimp only
        rw [rr_on h, rr_g0 h (by omega), Option.bind_some, if_pos (show I 0 = 0 from rfl), Option.bind_some]
        dsimp only
        rw [if_pos rfl]
        rfl
      have it := iterA_c (n := fu' + 1) st (iterA_r0 (n := fu') (x_rdStop (o' := 0) (w := 0) (q := 0) (a := a)))
      refine ⟨R1, p1, d + (0 + 0) + 0, cc + (0 + 0) + 0, 0, _, r1, r2, r3, by omega, by omega, Or.inl rfl, w1, Or.inr ⟨o', w, q, V1, it, q2, q3, q4, iter_r ?_, w2, w3⟩⟩
      unfold fX7_law_L31
      exact if_pos rfl
end LK
