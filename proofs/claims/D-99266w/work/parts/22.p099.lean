/-! LAW: the class reads pieces. No JVM here. -/
set_option maxRecDepth 100000
set_option linter.unusedVariables false
set_option linter.unusedSimpArgs false
section CP
variable {b : Nat} {V : Vw} {lw : Option Nat} {R R1 R' : Hp} {a n tx p nx o : Nat} {T : Nat → Int} {rec : Hp → Nat → Option Nat → OA} {v : Option Nat} {p' d c : Nat} {o' f q : Int}
theorem not_init (ha : a < nx) (hb : b + 305 ≤ a) : fX15_init (RW b V lw a n tx (hp_set R nx (.inr (12, dfX15))) p o' f q) nx v = some (RW b V lw a n tx (hp_set R nx (.inr (12, [.inr v]))) p o' f q) := by
  unfold fX15_init hp_pR RW
  rw [o_pV (by omega) (by rw [s_n (by omega), s_s]) (by decide), s_cm (by omega), s_ss]
  rfl
theorem cmp_init (ha : a < nx) (hb : b + 305 ≤ a) {v w : Option Nat} {s : Int32} (hR : R nx = some (.inr (13, dfX16))) : fX16_init (RW b V lw a n tx R p o' f q) nx v s w = some (RW b V lw a n tx (hp_set R nx (.inr (13, [.inr v, .inr w, .inl s]))) p o' f q) := by
  unfold fX16_init hp_pI hp_pR RW
  rw [o_pV (by omega) (by rw [s_n (by omega), hR]) (by decide), Option.bind_some, o_pV (by omega) (s_s nx _) (by rw [List.length_set]; decide), s_ss, Option.bind_some, o_pV (by omega) (s_s nx _) (by rw [List.length_set, List.length_set]; decide), s_ss, s_cm (by omega)]
  rfl
theorem RG_0 {C : Nat → List Cd} (h : RP T n p o p' C) : RG T n 0 p o p' C := h
theorem hw_hwI {t : Int} (h : hwOf t ≠ -1) : ∃ h' : Nat, hwOf t = (h' : Int) ∧ 7 ≤ h' ∧ h' ≤ 9 ∧ I t = hwI h' := by
  have : t = 60 ∨ t = 62 ∨ t = 61 := by
    unfold hwOf at h
    omega
  rcases this with rfl | rfl | rfl
  · exact ⟨7, rfl, by omega, by omega, rfl⟩
  · exact ⟨8, rfl, by omega, by omega, rfl⟩
  · exact ⟨9, rfl, by omega, by omega, rfl⟩
theorem x_pieceB (h : b + 305 ≤ a) (t : TxOK V n T) (ha : a < nx) (hp : p ≤ n) (ho : o ≤ 6) (hrec : ∀ (R : Hp) (nx p : Nat), a < nx → p ≤ n → o < 6 → CRes 0 T b V lw a n tx R nx p (o + 1) (rec (RW b V lw a n tx R p ((o + 1 : Nat) : Int) 0 0) nx (some a))) : CRes 0 T b V lw a n tx R nx p o (fX8_pieceB rec (RW b V lw a n tx R p (o : Int) 0 0) nx (some a)) := by
  have nn := t.nn
  by_cases c33 : T p = 33
  · have lt := t.l p (by omega)
    have f1 : (I (cz (T p)) = I 33) = True := by rw [cz_I t p (by omega)]; exact eq_true c33
    by_cases c6 : o = 6
    · subst c6
      have op : fX8_opens (RW b V lw a n tx R p ((6 : Nat) : Int) 0 0) (some a) = some (RW b V lw a n tx R (p + 1) 7 ((5 : Nat) : Int) (p : Int)) := rr_opens6 h
      have e : fX8_pieceB rec (RW b V lw a n tx R p ((6 : Nat) : Int) 0 0) nx (some a) = some ((some nx, RW b V lw a n tx (hp_set R nx (.inr (12, [.inr none]))) (p + 1) 6 ((5 : Nat) : Int) (p : Int)), 1, 1) := by
        unfold fX8_pieceB
        simp only [rr_on h, rr_here h t (show p ≤ 2000 by omega), Option.bind_some, show (33 : Int32) = I 33 from rfl, f1, ↓reduceIte, op, rr_g0 h (show 1 ≤ ((5 : Nat) : Int) ∧ ((5 : Nat) : Int) ≤ 100 by omega), k_0, andA_0, rr_o h, k_1, I_sub, rr_wo h, Nat.add_zero, rr_set h ha, not_init ha h, andA_s]
        rfl
      rw [e]
      exact ⟨some nx, _, p + 1, 1, 1, fun y hy => s_n (by omega) _, by omega, by omega, by omega, by omega, Or.inr ⟨6, 5, p, rfl, by omega, by omega, by omega, CE_op6 (Or.inl c33)⟩⟩
    · have op := rr_opens (V := V) (lw := lw) (R := R) (n := n) (tx := tx) (p := p) h (o := (o : Int)) (by omega)
      have eo : (o : Int) + 1 = ((o + 1 : Nat) : Int) := by omega
      have eo2 : ((o + 1 : Nat) : Int) - 1 = (o : Int) := by omega
      rw [eo] at op
      obtain ⟨v, R', p', d, c', r1, r2, r3, r4, r5, r6⟩ := hrec R nx (p + 1) ha (by omega) (by omega)
      rcases r6 with ⟨q1, q2, q3, D, m, g, q4, q5, q6⟩ | ⟨o', w, q, q1, q2, q3, q4, q5⟩
      · have e : fX8_pieceB rec (RW b V lw a n tx R p (o : Int) 0 0) nx (some a) = some ((some (nx + d), RW b V lw a n tx (hp_set R' (nx + d) (.inr (12, [.inr v]))) p' (o : Int) 0 0), d + 1, c' + 1) := by
          unfold fX8_pieceB
          simp only [rr_on h, rr_here h t (show p ≤ 2000 by omega), Option.bind_some, show (33 : Int32) = I 33 from rfl, f1, ↓reduceIte, op, rr_g1 h, k_0, if_neg (show ¬ I 1 = I 0 by decide), q2, andA_0, rr_o h, k_1, I_sub, eo2, rr_wo h, Nat.add_zero, rr_set h (show a < nx + d by omega), not_init (show a < nx + d by omega) h, andA_s]
        rw [e]
        refine ⟨some (nx + d), _, p', d + 1, c' + 1, fun y hy => by rw [s_n (by omega), r1 y hy], by omega, by omega, by omega, by omega, Or.inl ⟨q1, rfl, ⟨fun q => absurd q (by omega), fun q => absurd q (by omega)⟩, _, _, _, RG_0 (RP_not c33 (by omega) q4), MC_not q5, ?_⟩⟩
        exact (SemC_not (lo := nx) (hi := nx + (d + 1)) (by omega) (by omega) (by omega) (s_s _ _) (q6.mono (Nat.le_refl _) (Nat.le_refl _) (by omega) fun y y1 y2 => s_n (by omega) _)).mono (by omega) (Nat.le_refl _) (Nat.le_refl _) fun _ _ _ => rfl
      · have e : fX8_pieceB rec (RW b V lw a n tx R p (o : Int) 0 0) nx (some a) = some ((some (nx + d), RW b V lw a n tx (hp_set R' (nx + d) (.inr (12, [.inr v]))) p' (o' - 1) (w : Int) (q : Int)), d + 1, c' + 1) := by
          unfold fX8_pieceB
          simp only [rr_on h, rr_here h t (show p ≤ 2000 by omega), Option.bind_some, show (33 : Int32) = I 33 from rfl, f1, ↓reduceIte, op, rr_g1 h, k_0, if_neg (show ¬ I 1 = I 0 by decide), q1, andA_0, rr_o h, k_1, I_sub, rr_wo h, Nat.add_zero, rr_set h (show a < nx + d by omega), not_init (show a < nx + d by omega) h, andA_s]
        rw [e]
        exact ⟨some (nx + d), _, p', d + 1, c' + 1, fun y hy => by rw [s_n (by omega), r1 y hy], by omega, by omega, by omega, by omega, Or.inr ⟨_, w, q, rfl, q2, q3, q4, CE_not c33 (by omega) q5⟩⟩
  · have f1 : (I (cz (T p)) = I 33) = False := by rw [cz_I t p (by omega)]; exact eq_false c33
    by_cases c40 : T p = 40
    · have f2 : (I (cz (T p)) = I 40) = True := by rw [cz_I t p (by omega)]; exact eq_true c40
      have K := x_condition (R := R) h t ha hp ho c40 hrec
      have e : fX8_pieceB rec (RW b V lw a n tx R p (o : Int) 0 0) nx (some a) = fX8_condition rec (RW b V lw a n tx R p (o : Int) 0 0) nx (some a) := by
        unfold fX8_pieceB
        simp only [rr_on h, rr_here h t (show p ≤ 2000 by omega), Option.bind_some, show (33 : Int32) = I 33 from rfl, show (40 : Int32) = I 40 from rfl, f1, f2, ↓reduceIte]
        cases fX8_condition rec (RW b V lw a n tx R p (o : Int) 0 0) nx (some a) with
        | none => rfl
        | some q =>
          obtain ⟨⟨q1, q2⟩, q3, q4⟩ := q
          rfl
      rw [e]
      obtain ⟨v, R', p', d, c', r1, r2, r3, r4, r5, r6⟩ := K
      rcases r6 with ⟨q1, q2, q3, p1, C, m, g, rfl, q5, q6, q7, q8⟩ | ⟨o', w, q, q1, q2, q3, q4, q5, _⟩
      · exact ⟨v, R', p1 + 1, d, c', r1, r2, r3, r4, r5, Or.inl ⟨q1, q3, ⟨fun q => absurd q (by omega), fun q => absurd q (by omega)⟩, C, m, g, RG_0 (RP_cond c40 q2 q6 q5), q7, q8⟩⟩
      · refine ⟨v, R', p', d, c', r1, r2, r3, r4, r5, Or.inr ⟨o', w, q, q1, q2, q3, q4, ?_⟩⟩
        rcases q5 with ⟨rfl, rfl, rfl⟩ | ⟨k1, k2⟩ | ⟨p1, C, k1, k2, k3, k4, k5, rfl, rfl⟩
        · exact CE_op6 (Or.inr c40)
        · exact CE_cond c40 k1 k2
        · exact CE_cond2 c40 k1 k2 k3 k4 k5
    · have f2 : (I (cz (T p)) = I 40) = False := by rw [cz_I t p (by omega)]; exact eq_false c40
      obtain ⟨v, R', p1, d, c', r1, r2, r3, r4, r5, r6⟩ := x_sum (V := V) (lw := lw) (tx := tx) h t 60 o ho (by omega) R nx p ha hp
      have f60 : (I (cz (T p1)) = I 60) = (T p1 = 60) := cz_I t p1 (by omega)
      have f62 : (I (cz (T p1)) = I 62) = (T p1 = 62) := cz_I t p1 (by omega)
      have f61 : (I (cz (T p1)) = I 61) = (T p1 = 61) := cz_I t p1 (by omega)
      rcases r6 with ⟨q1, q2, q3, A, f, q4, q5, q6⟩ | ⟨o', w, q, q1, q2, q3, q4, q5, _⟩
      · by_cases ch : hwOf (T p1) = -1
        · have n1 : ¬ T p1 = 60 := fun q => by rw [q] at ch; exact absurd ch (by decide)
          have n2 : ¬ T p1 = 62 := fun q => by rw [q] at ch; exact absurd ch (by decide)
          have n3 : ¬ T p1 = 61 := fun q => by rw [q] at ch; exact absurd ch (by decide)
          have e : fX8_pieceB rec (RW b V lw a n tx R p (o : Int) 0 0) nx (some a) = some ((some (nx + d), RW b V lw a n tx (hp_set (hp_set R' (nx + d) (.inr (13, dfX16))) (nx + d) (.inr (13, [.inr v, .inr none, .inl (I (cz (T p1)))]))) (p1 + 1) (o : Int) ((1 : Nat) : Int) (p1 : Int)), d + 1, c' + 3) := by
            unfold fX8_pieceB
            simp only [rr_on h, rr_here h t (show p ≤ 2000 by omega), Option.bind_some, show (33 : Int32) = I 33 from rfl, show (40 : Int32) = I 40 from rfl, f1, f2, ↓reduceIte, q2, rr_here h t (show p1 ≤ 2000 by omega), show (60 : Int32) = I 60 from rfl, show (62 : Int32) = I 62 from rfl, show (61 : Int32) = I 61 from rfl, f60, f62, f61, n1, n2, n3, rr_p h, k_1, rr_bad h, andA_0, rr_wp h, Nat.add_zero, rr_set h (show a < nx + d by omega), rr_g0 h (show 1 ≤ (1 : Int) ∧ (1 : Int) ≤ 100 by omega), k_0, cmp_init (show a < nx + d by omega) h (s_s _ _), andA_s]
            rfl
          rw [e]
          exact ⟨some (nx + d), _, p1 + 1, d + 1, c' + 3, fun y hy => by rw [s_n (by omega), s_n (by omega), r1 y hy], by omega, by omega, by omega, by omega, Or.inr ⟨_, 1, p1, rfl, by omega, by omega, by omega, CE_cmp2 c33 c40 q4 (q3.2 rfl) ch⟩⟩
        · obtain ⟨h', ch1, ch2, ch3, ch4⟩ := hw_hwI ch
          have lt1 := t.l p1 (fun q => ch (by rw [q]; rfl))
          have e60 : T p1 = 60 ∨ T p1 = 62 ∨ T p1 = 61 := by
            unfold hwOf at ch
            omega
          have ecz : I (cz (T p1)) = hwI h' := by
            rw [← ch4]
            unfold cz
            rw [if_neg (by omega)]
          obtain ⟨v2, R2, p2, d2, c2, z1, z2, z3, z4, z5, z6⟩ := x_sum (V := V) (lw := lw) (tx := tx) h t 60 o ho (by omega) (hp_set R' (nx + d) (.inr (13, dfX16))) (nx + d + 1) (p1 + 1) (by omega) (by omega)
          have e2 : R2 (nx + d) = some (.inr (13, dfX16)) := (z1 _ (by omega)).trans (s_s _ _)
          have E : ∀ {o2 : Int} {w2 q2' : Int}, fX8_sum 60 (RW b V lw a n tx (hp_set R' (nx + d) (.inr (13, dfX16))) (p1 + 1) (o : Int) 0 0) (nx + d + 1) (some a) = some ((v2, RW b V lw a n tx R2 p2 o2 w2 q2'), d2, c2) → fX8_pieceB rec (RW b V lw a n tx R p (o : Int) 0 0) nx (some a) = some ((some (nx + d), RW b V lw a n tx (hp_set R2 (nx + d) (.inr (13, [.inr v, .inr v2, .inl (hwI h')]))) p2 o2 w2 q2'), d + (1 + d2), c' + (3 + c2)) := fun {o2 w2 q2'} hs => by
            have pi := cmp_init (V := V) (lw := lw) (n := n) (tx := tx) (p := p2) (o' := o2) (f := w2) (q := q2') (v := v) (w := v2) (s := hwI h') (show a < nx + d by omega) h e2
            unfold fX8_pieceB
            rw [rr_on h, rr_here h t (by omega), Option.bind_some, show (33 : Int32) = I 33 from rfl, if_neg (of_eq_false f1), show (40 : Int32) = I 40 from rfl, if_neg (of_eq_false f2), rr_on h, q2, Option.bind_some]
            dsimp only
            rw [rr_on h, rr_here h t (by omega), Option.bind_some, show (60 : Int32) = I 60 from rfl, show (62 : Int32) = I 62 from rfl, show (61 : Int32) = I 61 from rfl]
            have mid : ((if I (cz (T p1)) = I 60 then some (RW b V lw a n tx R' p1 (o : Int) 0 0, 0, 0) else if I (cz (T p1)) = I 62 then some (RW b V lw a n tx R' p1 (o : Int) 0 0, 0, 0) else if I (cz (T p1)) = I 61 then some (RW b V lw a n tx R' p1 (o : Int) 0 0, 0, 0) else (hp_gI (RW b V lw a n tx R' p1 (o : Int) 0 0) (some a) 7 2).bind fun v29 => (hp_on (RW b V lw a n tx R' p1 (o : Int) 0 0) (some a) 7 (fX8_bad (RW b V lw a n tx R' p1 (o : Int) 0 0) (some a) (1 : Int32) v29)).bind fun m30 => some (m30, 0, 0)) : Option (Hp × Nat × Nat)) = some (RW b V lw a n tx R' p1 (o : Int) 0 0, 0, 0) := by
              simp only [f60, f62, f61]
              rcases e60 with q | q | q
              · rw [if_pos q]
              · rw [if_neg (by omega), if_pos q]
              · rw [if_neg (by omega), if_neg (by omega), if_pos q]
            rw [mid, Option.bind_some]
            dsimp only
            rw [andA_0, rr_p h, Option.bind_some, k_1, rr_wp h, Option.bind_some, Option.bind_some]
            dsimp only [Nat.add_zero]
            rw [rr_set h (by omega), rr_on h, rr_g1 h, Option.bind_some, if_neg (show ¬ I 1 = 0 by decide), rr_on h, hs, Option.bind_some]
            dsimp only
            rw [ecz, pi]
            rfl
          rcases z6 with ⟨y1, y2, y3, B, f2, y4, y5, y6⟩ | ⟨o2, w, q, y1, y2, y3, y4, y5, _⟩
          · rw [E y2]
            refine ⟨some (nx + d), _, p2, d + (1 + d2), c' + (3 + c2), fun y hy => by rw [s_n (by omega), z1 y (by omega), s_n (by omega), r1 y hy], by omega, by omega, by omega, by omega, Or.inl ⟨y1, rfl, ⟨fun q => absurd q (by omega), fun q => absurd q (by omega)⟩, _, _, _, RG_0 (RP_cmp c33 c40 q4 (q3.2 rfl) ch1 y4 (y3.2 rfl) (by omega)), MC_cmp q5 y5 ⟨ch2, ch3⟩, ?_⟩⟩
            refine (SemC_cmp (lo := nx) (hi := nx + (d + (1 + d2))) ⟨ch2, ch3⟩ (by omega) (by omega) (by omega) (s_s _ _) (q6.mono (by omega) (Nat.le_refl _) (by omega) fun y yy1 yy2 => by rw [s_n (by omega), z1 y (by omega), s_n (by omega)]) (y6.mono (by omega) (by omega) (by omega) fun y yy1 yy2 => by rw [s_n (by omega)])).mono (by omega) (Nat.le_refl _) (Nat.le_refl _) fun _ _ _ => rfl
          · rw [E y1]
            exact ⟨some (nx + d), _, p2, d + (1 + d2), c' + (3 + c2), fun y hy => by rw [s_n (by omega), z1 y (by omega), s_n (by omega), r1 y hy], by omega, by omega, by omega, by omega, Or.inr ⟨_, w, q, rfl, y2, y3, y4, CE_cmp3 c33 c40 q4 (q3.2 rfl) ch1 y5⟩⟩
      · have e : fX8_pieceB rec (RW b V lw a n tx R p (o : Int) 0 0) nx (some a) = some ((some (nx + d), RW b V lw a n tx (hp_set (hp_set R' (nx + d) (.inr (13, dfX16))) (nx + d) (.inr (13, [.inr v, .inr none, .inl (I (cz (T p1)))]))) (p1 + 1) o' (w : Int) (q : Int)), d + 1, c' + 3) := by
          have mid : ((if I (cz (T p1)) = I 60 then some (RW b V lw a n tx R' p1 o' (w : Int) (q : Int), 0, 0) else if I (cz (T p1)) = I 62 then some (RW b V lw a n tx R' p1 o' (w : Int) (q : Int), 0, 0) else if I (cz (T p1)) = I 61 then some (RW b V lw a n tx R' p1 o' (w : Int) (q : Int), 0, 0) else (hp_gI (RW b V lw a n tx R' p1 o' (w : Int) (q : Int)) (some a) 7 2).bind fun v29 => (hp_on (RW b V lw a n tx R' p1 o' (w : Int) (q : Int)) (some a) 7 (fX8_bad (RW b V lw a n tx R' p1 o' (w : Int) (q : Int)) (some a) (1 : Int32) v29)).bind fun m30 => some (m30, 0, 0)) : Option (Hp × Nat × Nat)) = some (RW b V lw a n tx R' p1 o' (w : Int) (q : Int), 0, 0) := by
            rw [rr_p h, Option.bind_some, rr_on h, k_1, rr_bad1 h (by omega), Option.bind_some]
            repeat (split; · rfl)
            rfl
          unfold fX8_pieceB
          rw [rr_on h, rr_here h t (by omega), Option.bind_some, show (33 : Int32) = I 33 from rfl, if_neg (of_eq_false f1), show (40 : Int32) = I 40 from rfl, if_neg (of_eq_false f2), rr_on h, q1, Option.bind_some]
          dsimp only
          rw [rr_on h, rr_here h t (by omega), Option.bind_some, show (60 : Int32) = I 60 from rfl, show (62 : Int32) = I 62 from rfl, show (61 : Int32) = I 61 from rfl, mid, Option.bind_some]
          dsimp only
          rw [andA_0, rr_p h, Option.bind_some, k_1, rr_wp h, Option.bind_some, Option.bind_some]
          dsimp only [Nat.add_zero]
          rw [rr_set h (by omega), rr_on h, rr_g0 h (by omega), Option.bind_some, if_pos (show I 0 = 0 from rfl), cmp_init (by omega) h (s_s _ _)]
          rfl
        rw [e]
        exact ⟨some (nx + d), _, p1 + 1, d + 1, c' + 3, fun y hy => by rw [s_n (by omega), s_n (by omega), r1 y hy], by omega, by omega, by omega, by omega, Or.inr ⟨_, w, q, rfl, q2, q3, q4, CE_cmp1 c33 c40 q5⟩⟩
theorem x_piece (h : b + 305 ≤ a) (t : TxOK V n T) : ∀ (k o : Nat), o ≤ 6 → 7 ≤ o + k → ∀ (R : Hp) (nx p : Nat), a < nx → p ≤ n → CRes 0 T b V lw a n tx R nx p o (fX8_piece k (RW b V lw a n tx R p (o : Int) 0 0) nx (some a))
  | 0, o, h1, h2, R, nx, p, ha, hp => by omega
  | k + 1, o, h1, h2, R, nx, p, ha, hp => by
    show CRes 0 T b V lw a n tx R nx p o (fX8_pieceB (fX8_piece k) (RW b V lw a n tx R p (o : Int) 0 0) nx (some a))
    exact x_pieceB h t ha hp h1 fun R nx p g1 g2 g3 => x_piece h t k (o + 1) (by omega) (by omega) R nx p g1 g2
end CP
