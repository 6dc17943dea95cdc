/-! LAW: the class reads sums. No JVM here. -/
set_option maxRecDepth 100000
set_option linter.unusedVariables false
set_option linter.unusedSimpArgs false
abbrev OA : Type := Option ((Option Nat × Hp) × Nat × Nat)
def stp0 (l : Nat) (t : Int) : Prop := (l = 1 → ¬ 4 ≤ sgOf t) ∧ (l = 2 → sgOf t = -1)
/-- what reading a factor (0), a product (1), a sum (2) comes to -/
def SRes (l : Nat) (T : Nat → Int) (b : Nat) (V : Vw) (lw : Option Nat) (a n tx : Nat) (R : Hp) (nx p o : Nat) (x : OA) : Prop := ∃ (v : Option Nat) (R' : Hp) (p' d c : Nat), (∀ y, y < nx → R' y = R y) ∧ p < p' ∧ p' ≤ n + 1 ∧ d + 4 ≤ 8 * (p' - p) + l ∧ c ≤ 3 * d ∧ ((p' ≤ n ∧ x = some ((v, RW b V lw a n tx R' p' (o : Int) 0 0), d, c) ∧ stp0 l (T p') ∧ ∃ (C : List Cd) (f : Fm), RO T n l p o p' C ∧ MS C f ∧ SemS b R' nx (nx + d) v f (3 * (6 - o) + 1 + l)) ∨ ∃ (o' : Int) (w q : Nat), x = some ((v, RW b V lw a n tx R' p' o' (w : Int) (q : Int)), d, c) ∧ 1 ≤ w ∧ w ≤ 5 ∧ q ≤ 1000 ∧ RE T n l p o w q ∧ (1 ≤ l → ∃ s' v' n', v = some nx ∧ R' nx = some (rowC s' v' n')))
section SP
variable {b : Nat} {V : Vw} {lw : Option Nat} {R : Hp} {a n tx p nx o : Nat} {T : Nat → Int} {rec : Hp → Nat → Option Nat → OA}
theorem SRes.go {l : Nat} {x y : OA} (h : SRes l T b V lw a n tx R nx p o x) (e : y = x) : SRes l T b V lw a n tx R nx p o y := e ▸ h
theorem andA_n {α : Type} {d c : Nat} : andA d c (none : Option (α × Nat × Nat)) = none := rfl
theorem x_factor (h : b + 305 ≤ a) (t : TxOK V n T) (ha : a < nx) (hp : p ≤ n) (ho : o ≤ 6) (hrec : ∀ (R : Hp) (nx p : Nat), a < nx → p ≤ n → o < 6 → SRes 2 T b V lw a n tx R nx p (o + 1) (rec (RW b V lw a n tx R p ((o + 1 : Nat) : Int) 0 0) nx (some a))) : SRes 0 T b V lw a n tx R nx p o (fX8_factor rec (RW b V lw a n tx R p (o : Int) 0 0) nx (some a)) := by
  have nn := t.nn
  have tb := t.b p
  have cb := cz_b t p
  by_cases c91 : T p = 91
  · have e91 : (I (cz (T p)) = I 91) = True := by rw [cz_I t p (by omega)]; exact eq_true c91
    have lt := t.l p (by omega)
    by_cases c6 : o = 6
    · subst c6
      have op : fX8_opens (RW b V lw a n tx R p ((6 : Nat) : Int) 0 0) (some a) = some (RW b V lw a n tx R (p + 1) 7 5 (p : Int)) := rr_opens6 h
      refine SRes.go (x := some ((none, RW b V lw a n tx R (p + 1) 6 ((5 : Nat) : Int) (p : Int)), 0, 0)) ⟨none, R, p + 1, 0, 0, fun _ _ => rfl, by omega, by omega, by omega, by omega, Or.inr ⟨6, 5, p, rfl, by omega, by omega, by omega, RE_open c91, fun q => absurd q (by omega)⟩⟩ ?_
      unfold fX8_factor
      simp only [rr_on h, rr_here h t (show p ≤ 2000 by omega), Option.bind_some, show (91 : Int32) = I 91 from rfl, e91, ↓reduceIte, op, rr_g0 h (show 1 ≤ (5 : Int) ∧ (5 : Int) ≤ 100 by omega), k_0, andA_0, rr_o h, k_1, I_sub, rr_wo h]
      rfl
    · have op := rr_opens (V := V) (lw := lw) (R := R) (n := n) (tx := tx) (p := p) h (o := (o : Int)) (by omega)
      have eo : (o : Int) + 1 = ((o + 1 : Nat) : Int) := by omega
      rw [eo] at op
      obtain ⟨v, R', p', d, c, r1, r2, r3, r4, r5, r6⟩ := hrec R nx (p + 1) ha (by omega) (by omega)
      have eo2 : ((o + 1 : Nat) : Int) - 1 = (o : Int) := by omega
      rcases r6 with ⟨q1, q2, q3, C, f, q4, q5, q6⟩ | ⟨o', w, q, q1, q2, q3, q4, q5, _⟩
      · have mu := rr_must (V := V) (lw := lw) (R := R') (n := n) (tx := tx) (p := p') (o := ((o + 1 : Nat) : Int)) h t (by omega) (x := 93) (by omega)
        by_cases c93 : T p' = 93
        · have lt2 := t.l p' (by omega)
          rw [if_pos c93] at mu
          refine SRes.go (x := some ((v, RW b V lw a n tx R' (p' + 1) (o : Int) 0 0), d, c)) ⟨v, R', p' + 1, d, c, r1, by omega, by omega, by omega, r5, Or.inl ⟨by omega, rfl, ⟨fun q => absurd q (by omega), fun q => absurd q (by omega)⟩, C, f, RO_br c91 (by omega) q4 c93, q5, q6.mono (by omega) (Nat.le_refl _) (Nat.le_refl _) fun _ _ _ => rfl⟩⟩ ?_
          unfold fX8_factor
          simp only [rr_on h, rr_here h t (show p ≤ 2000 by omega), Option.bind_some, show (91 : Int32) = I 91 from rfl, e91, ↓reduceIte, op, rr_g1 h, k_0, if_neg (show ¬ I 1 = I 0 by decide), q2, andA_s, show (93 : Int32) = I 93 from rfl, mu, rr_o h, k_1, I_sub, eo2, rr_wo h, Nat.add_zero]
        · rw [if_neg c93] at mu
          refine SRes.go (x := some ((v, RW b V lw a n tx R' (p' + 1) (o : Int) ((1 : Nat) : Int) (p' : Int)), d, c)) ⟨v, R', p' + 1, d, c, r1, by omega, by omega, by omega, r5, Or.inr ⟨o, 1, p', rfl, by omega, by omega, by omega, RE_br2 c91 (by omega) q4 (q3.2 rfl) c93, fun q => absurd q (by omega)⟩⟩ ?_
          unfold fX8_factor
          simp only [rr_on h, rr_here h t (show p ≤ 2000 by omega), Option.bind_some, show (91 : Int32) = I 91 from rfl, e91, ↓reduceIte, op, rr_g1 h, k_0, if_neg (show ¬ I 1 = I 0 by decide), q2, andA_s, show (93 : Int32) = I 93 from rfl, mu, rr_o h, k_1, I_sub, eo2, rr_wo h, Nat.add_zero]
          rfl
      · refine SRes.go (x := some ((v, RW b V lw a n tx R' p' (o' - 1) (w : Int) (q : Int)), d, c)) ⟨v, R', p', d, c, r1, by omega, by omega, by omega, r5, Or.inr ⟨o' - 1, w, q, rfl, q2, q3, q4, RE_br c91 (by omega) q5, fun q => absurd q (by omega)⟩⟩ ?_
        unfold fX8_factor
        simp only [rr_on h, rr_here h t (show p ≤ 2000 by omega), Option.bind_some, show (91 : Int32) = I 91 from rfl, e91, ↓reduceIte, op, rr_g1 h, k_0, if_neg (show ¬ I 1 = I 0 by decide), q1, andA_s, rr_g0 h (show 1 ≤ (w : Int) ∧ (w : Int) ≤ 100 by omega), rr_o h, k_1, I_sub, rr_wo h, Nat.add_zero]
  · have e91 : (I (cz (T p)) = I 91) = False := by rw [cz_I t p (by omega)]; exact eq_false c91
    by_cases cd : isDg T p
    · have hD := numD_le T p 5
      have d1 : numD T p 5 ≠ 0 := fun q => by
        have := numD_no (T := T) (p := p) (dg := 5) (by omega)
        rw [q] at this
        exact this cd
      have vb := numV_6 (T := T) (p := p) (k := numD T p 5) (by omega) fun i hi => numD_dg hi
      have dl : ∀ i, i < numD T p 5 → p + i < n := fun i hi => t.l _ (by have := numD_dg hi; unfold isDg at this; omega)
      have nu := rr_number (V := V) (lw := lw) (R := hp_set R nx (.inr (9, dfX11))) (tx := tx) (o := (o : Int)) h t (show p ≤ 1000 by omega)
      have wi : ∀ {R : Hp} {p : Nat} {f q : Int} {x : Int32}, fX11_init (RW b V lw a n tx (hp_set R nx (.inr (9, dfX11))) p (o : Int) f q) nx x = some (RW b V lw a n tx (hp_set R nx (.inr (9, [.inl x]))) p (o : Int) f q) := fun {R p f q x} => by
        unfold fX11_init hp_pI RW
        rw [o_pV (by omega) (by rw [s_n (by omega), s_s]) (by decide), s_cm (by omega), s_ss]
        rfl
      by_cases c6 : numD T p 5 = 6
      · rw [if_pos c6] at nu
        have := dl 5 (by omega)
        refine SRes.go (x := some ((some nx, RW b V lw a n tx (hp_set R nx (.inr (9, [.inl (I (numV T p (numD T p 5)))]))) (p + 6) (o : Int) ((2 : Nat) : Int) ((p + 5 : Nat) : Int)), 1, 1)) ⟨some nx, hp_set R nx (.inr (9, [.inl (I (numV T p (numD T p 5)))])), p + 6, 1, 1, fun y hy => s_n (by omega) _, by omega, by omega, by omega, by omega, Or.inr ⟨o, 2, p + 5, rfl, by omega, by omega, by omega, RE_num cd c6, fun q => absurd q (by omega)⟩⟩ ?_
        unfold fX8_factor
        simp only [rr_on h, rr_here h t (show p ≤ 2000 by omega), Option.bind_some, show (91 : Int32) = I 91 from rfl, e91, ↓reduceIte, rr_sees h t (show p ≤ 2000 by omega), bi_t cd, k_0, if_neg (show ¬ I 1 = I 0 by decide), rr_set h ha, nu, wi, andA_s, Nat.add_zero]
        rfl
      · rw [if_neg c6] at nu
        have := dl (numD T p 5 - 1) (by omega)
        have ev : ((numV T p (numD T p 5)).toNat : Int) = numV T p (numD T p 5) := by omega
        refine SRes.go (x := some ((some nx, RW b V lw a n tx (hp_set R nx (.inr (9, [.inl (I (numV T p (numD T p 5)))]))) (p + numD T p 5) (o : Int) 0 0), 1, 1)) ⟨some nx, hp_set R nx (.inr (9, [.inl (I (numV T p (numD T p 5)))])), p + numD T p 5, 1, 1, fun y hy => s_n (by omega) _, by omega, by omega, by omega, by omega, Or.inl ⟨by omega, rfl, ⟨fun q => absurd q (by omega), fun q => absurd q (by omega)⟩, _, _, RO_num cd c6, MS_num _, (SemS_num (u := nx) (lo := nx) (hi := nx + 1) (by omega) (by rw [ev, s_s]) (Nat.le_refl _) (by omega)).mono (by omega) (Nat.le_refl _) (Nat.le_refl _) fun _ _ _ => rfl⟩⟩ ?_
        unfold fX8_factor
        simp only [rr_on h, rr_here h t (show p ≤ 2000 by omega), Option.bind_some, show (91 : Int32) = I 91 from rfl, e91, ↓reduceIte, rr_sees h t (show p ≤ 2000 by omega), bi_t cd, k_0, if_neg (show ¬ I 1 = I 0 by decide), rr_set h ha, nu, wi, andA_s, Nat.add_zero]
    · have wi : ∀ {R : Hp} {p : Nat} {f q : Int} {x : Int32}, fX12_init (RW b V lw a n tx (hp_set R nx (.inr (10, dfX12))) p (o : Int) f q) nx x = some (RW b V lw a n tx (hp_set R nx (.inr (10, [.inl x]))) p (o : Int) f q) := fun {R p f q x} => by
        unfold fX12_init hp_pI RW
        rw [o_pV (by omega) (by rw [s_n (by omega), s_s]) (by decide), s_cm (by omega), s_ss]
        rfl
      have e0 : (I (cz (T p)) = I 0) = (cz (T p) = 0) := I_inj (by omega) (by omega) (by omega) (by omega)
      have strx : (0 ≤ strS (I (cz (T p)))) = (ltOf (cz (T p)) ≠ -1) := x_strS cb
      have lc : ltOf (cz (T p)) = ltOf (T p) := by
        unfold cz
        split
        · rename_i q
          rw [q]
          rfl
        · rfl
      rw [lc] at strx
      by_cases cl : ltOf (T p) = -1
      · refine SRes.go (x := some ((some nx, RW b V lw a n tx (hp_set R nx (.inr (10, [.inl (I (cz (T p)))]))) (p + 1) (o : Int) ((1 : Nat) : Int) (p : Int)), 1, 1)) ⟨some nx, hp_set R nx (.inr (10, [.inl (I (cz (T p)))])), p + 1, 1, 1, fun y hy => s_n (by omega) _, by omega, by omega, by omega, by omega, Or.inr ⟨o, 1, p, rfl, by omega, by omega, by omega, RE_let c91 cd cl, fun q => absurd q (by omega)⟩⟩ ?_
        have s0 : ¬ (0 ≤ strS (I (cz (T p)))) := by
          rw [strx]
          exact not_not_intro cl
        unfold fX8_factor
        simp only [rr_on h, rr_here h t (show p ≤ 2000 by omega), Option.bind_some, show (91 : Int32) = I 91 from rfl, e91, ↓reduceIte, rr_sees h t (show p ≤ 2000 by omega), bi_f cd, k_0, e0]
        by_cases c0 : cz (T p) = 0
        · simp only [c0, ↓reduceIte, rr_p h, Option.bind_some, rr_on h, k_1, rr_bad h, andA_0, Nat.add_zero, rr_wp h, rr_set h ha, wi, andA_s]
          rfl
        · simp only [c0, if_neg s0, ↓reduceIte, rr_p h, Option.bind_some, rr_on h, k_1, rr_bad h, andA_0, Nat.add_zero, rr_wp h, rr_set h ha, wi, andA_s]
          rw [← k_0, if_neg s0]
          simp only [rr_p h, Option.bind_some, rr_on h, k_1, rr_bad h, andA_0, Nat.add_zero, rr_wp h, rr_set h ha, wi, andA_s]
          rfl
      · have lt := t.l p (fun q => cl (by rw [q]; rfl))
        have c0 : ¬ cz (T p) = 0 := fun q => cl (by rw [← lc, q]; rfl)
        have cz1 : cz (T p) = T p := by
          unfold cz
          rw [if_neg (fun q => cl (by rw [q]; rfl))]
        have s0 : (0 ≤ strS (I (cz (T p)))) := by
          rw [strx]
          exact cl
        refine SRes.go (x := some ((some nx, RW b V lw a n tx (hp_set R nx (.inr (10, [.inl (I (cz (T p)))]))) (p + 1) (o : Int) 0 0), 1, 1)) ⟨some nx, hp_set R nx (.inr (10, [.inl (I (cz (T p)))])), p + 1, 1, 1, fun y hy => s_n (by omega) _, by omega, by omega, by omega, by omega, Or.inl ⟨by omega, rfl, ⟨fun q => absurd q (by omega), fun q => absurd q (by omega)⟩, _, _, RO_let c91 cd cl, MS_let (by have := ltOf_b (T p); omega), (SemS_let (t := T p) (u := nx) (lo := nx) (hi := nx + 1) (by omega) cl (by omega) (by rw [cz1, s_s]) (Nat.le_refl _) (by omega)).mono (by omega) (Nat.le_refl _) (Nat.le_refl _) fun _ _ _ => rfl⟩⟩ ?_
        unfold fX8_factor
        simp only [rr_on h, rr_here h t (show p ≤ 2000 by omega), Option.bind_some, show (91 : Int32) = I 91 from rfl, e91, ↓reduceIte, rr_sees h t (show p ≤ 2000 by omega), bi_f cd, k_0, e0, c0]
        rw [← k_0, if_pos s0]
        simp only [rr_p h, Option.bind_some, rr_on h, k_1, andA_0, Nat.add_zero, rr_wp h, rr_set h ha, wi, andA_s]
end SP
