/-! CALL: timetable, the reference's services. No JVM here. -/
set_option maxRecDepth 100000
set_option linter.unusedVariables false
def yG (V : Vw) (all : Nat) (G : Vw) : Prop := ∀ r, r < all → V 286 r = G 0 r ∧ ∀ k : Nat, (k : Int) < G 0 r → V 287 (8 * r + k) = G 1 (8 * r + k) ∧ V 288 (8 * r + k) = G 2 (8 * r + k)
section TZ
variable {b : Nat} {V0 V V' : Vw} {lw : Option Nat} {R : Hp} {n p N cnt many all : Nat} {x y s m v e : Int} {S G : Vw} {u1 : Int32}
theorem y_L51 {u : Int32} : ∀ (fu many p F : Nat) (V : Vw) (S : Vw), many + fu = 9 → 2 ≤ many → many ≤ 8 → p + 6 * fu ≤ 400 → fu + 1 ≤ F → yPl V n p → SvK many S → yRow V many S → ∃ V', ySf V V' ∧ V' 258 19 = V 258 19 ∧ match (if isLt (yk V n) p then stpGo (yk V n) fu many p S else .inr (p, many, S)) with
    | .inl (w, q) => iter (fX7_readsService_L51 (some (b + 258)) u) F (I (many : Int), Wd b V lw R) = some (.inr (I 0, Wd b V' lw R)) ∧ V' 258 20 = -1000 * w - (q : Int)
    | .inr (p', many', S') => iter (fX7_readsService_L51 (some (b + 258)) u) F (I (many : Int), Wd b V lw R) = some (.inl (I (many' : Int), Wd b V' lw R)) ∧ V' 258 18 = (p' : Int) ∧ yRow V' many' S'
  | fu, many, p, 0, V, S, e1, e2, e8, e3, e4, h, k, row => by omega
  | fu, many, p, F + 1, V, S, e1, e2, e8, e3, e4, h, k, row => by
    by_cases d : isLt (yk V n) p
    · rw [if_pos d]
      cases fu with
      | zero =>
        omega
      | succ fu =>
        obtain ⟨V1, a1, a2, a3⟩ := y_stop (b := b) (lw := lw) (R := R) h (by omega) (by omega) k row
        have sb := stopR_b (T := yk V n) (p := p) k (by omega)
        cases e : stopR (yk V n) S many p with
        | inl ee =>
          obtain ⟨w, q⟩ := ee
          have go : stpGo (yk V n) (fu + 1) many p S = .inl (w, q) := by rw [stpGo, e]
          rw [go]
          rw [e] at a3
          obtain ⟨b1, b2⟩ := a3
          refine ⟨V1, a1, a2, iter_r ?_, b2⟩
          unfold fX7_readsService_L51
          simp (disch := omega) only [on258, y_isLt h, Option.bind_some, k_0, bi_if, if_pos d, b1, if_true]
        | inr q =>
          obtain ⟨p', s, m⟩ := q
          rw [e] at a3 sb
          obtain ⟨b1, b2, b3⟩ := a3
          have sb : p < p' ∧ p' ≤ p + 5 ∧ many < 8 ∧ SvK (many + 1) (stpS S many s m) ∧ isLt (yk V n) p := sb
          have P1 : yPl V1 n p' := h.to b2 a2 (by omega)
          obtain ⟨V2, c1, c2, c3⟩ := y_L51 (u := u) fu (many + 1) p' F V1 (stpS S many s m) (by omega) (by omega) (by omega) (by omega) (by omega) P1 sb.2.2.2.1 b3
          rw [a1.yk] at c3
          have go : stpGo (yk V n) (fu + 1) many p S = if isLt (yk V n) p' then stpGo (yk V n) fu (many + 1) p' (stpS S many s m) else .inr (p', many + 1, stpS S many s m) := by
            rw [stpGo, e]
            show (if many + 1 < 2 ∨ isLt (yk V n) p' then _ else _) = _
            by_cases w : isLt (yk V n) p'
            · rw [if_pos w, if_pos (Or.inr w)]
            · rw [if_neg w, if_neg (fun q => q.elim (fun q => by omega) w)]
          rw [go]
          have st : iter (fX7_readsService_L51 (some (b + 258)) u) (F + 1) (I (many : Int), Wd b V lw R) = iter (fX7_readsService_L51 (some (b + 258)) u) F (I ((many + 1 : Nat) : Int), Wd b V1 lw R) := by
            refine iter_s ?_
            unfold fX7_readsService_L51
            simp (disch := omega) only [on258, y_isLt h, Option.bind_some, k_0, k_1, bi_if, if_pos d, b1, if_neg (show ¬ I 1 = I 0 by decide), I_add]
            rfl
          rw [st]
          exact ⟨V2, a1.tr c1, by rw [c2, a2], c3⟩
    · rw [if_neg d]
      refine ⟨V, ySf.id, rfl, iter_r ?_, h.1, row⟩
      unfold fX7_readsService_L51
      simp (disch := omega) only [on258, y_isLt h, Option.bind_some, k_0, bi_if, if_neg d]
/-- the trains of a service are laid -/
theorem y_L224 {i a0 : Nat} (h8 : many ≤ 8) (ha : a0 < 48) (hv : V 258 43 = (a0 : Int)) (k : SvK many S) (row : yRow V many S) (he : 0 ≤ (i : Int) * e ∧ (i : Int) * e ≤ 20000) (he2 : 0 ≤ e ∧ e ≤ 720) (hi : i ≤ 24) : ∃ V', iter (fX7_readsService_L224 (some (b + 258)) (I (many : Int)) u1 (I e) (I (i : Int))) FUEL (I 0, Wd b V lw R) = some (Wd b V' lw R) ∧ (∀ o q, ¬ ((o = 287 ∨ o = 288) ∧ 8 * a0 ≤ q ∧ q < 8 * a0 + many) → V' o q = V o q) ∧ ∀ q, q < many → V' 287 (8 * a0 + q) = S 0 q ∧ V' 288 (8 * a0 + q) = S 1 q + (i : Int) * e := by
  obtain ⟨r, k1, V', k2, k3, k4⟩ := iter_for (b := fX7_readsService_L224 (some (b + 258)) (I (many : Int)) u1 (I e) (I (i : Int))) (s := (I 0, Wd b V lw R)) (fun t s => ∃ V', s = (I (t : Int), Wd b V' lw R) ∧ (∀ o q, ¬ ((o = 287 ∨ o = 288) ∧ 8 * a0 ≤ q ∧ q < 8 * a0 + t) → V' o q = V o q) ∧ ∀ q, q < t → V' 287 (8 * a0 + q) = S 0 q ∧ V' 288 (8 * a0 + q) = S 1 q + (i : Int) * e) (fun m => ∃ V', m = Wd b V' lw R ∧ (∀ o q, ¬ ((o = 287 ∨ o = 288) ∧ 8 * a0 ≤ q ∧ q < 8 * a0 + many) → V' o q = V o q) ∧ ∀ q, q < many → V' 287 (8 * a0 + q) = S 0 q ∧ V' 288 (8 * a0 + q) = S 1 q + (i : Int) * e) many (by omega) ⟨V, rfl, fun _ _ _ => rfl, fun q hq => by omega⟩ (fun t s hS ht => by
    obtain ⟨V', rfl, a1, a2⟩ := hS
    have r1 : V' 289 t = S 0 t := by rw [a1 _ _ (by omega)]; exact (row t ht).1
    have r2 : up V' 287 (8 * a0 + t) (S 0 t) 290 t = S 1 t := by rw [up_r (by omega), a1 _ _ (by omega)]; exact (row t ht).2
    have v1 : V' 258 43 = (a0 : Int) := by rw [a1 _ _ (by omega)]; exact hv
    have v2 : up V' 287 (8 * a0 + t) (S 0 t) 258 43 = (a0 : Int) := by rw [up_r (by omega)]; exact v1
    have ea : ((8 : Int) * (a0 : Int) + (t : Int)).toNat = 8 * a0 + t := by omega
    have kt := k.1 t ht
    refine ⟨(I ((t + 1 : Nat) : Int), Wd b (up (up V' 287 (8 * a0 + t) (S 0 t)) 288 (8 * a0 + t) (S 1 t + (i : Int) * e)) lw R), ?_, _, rfl, fun o q w => ?_, fun q hq => ?_⟩
    · unfold fX7_readsService_L224 fX7_at
      simp (disch := omega) only [I_le, if_neg, gR258_41, gI258_43, v1, Option.bind_some, k_8, k_1, I_mul, I_add, gR258_45, rA289, tn, r1, wA287, ea, gR258_42, v2, gR258_46, rA290, r2, wA288]
      rfl
    · have e1 : ¬ (o = 288 ∧ q = 8 * a0 + t) := by omega
      have e2 : ¬ (o = 287 ∧ q = 8 * a0 + t) := by omega
      rw [show up (up V' 287 (8 * a0 + t) (S 0 t)) 288 (8 * a0 + t) (S 1 t + (i : Int) * e) o q = up V' 287 (8 * a0 + t) (S 0 t) o q from if_neg e1, show up V' 287 (8 * a0 + t) (S 0 t) o q = V' o q from if_neg e2]
      exact a1 o q (by omega)
    · by_cases c : q = t
      · rw [c, up_r (by omega), up_s, up_s]
        exact ⟨rfl, rfl⟩
      · rw [up_r (by omega), up_k (by omega), up_k (by omega), up_r (by omega)]
        exact a2 q (by omega)) (fun s hS => by
    obtain ⟨V', rfl, a1, a2⟩ := hS
    refine ⟨_, ?_, V', rfl, a1, a2⟩
    unfold fX7_readsService_L224
    simp (disch := omega) only [I_le, if_pos])
  exact ⟨V', by rw [k1, k2], k3, k4⟩
abbrev yNc (o k : Nat) : Prop := o = 286 ∨ o = 287 ∨ o = 288 ∨ (o = 258 ∧ k = 43)
theorem y_L205 (h8 : 2 ≤ many ∧ many ≤ 8) (hv : V 258 43 = (all : Int)) (k : SvK many S) (row : yRow V many S) (g : yG V all G) (gk : GK all G) (v1 : 1 ≤ v ∧ v ≤ 24) (he : 0 ≤ e ∧ e ≤ 720) (h48 : (all : Int) + v ≤ 48) : ∃ V', iter (fX7_readsService_L205 (some (b + 258)) (I (many : Int)) (I v) (I e)) FUEL (I 0, Wd b V lw R) = some (Wd b V' lw R) ∧ (∀ o q, ¬ yNc o q → V' o q = V o q) ∧ V' 258 43 = (all : Int) + v ∧ yG V' (all + v.toNat) (svcS G all many S v e) := by
  have s1 : ∀ r, all ≤ r → (r : Int) < all + v → svcS G all many S v e 0 r = (many : Int) := fun r h1 h2 => by
    show (if all ≤ r ∧ (r : Int) < all + v then (many : Int) else G 0 r) = _
    rw [if_pos ⟨h1, h2⟩]
  have s2 : ∀ r k, all ≤ r → (r : Int) < all + v → k < many → svcS G all many S v e 1 (8 * r + k) = S 0 k ∧ svcS G all many S v e 2 (8 * r + k) = S 1 k + ((r : Int) - all) * e := fun r k h1 h2 h3 => by
    have d1 : (8 * r + k) / 8 = r := by omega
    have d2 : (8 * r + k) % 8 = k := by omega
    constructor
    · show (if all ≤ (8 * r + k) / 8 ∧ (((8 * r + k) / 8 : Nat) : Int) < all + v ∧ (8 * r + k) % 8 < many then S 0 ((8 * r + k) % 8) else G 1 (8 * r + k)) = _
      rw [d1, d2, if_pos ⟨h1, h2, h3⟩]
    · show (if all ≤ (8 * r + k) / 8 ∧ (((8 * r + k) / 8 : Nat) : Int) < all + v ∧ (8 * r + k) % 8 < many then S 1 ((8 * r + k) % 8) + ((((8 * r + k) / 8 : Nat) : Int) - all) * e else G 2 (8 * r + k)) = _
      rw [d1, d2, if_pos ⟨h1, h2, h3⟩]
  have s3 : ∀ r, r < all → svcS G all many S v e 0 r = G 0 r := fun r hr => by
    show (if all ≤ r ∧ (r : Int) < all + v then (many : Int) else G 0 r) = _
    rw [if_neg (fun w => by have := w.1; omega)]
  have s4 : ∀ r k, r < all → k < 8 → svcS G all many S v e 1 (8 * r + k) = G 1 (8 * r + k) ∧ svcS G all many S v e 2 (8 * r + k) = G 2 (8 * r + k) := fun r k h1 h3 => by
    constructor
    · show (if all ≤ (8 * r + k) / 8 ∧ (((8 * r + k) / 8 : Nat) : Int) < all + v ∧ (8 * r + k) % 8 < many then S 0 ((8 * r + k) % 8) else G 1 (8 * r + k)) = _
      rw [if_neg (fun w => by have := w.1; omega)]
    · show (if all ≤ (8 * r + k) / 8 ∧ (((8 * r + k) / 8 : Nat) : Int) < all + v ∧ (8 * r + k) % 8 < many then S 1 ((8 * r + k) % 8) + ((((8 * r + k) / 8 : Nat) : Int) - all) * e else G 2 (8 * r + k)) = _
      rw [if_neg (fun w => by have := w.1; omega)]
  obtain ⟨r, k1, V', k2, k3, k4, k5⟩ := iter_for (b := fX7_readsService_L205 (some (b + 258)) (I (many : Int)) (I v) (I e)) (s := (I 0, Wd b V lw R)) (fun t s => ∃ V', s = (I (t : Int), Wd b V' lw R) ∧ (∀ o q, ¬ (yNc o q ∧ (o = 286 → all ≤ q) ∧ (o = 287 ∨ o = 288 → 8 * all ≤ q)) → V' o q = V o q) ∧ V' 258 43 = ((all + t : Nat) : Int) ∧ ∀ r, all ≤ r → r < all + t → V' 286 r = (many : Int) ∧ ∀ k, k < many → V' 287 (8 * r + k) = S 0 k ∧ V' 288 (8 * r + k) = S 1 k + ((r : Int) - all) * e) (fun m => ∃ V', m = Wd b V' lw R ∧ (∀ o q, ¬ (yNc o q ∧ (o = 286 → all ≤ q) ∧ (o = 287 ∨ o = 288 → 8 * all ≤ q)) → V' o q = V o q) ∧ V' 258 43 = ((all + v.toNat : Nat) : Int) ∧ ∀ r, all ≤ r → r < all + v.toNat → V' 286 r = (many : Int) ∧ ∀ k, k < many → V' 287 (8 * r + k) = S 0 k ∧ V' 288 (8 * r + k) = S 1 k + ((r : Int) - all) * e) v.toNat (by omega) ⟨V, rfl, fun _ _ _ => rfl, hv, fun r h1 h2 => by omega⟩ (fun t s hS ht => by
    obtain ⟨V', rfl, a1, a2, a3⟩ := hS
    have row1 : yRow (up V' 286 (all + t) (many : Int)) many S := fun q hq => by
      rw [up_r (by omega), up_r (by omega), a1 _ _ (by omega), a1 _ _ (by omega)]
      exact row q hq
    have me : (t : Int) * e ≤ 24 * 720 := Int.mul_le_mul (by omega) he.2 he.1 (by omega)
    have m0 : 0 ≤ (t : Int) * e := Int.mul_nonneg (by omega) he.1
    obtain ⟨V2, b1, b2, b3⟩ := y_L224 (b := b) (V := up V' 286 (all + t) (many : Int)) (lw := lw) (R := R) (u1 := I v) (e := e) (i := t) (a0 := all + t) h8.2 (by omega) (by rw [up_r (by omega)]; exact a2) k row1 ⟨m0, by omega⟩ he (by omega)
    have nt2 : V2 258 43 = ((all + t : Nat) : Int) := by rw [b2 _ _ (by omega), up_r (by omega)]; exact a2
    refine ⟨(I ((t + 1 : Nat) : Int), Wd b (up V2 258 43 (((all + t : Nat) : Int) + 1)) lw R), ?_, _, rfl, fun o q w => ?_, by rw [up_s]; rfl, fun r h1 h2 => ?_⟩
    · unfold fX7_readsService_L205
      simp (disch := omega) only [k_0, k_1, I_le, if_neg, gR258_40, gI258_43, a2, Option.bind_some, wA286, tn, b1, nt2, I_add, pI258_43]
      rfl
    · have e1 : ¬ (o = 258 ∧ q = 43) := fun z => w ⟨by omega, by omega, by omega⟩
      rw [show up V2 258 43 (((all + t : Nat) : Int) + 1) o q = V2 o q from if_neg e1, b2 o q (fun z => w ⟨by omega, by omega, by omega⟩)]
      have e2 : ¬ (o = 286 ∧ q = all + t) := fun z => w ⟨by omega, by omega, by omega⟩
      rw [show up V' 286 (all + t) (many : Int) o q = V' o q from if_neg e2]
      exact a1 o q w
    · by_cases c : r = all + t
      · subst c
        rw [up_r (by omega), b2 _ _ (by omega), up_s]
        refine ⟨rfl, fun k hk => ?_⟩
        rw [up_r (by omega), up_r (by omega), (b3 k hk).1, (b3 k hk).2]
        refine ⟨rfl, ?_⟩
        rw [show (((all + t : Nat) : Int) - (all : Int)) = (t : Int) by omega]
      · have q := a3 r h1 (by omega)
        rw [up_r (by omega), b2 _ _ (by omega), up_k c]
        refine ⟨q.1, fun k hk => ?_⟩
        rw [up_r (by omega), up_r (by omega), b2 _ _ (by omega), b2 _ _ (by omega), up_r (by omega), up_r (by omega)]
        exact q.2 k hk) (fun s hS => by
    obtain ⟨V', rfl, a1, a2, a3⟩ := hS
    refine ⟨_, ?_, V', rfl, a1, a2, a3⟩
    have ev : v = ((v.toNat : Nat) : Int) := by omega
    unfold fX7_readsService_L205
    simp (disch := omega) only [I_le, if_pos])
  refine ⟨V', by rw [k1, k2], fun o q w => k3 o q (fun z => w z.1), by rw [k4]; omega, fun r hr => ?_⟩
  by_cases c : all ≤ r
  · rw [(k5 r c hr).1, s1 r c (by omega)]
    refine ⟨rfl, fun k hk => ?_⟩
    rw [((k5 r c hr).2 k (by omega)).1, ((k5 r c hr).2 k (by omega)).2, (s2 r k c (by omega) (by omega)).1, (s2 r k c (by omega) (by omega)).2]
    exact ⟨rfl, rfl⟩
  · have gr := g r (by omega)
    rw [s3 r (by omega), k3 _ _ (by omega)]
    refine ⟨gr.1, fun k hk => ?_⟩
    have k8 : k < 8 := by
      obtain ⟨m, g1, g2, g3, _⟩ := gk r (by omega)
      omega
    rw [(s4 r k (by omega) k8).1, (s4 r k (by omega) k8).2, k3 _ _ (by omega), k3 _ _ (by omega)]
    exact gr.2 k hk
end TZ
