/-! LAW: the class reads sums, II. No JVM here. -/
set_option maxRecDepth 100000
set_option linter.unusedVariables false
set_option linter.unusedSimpArgs false
def RowStep (sub : Hp → Nat → OA) (a0 : Option Nat) (last : Option Nat) (m9 : Hp) (nx9 : Nat) : Option (((Option Nat × Hp) ⊕ Hp) × Nat × Nat) :=
  (hp_on m9 a0 7 (fX8_here m9 a0)).bind fun v15 =>
  (hp_gI m9 a0 7 2).bind fun v16 =>
  (hp_pI m9 a0 7 2 (v16 + (1 : Int32))).bind fun m17 =>
  (some (hp_set m17 nx9 (.inr (8, dfX10)))).bind fun m18 =>
  andA 1 3 (
  (hp_on m18 a0 7 (sub m18 (nx9 + 1))).bind fun ((v20, m21), d22, c23) =>
  andA d22 c23 (
  (fX10_init m21 nx9 v15 v20).bind fun m25 =>
  (hp_pR m25 last 8 2 (some nx9)).bind fun m26 =>
  (hp_gR m26 last 8 2).bind fun v27 =>
  some ((.inl (v27, m26)), 0, 0)))
def RowHead (sub : Hp → Nat → OA) (body : (Option Nat × Hp) → Nat → Option (((Option Nat × Hp) ⊕ Hp) × Nat × Nat)) (m : Hp) (nx : Nat) (a0 : Option Nat) : OA :=
  (some (hp_set m nx (.inr (8, dfX10)))).bind fun m1 =>
  andA 1 3 (
  (hp_on m1 a0 7 (sub m1 (nx + 1))).bind fun ((v3, m4), d5, c6) =>
  andA d5 c6 (
  (fX10_init m4 nx (0 : Int32) v3).bind fun m8 =>
  (iterA body FUEL ((some nx), m8) (nx + 1 + d5)).bind fun (r9, e9, f9) =>
  andA e9 f9 (
  match r9 with
  | m33 =>
    some (((some nx), m33), 0, 0))))
section SQ
variable {b : Nat} {V : Vw} {lw : Option Nat} {R R1 R' : Hp} {a n tx p nx o l last : Nat} {T : Nat → Int} {rec : Hp → Nat → Option Nat → OA} {sub : Hp → Nat → OA} {v : Option Nat} {p' d c : Nat} {o' f q : Int}
theorem row_init (ha : a < nx) (hb : b + 305 ≤ a) {s : Int32} (hR : R nx = some (.inr (8, dfX10))) : fX10_init (RW b V lw a n tx R p o' f q) nx s v = some (RW b V lw a n tx (hp_set R nx (rowC s v none)) p o' f q) := by
  unfold fX10_init hp_pI hp_pR RW
  rw [o_pV (by omega) (by rw [s_n (by omega), hR]) (by decide), Option.bind_some, o_pV (by omega) (s_s nx _) (by rw [List.length_set]; decide), s_ss, s_cm (by omega)]
  rfl
theorem rowStep_eq (h : b + 305 ≤ a) (ha : a < last) (hl : last < nx) (t : TxOK V n T) (hp : p ≤ n) {s0 : Int32} {v0 : Option Nat} (hR : R last = some (rowC s0 v0 none)) (hs : sub (RW b V lw a n tx (hp_set R nx (.inr (8, dfX10))) (p + 1) (o : Int) 0 0) (nx + 1) = some ((v, RW b V lw a n tx R' p' o' f q), d, c)) (hag : ∀ y, y < nx + 1 → R' y = hp_set R nx (.inr (8, dfX10)) y) : RowStep sub (some a) (some last) (RW b V lw a n tx R p (o : Int) 0 0) nx = some (.inl (some nx, RW b V lw a n tx (hp_set (hp_set R' nx (rowC (I (cz (T p))) v none)) last (rowC s0 v0 (some nx))) p' o' f q), 1 + d, 3 + c) := by
  have nn := t.nn
  have e1 : R' nx = some (.inr (8, dfX10)) := (hag nx (by omega)).trans (s_s nx _)
  have e2 : R' last = some (rowC s0 v0 none) := (hag last (by omega)).trans ((s_n (by omega) _).trans hR)
  have e3 : hp_pR (RW b V lw a n tx (hp_set R' nx (rowC (I (cz (T p))) v none)) p' o' f q) (some last) 8 2 (some nx) = some (RW b V lw a n tx (hp_set (hp_set R' nx (rowC (I (cz (T p))) v none)) last (rowC s0 v0 (some nx))) p' o' f q) := by
    unfold hp_pR RW
    rw [o_pV (fs := [.inl s0, .inr v0, .inr none]) (by omega) (by rw [s_n (by omega), s_n (by omega), e2]; rfl) (by simp), s_cm (by omega)]
    rfl
  have e4 : hp_gR (RW b V lw a n tx (hp_set (hp_set R' nx (rowC (I (cz (T p))) v none)) last (rowC s0 v0 (some nx))) p' o' f q) (some last) 8 2 = some (some nx) := o_gR (c := 8) (fs := [.inl s0, .inr v0, .inr (some nx)]) (by omega) (by rw [s_n (by omega), s_s]; rfl) rfl
  unfold RowStep
  rw [rr_on h, rr_here h t (by omega), Option.bind_some, rr_p h, Option.bind_some, k_1, rr_wp h, Option.bind_some, Option.bind_some, rr_set h (by omega), rr_on h, hs, Option.bind_some]
  dsimp only
  rw [row_init (by omega) h e1, Option.bind_some, e3, Option.bind_some, e4]
  rfl
def LRes (l : Nat) (T : Nat → Int) (b : Nat) (V : Vw) (lw : Option Nat) (a n tx : Nat) (R1 : Hp) (lo r nx1 p0 p1 o : Nat) (x : Option (Hp × Nat × Nat)) : Prop := ∃ (R2 : Hp) (p2 d c : Nat), (∀ y, y < lo → R2 y = R1 y) ∧ p1 ≤ p2 ∧ p2 ≤ n + 1 ∧ d ≤ 8 * (p2 - p1) ∧ c ≤ 3 * d ∧ ((p2 ≤ n ∧ x = some (RW b V lw a n tx R2 p2 (o : Int) 0 0, d, c) ∧ stp0 (l + 1) (T p2) ∧ ∃ (C : List Cd) (f : Fm) (last cnt : Nat), RO T n (l + 1) p0 o p2 C ∧ MS C f ∧ RowsS b R2 lo (nx1 + d) r last f cnt (3 * (6 - o) + 1 + l) ∧ cnt ≤ p2) ∨ ∃ (o' : Int) (w q : Nat), x = some (RW b V lw a n tx R2 p2 o' (w : Int) (q : Int), d, c) ∧ 1 ≤ w ∧ w ≤ 5 ∧ q ≤ 1000 ∧ RE T n (l + 1) p0 o w q ∧ ∃ s' v' n', R2 r = some (rowC s' v' n'))
theorem iterA_sn {σ ρ : Type} {b : σ → Nat → Option ((σ ⊕ ρ) × Nat × Nat)} {n nx d c : Nat} {s s' : σ} (h : b s nx = some (.inl s', d, c)) : iterA b (n + 1) s nx = (iterA b n s' (nx + d)).map fun q => (q.1, d + q.2.1, c + q.2.2) := by
  rw [iterA, h]
theorem rowLoop {body : (Option Nat × Hp) → Nat → Option (((Option Nat × Hp) ⊕ Hp) × Nat × Nat)} {isop : Int → Prop} {lo r p0 : Nat} (h : b + 305 ≤ a) (t : TxOK V n T) (ha : a < lo) (ho : o ≤ 6) (hl1 : l ≤ 1)
    (hop : ∀ x, isop x → ∃ s : Nat, sgOf x = (s : Int) ∧ 2 ≤ s ∧ s ≤ 6 ∧ I x = sgI s ∧ 1 ≤ x)
    (hF : ∀ (last : Option Nat) (R : Hp) (p : Nat) (o' : Int) (w q : Nat) (nx : Nat), 1 ≤ w → w ≤ 5 → body (last, RW b V lw a n tx R p o' (w : Int) (q : Int)) nx = some (.inr (RW b V lw a n tx R p o' (w : Int) (q : Int)), 0, 0))
    (hN : ∀ (last : Option Nat) (R : Hp) (p : Nat) (nx : Nat), p ≤ n → ¬ isop (T p) → body (last, RW b V lw a n tx R p (o : Int) 0 0) nx = some (.inr (RW b V lw a n tx R p (o : Int) 0 0), 0, 0))
    (hY : ∀ (last : Option Nat) (R : Hp) (p : Nat) (nx : Nat), p ≤ n → isop (T p) → body (last, RW b V lw a n tx R p (o : Int) 0 0) nx = RowStep sub (some a) last (RW b V lw a n tx R p (o : Int) 0 0) nx)
    (hsub : ∀ (R : Hp) (nx p : Nat), a < nx → p ≤ n → SRes l T b V lw a n tx R nx p o (sub (RW b V lw a n tx R p (o : Int) 0 0) nx))
    (hRO : ∀ (p' p2 s : Nat) (C D : List Cd), RO T n (l + 1) p0 o p' C → isop (T p') → sgOf (T p') = (s : Int) → RO T n l (p' + 1) o p2 D → RO T n (l + 1) p0 o p2 (C ++ (D ++ [(s, 0)])))
    (hRE : ∀ (p' s w q : Nat) (C : List Cd), RO T n (l + 1) p0 o p' C → isop (T p') → sgOf (T p') = (s : Int) → RE T n l (p' + 1) o w q → RE T n (l + 1) p0 o w q)
    (hst : ∀ x, ¬ isop x → stp0 l x → stp0 (l + 1) x) :
    ∀ (fu p1 : Nat) (R1 : Hp) (nx1 last cnt : Nat) (C : List Cd) (f : Fm), n - p1 + 2 ≤ fu → p1 ≤ n → stp0 l (T p1) → RO T n (l + 1) p0 o p1 C → MS C f → RowsS b R1 lo nx1 r last f cnt (3 * (6 - o) + 1 + l) → cnt ≤ p1 → LRes l T b V lw a n tx R1 lo r nx1 p0 p1 o (iterA body fu (some last, RW b V lw a n tx R1 p1 (o : Int) 0 0) nx1)
  | 0, p1, R1, nx1, last, cnt, C, f, e1, e2, e3, e4, e5, e6, e7 => by omega
  | fu + 1, p1, R1, nx1, last, cnt, C, f, e1, e2, e3, e4, e5, e6, e7 => by
    by_cases c : isop (T p1)
    · obtain ⟨s, s1, s2, s3, s4, s5⟩ := hop _ c
      have lt := t.l p1 (by omega)
      obtain ⟨b1, b2, b3, b4, b5, s0, v0, hw, hrw⟩ := id e6
      obtain ⟨⟨sr, vr, nr, hrr⟩, _⟩ := hrw R1 none (fun _ _ _ _ => rfl) hw
      have SR := hsub (hp_set R1 nx1 (.inr (8, dfX10))) (nx1 + 1) (p1 + 1) (by omega) (by omega)
      obtain ⟨v, R', p', d, c', r1, r2, r3, r4, r5, r6⟩ := SR
      have czT : I (cz (T p1)) = sgI s := by
        rw [← s4]
        unfold cz
        rw [if_neg (by omega)]
      rcases r6 with ⟨q1, q2, q3, D, g, q4, q5, q6⟩ | ⟨o', w, q, q1, q2, q3, q4, q5, _⟩
      · have ST := rowStep_eq (p := p1) h (by omega) b4 t e2 hw q2 r1
        rw [← hY (some last) R1 p1 nx1 e2 c, czT] at ST
        have RS := RowsS_s (R2 := hp_set (hp_set R' nx1 (rowC (sgI s) v none)) last (rowC s0 v0 (some nx1))) e6 ⟨s2, s3⟩ hw (fun y y1 y2 y3 => by rw [s_n y3, s_n (by omega), r1 y (by omega), s_n (by omega)]) (s_s _ _) (by rw [s_n (by omega), s_s]) (q6.mono (hi' := nx1 + 1 + d) (Nat.le_refl _) (Nat.le_refl _) (Nat.le_refl _) fun y y1 y2 => by rw [s_n (by omega), s_n (by omega)])
        have RSm := MS_bin e5 q5 ⟨s2, s3⟩
        obtain ⟨R2, p2, d2, c2, z1, z2, z3, z4, z5, z6⟩ := rowLoop h t ha ho hl1 hop hF hN hY hsub hRO hRE hst fu p' _ (nx1 + (1 + d)) nx1 (cnt + 1) (C ++ (D ++ [(s, 0)])) (fBin s f g) (by omega) q1 q3 (hRO _ _ s _ _ e4 c s1 q4) RSm (by rw [show nx1 + (1 + d) = nx1 + 1 + d by omega]; exact RS) (by omega)
        refine ⟨R2, p2, 1 + d + d2, 3 + c' + c2, fun y hy => by rw [z1 y hy, s_n (by omega), s_n (by omega), r1 y (by omega), s_n (by omega)], by omega, by omega, by omega, by omega, ?_⟩
        rw [iterA_sn ST]
        rcases z6 with ⟨y1, y2, y3, C2, f2, last2, cnt2, y4, y5, y6, y7⟩ | ⟨o2, w, q, y1, y2, y3, y4, y5, y6⟩
        · refine Or.inl ⟨y1, by rw [y2]; rfl, y3, C2, f2, last2, cnt2, y4, y5, ?_, y7⟩
          rw [show nx1 + (1 + d + d2) = nx1 + (1 + d) + d2 by omega]
          exact y6
        · exact Or.inr ⟨o2, w, q, by rw [y1]; rfl, y2, y3, y4, y5, y6⟩
      · have ST := rowStep_eq (p := p1) h (by omega) b4 t e2 hw q1 r1
        rw [← hY (some last) R1 p1 nx1 e2 c] at ST
        obtain ⟨fu, rfl⟩ : ∃ f', fu = f' + 1 := ⟨fu - 1, by omega⟩
        refine ⟨hp_set (hp_set R' nx1 (rowC (I (cz (T p1))) v none)) last (rowC s0 v0 (some nx1)), p', 1 + d, 3 + c', fun y hy => ?_, by omega, by omega, by omega, by omega, Or.inr ⟨o', w, q, ?_, q2, q3, q4, hRE _ s _ _ _ e4 c s1 q5, ?_⟩⟩
        · rw [s_n (by omega), s_n (by omega), r1 y (by omega), s_n (by omega)]
        · rw [iterA_sn ST, iterA_r0 (hF _ _ _ _ _ _ _ q2 q3)]
          rfl
        · by_cases er : r = last
          · exact ⟨s0, v0, some nx1, by rw [er, s_s]⟩
          · exact ⟨sr, vr, nr, by rw [s_n er, s_n (by omega), r1 r (by omega), s_n (by omega)]; exact hrr⟩
    · refine ⟨R1, p1, 0, 0, fun _ _ => rfl, by omega, by omega, by omega, by omega, Or.inl ⟨e2, iterA_r0 (hN _ _ _ _ e2 c), hst _ c e3, C, f, last, cnt, e4, e5, e6, e7⟩⟩
theorem rowHead {body : (Option Nat × Hp) → Nat → Option (((Option Nat × Hp) ⊕ Hp) × Nat × Nat)} (h : b + 305 ≤ a) (t : TxOK V n T) (ha : a < nx) (hp : p ≤ n)
    (hF : ∀ (last : Option Nat) (R : Hp) (p : Nat) (o' : Int) (w q : Nat) (nx : Nat), 1 ≤ w → w ≤ 5 → body (last, RW b V lw a n tx R p o' (w : Int) (q : Int)) nx = some (.inr (RW b V lw a n tx R p o' (w : Int) (q : Int)), 0, 0))
    (hsub : SRes l T b V lw a n tx (hp_set R nx (.inr (8, dfX10))) (nx + 1) p o (sub (RW b V lw a n tx (hp_set R nx (.inr (8, dfX10))) p (o : Int) 0 0) (nx + 1)))
    (hup : ∀ (p' : Nat) (C : List Cd), RO T n l p o p' C → RO T n (l + 1) p o p' C)
    (hL : ∀ (p1 : Nat) (R1 : Hp) (nx1 : Nat) (C : List Cd) (f : Fm), p1 ≤ n → stp0 l (T p1) → RO T n (l + 1) p o p1 C → MS C f → RowsS b R1 nx nx1 nx nx f 0 (3 * (6 - o) + 1 + l) → LRes l T b V lw a n tx R1 nx nx nx1 p p1 o (iterA body FUEL (some nx, RW b V lw a n tx R1 p1 (o : Int) 0 0) nx1)) :
    SRes (l + 1) T b V lw a n tx R nx p o (RowHead sub body (RW b V lw a n tx R p (o : Int) 0 0) nx (some a)) := by
  have nn := t.nn
  obtain ⟨v, R', p', d, c', r1, r2, r3, r4, r5, r6⟩ := hsub
  have e1 : R' nx = some (.inr (8, dfX10)) := (r1 nx (by omega)).trans (s_s nx _)
  rcases r6 with ⟨q1, q2, q3, D, g, q4, q5, q6⟩ | ⟨o', w, q, q1, q2, q3, q4, q5, _⟩
  · obtain ⟨R2, p2, d2, c2, z1, z2, z3, z4, z5, z6⟩ := hL p' (hp_set R' nx (rowC 0 v none)) (nx + 1 + d) D g q1 q3 (hup _ _ q4) q5 (RowsS_1 (by omega) (s_s nx _) (q6.mono (Nat.le_refl _) (Nat.le_refl _) (Nat.le_refl _) fun y y1 y2 => by rw [s_n (by omega)]))
    have st : RowHead sub body (RW b V lw a n tx R p (o : Int) 0 0) nx (some a) = (iterA body FUEL (some nx, RW b V lw a n tx (hp_set R' nx (rowC 0 v none)) p' (o : Int) 0 0) (nx + 1 + d)).map fun q => ((some nx, q.1), 1 + (d + q.2.1), 3 + (c' + q.2.2)) := by
      unfold RowHead
      rw [Option.bind_some, rr_set h ha, rr_on h, q2, Option.bind_some]
      dsimp only
      rw [row_init (by omega) h e1, Option.bind_some]
      cases iterA body FUEL (some nx, RW b V lw a n tx (hp_set R' nx (rowC 0 v none)) p' (o : Int) 0 0) (nx + 1 + d) with
      | none => rfl
      | some q =>
        obtain ⟨q1, q2, q3⟩ := q
        rfl
    rw [st]
    have fr : ∀ y, y < nx → R2 y = R y := fun y hy => by rw [z1 y hy, s_n (by omega), r1 y (by omega), s_n (by omega)]
    rcases z6 with ⟨y1, y2, y3, C2, f2, last2, cnt2, y4, y5, y6, y7⟩ | ⟨o2, w, q, y1, y2, y3, y4, y5, y6⟩
    · refine ⟨some nx, R2, p2, 1 + (d + d2), 3 + (c' + c2), fr, by omega, by omega, by omega, by omega, Or.inl ⟨y1, by rw [y2]; rfl, y3, C2, f2, y4, y5, ?_⟩⟩
      have := RowsS_e y6 (by omega)
      rw [show nx + (1 + (d + d2)) = nx + 1 + d + d2 by omega]
      exact this
    · exact ⟨some nx, R2, p2, 1 + (d + d2), 3 + (c' + c2), fr, by omega, by omega, by omega, by omega, Or.inr ⟨o2, w, q, by rw [y1]; rfl, y2, y3, y4, y5, fun _ => by obtain ⟨s', v', n', y6⟩ := y6; exact ⟨s', v', n', rfl, y6⟩⟩⟩
  · have st : RowHead sub body (RW b V lw a n tx R p (o : Int) 0 0) nx (some a) = some ((some nx, RW b V lw a n tx (hp_set R' nx (rowC 0 v none)) p' o' (w : Int) (q : Int)), 1 + (d + 0), 3 + (c' + 0)) := by
      have it : iterA body FUEL (some nx, RW b V lw a n tx (hp_set R' nx (rowC 0 v none)) p' o' (w : Int) (q : Int)) (nx + 1 + d) = some (RW b V lw a n tx (hp_set R' nx (rowC 0 v none)) p' o' (w : Int) (q : Int), 0, 0) := by
        show iterA body (1999 + 1) _ _ = _
        exact iterA_r0 (hF _ _ _ _ _ _ _ q2 q3)
      unfold RowHead
      rw [Option.bind_some, rr_set h ha, rr_on h, q1, Option.bind_some]
      dsimp only
      rw [row_init (by omega) h e1, Option.bind_some, it]
      rfl
    rw [st]
    have re : RE T n (l + 1) p o w q := RE_up q5
    exact ⟨some nx, _, p', 1 + (d + 0), 3 + (c' + 0), fun y hy => by rw [s_n (by omega), r1 y (by omega), s_n (by omega)], by omega, by omega, by omega, by omega, Or.inr ⟨o', w, q, rfl, q2, q3, q4, re, fun _ => ⟨_, _, _, rfl, s_s nx _⟩⟩⟩
end SQ
section SR2
variable {b : Nat} {V : Vw} {lw : Option Nat} {R R1 R' : Hp} {a n tx p nx o l last : Nat} {T : Nat → Int} {rec : Hp → Nat → Option Nat → OA} {sub : Hp → Nat → OA} {v : Option Nat} {p' d c : Nat} {o' f q : Int}
abbrev opM (x : Int) : Prop := x = 42 ∨ x = 47 ∨ x = 37
abbrev opA (x : Int) : Prop := x = 43 ∨ x = 45
theorem x_product (h : b + 305 ≤ a) (t : TxOK V n T) (ha : a < nx) (hp : p ≤ n) (ho : o ≤ 6) (hrec : ∀ (R : Hp) (nx p : Nat), a < nx → p ≤ n → o < 6 → SRes 2 T b V lw a n tx R nx p (o + 1) (rec (RW b V lw a n tx R p ((o + 1 : Nat) : Int) 0 0) nx (some a))) : SRes 1 T b V lw a n tx R nx p o (fX8_product rec (RW b V lw a n tx R p (o : Int) 0 0) nx (some a)) := by
  have nn := t.nn
  have hsub : ∀ (R : Hp) (nx p : Nat), a < nx → p ≤ n → SRes 0 T b V lw a n tx R nx p o (fX8_factor rec (RW b V lw a n tx R p (o : Int) 0 0) nx (some a)) := fun R nx p h1 h2 => x_factor h t h1 h2 ho hrec
  have e : fX8_product rec (RW b V lw a n tx R p (o : Int) 0 0) nx (some a) = RowHead (fun m nx => fX8_factor rec m nx (some a)) (fX8_product_L15 rec (some a) (some nx)) (RW b V lw a n tx R p (o : Int) 0 0) nx (some a) := rfl
  rw [e]
  have hF : ∀ (last : Option Nat) (R : Hp) (p : Nat) (o' : Int) (w q : Nat) (nx' : Nat), 1 ≤ w → w ≤ 5 → fX8_product_L15 rec (some a) (some nx) (last, RW b V lw a n tx R p o' (w : Int) (q : Int)) nx' = some (.inr (RW b V lw a n tx R p o' (w : Int) (q : Int)), 0, 0) := fun last R p o' w q nx' h1 h2 => by
    unfold fX8_product_L15
    dsimp only
    rw [rr_on h, rr_g0 h (by omega), Option.bind_some, k_0, if_pos rfl]
  refine rowHead h t ha hp hF (hsub _ _ _ (by omega) hp) (fun p' C => RO_01) fun p1 R1 nx1 C f h1 h2 h3 h4 h5 => ?_
  refine rowLoop (isop := opM) (sub := fun m nx => fX8_factor rec m nx (some a)) h t ha ho (by omega) ?_ hF ?_ ?_ hsub ?_ ?_ ?_ FUEL p1 R1 nx1 nx 0 C f (by unfold FUEL; omega) h1 h2 h3 h4 h5 (by omega)
  · rintro x (rfl | rfl | rfl)
    · exact ⟨4, rfl, by omega, by omega, rfl, by omega⟩
    · exact ⟨5, rfl, by omega, by omega, rfl, by omega⟩
    · exact ⟨6, rfl, by omega, by omega, rfl, by omega⟩
  · intro last R p nx' hp' hc
    have f1 : (I (cz (T p)) = I 42) = False := by rw [cz_I t p (by omega)]; exact eq_false fun q => hc (Or.inl q)
    have f2 : (I (cz (T p)) = I 47) = False := by rw [cz_I t p (by omega)]; exact eq_false fun q => hc (Or.inr (Or.inl q))
    have f3 : (I (cz (T p)) = I 37) = False := by rw [cz_I t p (by omega)]; exact eq_false fun q => hc (Or.inr (Or.inr q))
    unfold fX8_product_L15
    simp only [rr_on h, rr_g1 h, Option.bind_some, k_0, if_neg (show ¬ I 1 = I 0 by decide), rr_here h t (show p ≤ 2000 by omega), k_42, k_47, k_37, f1, f2, f3, ↓reduceIte, andA_0]
  · intro last R p nx' hp' hc
    unfold fX8_product_L15 RowStep
    by_cases c1 : T p = 42
    · have f1 : (I (cz (T p)) = I 42) = True := by rw [cz_I t p (by omega)]; exact eq_true c1
      simp only [rr_on h, rr_g1 h, Option.bind_some, k_0, if_neg (show ¬ I 1 = I 0 by decide), rr_here h t (show p ≤ 2000 by omega), k_42, k_47, k_37, f1, ↓reduceIte, andA_0, Nat.add_zero]
    · have f1 : (I (cz (T p)) = I 42) = False := by rw [cz_I t p (by omega)]; exact eq_false c1
      by_cases c2 : T p = 47
      · have f2 : (I (cz (T p)) = I 47) = True := by rw [cz_I t p (by omega)]; exact eq_true c2
        simp only [rr_on h, rr_g1 h, Option.bind_some, k_0, if_neg (show ¬ I 1 = I 0 by decide), rr_here h t (show p ≤ 2000 by omega), k_42, k_47, k_37, f1, f2, ↓reduceIte, andA_0, Nat.add_zero]
      · have f2 : (I (cz (T p)) = I 47) = False := by rw [cz_I t p (by omega)]; exact eq_false c2
        have f3 : (I (cz (T p)) = I 37) = True := by
          rw [cz_I t p (by omega)]
          exact eq_true (by rcases hc with q | q | q; exact absurd q c1; exact absurd q c2; exact q)
        simp only [rr_on h, rr_g1 h, Option.bind_some, k_0, if_neg (show ¬ I 1 = I 0 by decide), rr_here h t (show p ≤ 2000 by omega), k_42, k_47, k_37, f1, f2, f3, ↓reduceIte, andA_0, Nat.add_zero]
  · intro p' p2 s C D k1 k2 k3 k4
    exact RO_mul k1 k3 (by rcases k2 with q | q | q <;> rw [q] at k3 <;> simp [sgOf] at k3 <;> omega) k4
  · intro p' s w q C k1 k2 k3 k4
    exact RE_mul k1 k3 (by rcases k2 with q | q | q <;> rw [q] at k3 <;> simp [sgOf] at k3 <;> omega) k4
  · intro x hx _
    refine ⟨fun _ q => ?_, fun q => absurd q (by omega)⟩
    unfold sgOf at q
    unfold opM at hx
    omega
theorem x_sumB (h : b + 305 ≤ a) (t : TxOK V n T) (ha : a < nx) (hp : p ≤ n) (ho : o ≤ 6) (hrec : ∀ (R : Hp) (nx p : Nat), a < nx → p ≤ n → o < 6 → SRes 2 T b V lw a n tx R nx p (o + 1) (rec (RW b V lw a n tx R p ((o + 1 : Nat) : Int) 0 0) nx (some a))) : SRes 2 T b V lw a n tx R nx p o (fX8_sumB rec (RW b V lw a n tx R p (o : Int) 0 0) nx (some a)) := by
  have nn := t.nn
  have hsub : ∀ (R : Hp) (nx p : Nat), a < nx → p ≤ n → SRes 1 T b V lw a n tx R nx p o (fX8_product rec (RW b V lw a n tx R p (o : Int) 0 0) nx (some a)) := fun R nx p h1 h2 => x_product h t h1 h2 ho hrec
  have e : fX8_sumB rec (RW b V lw a n tx R p (o : Int) 0 0) nx (some a) = RowHead (fun m nx => fX8_product rec m nx (some a)) (fX8_sumB_L15 rec (some a) (some nx)) (RW b V lw a n tx R p (o : Int) 0 0) nx (some a) := rfl
  rw [e]
  have hF : ∀ (last : Option Nat) (R : Hp) (p : Nat) (o' : Int) (w q : Nat) (nx' : Nat), 1 ≤ w → w ≤ 5 → fX8_sumB_L15 rec (some a) (some nx) (last, RW b V lw a n tx R p o' (w : Int) (q : Int)) nx' = some (.inr (RW b V lw a n tx R p o' (w : Int) (q : Int)), 0, 0) := fun last R p o' w q nx' h1 h2 => by
    unfold fX8_sumB_L15
    dsimp only
    rw [rr_on h, rr_g0 h (by omega), Option.bind_some, k_0, if_pos rfl]
  refine rowHead h t ha hp hF (hsub _ _ _ (by omega) hp) (fun p' C => RO_12) fun p1 R1 nx1 C f h1 h2 h3 h4 h5 => ?_
  refine rowLoop (isop := opA) (sub := fun m nx => fX8_product rec m nx (some a)) h t ha ho (by omega) ?_ hF ?_ ?_ hsub ?_ ?_ ?_ FUEL p1 R1 nx1 nx 0 C f (by unfold FUEL; omega) h1 h2 h3 h4 h5 (by omega)
  · rintro x (rfl | rfl)
    · exact ⟨2, rfl, by omega, by omega, rfl, by omega⟩
    · exact ⟨3, rfl, by omega, by omega, rfl, by omega⟩
  · intro last R p nx' hp' hc
    have f1 : (I (cz (T p)) = I 43) = False := by rw [cz_I t p (by omega)]; exact eq_false fun q => hc (Or.inl q)
    have f2 : (I (cz (T p)) = I 45) = False := by rw [cz_I t p (by omega)]; exact eq_false fun q => hc (Or.inr q)
    unfold fX8_sumB_L15
    simp only [rr_on h, rr_g1 h, Option.bind_some, k_0, if_neg (show ¬ I 1 = I 0 by decide), rr_here h t (show p ≤ 2000 by omega), k_43, k_45, f1, f2, ↓reduceIte, andA_0]
  · intro last R p nx' hp' hc
    unfold fX8_sumB_L15 RowStep
    by_cases c1 : T p = 43
    · have f1 : (I (cz (T p)) = I 43) = True := by rw [cz_I t p (by omega)]; exact eq_true c1
      simp only [rr_on h, rr_g1 h, Option.bind_some, k_0, if_neg (show ¬ I 1 = I 0 by decide), rr_here h t (show p ≤ 2000 by omega), k_43, k_45, f1, ↓reduceIte, andA_0, Nat.add_zero]
    · have f1 : (I (cz (T p)) = I 43) = False := by rw [cz_I t p (by omega)]; exact eq_false c1
      have f2 : (I (cz (T p)) = I 45) = True := by
        rw [cz_I t p (by omega)]
        exact eq_true (by rcases hc with q | q; exact absurd q c1; exact q)
      simp only [rr_on h, rr_g1 h, Option.bind_some, k_0, if_neg (show ¬ I 1 = I 0 by decide), rr_here h t (show p ≤ 2000 by omega), k_43, k_45, f1, f2, ↓reduceIte, andA_0, Nat.add_zero]
  · intro p' p2 s C D k1 k2 k3 k4
    exact RO_add k1 k3 (by rcases k2 with q | q <;> rw [q] at k3 <;> simp [sgOf] at k3 <;> omega) k4
  · intro p' s w q C k1 k2 k3 k4
    exact RE_add k1 k3 (by rcases k2 with q | q <;> rw [q] at k3 <;> simp [sgOf] at k3 <;> omega) k4
  · intro x hx hs
    refine ⟨fun q => absurd q (by omega), fun _ => ?_⟩
    have := hs.1 rfl
    have b := sgOf_b x
    unfold opA at hx
    unfold sgOf at this b ⊢
    omega
theorem x_sum (h : b + 305 ≤ a) (t : TxOK V n T) : ∀ (k o : Nat), o ≤ 6 → 7 ≤ o + k → ∀ (R : Hp) (nx p : Nat), a < nx → p ≤ n → SRes 2 T b V lw a n tx R nx p o (fX8_sum k (RW b V lw a n tx R p (o : Int) 0 0) nx (some a))
  | 0, o, h1, h2, R, nx, p, ha, hp => by omega
  | k + 1, o, h1, h2, R, nx, p, ha, hp => by
    show SRes 2 T b V lw a n tx R nx p o (fX8_sumB (fX8_sum k) (RW b V lw a n tx R p (o : Int) 0 0) nx (some a))
    exact x_sumB h t ha hp h1 fun R nx p g1 g2 g3 => x_sum h t k (o + 1) (by omega) (by omega) R nx p g1 g2
end SR2
