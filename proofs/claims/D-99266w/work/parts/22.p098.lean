/-! LAW: the class reads conditions. No JVM here. -/
set_option maxRecDepth 100000
set_option linter.unusedVariables false
set_option linter.unusedSimpArgs false
def RG (T : Nat → Int) (n l p o p' : Nat) (C : Nat → List Cd) : Prop := match l with
  | 0 => RP T n p o p' C
  | l + 1 => RC T n (l + 1) p o p' C
def stpC (l : Nat) (t : Int) : Prop := (1 ≤ l → t ≠ 38) ∧ (2 ≤ l → t ≠ 124)
/-- what reading a piece (0), pieces (1), a condition's inside (2) comes to -/
def CRes (l : Nat) (T : Nat → Int) (b : Nat) (V : Vw) (lw : Option Nat) (a n tx : Nat) (R : Hp) (nx p o : Nat) (x : OA) : Prop := ∃ (v : Option Nat) (R' : Hp) (p' d c : Nat), (∀ y, y < nx → R' y = R y) ∧ p < p' ∧ p' ≤ n + 2 ∧ d + 4 ≤ 8 * (p' - p) + l ∧ c ≤ 3 * d ∧ ((p' ≤ n ∧ x = some ((v, RW b V lw a n tx R' p' (o : Int) 0 0), d, c) ∧ stpC l (T p') ∧ ∃ (C : Nat → List Cd) (m : Nat) (g : Gm), RG T n l p o p' C ∧ MC m C g ∧ SemC b R' nx (nx + d) v g (3 * (6 - o) + 1 + l)) ∨ ∃ (o' : Int) (w q : Nat), x = some ((v, RW b V lw a n tx R' p' o' (w : Int) (q : Int)), d, c) ∧ 1 ≤ w ∧ w ≤ 5 ∧ q ≤ 1000 ∧ CE T n l p o w q)
/-- .. a condition with its parentheses -/
def KRes (T : Nat → Int) (b : Nat) (V : Vw) (lw : Option Nat) (a n tx : Nat) (R : Hp) (nx p o : Nat) (x : OA) : Prop := ∃ (v : Option Nat) (R' : Hp) (p' d c : Nat), (∀ y, y < nx → R' y = R y) ∧ p < p' ∧ p' ≤ n + 2 ∧ d + 4 ≤ 8 * (p' - p) ∧ c ≤ 3 * d ∧ ((p' ≤ n ∧ o < 6 ∧ x = some ((v, RW b V lw a n tx R' p' (o : Int) 0 0), d, c) ∧ ∃ (p1 : Nat) (C : Nat → List Cd) (m : Nat) (g : Gm), p' = p1 + 1 ∧ T p1 = 41 ∧ RC T n 2 (p + 1) (o + 1) p1 C ∧ MC m C g ∧ SemC b R' nx (nx + d) v g (3 * (6 - o) + 1)) ∨ ∃ (o' : Int) (w q : Nat), x = some ((v, RW b V lw a n tx R' p' o' (w : Int) (q : Int)), d, c) ∧ 1 ≤ w ∧ w ≤ 5 ∧ q ≤ 1000 ∧ ((o = 6 ∧ w = 5 ∧ q = p) ∨ (o < 6 ∧ CE T n 2 (p + 1) (o + 1) w q) ∨ ∃ p1 C, o < 6 ∧ RC T n 2 (p + 1) (o + 1) p1 C ∧ T p1 ≠ 41 ∧ T p1 ≠ 38 ∧ T p1 ≠ 124 ∧ w = 1 ∧ q = p1) ∧ (v = none ∨ ∃ u v' n', v = some u ∧ nx ≤ u ∧ R' u = some (somC v' 1 n')))
def SomStep (dec : Int32) (sub : Hp → Nat → OA) (a0 last : Option Nat) (m9 : Hp) (nx9 : Nat) : Option (((Option Nat × Hp) ⊕ Hp) × Nat × Nat) :=
  (hp_gI m9 a0 7 2).bind fun v14 =>
  (hp_pI m9 a0 7 2 (v14 + (1 : Int32))).bind fun m15 =>
  (some (hp_set m15 nx9 (.inr (11, dfX14)))).bind fun m16 =>
  andA 1 3 (
  (hp_on m16 a0 7 (sub m16 (nx9 + 1))).bind fun ((v18, m19), d20, c21) =>
  andA d20 c21 (
  (fX14_init m19 nx9 v18 dec).bind fun m23 =>
  (hp_pR m23 last 11 2 (some nx9)).bind fun m24 =>
  (hp_gR m24 last 11 2).bind fun v25 =>
  some ((.inl (v25, m24)), 0, 0)))
section CQ
variable {b : Nat} {V : Vw} {lw : Option Nat} {R R1 R' : Hp} {a n tx p nx o l last : Nat} {T : Nat → Int} {rec : Hp → Nat → Option Nat → OA} {sub : Hp → Nat → OA} {v : Option Nat} {p' d c : Nat} {o' f q : Int} {dec : Int32}
theorem som_init (ha : a < nx) (hb : b + 305 ≤ a) (hR : R nx = some (.inr (11, dfX14))) : fX14_init (RW b V lw a n tx R p o' f q) nx v dec = some (RW b V lw a n tx (hp_set R nx (somC v dec none)) p o' f q) := by
  unfold fX14_init hp_pI hp_pR RW
  rw [o_pV (by omega) (by rw [s_n (by omega), hR]) (by decide), Option.bind_some, o_pV (by omega) (s_s nx _) (by rw [List.length_set]; decide), s_ss, s_cm (by omega)]
  rfl
theorem somStep_eq (h : b + 305 ≤ a) (ha : a < last) (hl : last < nx) (hp : p ≤ n) {v0 : Option Nat} (hR : R last = some (somC v0 dec none)) (hs : sub (RW b V lw a n tx (hp_set R nx (.inr (11, dfX14))) (p + 1) (o : Int) 0 0) (nx + 1) = some ((v, RW b V lw a n tx R' p' o' f q), d, c)) (hag : ∀ y, y < nx + 1 → R' y = hp_set R nx (.inr (11, dfX14)) y) : SomStep dec sub (some a) (some last) (RW b V lw a n tx R p (o : Int) 0 0) nx = some (.inl (some nx, RW b V lw a n tx (hp_set (hp_set R' nx (somC v dec none)) last (somC v0 dec (some nx))) p' o' f q), 1 + d, 3 + c) := by
  have e1 : R' nx = some (.inr (11, dfX14)) := (hag nx (by omega)).trans (s_s nx _)
  have e2 : R' last = some (somC v0 dec none) := (hag last (by omega)).trans ((s_n (by omega) _).trans hR)
  have e3 : hp_pR (RW b V lw a n tx (hp_set R' nx (somC v dec none)) p' o' f q) (some last) 11 2 (some nx) = some (RW b V lw a n tx (hp_set (hp_set R' nx (somC v dec none)) last (somC v0 dec (some nx))) p' o' f q) := by
    unfold hp_pR RW
    rw [o_pV (fs := [.inr v0, .inl dec, .inr none]) (by omega) (by rw [s_n (by omega), s_n (by omega), e2]; rfl) (by simp), s_cm (by omega)]
    rfl
  have e4 : hp_gR (RW b V lw a n tx (hp_set (hp_set R' nx (somC v dec none)) last (somC v0 dec (some nx))) p' o' f q) (some last) 11 2 = some (some nx) := o_gR (c := 11) (fs := [.inr v0, .inl dec, .inr (some nx)]) (by omega) (by rw [s_n (by omega), s_s]; rfl) rfl
  unfold SomStep
  rw [rr_p h, Option.bind_some, k_1, rr_wp h, Option.bind_some, Option.bind_some, rr_set h (by omega), rr_on h, hs, Option.bind_some]
  dsimp only
  rw [som_init (by omega) h e1, Option.bind_some, e3, Option.bind_some, e4]
  rfl
def MRes (dec : Int32) (l : Nat) (T : Nat → Int) (b : Nat) (V : Vw) (lw : Option Nat) (a n tx : Nat) (R1 : Hp) (lo r nx1 p0 p1 o : Nat) (x : Option (Hp × Nat × Nat)) : Prop := ∃ (R2 : Hp) (p2 d c : Nat), (∀ y, y < lo → R2 y = R1 y) ∧ p1 ≤ p2 ∧ p2 ≤ n + 2 ∧ d ≤ 8 * (p2 - p1) ∧ c ≤ 3 * d ∧ ((p2 ≤ n ∧ x = some (RW b V lw a n tx R2 p2 (o : Int) 0 0, d, c) ∧ stpC (l + 1) (T p2) ∧ ∃ (C : Nat → List Cd) (m : Nat) (g : Gm) (last cnt : Nat), RC T n (l + 1) p0 o p2 C ∧ MC m C g ∧ SomsC b R2 lo (nx1 + d) r last dec g cnt (3 * (6 - o) + 1 + l) ∧ cnt ≤ p2) ∨ ∃ (o' : Int) (w q : Nat), x = some (RW b V lw a n tx R2 p2 o' (w : Int) (q : Int), d, c) ∧ 1 ≤ w ∧ w ≤ 5 ∧ q ≤ 1000 ∧ CE T n (l + 1) p0 o w q ∧ ∃ v' n', R2 r = some (somC v' dec n'))
theorem somLoop {body : (Option Nat × Hp) → Nat → Option (((Option Nat × Hp) ⊕ Hp) × Nat × Nat)} {oc : Int} {lo r p0 : Nat} (h : b + 305 ≤ a) (t : TxOK V n T) (ha : a < lo) (ho : o ≤ 6) (hl1 : l ≤ 1) (hdec : dec = 0 ∨ dec = 1) (hoc : 1 ≤ oc)
    (hF : ∀ (last : Option Nat) (R : Hp) (p : Nat) (o' : Int) (w q : Nat) (nx : Nat), 1 ≤ w → w ≤ 5 → body (last, RW b V lw a n tx R p o' (w : Int) (q : Int)) nx = some (.inr (RW b V lw a n tx R p o' (w : Int) (q : Int)), 0, 0))
    (hN : ∀ (last : Option Nat) (R : Hp) (p : Nat) (nx : Nat), p ≤ n → T p ≠ oc → body (last, RW b V lw a n tx R p (o : Int) 0 0) nx = some (.inr (RW b V lw a n tx R p (o : Int) 0 0), 0, 0))
    (hY : ∀ (last : Option Nat) (R : Hp) (p : Nat) (nx : Nat), p ≤ n → T p = oc → body (last, RW b V lw a n tx R p (o : Int) 0 0) nx = SomStep dec sub (some a) last (RW b V lw a n tx R p (o : Int) 0 0) nx)
    (hsub : ∀ (R : Hp) (nx p : Nat), a < nx → p ≤ n → CRes l T b V lw a n tx R nx p o (sub (RW b V lw a n tx R p (o : Int) 0 0) nx))
    (hRO : ∀ (p' p2 m m2 : Nat) (C D : Nat → List Cd) (g h : Gm), RC T n (l + 1) p0 o p' C → T p' = oc → RG T n l (p' + 1) o p2 D → MC m C g → MC m2 D h → ∃ (C2 : Nat → List Cd) (m3 : Nat), RC T n (l + 1) p0 o p2 C2 ∧ MC m3 C2 (gSm dec g h))
    (hRE : ∀ (p' w q : Nat) (C : Nat → List Cd), RC T n (l + 1) p0 o p' C → T p' = oc → CE T n l (p' + 1) o w q → CE T n (l + 1) p0 o w q)
    (hst : ∀ x, x ≠ oc → stpC l x → stpC (l + 1) x) :
    ∀ (fu p1 : Nat) (R1 : Hp) (nx1 last cnt m : Nat) (C : Nat → List Cd) (g : Gm), n - p1 + 2 ≤ fu → p1 ≤ n → stpC l (T p1) → RC T n (l + 1) p0 o p1 C → MC m C g → SomsC b R1 lo nx1 r last dec g cnt (3 * (6 - o) + 1 + l) → cnt ≤ p1 → MRes dec l T b V lw a n tx R1 lo r nx1 p0 p1 o (iterA body fu (some last, RW b V lw a n tx R1 p1 (o : Int) 0 0) nx1)
  | 0, p1, R1, nx1, last, cnt, m, C, g, e1, e2, e3, e4, e5, e6, e7 => by omega
  | fu + 1, p1, R1, nx1, last, cnt, m, C, g, e1, e2, e3, e4, e5, e6, e7 => by
    by_cases c : T p1 = oc
    · have lt := t.l p1 (by omega)
      obtain ⟨b1, b2, b3, b4, b5, v0, hw, hrw⟩ := id e6
      obtain ⟨⟨vr, nr, hrr⟩, _⟩ := hrw R1 none (fun _ _ _ _ => rfl) hw
      have SR := hsub (hp_set R1 nx1 (.inr (11, dfX14))) (nx1 + 1) (p1 + 1) (by omega) (by omega)
      obtain ⟨v, R', p', d, c', r1, r2, r3, r4, r5, r6⟩ := SR
      rcases r6 with ⟨q1, q2, q3, D, m2, g', q4, q5, q6⟩ | ⟨o', w, q, q1, q2, q3, q4, q5⟩
      · have ST := somStep_eq (p := p1) h (by omega) b4 e2 hw q2 r1
        rw [← hY (some last) R1 p1 nx1 e2 c] at ST
        have RS := SomsC_s (R2 := hp_set (hp_set R' nx1 (somC v dec none)) last (somC v0 dec (some nx1))) e6 (by rcases hdec with rfl | rfl <;> decide) hw (fun y y1 y2 y3 => by rw [s_n y3, s_n (by omega), r1 y (by omega), s_n (by omega)]) (s_s _ _) (by rw [s_n (by omega), s_s]) (q6.mono (hi' := nx1 + 1 + d) (Nat.le_refl _) (Nat.le_refl _) (Nat.le_refl _) fun y y1 y2 => by rw [s_n (by omega), s_n (by omega)])
        obtain ⟨C2, m3, k1, k2⟩ := hRO _ _ _ _ _ _ _ _ e4 c q4 e5 q5
        obtain ⟨R2, p2, d2, c2, z1, z2, z3, z4, z5, z6⟩ := somLoop h t ha ho hl1 hdec hoc hF hN hY hsub hRO hRE hst fu p' _ (nx1 + (1 + d)) nx1 (cnt + 1) m3 C2 (gSm dec g g') (by omega) q1 q3 k1 k2 (by rw [show nx1 + (1 + d) = nx1 + 1 + d by omega]; exact RS) (by omega)
        refine ⟨R2, p2, 1 + d + d2, 3 + c' + c2, fun y hy => by rw [z1 y hy, s_n (by omega), s_n (by omega), r1 y (by omega), s_n (by omega)], by omega, by omega, by omega, by omega, ?_⟩
        rw [iterA_sn ST]
        rcases z6 with ⟨y1, y2, y3, C2, mm, f2, last2, cnt2, y4, y5, y6, y7⟩ | ⟨o2, w, q, y1, y2, y3, y4, y5, y6⟩
        · refine Or.inl ⟨y1, by rw [y2]; rfl, y3, C2, mm, f2, last2, cnt2, y4, y5, ?_, y7⟩
          rw [show nx1 + (1 + d + d2) = nx1 + (1 + d) + d2 by omega]
          exact y6
        · exact Or.inr ⟨o2, w, q, by rw [y1]; rfl, y2, y3, y4, y5, y6⟩
      · have ST := somStep_eq (p := p1) h (by omega) b4 e2 hw q1 r1
        rw [← hY (some last) R1 p1 nx1 e2 c] at ST
        obtain ⟨fu, rfl⟩ : ∃ f', fu = f' + 1 := ⟨fu - 1, by omega⟩
        refine ⟨hp_set (hp_set R' nx1 (somC v dec none)) last (somC v0 dec (some nx1)), p', 1 + d, 3 + c', fun y hy => ?_, by omega, by omega, by omega, by omega, Or.inr ⟨o', w, q, ?_, q2, q3, q4, hRE _ _ _ _ e4 c q5, ?_⟩⟩
        · rw [s_n (by omega), s_n (by omega), r1 y (by omega), s_n (by omega)]
        · rw [iterA_sn ST, iterA_r0 (hF _ _ _ _ _ _ _ q2 q3)]
          rfl
        · by_cases er : r = last
          · exact ⟨v0, some nx1, by rw [er, s_s]⟩
          · exact ⟨vr, nr, by rw [s_n er, s_n (by omega), r1 r (by omega), s_n (by omega)]; exact hrr⟩
    · refine ⟨R1, p1, 0, 0, fun _ _ => rfl, by omega, by omega, by omega, by omega, Or.inl ⟨e2, iterA_r0 (hN _ _ _ _ e2 c), hst _ c e3, C, m, g, last, cnt, e4, e5, e6, e7⟩⟩
theorem x_pieces (h : b + 305 ≤ a) (t : TxOK V n T) (ha : a < nx) (hp : p ≤ n) (ho : o ≤ 6) (hrec : ∀ (R : Hp) (nx p : Nat), a < nx → p ≤ n → CRes 0 T b V lw a n tx R nx p o (rec (RW b V lw a n tx R p (o : Int) 0 0) nx (some a))) : CRes 1 T b V lw a n tx R nx p o (fX8_pieces rec (RW b V lw a n tx R p (o : Int) 0 0) nx (some a)) := by
  have nn := t.nn
  have hF : ∀ (last : Option Nat) (R : Hp) (p : Nat) (o' : Int) (w q : Nat) (nx' : Nat), 1 ≤ w → w ≤ 5 → fX8_pieces_L15 rec (some a) (some nx) (last, RW b V lw a n tx R p o' (w : Int) (q : Int)) nx' = some (.inr (RW b V lw a n tx R p o' (w : Int) (q : Int)), 0, 0) := fun last R p o' w q nx' h1 h2 => by
    unfold fX8_pieces_L15
    dsimp only
    rw [rr_on h, rr_g0 h (by omega), Option.bind_some, k_0, if_pos rfl]
  obtain ⟨v, R', p', d, c', r1, r2, r3, r4, r5, r6⟩ := hrec (hp_set R nx (.inr (11, dfX14))) (nx + 1) p (by omega) hp
  have e1 : R' nx = some (.inr (11, dfX14)) := (r1 nx (by omega)).trans (s_s nx _)
  have st : ∀ {o' : Int} {w q : Int}, rec (RW b V lw a n tx (hp_set R nx (.inr (11, dfX14))) p (o : Int) 0 0) (nx + 1) (some a) = some ((v, RW b V lw a n tx R' p' o' w q), d, c') → fX8_pieces rec (RW b V lw a n tx R p (o : Int) 0 0) nx (some a) = (iterA (fX8_pieces_L15 rec (some a) (some nx)) FUEL (some nx, RW b V lw a n tx (hp_set R' nx (somC v 0 none)) p' o' w q) (nx + 1 + d)).map fun q => ((some nx, q.1), 1 + (d + q.2.1), 3 + (c' + q.2.2)) := fun {o' w q} q2 => by
    unfold fX8_pieces
    rw [Option.bind_some, rr_set h ha, rr_on h, q2, Option.bind_some]
    dsimp only
    rw [som_init (by omega) h e1, Option.bind_some]
    cases iterA (fX8_pieces_L15 rec (some a) (some nx)) FUEL (some nx, RW b V lw a n tx (hp_set R' nx (somC v 0 none)) p' o' w q) (nx + 1 + d) with
    | none => rfl
    | some q =>
      obtain ⟨q1, q2, q3⟩ := q
      rfl
  rcases r6 with ⟨q1, q2, q3, D, m, g, q4, q5, q6⟩ | ⟨o', w, q, q1, q2, q3, q4, q5⟩
  · have L := somLoop (dec := 0) (oc := 38) (l := 0) (lo := nx) (r := nx) (p0 := p) (sub := fun m nx => rec m nx (some a)) (body := fX8_pieces_L15 rec (some a) (some nx)) h t ha ho (by omega) (Or.inl rfl) (by omega) hF ?_ ?_ hrec ?_ ?_ ?_ FUEL p' (hp_set R' nx (somC v 0 none)) (nx + 1 + d) nx 0 m D g (by unfold FUEL; omega) q1 q3 (RC_1 q4) q5 (SomsC_1 (by omega) (s_s nx _) (q6.mono (Nat.le_refl _) (Nat.le_refl _) (Nat.le_refl _) fun y y1 y2 => by rw [s_n (by omega)])) (by omega)
    · obtain ⟨R2, p2, d2, c2, z1, z2, z3, z4, z5, z6⟩ := L
      rw [st q2]
      have fr : ∀ y, y < nx → R2 y = R y := fun y hy => by rw [z1 y hy, s_n (by omega), r1 y (by omega), s_n (by omega)]
      rcases z6 with ⟨y1, y2, y3, C2, mm, f2, last2, cnt2, y4, y5, y6, y7⟩ | ⟨o2, w, q, y1, y2, y3, y4, y5, _⟩
      · refine ⟨some nx, R2, p2, 1 + (d + d2), 3 + (c' + c2), fr, by omega, by omega, by omega, by omega, Or.inl ⟨y1, by rw [y2]; rfl, y3, C2, mm, f2, y4, y5, ?_⟩⟩
        have := SomsC_e y6 (Or.inl rfl) y5.2.1 (by omega)
        rw [show nx + (1 + (d + d2)) = nx + 1 + d + d2 by omega]
        exact this
      · exact ⟨some nx, R2, p2, 1 + (d + d2), 3 + (c' + c2), fr, by omega, by omega, by omega, by omega, Or.inr ⟨o2, w, q, by rw [y1]; rfl, y2, y3, y4, y5⟩⟩
    · intro last R p nx' hp' hc
      have f1 : (I (cz (T p)) = I 38) = False := by rw [cz_I t p (by omega)]; exact eq_false hc
      unfold fX8_pieces_L15
      simp only [rr_on h, rr_g1 h, Option.bind_some, k_0, if_neg (show ¬ I 1 = I 0 by decide), rr_here h t (show p ≤ 2000 by omega), show (38 : Int32) = I 38 from rfl, f1, ↓reduceIte]
    · intro last R p nx' hp' hc
      have f1 : (I (cz (T p)) = I 38) = True := by rw [cz_I t p (by omega)]; exact eq_true hc
      unfold fX8_pieces_L15 SomStep
      simp only [rr_on h, rr_g1 h, Option.bind_some, k_0, if_neg (show ¬ I 1 = I 0 by decide), rr_here h t (show p ≤ 2000 by omega), show (38 : Int32) = I 38 from rfl, f1, ↓reduceIte]
    · intro p' p2 m m2 C D g h k1 k2 k3 k4 k5
      exact ⟨_, _, RC_and k1 k4.1 k2 k3 k5.1, MC_and k4 k5⟩
    · intro p' w q C k1 k2 k3
      exact CE_and k1 k2 k3
    · intro x hx hs
      exact ⟨fun _ => hx, fun q => absurd q (by omega)⟩
  · have it : iterA (fX8_pieces_L15 rec (some a) (some nx)) FUEL (some nx, RW b V lw a n tx (hp_set R' nx (somC v 0 none)) p' o' (w : Int) (q : Int)) (nx + 1 + d) = some (RW b V lw a n tx (hp_set R' nx (somC v 0 none)) p' o' (w : Int) (q : Int), 0, 0) := by
      show iterA _ (1999 + 1) _ _ = _
      exact iterA_r0 (hF _ _ _ _ _ _ _ q2 q3)
    rw [st q1, it]
    exact ⟨some nx, hp_set R' nx (somC v 0 none), p', 1 + (d + 0), 3 + (c' + 0), fun y hy => by rw [s_n (by omega), r1 y (by omega), s_n (by omega)], by omega, by omega, by omega, by omega, Or.inr ⟨o', w, q, rfl, q2, q3, q4, CE_up q5⟩⟩
theorem x_condition (h : b + 305 ≤ a) (t : TxOK V n T) (ha : a < nx) (hp : p ≤ n) (ho : o ≤ 6) (hc40 : T p = 40) (hrec : ∀ (R : Hp) (nx p : Nat), a < nx → p ≤ n → o < 6 → CRes 0 T b V lw a n tx R nx p (o + 1) (rec (RW b V lw a n tx R p ((o + 1 : Nat) : Int) 0 0) nx (some a))) : KRes T b V lw a n tx R nx p o (fX8_condition rec (RW b V lw a n tx R p (o : Int) 0 0) nx (some a)) := by
  have nn := t.nn
  have lt := t.l p (by omega)
  have hF : ∀ (v : Option Nat) (last : Option Nat) (R : Hp) (p : Nat) (o' : Int) (w q : Nat) (nx' : Nat), 1 ≤ w → w ≤ 5 → fX8_condition_L30 rec (some a) v (last, RW b V lw a n tx R p o' (w : Int) (q : Int)) nx' = some (.inr (RW b V lw a n tx R p o' (w : Int) (q : Int)), 0, 0) := fun v last R p o' w q nx' h1 h2 => by
    unfold fX8_condition_L30
    dsimp only
    rw [rr_on h, rr_g0 h (by omega), Option.bind_some, k_0, if_pos rfl]
  have itF : ∀ (v : Option Nat) (last : Option Nat) (R : Hp) (p : Nat) (o' : Int) (w q : Nat) (nx' : Nat), 1 ≤ w → w ≤ 5 → iterA (fX8_condition_L30 rec (some a) v) FUEL (last, RW b V lw a n tx R p o' (w : Int) (q : Int)) nx' = some (RW b V lw a n tx R p o' (w : Int) (q : Int), 0, 0) := fun v last R p o' w q nx' h1 h2 => by
    show iterA _ (1999 + 1) _ _ = _
    exact iterA_r0 (hF v _ _ _ _ _ _ _ h1 h2)
  by_cases c6 : o = 6
  · subst c6
    have op : fX8_opens (RW b V lw a n tx R p ((6 : Nat) : Int) 0 0) (some a) = some (RW b V lw a n tx R (p + 1) 7 ((5 : Nat) : Int) (p : Int)) := rr_opens6 h
    have e : fX8_condition rec (RW b V lw a n tx R p ((6 : Nat) : Int) 0 0) nx (some a) = some ((none, RW b V lw a n tx R (p + 1) 6 ((5 : Nat) : Int) (p : Int)), 0, 0) := by
      unfold fX8_condition
      simp only [rr_on h, op, Option.bind_some, rr_g0 h (show 1 ≤ ((5 : Nat) : Int) ∧ ((5 : Nat) : Int) ≤ 100 by omega), k_0, ↓reduceIte, andA_0, itF _ _ _ _ _ _ _ _ (show 1 ≤ 5 by omega) (show 5 ≤ 5 by omega), rr_o h, k_1, I_sub, rr_wo h, Nat.add_zero]
      rfl
    rw [e]
    exact ⟨none, R, p + 1, 0, 0, fun _ _ => rfl, by omega, by omega, by omega, by omega, Or.inr ⟨6, 5, p, rfl, by omega, by omega, by omega, Or.inl ⟨rfl, rfl, rfl⟩, Or.inl rfl⟩⟩
  · have op := rr_opens (V := V) (lw := lw) (R := R) (n := n) (tx := tx) (p := p) h (o := (o : Int)) (by omega)
    have eo : (o : Int) + 1 = ((o + 1 : Nat) : Int) := by omega
    have eo2 : ((o + 1 : Nat) : Int) - 1 = (o : Int) := by omega
    rw [eo] at op
    have hsub : ∀ (R : Hp) (nx p : Nat), a < nx → p ≤ n → CRes 1 T b V lw a n tx R nx p (o + 1) (fX8_pieces rec (RW b V lw a n tx R p ((o + 1 : Nat) : Int) 0 0) nx (some a)) := fun R nx p h1 h2 => x_pieces h t h1 h2 (by omega) fun R nx p g1 g2 => hrec R nx p g1 g2 (by omega)
    obtain ⟨v, R', p', d, c', r1, r2, r3, r4, r5, r6⟩ := hsub (hp_set R nx (.inr (11, dfX14))) (nx + 1) (p + 1) (by omega) (by omega)
    have e1 : R' nx = some (.inr (11, dfX14)) := (r1 nx (by omega)).trans (s_s nx _)
    have st : ∀ {o' : Int} {w q : Int}, fX8_pieces rec (RW b V lw a n tx (hp_set R nx (.inr (11, dfX14))) (p + 1) ((o + 1 : Nat) : Int) 0 0) (nx + 1) (some a) = some ((v, RW b V lw a n tx R' p' o' w q), d, c') → fX8_condition rec (RW b V lw a n tx R p (o : Int) 0 0) nx (some a) = andA (1 + d) (3 + c') ((iterA (fX8_condition_L30 rec (some a) (some nx)) FUEL (some nx, RW b V lw a n tx (hp_set R' nx (somC v 1 none)) p' o' w q) (nx + (1 + d))).bind fun (r7, e7, f7) => andA e7 f7 (
      (hp_on r7 (some a) 7 (fX8_isGood r7 (some a))).bind fun v26 =>
      ((if v26 = 0 then
        some (r7, 0, 0)
      else
      (hp_on r7 (some a) 7 (fX8_must r7 (some a) (41 : Int32))).bind fun m33 =>
      some (m33, 0, 0) : Option (Hp × Nat × Nat))).bind fun (m27, d28, c28) =>
      andA d28 c28 (
      (hp_gI m27 (some a) 7 3).bind fun v30 =>
      (hp_pI m27 (some a) 7 3 (v30 - (1 : Int32))).bind fun m31 =>
      some ((some nx, m31), 0, 0)))) := fun {o' w q} q2 => by
      unfold fX8_condition
      rw [rr_on h, op, Option.bind_some, rr_on h, rr_g1 h, Option.bind_some, if_neg (show ¬ I 1 = 0 by decide), Option.bind_some, rr_set h ha, rr_on h, q2, Option.bind_some]
      dsimp only
      rw [k_1, show (I 1 : Int32) = 1 from rfl, som_init (by omega) h e1, Option.bind_some, andA_s, andA_s, Option.bind_some]
      rfl
    have mu : ∀ {R : Hp} {p : Nat}, p ≤ 2000 → fX8_must (RW b V lw a n tx R p ((o + 1 : Nat) : Int) 0 0) (some a) (I 41) = _ := fun {R p} hp => rr_must (V := V) (lw := lw) (R := R) (n := n) (tx := tx) (p := p) (o := ((o + 1 : Nat) : Int)) h t hp (x := 41) (by omega)
    rcases r6 with ⟨q1, q2, q3, D, m, g, q4, q5, q6⟩ | ⟨o', w, q, q1, q2, q3, q4, q5⟩
    · have L := somLoop (dec := 1) (oc := 124) (l := 1) (lo := nx) (r := nx) (p0 := p + 1) (o := o + 1) (sub := fun m nx => fX8_pieces rec m nx (some a)) (body := fX8_condition_L30 rec (some a) (some nx)) h t ha (by omega) (by omega) (Or.inr rfl) (by omega) (hF (some nx)) ?_ ?_ hsub ?_ ?_ ?_ FUEL p' (hp_set R' nx (somC v 1 none)) (nx + (1 + d)) nx 0 m D g (by unfold FUEL; omega) q1 q3 (RC_2 q4) q5 (SomsC_1 (by omega) (s_s nx _) (q6.mono (Nat.le_refl _) (Nat.le_refl _) (by omega) fun y y1 y2 => by rw [s_n (by omega)])) (by omega)
      · obtain ⟨R2, p2, d2, c2, z1, z2, z3, z4, z5, z6⟩ := L
        rw [st q2]
        have fr : ∀ y, y < nx → R2 y = R y := fun y hy => by rw [z1 y hy, s_n (by omega), r1 y (by omega), s_n (by omega)]
        rcases z6 with ⟨y1, y2, y3, C2, mm, f2, last2, cnt2, y4, y5, y6, y7⟩ | ⟨o2, w, q, y1, y2, y3, y4, y5, y6⟩
        · rw [y2, Option.bind_some]
          dsimp only
          rw [rr_on h, rr_g1 h, Option.bind_some, if_neg (show ¬ I 1 = 0 by decide), rr_on h, show (41 : Int32) = I 41 from rfl, mu (by omega), Option.bind_some, Option.bind_some]
          dsimp only
          rw [andA_0]
          by_cases c41 : T p2 = 41
          · have lt2 := t.l p2 (by omega)
            rw [if_pos c41, rr_o h, Option.bind_some, k_1, I_sub, eo2, rr_wo h, Option.bind_some]
            refine ⟨some nx, R2, p2 + 1, 1 + d + (d2 + 0), 3 + c' + (c2 + 0), fr, by omega, by omega, by omega, by omega, Or.inl ⟨by omega, by omega, rfl, p2, C2, mm, f2, rfl, c41, y4, y5, ?_⟩⟩
            have := SomsC_e y6 (Or.inr rfl) y5.2.1 (by omega)
            rw [show nx + (1 + d + (d2 + 0)) = nx + (1 + d) + d2 by omega]
            exact this.mono (by omega) (Nat.le_refl _) (Nat.le_refl _) fun _ _ _ => rfl
          · rw [if_neg c41, rr_o h, Option.bind_some, k_1, I_sub, eo2, rr_wo h, Option.bind_some]
            refine ⟨some nx, R2, p2 + 1, 1 + d + (d2 + 0), 3 + c' + (c2 + 0), fr, by omega, by omega, by omega, by omega, Or.inr ⟨o, 1, p2, rfl, by omega, by omega, by omega, Or.inr (Or.inr ⟨p2, C2, by omega, y4, c41, y3.1 (by omega), y3.2 (by omega), rfl, rfl⟩), ?_⟩⟩
            obtain ⟨⟨vr, nr, hrr⟩, _⟩ := y6.2.2.2.2.2.choose_spec.2 R2 none (fun _ _ _ _ => rfl) y6.2.2.2.2.2.choose_spec.1
            exact Or.inr ⟨nx, vr, nr, rfl, by omega, hrr⟩
        · rw [y1, Option.bind_some]
          dsimp only
          rw [rr_on h, rr_g0 h (by omega), Option.bind_some, if_pos (show I 0 = 0 from rfl), Option.bind_some]
          dsimp only
          rw [andA_0, rr_o h, Option.bind_some, k_1, I_sub, rr_wo h, Option.bind_some]
          exact ⟨some nx, R2, p2, 1 + d + (d2 + 0), 3 + c' + (c2 + 0), fr, by omega, by omega, by omega, by omega, Or.inr ⟨_, w, q, rfl, y2, y3, y4, Or.inr (Or.inl ⟨by omega, y5⟩), by obtain ⟨vr, nr, hrr⟩ := y6; exact Or.inr ⟨nx, vr, nr, rfl, by omega, hrr⟩⟩⟩
      · intro last R p nx' hp' hc
        have f1 : (I (cz (T p)) = I 124) = False := by rw [cz_I t p (by omega)]; exact eq_false hc
        unfold fX8_condition_L30
        simp only [rr_on h, rr_g1 h, Option.bind_some, k_0, if_neg (show ¬ I 1 = I 0 by decide), rr_here h t (show p ≤ 2000 by omega), show (124 : Int32) = I 124 from rfl, f1, ↓reduceIte]
      · intro last R p nx' hp' hc
        have f1 : (I (cz (T p)) = I 124) = True := by rw [cz_I t p (by omega)]; exact eq_true hc
        unfold fX8_condition_L30 SomStep
        simp only [rr_on h, rr_g1 h, Option.bind_some, k_0, if_neg (show ¬ I 1 = I 0 by decide), rr_here h t (show p ≤ 2000 by omega), show (124 : Int32) = I 124 from rfl, f1, ↓reduceIte]
      · intro p' p2 m m2 C D g h k1 k2 k3 k4 k5
        exact ⟨_, _, RC_or k1 k4.1 k2 k3 k5.1, MC_or k4 k5⟩
      · intro p' w q C k1 k2 k3
        exact CE_or k1 k2 k3
      · intro x hx hs
        exact ⟨fun _ => hs.1 (by omega), fun _ => hx⟩
    · rw [st q1, itF _ _ _ _ _ _ _ _ q2 q3, Option.bind_some]
      dsimp only
      rw [rr_on h, rr_g0 h (by omega), Option.bind_some, if_pos (show I 0 = 0 from rfl), Option.bind_some]
      dsimp only
      rw [andA_0, rr_o h, Option.bind_some, k_1, I_sub, rr_wo h, Option.bind_some]
      exact ⟨some nx, hp_set R' nx (somC v 1 none), p', 1 + d + (0 + 0), 3 + c' + (0 + 0), fun y hy => by rw [s_n (by omega), r1 y (by omega), s_n (by omega)], by omega, by omega, by omega, by omega, Or.inr ⟨_, w, q, rfl, q2, q3, q4, Or.inr (Or.inl ⟨by omega, CE_up q5⟩), Or.inr ⟨nx, _, _, rfl, by omega, s_s nx _⟩⟩⟩
end CQ
