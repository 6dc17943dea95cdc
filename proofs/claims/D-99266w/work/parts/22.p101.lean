/-! LAW: the class reads clauses. No JVM here. -/
set_option maxRecDepth 100000
set_option linter.unusedVariables false
set_option linter.unusedSimpArgs false
def clTail (a0 : Option Nat) (v1 : Int32) (v10 v19 : Option Nat) (m20 : Hp) : Option (Hp × Nat × Nat) :=
  (hp_gR m20 a0 7 1).bind fun v23 =>
  (hp_gR m20 v23 4 0).bind fun v24 =>
  (hp_gR m20 a0 7 1).bind fun v25 =>
  (hp_gI m20 v25 4 3).bind fun v26 =>
  (hp_sI m20 v24 0 v26 v1).bind fun m27 =>
  (hp_gR m27 a0 7 1).bind fun v28 =>
  (hp_gR m27 v28 4 1).bind fun v29 =>
  (hp_gR m27 a0 7 1).bind fun v30 =>
  (hp_gI m27 v30 4 3).bind fun v31 =>
  (hp_sR m27 v29 3 v31 v10).bind fun m32 =>
  (hp_gR m32 a0 7 1).bind fun v33 =>
  (hp_gR m32 v33 4 2).bind fun v34 =>
  (hp_gR m32 a0 7 1).bind fun v35 =>
  (hp_gI m32 v35 4 3).bind fun v36 =>
  (hp_sR m32 v34 4 v36 v19).bind fun m37 =>
  (hp_gR m37 a0 7 1).bind fun v38 =>
  (hp_gI m37 v38 4 3).bind fun v39 =>
  (hp_pI m37 v38 4 3 (v39 + (1 : Int32))).bind fun m40 =>
  some (m40, 0, 0)
def clRem (a0 : Option Nat) (v1 : Int32) (v10 : Option Nat) (m11 : Hp) (nxx : Nat) : Option (Hp × Nat × Nat) :=
  (hp_on m11 a0 7 (fX8_isGood m11 a0)).bind fun v14 =>
  ((if v14 = 0 then
    some (m11, 0, 0)
  else
  (hp_on m11 a0 7 (fX8_here m11 a0)).bind fun v48 =>
  if v48 = (40 : Int32) then
    some (m11, 0, 0)
  else
  (hp_gI m11 a0 7 2).bind fun v50 =>
  (hp_on m11 a0 7 (fX8_bad m11 a0 (1 : Int32) v50)).bind fun m51 =>
  some (m51, 0, 0) : Option (Hp × Nat × Nat))).bind fun (m15, d16, c16) =>
  andA d16 c16 (
  (hp_on m15 a0 7 (fX8_isGood m15 a0)).bind fun v18 =>
  ((if v18 = 0 then
    some ((none, m15), 0, 0)
  else
  (hp_on m15 a0 7 (fX8_condition (fX8_piece 60) m15 (nxx + d16) a0)).bind fun ((v42, m43), d44, c45) =>
  andA d44 c45 (
  some ((v42, m43), 0, 0)) : Option ((Option Nat × Hp) × Nat × Nat))).bind fun ((v19, m20), d21, c21) =>
  andA d21 c21 (clTail a0 v1 v10 v19 m20))
def txC (ta ts tc : Nat) (k : Int) : Cel := .inr (4, [.inr (some ta), .inr (some ts), .inr (some tc), .inl (I k)])
/-- the text's cells -/
def TxK (R : Hp) (tx s : Nat) (fl : Nat → Int32) (fs fc : Nat → Option Nat) : Prop := R tx = some (txC (tx + 1) (tx + 2) (tx + 3) (s : Int)) ∧ R (tx + 1) = some (.inl (0, 16, .inl fl)) ∧ R (tx + 2) = some (.inl (3, 16, .inr fs)) ∧ R (tx + 3) = some (.inl (4, 16, .inr fc))
def TxI (b : Nat) (R : Hp) (tx lo hi : Nat) (cls : List Cls) : Prop := ∃ fl fs fc, TxK R tx cls.length fl fs fc ∧ ∀ j q, cls[j]? = some q → fl j = I q.l ∧ (q.l ≠ 109 → SemS b R lo hi (fs j) q.f 60) ∧ SemC b R lo hi (fc j) q.g 60
section CL
variable {b : Nat} {V : Vw} {lw : Option Nat} {R R1 R' : Hp} {a n tx p nx s lo hi : Nat} {T : Nat → Int} {v v1 v2 : Option Nat} {p' d c : Nat} {o o' f q : Int} {fl : Nat → Int32} {fs fc : Nat → Option Nat} {cls : List Cls}
def tailR (R : Hp) (tx s : Nat) (fl : Nat → Int32) (fs fc : Nat → Option Nat) (l : Int32) (v10 v19 : Option Nat) : Hp := hp_set (hp_set (hp_set (hp_set R (tx + 1) (.inl (0, 16, .inl (hp_upI fl s l)))) (tx + 2) (.inl (3, 16, .inr (hp_upR fs s v10)))) (tx + 3) (.inl (4, 16, .inr (hp_upR fc s v19)))) tx (txC (tx + 1) (tx + 2) (tx + 3) ((s : Int) + 1))
theorem tail_o {l : Int32} {y : Nat} (h : y < tx ∨ tx + 3 < y) : tailR R tx s fl fs fc l v1 v2 y = R y := by
  unfold tailR
  rw [s_n (by omega), s_n (by omega), s_n (by omega), s_n (by omega)]
theorem tail_eq (h : b + 305 ≤ a) (hat : a < tx) (hs : s < 16) (k : TxK R tx s fl fs fc) {l : Int} (ok1 : ∀ V lw R', (∀ y, (y < tx ∨ tx + 3 < y) → R' y = R y) → hp_okr (RW b V lw a n tx R' p o f q) 3 v1 = true) (ok2 : ∀ V lw R', (∀ y, (y < tx ∨ tx + 3 < y) → R' y = R y) → hp_okr (RW b V lw a n tx R' p o f q) 4 v2 = true) : clTail (some a) (I l) v1 v2 (RW b V lw a n tx R p o f q) = some (RW b V lw a n tx (tailR R tx s fl fs fc (I l) v1 v2) p o f q, 0, 0) := by
  obtain ⟨k0, k1, k2, k3⟩ := k
  have g0 : ∀ {R' : Hp}, R' tx = R tx → hp_gR (RW b V lw a n tx R' p o f q) (some tx) 4 0 = some (some (tx + 1)) := fun {R'} e => o_gR (c := 4) (fs := [.inr (some (tx + 1)), .inr (some (tx + 2)), .inr (some (tx + 3)), .inl (I (s : Int))]) (by omega) (by rw [s_n (by omega), e, k0]; rfl) rfl
  have g1 : ∀ {R' : Hp}, R' tx = R tx → hp_gR (RW b V lw a n tx R' p o f q) (some tx) 4 1 = some (some (tx + 2)) := fun {R'} e => o_gR (c := 4) (fs := [.inr (some (tx + 1)), .inr (some (tx + 2)), .inr (some (tx + 3)), .inl (I (s : Int))]) (by omega) (by rw [s_n (by omega), e, k0]; rfl) rfl
  have g2 : ∀ {R' : Hp}, R' tx = R tx → hp_gR (RW b V lw a n tx R' p o f q) (some tx) 4 2 = some (some (tx + 3)) := fun {R'} e => o_gR (c := 4) (fs := [.inr (some (tx + 1)), .inr (some (tx + 2)), .inr (some (tx + 3)), .inl (I (s : Int))]) (by omega) (by rw [s_n (by omega), e, k0]; rfl) rfl
  have g3 : ∀ {R' : Hp}, R' tx = R tx → hp_gI (RW b V lw a n tx R' p o f q) (some tx) 4 3 = some (I (s : Int)) := fun {R'} e => o_gI (c := 4) (fs := [.inr (some (tx + 1)), .inr (some (tx + 2)), .inr (some (tx + 3)), .inl (I (s : Int))]) (by omega) (by rw [s_n (by omega), e, k0]; rfl) rfl
  have w1 : hp_sI (RW b V lw a n tx R p o f q) (some (tx + 1)) 0 (I (s : Int)) (I l) = some (RW b V lw a n tx (hp_set R (tx + 1) (.inl (0, 16, .inl (hp_upI fl s (I l))))) p o f q) := by
    rw [o_sI (n := 16) (by omega) (by rw [s_n (by omega)]; exact k1) (by omega) (by omega) (by omega), s_cm (by omega), tn]
    rfl
  have w2 : hp_sR (RW b V lw a n tx (hp_set R (tx + 1) (.inl (0, 16, .inl (hp_upI fl s (I l))))) p o f q) (some (tx + 2)) 3 (I (s : Int)) v1 = some (RW b V lw a n tx (hp_set (hp_set R (tx + 1) (.inl (0, 16, .inl (hp_upI fl s (I l))))) (tx + 2) (.inl (3, 16, .inr (hp_upR fs s v1)))) p o f q) := by
    rw [o_sR (n := 16) (f := fs) (by omega) (by rw [s_n (by omega), s_n (by omega)]; exact k2) (by omega) (by omega) (by omega) (ok1 _ _ _ fun y hy => s_n (by omega) _), s_cm (by omega), tn]
  have w3 : hp_sR (RW b V lw a n tx (hp_set (hp_set R (tx + 1) (.inl (0, 16, .inl (hp_upI fl s (I l))))) (tx + 2) (.inl (3, 16, .inr (hp_upR fs s v1)))) p o f q) (some (tx + 3)) 4 (I (s : Int)) v2 = some (RW b V lw a n tx (hp_set (hp_set (hp_set R (tx + 1) (.inl (0, 16, .inl (hp_upI fl s (I l))))) (tx + 2) (.inl (3, 16, .inr (hp_upR fs s v1)))) (tx + 3) (.inl (4, 16, .inr (hp_upR fc s v2)))) p o f q) := by
    rw [o_sR (n := 16) (f := fc) (by omega) (by rw [s_n (by omega), s_n (by omega), s_n (by omega)]; exact k3) (by omega) (by omega) (by omega) (ok2 _ _ _ fun y hy => by rw [s_n (by omega), s_n (by omega)]), s_cm (by omega), tn]
  have w4 : hp_pI (RW b V lw a n tx (hp_set (hp_set (hp_set R (tx + 1) (.inl (0, 16, .inl (hp_upI fl s (I l))))) (tx + 2) (.inl (3, 16, .inr (hp_upR fs s v1)))) (tx + 3) (.inl (4, 16, .inr (hp_upR fc s v2)))) p o f q) (some tx) 4 3 (I (s : Int) + I 1) = some (RW b V lw a n tx (tailR R tx s fl fs fc (I l) v1 v2) p o f q) := by
    unfold hp_pI RW tailR
    rw [o_pV (c := 4) (fs := [.inr (some (tx + 1)), .inr (some (tx + 2)), .inr (some (tx + 3)), .inl (I (s : Int))]) (by omega) (by rw [s_n (by omega), s_n (by omega), s_n (by omega), s_n (by omega), k0]; rfl) (by simp), s_cm (by omega), I_add]
    rfl
  unfold clTail
  rw [rr_tx h, Option.bind_some, g0 rfl, Option.bind_some, Option.bind_some, g3 rfl, Option.bind_some, w1, Option.bind_some, rr_tx h, Option.bind_some, g1 (s_n (by omega) _), Option.bind_some, Option.bind_some, g3 (s_n (by omega) _), Option.bind_some, w2, Option.bind_some, rr_tx h, Option.bind_some, g2 (by rw [s_n (by omega), s_n (by omega)]), Option.bind_some, Option.bind_some, g3 (by rw [s_n (by omega), s_n (by omega)]), Option.bind_some, w3, Option.bind_some, rr_tx h, Option.bind_some, g3 (by rw [s_n (by omega), s_n (by omega), s_n (by omega)]), Option.bind_some, k_1, w4]
  rfl
theorem okr_none {m : Hp} {t : Nat} : hp_okr m t none = true := rfl
theorem okr_at {t u cl : Nat} {x : List Vl} (hu : b + 305 ≤ u) (h : R u = some (.inr (cl, x))) (ha : u ≠ a) (hk : hp_okc t cl = true) : hp_okr (RW b V lw a n tx R p o f q) t (some u) = true := by
  have e : hp_cls (RW b V lw a n tx R p o f q) (some u) = some cl := o_cl hu (by rw [s_n ha, h])
  unfold hp_okr
  rw [e]
  exact hk
theorem tail_k (k : TxK R tx s fl fs fc) {l : Int32} : TxK (tailR R tx s fl fs fc l v1 v2) tx (s + 1) (hp_upI fl s l) (hp_upR fs s v1) (hp_upR fc s v2) := by
  unfold tailR
  refine ⟨s_s _ _, ?_, ?_, ?_⟩
  · rw [s_n (by omega), s_n (by omega), s_n (by omega), s_s]
  · rw [s_n (by omega), s_n (by omega), s_s]
  · rw [s_n (by omega), s_s]
theorem TxI_s (hlo : tx + 3 < lo) {q : Cls} (k : TxK R tx cls.length fl fs fc) (hI : ∀ j q, cls[j]? = some q → fl j = I q.l ∧ (q.l ≠ 109 → SemS b R lo hi (fs j) q.f 60) ∧ SemC b R lo hi (fc j) q.g 60) (h1 : q.l ≠ 109 → SemS b R lo hi v1 q.f 60) (h2 : SemC b R lo hi v2 q.g 60) : TxI b (tailR R tx cls.length fl fs fc (I q.l) v1 v2) tx lo hi (cls ++ [q]) := by
  have ag : agR lo hi R (tailR R tx cls.length fl fs fc (I q.l) v1 v2) := fun y y1 y2 => tail_o (by omega)
  refine ⟨_, _, _, by rw [List.length_append, List.length_singleton]; exact tail_k k, fun j q' hj => ?_⟩
  by_cases jl : j < cls.length
  · rw [List.getElem?_append_left jl] at hj
    obtain ⟨a1, a2, a3⟩ := hI j q' hj
    unfold hp_upI hp_upR
    rw [if_neg (by omega), if_neg (by omega), if_neg (by omega)]
    exact ⟨a1, fun w => (a2 w).mono (Nat.le_refl _) (Nat.le_refl _) (Nat.le_refl _) ag, a3.mono (Nat.le_refl _) (Nat.le_refl _) (Nat.le_refl _) ag⟩
  · have je : j = cls.length := by
      have := (List.getElem?_eq_some_iff.mp hj).1
      rw [List.length_append, List.length_singleton] at this
      omega
    rw [List.getElem?_append_right (by omega), je, Nat.sub_self] at hj
    have hj : q = q' := Option.some.inj hj
    subst hj
    unfold hp_upI hp_upR
    rw [if_pos je, if_pos je, if_pos je]
    exact ⟨rfl, fun w => (h1 w).mono (Nat.le_refl _) (Nat.le_refl _) (Nat.le_refl _) ag, h2.mono (Nat.le_refl _) (Nat.le_refl _) (Nat.le_refl _) ag⟩
theorem TxI_m (h : TxI b R tx lo hi cls) {hi2 : Nat} (hh : hi ≤ hi2) (ha : ∀ y, tx ≤ y → y < hi → R' y = R y) (hlo : tx + 3 < lo) (hl : lo ≤ hi) : TxI b R' tx lo hi2 cls := by
  obtain ⟨fl, fs, fc, ⟨k0, k1, k2, k3⟩, h⟩ := h
  refine ⟨fl, fs, fc, ⟨by rw [ha _ (by omega) (by omega)]; exact k0, by rw [ha _ (by omega) (by omega)]; exact k1, by rw [ha _ (by omega) (by omega)]; exact k2, by rw [ha _ (by omega) (by omega)]; exact k3⟩, fun j q hj => ?_⟩
  obtain ⟨a1, a2, a3⟩ := h j q hj
  exact ⟨a1, fun w => (a2 w).mono (Nat.le_refl _) (Nat.le_refl _) hh fun y y1 y2 => ha y (by omega) y2, a3.mono (Nat.le_refl _) (Nat.le_refl _) hh fun y y1 y2 => ha y (by omega) y2⟩
/-- what is left of a clause behind its sum -/
def ClR (T : Nat → Int) (b : Nat) (V : Vw) (lw : Option Nat) (a n tx lo : Nat) (R : Hp) (cls : List Cls) (nx p : Nat) (l : Int) (f : Fm) (x : Option (Hp × Nat × Nat)) : Prop := ∃ (R' : Hp) (p' d c : Nat), (∀ y, y < tx → R' y = R y) ∧ p ≤ p' ∧ p' ≤ n + 2 ∧ d ≤ 8 * (p' - p) ∧ c ≤ 3 * d ∧ ((p < p' ∧ p' ≤ n ∧ x = some (RW b V lw a n tx R' p' 0 0 0, d, c) ∧ ∃ (p2 : Nat) (B : Nat → List Cd) (m : Nat) (g : Gm), T p = 40 ∧ RC T n 2 (p + 1) 1 p2 B ∧ T p2 = 41 ∧ p' = p2 + 1 ∧ MC m B g ∧ ∀ x y z, TxI b R' tx lo (nx + d) (cls ++ [(l, x, y, z, f, g)])) ∨ ∃ (o' : Int) (w q : Nat), x = some (RW b V lw a n tx R' p' o' (w : Int) (q : Int), d, c) ∧ 1 ≤ w ∧ w ≤ 5 ∧ q ≤ 1000 ∧ ((T p ≠ 40 ∧ w = 1 ∧ q = p) ∨ (T p = 40 ∧ CE T n 2 (p + 1) 1 w q) ∨ ∃ p2 B, T p = 40 ∧ RC T n 2 (p + 1) 1 p2 B ∧ T p2 ≠ 41 ∧ T p2 ≠ 38 ∧ T p2 ≠ 124 ∧ w = 1 ∧ q = p2))
theorem x_rem (h : b + 305 ≤ a) (t : TxOK V n T) (hat : a < tx) (hlo : tx + 3 < lo) (hnx : lo ≤ nx) (hp : p ≤ n) (hI : TxI b R tx lo nx cls) (hc : cls.length < 16) {l : Int} {f : Fm} (hs : l ≠ 109 → SemS b R lo nx v1 f 60) (hv : l = 109 → v1 = none) : ClR T b V lw a n tx lo R cls nx p l f (clRem (some a) (I l) v1 (RW b V lw a n tx R p 0 0 0) nx) := by
  have nn := t.nn
  obtain ⟨fl, fs, fc, k, hq⟩ := id hI
  have ok1 : ∀ {V : Vw} {lw : Option Nat} {R1 : Hp} {p : Nat} {o f' q : Int}, (∀ y, lo ≤ y → y < nx → R1 y = R y) → hp_okr (RW b V lw a n tx R1 p o f' q) 3 v1 = true := fun {V lw R1 p o f' q} e => by
    by_cases l9 : l = 109
    · rw [hv l9]
      rfl
    · obtain ⟨⟨u, c, fs, e1, e2, e3, e4, e5, e6⟩, _⟩ := hs l9
      rw [e1]
      exact okr_at e2 ((e u e3 e4).trans e5) (by omega) (by rcases e6 with rfl | rfl | rfl <;> decide)
  by_cases c40 : T p = 40
  · have f40 : (I (cz (T p)) = I 40) = True := by rw [cz_I t p (by omega)]; exact eq_true c40
    obtain ⟨v, R', p', d, c', r1, r2, r3, r4, r5, r6⟩ := x_condition (V := V) (lw := lw) (tx := tx) (o := 0) (R := R) (nx := nx) (rec := fX8_piece 60) h t (by omega) hp (by omega) c40 fun R nx p g1 g2 g3 => x_piece (V := V) (lw := lw) (tx := tx) h t 60 1 (by omega) (by omega) R nx p g1 g2
    have k' : TxK R' tx cls.length fl fs fc := ⟨by rw [r1 _ (by omega)]; exact k.1, by rw [r1 _ (by omega)]; exact k.2.1, by rw [r1 _ (by omega)]; exact k.2.2.1, by rw [r1 _ (by omega)]; exact k.2.2.2⟩
    have E : ∀ {o2 w2 q2 : Int}, fX8_condition (fX8_piece 60) (RW b V lw a n tx R p ((0 : Nat) : Int) 0 0) nx (some a) = some ((v, RW b V lw a n tx R' p' o2 w2 q2), d, c') → (∀ V lw R2, (∀ y, (y < tx ∨ tx + 3 < y) → R2 y = R' y) → hp_okr (RW b V lw a n tx R2 p' o2 w2 q2) 4 v = true) → clRem (some a) (I l) v1 (RW b V lw a n tx R p 0 0 0) nx = some (RW b V lw a n tx (tailR R' tx cls.length fl fs fc (I l) v1 v) p' o2 w2 q2, d, c') := fun {o2 w2 q2} e ok2 => by
      have e : fX8_condition (fX8_piece 60) (RW b V lw a n tx R p 0 0 0) nx (some a) = _ := e
      have tl := tail_eq (V := V) (lw := lw) (n := n) (p := p') (o := o2) (f := w2) (q := q2) (v1 := v1) (v2 := v) (l := l) h hat hc k' (fun V lw R2 hR => ok1 fun y y1 y2 => by rw [hR y (by omega), r1 y (by omega)]) ok2
      unfold clRem
      rw [rr_on h, rr_g1 h, Option.bind_some, if_neg (show ¬ I 1 = 0 by decide), rr_on h, rr_here h t (by omega), Option.bind_some, show (40 : Int32) = I 40 from rfl, if_pos (of_eq_true f40), Option.bind_some]
      dsimp only [Nat.add_zero]
      rw [andA_0, rr_on h, rr_g1 h, Option.bind_some, if_neg (show ¬ I 1 = 0 by decide), rr_on h, e, Option.bind_some]
      dsimp only
      rw [andA_s, Option.bind_some]
      dsimp only
      rw [tl, andA_s]
      rfl
    have fr : ∀ y, y < tx → tailR R' tx cls.length fl fs fc (I l) v1 v y = R y := fun y hy => by rw [tail_o (Or.inl hy), r1 y (by omega)]
    rcases r6 with ⟨q1, q2, q3, p1, C, m, g, rfl, q5, q6, q7, q8⟩ | ⟨o', w, q, q1, q2, q3, q4, q5, q6⟩
    · have e := E q3 fun V lw R2 hR => by
        obtain ⟨⟨u, c, fs, e1, e2, e3, e4, e5, e6⟩, _⟩ := q8
        rw [e1]
        exact okr_at e2 ((hR u (by omega)).trans e5) (by omega) (by rcases e6 with rfl | rfl | rfl <;> decide)
      rw [e]
      refine ⟨_, p1 + 1, d, c', fr, by omega, by omega, by omega, r5, Or.inl ⟨by omega, q1, rfl, p1, C, m, g, c40, q6, q5, rfl, q7, fun x y z => ?_⟩⟩
      refine TxI_s (q := (l, x, y, z, f, g)) hlo k' (fun j q hj => ?_) (fun w => (hs w).mono (Nat.le_refl _) (Nat.le_refl _) (by omega) fun y y1 y2 => r1 y y2) (q8.mono (by omega) hnx (Nat.le_refl _) fun _ _ _ => rfl)
      obtain ⟨a1, a2, a3⟩ := hq j q hj
      exact ⟨a1, fun w => (a2 w).mono (Nat.le_refl _) (Nat.le_refl _) (by omega) fun y y1 y2 => r1 y y2, a3.mono (Nat.le_refl _) (Nat.le_refl _) (by omega) fun y y1 y2 => r1 y y2⟩
    · have e := E q1 fun V lw R2 hR => by
        rcases q6 with rfl | ⟨u, v', n', rfl, e2, e5⟩
        · rfl
        · exact okr_at (by omega) ((hR u (by omega)).trans e5) (by omega) (by decide)
      rw [e]
      refine ⟨_, p', d, c', fr, by omega, by omega, by omega, r5, Or.inr ⟨o', w, q, rfl, q2, q3, q4, Or.inr ?_⟩⟩
      rcases q5 with ⟨k1, _, _⟩ | ⟨k1, k2⟩ | ⟨p1, C, k1, k2, k3, k4, k5, rfl, rfl⟩
      · omega
      · exact Or.inl ⟨c40, k2⟩
      · exact Or.inr ⟨_, C, c40, k2, k3, k4, k5, rfl, rfl⟩
  · have f40 : (I (cz (T p)) = I 40) = False := by rw [cz_I t p (by omega)]; exact eq_false c40
    have tl := tail_eq (V := V) (lw := lw) (n := n) (p := p) (o := 0) (f := ((1 : Nat) : Int)) (q := (p : Int)) (v1 := v1) (v2 := none) (l := l) h hat hc k (fun V lw R2 hR => ok1 fun y y1 y2 => hR y (by omega)) fun _ _ _ _ => rfl
    have e : clRem (some a) (I l) v1 (RW b V lw a n tx R p 0 0 0) nx = some (RW b V lw a n tx (tailR R tx cls.length fl fs fc (I l) v1 none) p 0 ((1 : Nat) : Int) (p : Int), 0, 0) := by
      unfold clRem
      rw [rr_on h, rr_g1 h, Option.bind_some, if_neg (show ¬ I 1 = 0 by decide), rr_on h, rr_here h t (by omega), Option.bind_some, show (40 : Int32) = I 40 from rfl, if_neg (of_eq_false f40), rr_p h, Option.bind_some, rr_on h, k_1, rr_bad h, Option.bind_some, Option.bind_some]
      dsimp only [Nat.add_zero]
      rw [andA_0, rr_on h, rr_g0 h (show 1 ≤ (1 : Int) ∧ (1 : Int) ≤ 100 by omega), Option.bind_some, if_pos (show I 0 = 0 from rfl), Option.bind_some]
      dsimp only
      rw [andA_0]
      exact tl
    rw [e]
    exact ⟨_, p, 0, 0, fun y hy => tail_o (Or.inl hy), by omega, by omega, by omega, by omega, Or.inr ⟨0, 1, p, rfl, by omega, by omega, by omega, Or.inl ⟨c40, rfl, rfl⟩⟩⟩
end CL
