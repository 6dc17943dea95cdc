/-! LAW: what the class's conditions come to. No JVM here. -/
set_option maxRecDepth 100000
set_option linter.unusedVariables false
set_option linter.unusedSimpArgs false
def SemC (b : Nat) (R : Hp) (lo hi : Nat) (v : Option Nat) (g : Gm) (k : Nat) : Prop := (∃ u c fs, v = some u ∧ b + 305 ≤ u ∧ lo ≤ u ∧ u < hi ∧ R u = some (.inr (c, fs)) ∧ (c = 11 ∨ c = 12 ∨ c = 13)) ∧ ∀ R', agR lo hi R R' → ∀ (V : Vw) (lw : Option Nat) (F : Nat → Int32), mtF V F → ∀ j, k ≤ j → ∃ x, fX13_holds j (Wd b V lw R') v (some (b + 4)) = some (g F, Wd b (up V 4 0 x) lw R')
def gSm (d : Int32) (g h : Gm) : Gm := fun F => if g F = 2 then 2 else if g F = d then d else h F
def somC (v : Option Nat) (d : Int32) (nxt : Option Nat) : Cel := .inr (11, [.inr v, .inl d, .inr nxt])
section SC2
variable {b : Nat} {V : Vw} {lw : Option Nat} {R R1 R2 : Hp} {lo hi lo' hi' u k k' cnt r last : Nat} {v : Option Nat} {f f' : Fm} {g h : Gm} {F : Nat → Int32} {d : Int32}
theorem SemC.mono (h : SemC b R lo hi v g k) (hk : k ≤ k') (h1 : lo' ≤ lo) (h2 : hi ≤ hi') (ha : agR lo hi R R1) : SemC b R1 lo' hi' v g k' := by
  obtain ⟨⟨u, c, fs, e1, e2, e3, e4, e5, e6⟩, h⟩ := h
  refine ⟨⟨u, c, fs, e1, e2, by omega, by omega, (ha u e3 e4).trans e5, e6⟩, fun R' hR V lw F hF j hj => h R' (fun y y1 y2 => (hR y (by omega) (by omega)).trans (ha y y1 y2)) V lw F hF j (by omega)⟩
theorem mo_z {x : Int} (hx : x = 0 ∨ x = 1) : hp_pZ (Wd b V lw R) (some (b + 4)) 1 0 (I x) = some (Wd b (up V 4 0 x) lw R) := by
  unfold hp_pZ
  rw [if_pos (I01 hx)]
  show hp_pI (Wd b V lw R) (some (b + 4)) 1 0 (I x) = _
  exact wrI (o := 4) (c := 1) (n := 10) (by decide) (by decide) (by omega) rfl
theorem mo_g : hp_gI (Wd b V lw R) (some (b + 4)) 1 0 = some (I (V 4 0)) := rdI (n := 10) (by decide) (by omega) (by omega) rfl
theorem rfz_u {e : Bool} : ∃ x, rfz (up V 4 0 0) e = up V 4 0 x ∧ I x = if e = true then 1 else 0 := by
  unfold rfz
  cases e with
  | true => exact ⟨1, by rw [if_pos rfl, up_up], rfl⟩
  | false => exact ⟨0, by rw [if_neg (by decide)], rfl⟩
def hwI (how : Nat) : Int32 := if how = 7 then 60 else if how = 8 then 62 else 61
theorem SemC_cmp {v1 v2 : Option Nat} {how : Nat} (ho : 7 ≤ how ∧ how ≤ 9) (hb : b + 305 ≤ u) (h1 : lo ≤ u) (h2 : u < hi) (hR : R u = some (.inr (13, [.inr v1, .inr v2, .inl (hwI how)]))) (s1 : SemS b R lo hi v1 f 60) (s2 : SemS b R lo hi v2 f' 60) : SemC b R lo hi (some u) (gCmp how f f') 1 := by
  refine ⟨⟨u, 13, _, rfl, hb, h1, h2, hR, Or.inr (Or.inr rfl)⟩, fun R' hR' V lw F hF j hj => ?_⟩
  obtain ⟨j, rfl⟩ : ∃ j', j = j' + 1 := ⟨j - 1, by omega⟩
  have e : R' u = _ := (hR' u h1 h2).trans hR
  obtain ⟨x, x1, x2⟩ := rfz_u (V := V) (e := (f F).2 || (f' F).2)
  have ec : ∀ {V : Vw}, hp_cls (Wd b V lw R') (some u) = some 13 := fun {V} => o_cl hb e
  have g0 : ∀ {V : Vw}, hp_gR (Wd b V lw R') (some u) 13 0 = some v1 := fun {V} => o_gR hb e rfl
  have g1 : ∀ {V : Vw}, hp_gR (Wd b V lw R') (some u) 13 1 = some v2 := fun {V} => o_gR hb e rfl
  have g2 : ∀ {V : Vw}, hp_gI (Wd b V lw R') (some u) 13 2 = some (hwI how) := fun {V} => o_gI hb e rfl
  have w1 := s1.2 R' hR' (up V 4 0 0) lw F (mtF_u hF) 60 (Nat.le_refl _)
  have w2 := s2.2 R' hR' (rfz (up V 4 0 0) (f F).2) lw F (mtF_z (mtF_u hF)) 60 (Nat.le_refl _)
  rw [rfz_z, x1] at w2
  refine ⟨x, ?_⟩
  unfold fX13_holds
  rw [ec, if_neg (by decide), if_neg (by decide), if_pos rfl]
  unfold fX16_holds
  rw [k_0, mo_z (Or.inl rfl), Option.bind_some, g0, Option.bind_some, w1, Option.bind_some]
  dsimp only
  rw [g1, Option.bind_some, w2, Option.bind_some]
  dsimp only
  rw [g2, Option.bind_some]
  have cm : ((if hwI how = (60 : Int32) then if (f' F).1 ≤ (f F).1 then some (I 0) else some (1 : Int32) else (some (hwI how)).bind fun v15 => if v15 = (62 : Int32) then if (f F).1 ≤ (f' F).1 then some (I 0) else some (1 : Int32) else if (f F).1 = (f' F).1 then some (1 : Int32) else some (I 0)) : Option Int32) = some (rk how (f F).1 (f' F).1) := by
    rcases (show how = 7 ∨ how = 8 ∨ how = 9 by omega) with rfl | rfl | rfl
    · rw [if_pos (show hwI 7 = 60 from rfl)]
      unfold rk
      simp only [show ¬ (7 : Nat) = 2 by omega, show ¬ (7 : Nat) = 3 by omega, show ¬ (7 : Nat) = 4 by omega, show ¬ (7 : Nat) = 5 by omega, show ¬ (7 : Nat) = 6 by omega, ↓reduceIte]
      split <;> rfl
    · rw [if_neg (show ¬ hwI 8 = 60 from by decide), Option.bind_some, if_pos (show hwI 8 = 62 from rfl)]
      unfold rk
      simp only [show ¬ (8 : Nat) = 2 by omega, show ¬ (8 : Nat) = 3 by omega, show ¬ (8 : Nat) = 4 by omega, show ¬ (8 : Nat) = 5 by omega, show ¬ (8 : Nat) = 6 by omega, show ¬ (8 : Nat) = 7 by omega, ↓reduceIte]
      split <;> rfl
    · rw [if_neg (show ¬ hwI 9 = 60 from by decide), Option.bind_some, if_neg (show ¬ hwI 9 = 62 from by decide)]
      unfold rk
      simp only [show ¬ (9 : Nat) = 2 by omega, show ¬ (9 : Nat) = 3 by omega, show ¬ (9 : Nat) = 4 by omega, show ¬ (9 : Nat) = 5 by omega, show ¬ (9 : Nat) = 6 by omega, show ¬ (9 : Nat) = 7 by omega, show ¬ (9 : Nat) = 8 by omega, ↓reduceIte]
      split <;> rfl
  rw [cm, Option.bind_some, mo_g, up_s, x2, Option.bind_some]
  unfold gCmp
  have r01 := rk_01 ho.1 (f F).1 (f' F).1
  cases hc : ((f F).2 || (f' F).2) with
  | true =>
    rw [if_pos rfl, if_pos rfl, if_neg (by decide)]
  | false =>
    rw [if_pos (show (if false = true then (1 : Int32) else 0) = I 0 from rfl), if_neg (show ¬ (false = true) by decide)]
    rcases r01 with q | q
    · rw [q]
      rfl
    · rw [q]
      rfl
theorem SemC_not (hb : b + 305 ≤ u) (h1 : lo ≤ u) (h2 : u < hi) (hR : R u = some (.inr (12, [.inr v]))) (s : SemC b R lo hi v g k) : SemC b R lo hi (some u) (gNot g) (k + 1) := by
  refine ⟨⟨u, 12, _, rfl, hb, h1, h2, hR, Or.inr (Or.inl rfl)⟩, fun R' hR' V lw F hF j hj => ?_⟩
  obtain ⟨j, rfl⟩ : ∃ j', j = j' + 1 := ⟨j - 1, by omega⟩
  have e : R' u = _ := (hR' u h1 h2).trans hR
  have ec : hp_cls (Wd b V lw R') (some u) = some 12 := o_cl hb e
  have g0 : hp_gR (Wd b V lw R') (some u) 12 0 = some v := o_gR hb e rfl
  obtain ⟨x, w1⟩ := s.2 R' hR' V lw F hF j (by omega)
  refine ⟨x, ?_⟩
  unfold fX13_holds
  rw [ec, if_neg (by decide), if_pos rfl]
  unfold fX15_holds
  rw [g0, Option.bind_some, w1, Option.bind_some]
  unfold gNot
  dsimp only
  by_cases c : g F = 2
  · rw [if_pos c, if_pos c]
  · rw [if_neg c, if_neg c]
/-! rows of conditions -/
def SomsC (b : Nat) (R : Hp) (lo hi r last : Nat) (d : Int32) (g : Gm) (cnt k : Nat) : Prop := lo ≤ r ∧ r < hi ∧ lo ≤ last ∧ last < hi ∧ b + 305 ≤ lo ∧ ∃ v, R last = some (somC v d none) ∧ ∀ R' nxt, (∀ y, lo ≤ y → y < hi → y ≠ last → R' y = R y) → R' last = some (somC v d nxt) → (∃ v' n', R' r = some (somC v' d n')) ∧ ∀ (V : Vw) (lw : Option Nat) (F : Nat → Int32), mtF V F → ∀ j, k ≤ j → ∃ x, ∀ fu, iter (fX14_holds_L2 (fX13_holds j) (some r) (some (b + 4))) (fu + cnt + 1) (some r, Wd b V lw R') = if g F = 2 then some (.inr (2, Wd b (up V 4 0 x) lw R')) else if g F = d then some (.inr (d, Wd b (up V 4 0 x) lw R')) else iter (fX14_holds_L2 (fX13_holds j) (some r) (some (b + 4))) fu (nxt, Wd b (up V 4 0 x) lw R')
theorem som_g0 {v nxt : Option Nat} (hb : b + 305 ≤ u) (h : R u = some (somC v d nxt)) : hp_gR (Wd b V lw R) (some u) 11 0 = some v := o_gR hb h rfl
theorem som_g1 {v nxt : Option Nat} (hb : b + 305 ≤ u) (h : R u = some (somC v d nxt)) : hp_gI (Wd b V lw R) (some u) 11 1 = some d := o_gI hb h rfl
theorem som_g2 {v nxt : Option Nat} (hb : b + 305 ≤ u) (h : R u = some (somC v d nxt)) : hp_gR (Wd b V lw R) (some u) 11 2 = some nxt := o_gR hb h rfl
theorem som_step {v nxt v' n' : Option Nat} {j fu : Nat} {x : Int} {R' : Hp} (hu : b + 305 ≤ u) (hr : b + 305 ≤ r) (h1 : R' u = some (somC v d nxt)) (h2 : R' r = some (somC v' d n')) (hs : fX13_holds j (Wd b V lw R') v (some (b + 4)) = some (g F, Wd b (up V 4 0 x) lw R')) : iter (fX14_holds_L2 (fX13_holds j) (some r) (some (b + 4))) (fu + 1) (some u, Wd b V lw R') = if g F = 2 then some (.inr (2, Wd b (up V 4 0 x) lw R')) else if g F = d then some (.inr (d, Wd b (up V 4 0 x) lw R')) else iter (fX14_holds_L2 (fX13_holds j) (some r) (some (b + 4))) fu (nxt, Wd b (up V 4 0 x) lw R') := by
  have st : fX14_holds_L2 (fX13_holds j) (some r) (some (b + 4)) (some u, Wd b V lw R') = if g F = 2 then some (.inr (.inr (2, Wd b (up V 4 0 x) lw R'))) else if g F = d then some (.inr (.inr (d, Wd b (up V 4 0 x) lw R'))) else some (.inl (nxt, Wd b (up V 4 0 x) lw R')) := by
    unfold fX14_holds_L2
    dsimp only
    rw [if_neg (by simp), som_g0 hu h1, Option.bind_some, hs, Option.bind_some]
    dsimp only
    by_cases c : g F = 2
    · rw [if_pos c, if_pos c, c]
    · rw [if_neg c, if_neg c, som_g1 hr h2, Option.bind_some]
      by_cases c2 : g F = d
      · rw [if_pos c2, if_pos c2, c2]
      · rw [if_neg c2, if_neg c2, som_g2 hu h1]
        rfl
  rw [iter, st]
  by_cases c : g F = 2
  · rw [if_pos c, if_pos c]
  · rw [if_neg c, if_neg c]
    by_cases c2 : g F = d
    · rw [if_pos c2, if_pos c2]
    · rw [if_neg c2, if_neg c2]
theorem SomsC_1 (hb : b + 305 ≤ r) (hR : R r = some (somC v d none)) (h : SemC b R (r + 1) hi v g k) : SomsC b R r hi r r d g 0 k := by
  obtain ⟨⟨u, c, fs, e1, e2, e3, e4, e5, e6⟩, hs⟩ := h
  refine ⟨Nat.le_refl _, by omega, Nat.le_refl _, by omega, hb, v, hR, fun R' nxt h1 h2 => ⟨⟨v, nxt, h2⟩, fun V lw F hF j hj => ?_⟩⟩
  obtain ⟨x, w⟩ := hs R' (fun y y1 y2 => h1 y (by omega) y2 (by omega)) V lw F hF j hj
  exact ⟨x, fun fu => som_step hb hb h2 h2 w⟩
theorem SomsC_s {hi2 : Nat} {v0 : Option Nat} (hS : SomsC b R lo hi r last d g cnt k) (hd : d ≠ 2) (hl : R last = some (somC v0 d none)) (a1 : ∀ y, lo ≤ y → y < hi → y ≠ last → R2 y = R y) (a2 : R2 last = some (somC v0 d (some hi))) (a3 : R2 hi = some (somC v d none)) (hs : SemC b R2 (hi + 1) hi2 v h k) : SomsC b R2 lo hi2 r hi d (gSm d g h) (cnt + 1) k := by
  obtain ⟨b1, b2, b3, b4, b5, w, hw, hS⟩ := hS
  have e0 : v0 = w := by
    rw [hl] at hw
    unfold somC at hw
    simp at hw
    exact hw
  subst e0
  obtain ⟨⟨u, c, fs, e1, e2, e3, e4, e5, e6⟩, hs⟩ := hs
  refine ⟨b1, by omega, by omega, by omega, b5, v, a3, fun R' nxt h1 h2 => ?_⟩
  obtain ⟨g1, g2⟩ := hS R' (some hi) (fun y y1 y2 y3 => (h1 y y1 (by omega) (by omega)).trans (a1 y y1 y2 y3)) ((h1 last b3 (by omega) (by omega)).trans a2)
  refine ⟨g1, fun V lw F hF j hj => ?_⟩
  obtain ⟨v', n', g1⟩ := g1
  obtain ⟨x, g3⟩ := g2 V lw F hF j hj
  obtain ⟨x2, w2⟩ := hs R' (fun y y1 y2 => h1 y (by omega) y2 (by omega)) (up V 4 0 x) lw F (mtF_u hF) j hj
  rw [up_up] at w2
  by_cases c : g F = 2
  · refine ⟨x, fun fu => ?_⟩
    have e : gSm d g h F = 2 := if_pos c
    rw [show fu + (cnt + 1) + 1 = fu + 1 + cnt + 1 by omega, g3 (fu + 1), if_pos c, if_pos e]
  · by_cases c2 : g F = d
    · refine ⟨x, fun fu => ?_⟩
      have e : gSm d g h F = d := (if_neg c).trans (if_pos c2)
      rw [show fu + (cnt + 1) + 1 = fu + 1 + cnt + 1 by omega, g3 (fu + 1), if_neg c, if_pos c2, e, if_neg hd, if_pos rfl]
    · refine ⟨x2, fun fu => ?_⟩
      have e : gSm d g h F = h F := (if_neg c).trans (if_neg c2)
      have st := som_step (fu := fu) (V := up V 4 0 x) (lw := lw) (j := j) (x := x2) (g := h) (F := F) (show b + 305 ≤ hi by omega) (show b + 305 ≤ r by omega) h2 g1 (by rw [up_up]; exact w2)
      rw [up_up] at st
      rw [show fu + (cnt + 1) + 1 = fu + 1 + cnt + 1 by omega, g3 (fu + 1), if_neg c, if_neg c2, e, st]
theorem SomsC_e (hS : SomsC b R lo hi r last d g cnt k) (hd : d = 0 ∨ d = 1) (hg : ∀ F, g F = 0 ∨ g F = 1 ∨ g F = 2) (hc : cnt ≤ 1000) : SemC b R lo hi (some r) g (k + 1) := by
  obtain ⟨b1, b2, b3, b4, b5, w, hw, h⟩ := hS
  obtain ⟨⟨v', n', g1⟩, g2⟩ := h R none (fun _ _ _ _ => rfl) hw
  refine ⟨⟨r, 11, _, rfl, by omega, b1, b2, g1, Or.inl rfl⟩, fun R' hR V lw F hF j hj => ?_⟩
  obtain ⟨j, rfl⟩ : ∃ j', j = j' + 1 := ⟨j - 1, by omega⟩
  obtain ⟨q1, q2⟩ := h R' none (fun y y1 y2 _ => hR y y1 y2) ((hR last b3 b4).trans hw)
  obtain ⟨x, q2⟩ := q2 V lw F hF j (by omega)
  have q2 := q2 (FUEL - cnt - 1)
  rw [show FUEL - cnt - 1 + cnt + 1 = FUEL by unfold FUEL; omega] at q2
  have cr : R' r = some (somC v' d n') := (hR r b1 b2).trans g1
  have ec : hp_cls (Wd b V lw R') (some r) = some 11 := o_cl (by omega) cr
  obtain ⟨fu, hfu⟩ : ∃ fu, FUEL - cnt - 1 = fu + 1 := ⟨FUEL - cnt - 2, by unfold FUEL; omega⟩
  have stp : fX14_holds_L2 (fX13_holds j) (some r) (some (b + 4)) (none, Wd b (up V 4 0 x) lw R') = some (.inr (.inl (Wd b (up V 4 0 x) lw R'))) := by
    unfold fX14_holds_L2
    rfl
  rw [hfu, iter_r stp] at q2
  refine ⟨x, ?_⟩
  unfold fX13_holds
  rw [ec, if_pos rfl]
  unfold fX14_holds
  rw [q2]
  by_cases c : g F = 2
  · rw [if_pos c, c]
    rfl
  · rw [if_neg c]
    by_cases c2 : g F = d
    · rw [if_pos c2, c2]
      rfl
    · rw [if_neg c2, Option.bind_some]
      dsimp only
      rw [som_g1 (by omega) cr, Option.bind_some]
      have : 1 - d = g F := by
        rcases hd with rfl | rfl
        · rcases hg F with q | q | q
          · exact absurd q c2
          · rw [q]; rfl
          · exact absurd q c
        · rcases hg F with q | q | q
          · rw [q]; rfl
          · exact absurd q c2
          · exact absurd q c
      rw [this]
end SC2
