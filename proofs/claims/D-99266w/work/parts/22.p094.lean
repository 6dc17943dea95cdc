/-! LAW: what the class's sums come to. No JVM here. -/
set_option maxRecDepth 100000
set_option linter.unusedVariables false
set_option linter.unusedSimpArgs false
abbrev mtF (V : Vw) (F : Nat → Int32) : Prop := ∀ k, k < 9 → I (V 4 (k + 1)) = F k
def rfz (V : Vw) (e : Bool) : Vw := if e = true then up V 4 0 1 else V
abbrev agR (lo hi : Nat) (R R' : Hp) : Prop := ∀ y, lo ≤ y → y < hi → R' y = R y
theorem mtF_u {V : Vw} {F : Nat → Int32} {x : Int} (h : mtF V F) : mtF (up V 4 0 x) F := fun k hk => by
  rw [up_k (by omega)]
  exact h k hk
theorem mtF_z {V : Vw} {F : Nat → Int32} {e : Bool} (h : mtF V F) : mtF (rfz V e) F := by
  unfold rfz
  split
  · exact mtF_u h
  · exact h
theorem up_up {V : Vw} {o k : Nat} {x y : Int} : up (up V o k x) o k y = up V o k y := by
  funext q j
  unfold up
  split <;> rfl
theorem rfz_z {V : Vw} {a b : Bool} : rfz (rfz V a) b = rfz V (a || b) := by
  unfold rfz
  cases a <;> cases b <;> simp [up_up]
def SemS (b : Nat) (R : Hp) (lo hi : Nat) (v : Option Nat) (f : Fm) (k : Nat) : Prop := (∃ u c fs, v = some u ∧ b + 305 ≤ u ∧ lo ≤ u ∧ u < hi ∧ R u = some (.inr (c, fs)) ∧ (c = 8 ∨ c = 9 ∨ c = 10)) ∧ ∀ R', agR lo hi R R' → ∀ (V : Vw) (lw : Option Nat) (F : Nat → Int32), mtF V F → ∀ j, k ≤ j → fX9_worth j (Wd b V lw R') v (some (b + 4)) = some ((f F).1, Wd b (rfz V (f F).2) lw R')
section SM
variable {b : Nat} {V : Vw} {lw : Option Nat} {R R1 R2 : Hp} {lo hi lo' hi' u k k' cnt r last : Nat} {v : Option Nat} {f g : Fm} {F : Nat → Int32}
theorem SemS.mono (h : SemS b R lo hi v f k) (hk : k ≤ k') (h1 : lo' ≤ lo) (h2 : hi ≤ hi') (ha : agR lo hi R R1) : SemS b R1 lo' hi' v f k' := by
  obtain ⟨⟨u, c, fs, e1, e2, e3, e4, e5, e6⟩, h⟩ := h
  refine ⟨⟨u, c, fs, e1, e2, by omega, by omega, (ha u e3 e4).trans e5, e6⟩, fun R' hR V lw F hF j hj => h R' (fun y y1 y2 => (hR y (by omega) (by omega)).trans (ha y y1 y2)) V lw F hF j (by omega)⟩
theorem SemS_num {v : Nat} (hb : b + 305 ≤ u) (hR : R u = some (.inr (9, [.inl (I (v : Int))]))) (h1 : lo ≤ u) (h2 : u < hi) : SemS b R lo hi (some u) (fNum v) 1 := by
  refine ⟨⟨u, 9, _, rfl, hb, h1, h2, hR, Or.inr (Or.inl rfl)⟩, fun R' hR' V lw F hF j hj => ?_⟩
  obtain ⟨j, rfl⟩ : ∃ j', j = j' + 1 := ⟨j - 1, by omega⟩
  have e : R' u = _ := (hR' u h1 h2).trans hR
  have ec : hp_cls (Wd b V lw R') (some u) = some 9 := o_cl hb e
  have eg : hp_gI (Wd b V lw R') (some u) 9 0 = some (I (v : Int)) := o_gI hb e rfl
  unfold fX9_worth fX11_worth
  rw [ec, if_neg (by decide), if_pos rfl, eg]
  rfl
theorem x_value (hF : mtF V F) {t : Int} (ht : 0 ≤ t ∧ t ≤ 255) (hl : ltOf t ≠ -1) : fX2_value (Wd b V lw R) (some (b + 4)) (I t) = some (F (ltOf t).toNat) := by
  have g : ∀ k, k < 9 → hp_gI (Wd b V lw R) (some (b + 4)) 1 (k + 1) = some (F k) := fun k hk => by
    rw [← hF k hk]
    exact rdI (n := 10) (by decide) (by omega) (by omega) (by
      rcases (show k = 0 ∨ k = 1 ∨ k = 2 ∨ k = 3 ∨ k = 4 ∨ k = 5 ∨ k = 6 ∨ k = 7 ∨ k = 8 by omega) with rfl | rfl | rfl | rfl | rfl | rfl | rfl | rfl | rfl <;> rfl)
  have h : t = 114 ∨ t = 115 ∨ t = 107 ∨ t = 108 ∨ t = 110 ∨ t = 112 ∨ t = 102 ∨ t = 121 ∨ t = 117 := by
    unfold ltOf at hl
    omega
  unfold fX2_value
  rcases h with rfl | rfl | rfl | rfl | rfl | rfl | rfl | rfl | rfl
  · rw [if_neg (by decide), if_neg (by decide), if_neg (by decide), if_neg (by decide), if_neg (by decide), if_pos (by decide), g 0 (by omega)]; rfl
  · rw [if_neg (by decide), if_neg (by decide), if_neg (by decide), if_neg (by decide), if_neg (by decide), if_neg (by decide), if_pos (by decide), g 1 (by omega)]; rfl
  · rw [if_neg (by decide), if_pos (by decide), g 2 (by omega)]; rfl
  · rw [if_neg (by decide), if_neg (by decide), if_pos (by decide), g 3 (by omega)]; rfl
  · rw [if_neg (by decide), if_neg (by decide), if_neg (by decide), if_pos (by decide), g 4 (by omega)]; rfl
  · rw [if_neg (by decide), if_neg (by decide), if_neg (by decide), if_neg (by decide), if_pos (by decide), g 5 (by omega)]; rfl
  · rw [if_pos (by decide), g 6 (by omega)]; rfl
  · rw [if_neg (by decide), if_neg (by decide), if_neg (by decide), if_neg (by decide), if_neg (by decide), if_neg (by decide), if_neg (by decide), if_pos (by decide), g 7 (by omega)]; rfl
  · rw [if_neg (by decide), if_neg (by decide), if_neg (by decide), if_neg (by decide), if_neg (by decide), if_neg (by decide), if_neg (by decide), if_neg (by decide), g 8 (by omega)]; rfl
theorem on_mo {α : Type} {w : Option α} : hp_on (Wd b V lw R) (some (b + 4)) 1 w = w := if_pos (clO (n := 10) (by decide))
theorem SemS_let {t : Int} (ht : 0 ≤ t ∧ t ≤ 255) (hl : ltOf t ≠ -1) (hb : b + 305 ≤ u) (hR : R u = some (.inr (10, [.inl (I t)]))) (h1 : lo ≤ u) (h2 : u < hi) : SemS b R lo hi (some u) (fLet (ltOf t).toNat) 1 := by
  refine ⟨⟨u, 10, _, rfl, hb, h1, h2, hR, Or.inr (Or.inr rfl)⟩, fun R' hR' V lw F hF j hj => ?_⟩
  obtain ⟨j, rfl⟩ : ∃ j', j = j' + 1 := ⟨j - 1, by omega⟩
  have e : R' u = _ := (hR' u h1 h2).trans hR
  have ec : hp_cls (Wd b V lw R') (some u) = some 10 := o_cl hb e
  have eg : hp_gI (Wd b V lw R') (some u) 10 0 = some (I t) := o_gI hb e rfl
  unfold fX9_worth fX12_worth
  rw [ec, if_neg (by decide), if_neg (by decide), if_pos rfl, eg, Option.bind_some, on_mo, x_value hF ht hl]
  rfl
/-! rows -/
def rowEv (rec : Hp → Option Nat → Option Nat → Option (Int32 × Hp)) (m : Hp) (a0 a1 : Option Nat) (fu : Nat) : Option (Int32 × Hp) := (hp_gR m a0 8 1).bind fun v1 => (rec m v1 a1).bind fun (v2, m3) => (hp_gR m3 a0 8 2).bind fun v4 => iter (fX10_worth_L14 rec a1) fu (v2, v4, m3)
def rowC (s : Int32) (v nxt : Option Nat) : Cel := .inr (8, [.inl s, .inr v, .inr nxt])
def RowsS (b : Nat) (R : Hp) (lo hi r last : Nat) (f : Fm) (cnt k : Nat) : Prop := lo ≤ r ∧ r < hi ∧ lo ≤ last ∧ last < hi ∧ b + 305 ≤ lo ∧ ∃ s v, R last = some (rowC s v none) ∧ ∀ R' nxt, (∀ y, lo ≤ y → y < hi → y ≠ last → R' y = R y) → R' last = some (rowC s v nxt) → (∃ s' v' n', R' r = some (rowC s' v' n')) ∧ ∀ (V : Vw) (lw : Option Nat) (F : Nat → Int32), mtF V F → ∀ j, k ≤ j → ∀ fu, rowEv (fX9_worth j) (Wd b V lw R') (some r) (some (b + 4)) (fu + cnt) = iter (fX10_worth_L14 (fX9_worth j) (some (b + 4))) fu ((f F).1, nxt, Wd b (rfz V (f F).2) lw R')
theorem row_g1 {s : Int32} {v nxt : Option Nat} (hb : b + 305 ≤ u) (h : R u = some (rowC s v nxt)) : hp_gR (Wd b V lw R) (some u) 8 1 = some v := o_gR hb h rfl
theorem row_g2 {s : Int32} {v nxt : Option Nat} (hb : b + 305 ≤ u) (h : R u = some (rowC s v nxt)) : hp_gR (Wd b V lw R) (some u) 8 2 = some nxt := o_gR hb h rfl
theorem row_g0 {s : Int32} {v nxt : Option Nat} (hb : b + 305 ≤ u) (h : R u = some (rowC s v nxt)) : hp_gI (Wd b V lw R) (some u) 8 0 = some s := o_gI hb h rfl
theorem RowsS_1 {s : Int32} (hb : b + 305 ≤ r) (hR : R r = some (rowC s v none)) (h : SemS b R (r + 1) hi v f k) : RowsS b R r hi r r f 0 k := by
  obtain ⟨⟨u, c, fs, e1, e2, e3, e4, e5, e6⟩, hs⟩ := h
  refine ⟨Nat.le_refl _, by omega, Nat.le_refl _, by omega, hb, s, v, hR, fun R' nxt h1 h2 => ⟨⟨s, v, nxt, h2⟩, fun V lw F hF j hj fu => ?_⟩⟩
  unfold rowEv
  rw [row_g1 hb h2, Option.bind_some, hs R' (fun y y1 y2 => h1 y (by omega) y2 (by omega)) V lw F hF j hj]
  show Option.bind (hp_gR (Wd b (rfz V (f F).2) lw R') (some r) 8 2) _ = _
  rw [row_g2 hb h2]
  rfl
def sgI (op : Nat) : Int32 := if op = 2 then 43 else if op = 3 then 45 else if op = 4 then 42 else if op = 5 then 47 else 37
theorem x_worked {op : Nat} (ho : 2 ≤ op ∧ op ≤ 6) {x y : Int32} : fX10_worked (Wd b V lw R) (sgI op) x y (some (b + 4)) = some (if isDv op ∧ y = 0 then 0 else rk op x y, Wd b (rfz V (decide (isDv op ∧ y = 0))) lw R) := by
  have e : ∀ {V : Vw}, hp_pZ (Wd b V lw R) (some (b + 4)) 1 0 (1 : Int32) = some (Wd b (up V 4 0 1) lw R) := fun {V} => by
    unfold hp_pZ
    rw [if_pos (Or.inr rfl)]
    show hp_pI (Wd b V lw R) (some (b + 4)) 1 0 (I 1) = _
    exact wrI (o := 4) (c := 1) (n := 10) (by decide) (by decide) (by omega) rfl
  have z : rfz V false = V := rfl
  rcases (show op = 2 ∨ op = 3 ∨ op = 4 ∨ op = 5 ∨ op = 6 by omega) with rfl | rfl | rfl | rfl | rfl
  · rw [if_neg (show ¬ (isDv 2 ∧ y = 0) from fun q => by rcases q.1 with c | c <;> cases c), decide_eq_false (show ¬ (isDv 2 ∧ y = 0) from fun q => by rcases q.1 with c | c <;> cases c), z]
    rfl
  · rw [if_neg (show ¬ (isDv 3 ∧ y = 0) from fun q => by rcases q.1 with c | c <;> cases c), decide_eq_false (show ¬ (isDv 3 ∧ y = 0) from fun q => by rcases q.1 with c | c <;> cases c), z]
    rfl
  · rw [if_neg (show ¬ (isDv 4 ∧ y = 0) from fun q => by rcases q.1 with c | c <;> cases c), decide_eq_false (show ¬ (isDv 4 ∧ y = 0) from fun q => by rcases q.1 with c | c <;> cases c), z]
    rfl
  · unfold fX10_worked
    rw [show sgI 5 = 47 from rfl, if_neg (by decide), if_neg (by decide), if_neg (by decide)]
    by_cases c : y = 0
    · rw [if_pos c, if_pos (show isDv 5 ∧ y = 0 from ⟨Or.inl rfl, c⟩), decide_eq_true (show isDv 5 ∧ y = 0 from ⟨Or.inl rfl, c⟩), e, Option.bind_some, Option.bind_some, if_pos c]
      rfl
    · rw [if_neg c, if_neg (show ¬ (isDv 5 ∧ y = 0) from fun q => c q.2), decide_eq_false (show ¬ (isDv 5 ∧ y = 0) from fun q => c q.2), z, Option.bind_some, if_neg c, if_pos rfl, if_neg c]
      rfl
  · unfold fX10_worked
    rw [show sgI 6 = 37 from rfl, if_neg (by decide), if_neg (by decide), if_neg (by decide)]
    by_cases c : y = 0
    · rw [if_pos c, if_pos (show isDv 6 ∧ y = 0 from ⟨Or.inr rfl, c⟩), decide_eq_true (show isDv 6 ∧ y = 0 from ⟨Or.inr rfl, c⟩), e, Option.bind_some, Option.bind_some, if_pos c]
      rfl
    · rw [if_neg c, if_neg (show ¬ (isDv 6 ∧ y = 0) from fun q => c q.2), decide_eq_false (show ¬ (isDv 6 ∧ y = 0) from fun q => c q.2), z, Option.bind_some, if_neg c, if_neg (by decide), if_neg c]
      rfl
theorem RowsS_s {op hi2 : Nat} {s0 : Int32} {v0 : Option Nat} (h : RowsS b R lo hi r last f cnt k) (ho : 2 ≤ op ∧ op ≤ 6) (hl : R last = some (rowC s0 v0 none)) (a1 : ∀ y, lo ≤ y → y < hi → y ≠ last → R2 y = R y) (a2 : R2 last = some (rowC s0 v0 (some hi))) (a3 : R2 hi = some (rowC (sgI op) v none)) (hs : SemS b R2 (hi + 1) hi2 v g k) : RowsS b R2 lo hi2 r hi (fBin op f g) (cnt + 1) k := by
  obtain ⟨b1, b2, b3, b4, b5, s, w, hw, h⟩ := h
  have e0 : s0 = s ∧ v0 = w := by
    rw [hl] at hw
    unfold rowC at hw
    simp at hw
    exact hw
  obtain ⟨rfl, rfl⟩ := e0
  obtain ⟨⟨u, c, fs, e1, e2, e3, e4, e5, e6⟩, hs⟩ := hs
  refine ⟨b1, by omega, by omega, by omega, b5, sgI op, v, a3, fun R' nxt h1 h2 => ?_⟩
  obtain ⟨g1, g2⟩ := h R' (some hi) (fun y y1 y2 y3 => (h1 y y1 (by omega) (by omega)).trans (a1 y y1 y2 y3)) ((h1 last b3 (by omega) (by omega)).trans a2)
  refine ⟨g1, fun V lw F hF j hj fu => ?_⟩
  rw [show fu + (cnt + 1) = fu + 1 + cnt by omega, g2 V lw F hF j hj (fu + 1)]
  have st : fX10_worth_L14 (fX9_worth j) (some (b + 4)) ((f F).1, some hi, Wd b (rfz V (f F).2) lw R') = some (.inl ((fBin op f g F).1, nxt, Wd b (rfz V (fBin op f g F).2) lw R')) := by
    unfold fX10_worth_L14
    dsimp only
    rw [if_neg (by simp), row_g0 (by omega) h2, Option.bind_some, row_g1 (by omega) h2, Option.bind_some, hs R' (fun y y1 y2 => h1 y (by omega) y2 (by omega)) _ lw F (mtF_z hF) j hj, Option.bind_some]
    dsimp only
    rw [x_worked ho, Option.bind_some]
    dsimp only
    rw [row_g2 (by omega) h2, rfz_z, rfz_z, ← Bool.or_assoc]
    rfl
  rw [iter_s st]
theorem RowsS_e (h : RowsS b R lo hi r last f cnt k) (hc : cnt ≤ 1000) : SemS b R lo hi (some r) f (k + 1) := by
  obtain ⟨b1, b2, b3, b4, b5, s, w, hw, h⟩ := h
  obtain ⟨⟨s', v', n', g1⟩, g2⟩ := h R none (fun _ _ _ _ => rfl) hw
  refine ⟨⟨r, 8, _, rfl, by omega, b1, b2, g1, Or.inl rfl⟩, fun R' hR V lw F hF j hj => ?_⟩
  obtain ⟨j, rfl⟩ : ∃ j', j = j' + 1 := ⟨j - 1, by omega⟩
  obtain ⟨q1, q2⟩ := h R' none (fun y y1 y2 _ => hR y y1 y2) ((hR last b3 b4).trans hw)
  have q2 := q2 V lw F hF j (by omega) (FUEL - cnt)
  rw [show FUEL - cnt + cnt = FUEL by unfold FUEL; omega] at q2
  have ec : hp_cls (Wd b V lw R') (some r) = some 8 := o_cl (by omega) ((hR r b1 b2).trans g1)
  obtain ⟨fu, hfu⟩ : ∃ fu, FUEL - cnt = fu + 1 := ⟨FUEL - cnt - 1, by unfold FUEL; omega⟩
  have stp : fX10_worth_L14 (fX9_worth j) (some (b + 4)) ((f F).1, none, Wd b (rfz V (f F).2) lw R') = some (.inr ((f F).1, Wd b (rfz V (f F).2) lw R')) := by
    unfold fX10_worth_L14
    rfl
  rw [hfu, iter_r stp] at q2
  unfold fX9_worth
  rw [ec, if_pos rfl]
  unfold fX10_worth
  unfold rowEv at q2
  cases hv : hp_gR (Wd b V lw R') (some r) 8 1 with
  | none => rw [hv] at q2; cases q2
  | some v1 =>
    rw [hv, Option.bind_some] at q2
    rw [Option.bind_some]
    cases hv2 : fX9_worth j (Wd b V lw R') v1 (some (b + 4)) with
    | none => rw [hv2] at q2; cases q2
    | some v2 =>
      obtain ⟨x2, m3⟩ := v2
      rw [hv2, Option.bind_some] at q2
      rw [Option.bind_some]
      dsimp only at q2 ⊢
      cases hv4 : hp_gR m3 (some r) 8 2 with
      | none => rw [hv4] at q2; cases q2
      | some v4 =>
        rw [hv4, Option.bind_some] at q2
        rw [Option.bind_some, q2]
        rfl
end SM
