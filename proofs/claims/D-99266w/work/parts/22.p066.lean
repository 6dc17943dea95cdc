/-! CALL: timetable, the plain law. No JVM here. -/
set_option maxRecDepth 100000
set_option linter.unusedVariables false
abbrev isLt (T : Nat → Int) (p : Nat) : Prop := 97 ≤ T p ∧ T p ≤ 106
def has1 (A : Nat → Int) (s : Int) (n : Nat) : Nat := fnd (fun k => decide (A k = s)) n
def stopR (T : Nat → Int) (S : Vw) (many p : Nat) : (Int × Nat) ⊕ (Nat × Int × Int) := if ¬ isLt T p then .inl (1, p) else if has1 (S 0) (T p - 97) many < many then .inl (6, p) else if many = 8 then .inl (5, p) else match numR T 4 (if many = 0 then 0 else S 1 (many - 1) + 1) 1439 (p + 1) with
  | .inl e => .inl e
  | .inr (m, p') => .inr (p', T p - 97, m)
def stpS (S : Vw) (many : Nat) (s m : Int) : Vw := up (up S 0 many s) 1 many m
def stpGo (T : Nat → Int) : Nat → Nat → Nat → Vw → (Int × Nat) ⊕ (Nat × Nat × Vw)
  | 0, many, p, S => .inl (5, p)
  | fu + 1, many, p, S => match stopR T S many p with
    | .inl e => .inl e
    | .inr (p', s, m) => if many + 1 < 2 ∨ isLt T p' then stpGo T fu (many + 1) p' (stpS S many s m) else .inr (p', many + 1, stpS S many s m)
def repR (T : Nat → Int) (p : Nat) (ends : Int) : (Int × Nat) ⊕ (Nat × Int × Int) := if T p = 120 then (match numR T 2 2 24 (p + 1) with
    | .inl e => .inl e
    | .inr (v, p1) => if T p1 = 43 then (match numR T 3 1 720 (p1 + 1) with
      | .inl e => .inl e
      | .inr (e, p2) => if ends + (v - 1) * e < 1440 then .inr (p2, v, e) else .inl (3, p1 + 1)) else .inl (1, p1)) else .inr (p, 1, 0)
def svcR (T : Nat → Int) (cnt all p : Nat) : (Int × Nat) ⊕ (Nat × Nat × Vw × Int × Int) := if isLt T p ∧ cnt = 16 then .inl (4, p) else match stpGo T 9 0 p (fun _ _ => 0) with
  | .inl e => .inl e
  | .inr (p1, many, S) => match repR T p1 (S 1 (many - 1)) with
    | .inl e => .inl e
    | .inr (p2, v, e) => if (all : Int) + v ≤ 48 then .inr (p2, many, S, v, e) else .inl (8, p)
/-- the trains of a service -/
def svcS (G : Vw) (all many : Nat) (S : Vw) (v e : Int) : Vw := fun o x => if o = 0 then (if all ≤ x ∧ (x : Int) < all + v then (many : Int) else G 0 x) else if o = 1 then (if all ≤ x / 8 ∧ ((x / 8 : Nat) : Int) < all + v ∧ x % 8 < many then S 0 (x % 8) else G 1 x) else if all ≤ x / 8 ∧ ((x / 8 : Nat) : Int) < all + v ∧ x % 8 < many then S 1 (x % 8) + (((x / 8 : Nat) : Int) - all) * e else G 2 x
def svcGo (T : Nat → Int) (n : Nat) : Nat → Nat → Nat → Nat → Vw → (Int × Nat) ⊕ (Nat × Nat × Vw)
  | 0, cnt, all, p, G => .inl (4, p)
  | fu + 1, cnt, all, p, G => match svcR T cnt all p with
    | .inl e => .inl e
    | .inr (p', many, S, v, e) => if n ≤ p' then .inr (cnt + 1, all + v.toNat, svcS G all many S v e) else if T p' = 59 then svcGo T n fu (cnt + 1) (all + v.toNat) (p' + 1) (svcS G all many S v e) else .inl (1, p')
section TS
variable {T T' : Nat → Int} {S G : Vw} {many p all cnt n fu : Nat} {s m v e : Int}
theorem TT_lt (h : TT T T') (p : Nat) : isLt T p ↔ isLt T' p := by
  rcases h p with w | w
  · show 97 ≤ T p ∧ T p ≤ 106 ↔ 97 ≤ T' p ∧ T' p ≤ 106
    rw [w]
  · show 97 ≤ T p ∧ T p ≤ 106 ↔ 97 ≤ T' p ∧ T' p ≤ 106
    omega
theorem TT_stop (h : TT T T') : stopR T S many p = stopR T' S many p := by
  unfold stopR
  by_cases c : isLt T p
  · have e : T p = T' p := (h p).elim id fun w => by have := c.1; omega
    rw [if_neg (not_not_intro c), if_neg (not_not_intro ((TT_lt h p).mp c)), e, TT_R h]
  · rw [if_pos c, if_pos (show ¬ isLt T' p from fun w => c ((TT_lt h p).mpr w))]
theorem TT_stp (h : TT T T') : ∀ fu many p S, stpGo T fu many p S = stpGo T' fu many p S
  | 0, _, _, _ => rfl
  | fu + 1, many, p, S => by
    rw [stpGo, stpGo, TT_stop h]
    cases stopR T' S many p with
    | inl e => rfl
    | inr q =>
      obtain ⟨p', s, m⟩ := q
      show (if many + 1 < 2 ∨ isLt T p' then _ else _) = (if many + 1 < 2 ∨ isLt T' p' then _ else _)
      by_cases c : many + 1 < 2 ∨ isLt T p'
      · rw [if_pos c, if_pos (c.elim Or.inl fun w => Or.inr ((TT_lt h p').mp w)), TT_stp h fu]
      · rw [if_neg c, if_neg (fun w => c (w.elim Or.inl fun w => Or.inr ((TT_lt h p').mpr w)))]
theorem TT_rep (h : TT T T') (p : Nat) (x : Int) : repR T p x = repR T' p x := by
  unfold repR
  by_cases c : T p = 120
  · rw [if_pos c, if_pos ((TT_c h (by decide)).mp c), TT_R h]
    cases numR T' 2 2 24 (p + 1) with
    | inl e => rfl
    | inr q =>
      obtain ⟨v, p1⟩ := q
      show (if T p1 = 43 then _ else _) = (if T' p1 = 43 then _ else _)
      by_cases c1 : T p1 = 43
      · rw [if_pos c1, if_pos ((TT_c h (by decide)).mp c1), TT_R h]
      · rw [if_neg c1, if_neg (fun w => c1 ((TT_c h (by decide)).mpr w))]
  · rw [if_neg c, if_neg (fun w => c ((TT_c h (by decide)).mpr w))]
theorem TT_svc (h : TT T T') (cnt all p : Nat) : svcR T cnt all p = svcR T' cnt all p := by
  unfold svcR
  rw [TT_stp h]
  have el : (isLt T p ∧ cnt = 16) ↔ (isLt T' p ∧ cnt = 16) := and_congr_left' (TT_lt h p)
  by_cases c : isLt T p ∧ cnt = 16
  · rw [if_pos c, if_pos (el.mp c)]
  · rw [if_neg c, if_neg (fun w => c (el.mpr w))]
    cases stpGo T' 9 0 p (fun _ _ => 0) with
    | inl e => rfl
    | inr q =>
      obtain ⟨p1, many, S⟩ := q
      show (match repR T p1 (S 1 (many - 1)) with | .inl e => _ | .inr (p2, v, e) => _ : (Int × Nat) ⊕ (Nat × Nat × Vw × Int × Int)) = _
      rw [TT_rep h]
theorem TT_sgo (h : TT T T') (n : Nat) : ∀ fu cnt all p G, svcGo T n fu cnt all p G = svcGo T' n fu cnt all p G
  | 0, _, _, _, _ => rfl
  | fu + 1, cnt, all, p, G => by
    rw [svcGo, svcGo, TT_svc h]
    cases svcR T' cnt all p with
    | inl e => rfl
    | inr q =>
      obtain ⟨p', many, S, v, e⟩ := q
      show (if n ≤ p' then _ else _) = (if n ≤ p' then _ else _)
      by_cases c : n ≤ p'
      · rw [if_pos c, if_pos c]
      · rw [if_neg c, if_neg c, TT_sgo h n fu]
        by_cases c2 : T p' = 59
        · rw [if_pos c2, if_pos ((TT_c h (by decide)).mp c2)]
        · rw [if_neg c2, if_neg (fun w => c2 ((TT_c h (by decide)).mpr w))]
/-- what is known of stops that are read -/
def SvK (many : Nat) (S : Vw) : Prop := (∀ k, k < many → 0 ≤ S 0 k ∧ S 0 k ≤ 9 ∧ 0 ≤ S 1 k ∧ S 1 k ≤ 1439) ∧ ∀ i k, i < k → k < many → S 0 i ≠ S 0 k ∧ S 1 i < S 1 k
theorem has1_no (h : ¬ has1 (S 0) s many < many) : ∀ k, k < many → S 0 k ≠ s := fun k hk e => by
  have := fnd_no (fun k => decide (S 0 k = s)) many k (by unfold has1 at h; omega)
  rw [decide_eq_true e] at this
  cases this
theorem stopR_b (hk : SvK many S) (h8 : many ≤ 8) : match stopR T S many p with
    | .inl (w, q) => 1 ≤ w ∧ w ≤ 6 ∧ p ≤ q ∧ q ≤ p + 6
    | .inr (p', s, m) => p < p' ∧ p' ≤ p + 5 ∧ many < 8 ∧ SvK (many + 1) (stpS S many s m) ∧ isLt T p := by
  unfold stopR
  by_cases c : isLt T p
  · rw [if_neg (not_not_intro c)]
    by_cases c1 : has1 (S 0) (T p - 97) many < many
    · rw [if_pos c1]
      exact ⟨by decide, by decide, by omega, by omega⟩
    · rw [if_neg c1]
      by_cases c2 : many = 8
      · rw [if_pos c2]
        exact ⟨by decide, by decide, by omega, by omega⟩
      · rw [if_neg c2]
        have nb := numR_b (T := T) (dg := 4) (p := p + 1) (lo := if many = 0 then 0 else S 1 (many - 1) + 1) (hi := 1439) (by decide)
        cases e : numR T 4 (if many = 0 then 0 else S 1 (many - 1) + 1) 1439 (p + 1) with
        | inl ee =>
          obtain ⟨w, q⟩ := ee
          rw [e] at nb
          have nb : 1 ≤ w ∧ w ≤ 3 ∧ p + 1 ≤ q ∧ q ≤ p + 1 + 4 := nb
          exact ⟨nb.1, by omega, by omega, by omega⟩
        | inr q =>
          obtain ⟨m, p'⟩ := q
          rw [e] at nb
          have nb : (if many = 0 then 0 else S 1 (many - 1) + 1) ≤ m ∧ m ≤ 1439 ∧ p + 1 < p' ∧ p' ≤ p + 1 + 4 := nb
          have m0 : 0 ≤ m := by
            have := nb.1
            by_cases c3 : many = 0
            · rw [if_pos c3] at this
              exact this
            · rw [if_neg c3] at this
              have := hk.1 (many - 1) (by omega)
              omega
          have e0 : ∀ k, stpS S many (T p - 97) m 0 k = if k = many then T p - 97 else S 0 k := fun k => by
            unfold stpS
            rw [up_r (by omega)]
            by_cases c3 : k = many
            · rw [c3, up_s, if_pos rfl]
            · rw [up_k c3, if_neg c3]
          have e1 : ∀ k, stpS S many (T p - 97) m 1 k = if k = many then m else S 1 k := fun k => by
            unfold stpS
            by_cases c3 : k = many
            · rw [c3, up_s, if_pos rfl]
            · rw [up_k c3, up_r (by omega), if_neg c3]
          refine ⟨by omega, by omega, by omega, ⟨fun k hkm => ?_, fun i k hik hkm => ?_⟩, c⟩
          · rw [e0, e1]
            by_cases c3 : k = many
            · rw [if_pos c3, if_pos c3]
              have := c.1
              have := c.2
              exact ⟨by omega, by omega, m0, nb.2.1⟩
            · rw [if_neg c3, if_neg c3]
              exact hk.1 k (by omega)
          · rw [e0, e0, e1, e1, if_neg (show ¬ i = many by omega), if_neg (show ¬ i = many by omega)]
            by_cases c3 : k = many
            · rw [if_pos c3, if_pos c3]
              refine ⟨has1_no c1 i (by omega), ?_⟩
              have := nb.1
              rw [if_neg (show ¬ many = 0 by omega)] at this
              by_cases c4 : i = many - 1
              · rw [c4]
                omega
              · have := (hk.2 i (many - 1) (by omega) (by omega)).2
                omega
            · rw [if_neg c3, if_neg c3]
              exact hk.2 i k hik (by omega)
  · rw [if_pos c]
    exact ⟨by decide, by decide, by omega, by omega⟩
theorem stpGo_b : ∀ fu many p S, many + fu = 9 → SvK many S → match stpGo T fu many p S with
    | .inl (w, q) => 1 ≤ w ∧ w ≤ 6 ∧ p ≤ q ∧ q ≤ p + 6 * fu
    | .inr (p', many', S') => p < p' ∧ p' ≤ p + 5 * fu ∧ 2 ≤ many' ∧ many' ≤ 8 ∧ SvK many' S'
  | 0, many, p, S, e, hk => ⟨by decide, by decide, Nat.le_refl _, Nat.le_refl _⟩
  | fu + 1, many, p, S, e, hk => by
    have sb := stopR_b (T := T) (p := p) hk (by omega)
    cases e1 : stopR T S many p with
    | inl ee =>
      obtain ⟨w, q⟩ := ee
      have go : stpGo T (fu + 1) many p S = .inl (w, q) := by rw [stpGo, e1]
      rw [go]
      rw [e1] at sb
      have sb : 1 ≤ w ∧ w ≤ 6 ∧ p ≤ q ∧ q ≤ p + 6 := sb
      exact ⟨sb.1, sb.2.1, sb.2.2.1, by omega⟩
    | inr q =>
      obtain ⟨p', s, m⟩ := q
      rw [e1] at sb
      have sb : p < p' ∧ p' ≤ p + 5 ∧ many < 8 ∧ SvK (many + 1) (stpS S many s m) ∧ isLt T p := sb
      by_cases c : many + 1 < 2 ∨ isLt T p'
      · have go : stpGo T (fu + 1) many p S = stpGo T fu (many + 1) p' (stpS S many s m) := by
          rw [stpGo, e1]
          exact if_pos c
        rw [go]
        have ih := stpGo_b fu (many + 1) p' (stpS S many s m) (by omega) sb.2.2.2.1
        cases e2 : stpGo T fu (many + 1) p' (stpS S many s m) with
        | inl ee =>
          obtain ⟨w, q⟩ := ee
          rw [e2] at ih
          have ih : 1 ≤ w ∧ w ≤ 6 ∧ p' ≤ q ∧ q ≤ p' + 6 * fu := ih
          exact ⟨ih.1, ih.2.1, by omega, by omega⟩
        | inr q =>
          obtain ⟨p2, m2, S2⟩ := q
          rw [e2] at ih
          have ih : p' < p2 ∧ p2 ≤ p' + 5 * fu ∧ 2 ≤ m2 ∧ m2 ≤ 8 ∧ SvK m2 S2 := ih
          exact ⟨by omega, by omega, ih.2.2.1, ih.2.2.2.1, ih.2.2.2.2⟩
      · have go : stpGo T (fu + 1) many p S = .inr (p', many + 1, stpS S many s m) := by
          rw [stpGo, e1]
          exact if_neg c
        rw [go]
        exact ⟨sb.1, by omega, by omega, by omega, sb.2.2.2.1⟩
theorem repR_b {x : Int} : match repR T p x with
    | .inl (w, q) => 1 ≤ w ∧ w ≤ 3 ∧ p ≤ q ∧ q ≤ p + 8
    | .inr (p', v, e) => p ≤ p' ∧ p' ≤ p + 7 ∧ 1 ≤ v ∧ v ≤ 24 ∧ 0 ≤ e ∧ e ≤ 720 ∧ (x ≤ 1439 → x + (v - 1) * e ≤ 1439) := by
  unfold repR
  by_cases c : T p = 120
  · rw [if_pos c]
    have n1 := numR_b (T := T) (dg := 2) (p := p + 1) (lo := 2) (hi := 24) (by decide)
    cases e1 : numR T 2 2 24 (p + 1) with
    | inl ee =>
      obtain ⟨w, q⟩ := ee
      rw [e1] at n1
      have n1 : 1 ≤ w ∧ w ≤ 3 ∧ p + 1 ≤ q ∧ q ≤ p + 1 + 2 := n1
      exact ⟨n1.1, n1.2.1, by omega, by omega⟩
    | inr q =>
      obtain ⟨v, p1⟩ := q
      rw [e1] at n1
      have n1 : 2 ≤ v ∧ v ≤ 24 ∧ p + 1 < p1 ∧ p1 ≤ p + 1 + 2 := n1
      show match (if T p1 = 43 then _ else _ : (Int × Nat) ⊕ (Nat × Int × Int)) with | .inl (w, q) => _ | .inr (p', v, e) => _
      by_cases c1 : T p1 = 43
      · rw [if_pos c1]
        have n2 := numR_b (T := T) (dg := 3) (p := p1 + 1) (lo := 1) (hi := 720) (by decide)
        cases e2 : numR T 3 1 720 (p1 + 1) with
        | inl ee =>
          obtain ⟨w, q⟩ := ee
          rw [e2] at n2
          have n2 : 1 ≤ w ∧ w ≤ 3 ∧ p1 + 1 ≤ q ∧ q ≤ p1 + 1 + 3 := n2
          exact ⟨n2.1, n2.2.1, by omega, by omega⟩
        | inr q =>
          obtain ⟨e, p2⟩ := q
          rw [e2] at n2
          have n2 : 1 ≤ e ∧ e ≤ 720 ∧ p1 + 1 < p2 ∧ p2 ≤ p1 + 1 + 3 := n2
          show match (if x + (v - 1) * e < 1440 then _ else _ : (Int × Nat) ⊕ (Nat × Int × Int)) with | .inl (w, q) => _ | .inr (p', v, e) => _
          by_cases c2 : x + (v - 1) * e < 1440
          · rw [if_pos c2]
            exact ⟨by omega, by omega, by omega, by omega, by omega, by omega, fun _ => by omega⟩
          · rw [if_neg c2]
            exact ⟨by decide, by decide, by omega, by omega⟩
      · rw [if_neg c1]
        exact ⟨by decide, by decide, by omega, by omega⟩
  · rw [if_neg c]
    exact ⟨by omega, by omega, by decide, by decide, by decide, by decide, fun h => by omega⟩
theorem SK_0 : SvK 0 (fun _ _ => 0) := ⟨fun k hk => by omega, fun i k _ hk => by omega⟩
theorem svcR_b (hall : all ≤ 48) : match svcR T cnt all p with
    | .inl (w, q) => 1 ≤ w ∧ w ≤ 8 ∧ p ≤ q ∧ q ≤ p + 70
    | .inr (p', many, S, v, e) => p < p' ∧ p' ≤ p + 70 ∧ 2 ≤ many ∧ many ≤ 8 ∧ SvK many S ∧ 1 ≤ v ∧ v ≤ 24 ∧ 0 ≤ e ∧ e ≤ 720 ∧ S 1 (many - 1) + (v - 1) * e ≤ 1439 ∧ (all : Int) + v ≤ 48 ∧ cnt ≠ 16 := by
  have sb := stpGo_b (T := T) 9 0 p (fun _ _ => 0) (by omega) SK_0
  unfold svcR
  by_cases c : isLt T p ∧ cnt = 16
  · rw [if_pos c]
    exact ⟨by decide, by decide, by omega, by omega⟩
  · rw [if_neg c]
    cases e1 : stpGo T 9 0 p (fun _ _ => 0) with
    | inl ee =>
      obtain ⟨w, q⟩ := ee
      rw [e1] at sb
      have sb : 1 ≤ w ∧ w ≤ 6 ∧ p ≤ q ∧ q ≤ p + 6 * 9 := sb
      exact ⟨sb.1, by omega, sb.2.2.1, by omega⟩
    | inr q =>
      obtain ⟨p1, many, S⟩ := q
      rw [e1] at sb
      have sb : p < p1 ∧ p1 ≤ p + 5 * 9 ∧ 2 ≤ many ∧ many ≤ 8 ∧ SvK many S := sb
      have lt : isLt T p := by
        by_cases w : isLt T p
        · exact w
        · have : stpGo T 9 0 p (fun _ _ => 0) = .inl (1, p) := by
            rw [stpGo]
            have : stopR T (fun _ _ => 0) 0 p = .inl (1, p) := if_pos w
            rw [this]
          rw [this] at e1
          cases e1
      have rb := repR_b (T := T) (p := p1) (x := S 1 (many - 1))
      show match (match repR T p1 (S 1 (many - 1)) with | .inl e => _ | .inr (p2, v, e) => _ : (Int × Nat) ⊕ (Nat × Nat × Vw × Int × Int)) with | .inl (w, q) => _ | .inr (p', many, S, v, e) => _
      cases e2 : repR T p1 (S 1 (many - 1)) with
      | inl ee =>
        obtain ⟨w, q⟩ := ee
        rw [e2] at rb
        have rb : 1 ≤ w ∧ w ≤ 3 ∧ p1 ≤ q ∧ q ≤ p1 + 8 := rb
        exact ⟨rb.1, by omega, by omega, by omega⟩
      | inr q =>
        obtain ⟨p2, v, e⟩ := q
        rw [e2] at rb
        have rb : p1 ≤ p2 ∧ p2 ≤ p1 + 7 ∧ 1 ≤ v ∧ v ≤ 24 ∧ 0 ≤ e ∧ e ≤ 720 ∧ (S 1 (many - 1) ≤ 1439 → S 1 (many - 1) + (v - 1) * e ≤ 1439) := rb
        show match (if (all : Int) + v ≤ 48 then _ else _ : (Int × Nat) ⊕ (Nat × Nat × Vw × Int × Int)) with | .inl (w, q) => _ | .inr (p', many, S, v, e) => _
        by_cases c2 : (all : Int) + v ≤ 48
        · rw [if_pos c2]
          exact ⟨by omega, by omega, sb.2.2.1, sb.2.2.2.1, sb.2.2.2.2, rb.2.2.1, rb.2.2.2.1, rb.2.2.2.2.1, rb.2.2.2.2.2.1, rb.2.2.2.2.2.2 (sb.2.2.2.2.1 (many - 1) (by omega)).2.2.2, c2, fun w => c ⟨lt, w⟩⟩
        · rw [if_neg c2]
          exact ⟨by decide, by decide, by omega, by omega⟩
/-- what is known of trains that are read -/
def GK (all : Nat) (G : Vw) : Prop := ∀ r, r < all → ∃ m : Nat, G 0 r = (m : Int) ∧ 2 ≤ m ∧ m ≤ 8 ∧ (∀ k, k < m → 0 ≤ G 1 (8 * r + k) ∧ G 1 (8 * r + k) ≤ 9 ∧ 0 ≤ G 2 (8 * r + k) ∧ G 2 (8 * r + k) ≤ 1439) ∧ ∀ i k, i < k → k < m → G 1 (8 * r + i) ≠ G 1 (8 * r + k) ∧ G 2 (8 * r + i) < G 2 (8 * r + k)
theorem GK_s (g : GK all G) (h2 : 2 ≤ many) (h8 : many ≤ 8) (k : SvK many S) (hv : 1 ≤ v ∧ v ≤ 24) (he : 0 ≤ e ∧ e ≤ 720) (hm : S 1 (many - 1) + (v - 1) * e ≤ 1439) : GK (all + v.toNat) (svcS G all many S v e) := fun r hr => by
  by_cases c : all ≤ r
  · have e0 : svcS G all many S v e 0 r = (many : Int) := by
      show (if all ≤ r ∧ (r : Int) < all + v then (many : Int) else G 0 r) = _
      rw [if_pos ⟨c, by omega⟩]
    have d : ∀ k, k < many → (8 * r + k) / 8 = r ∧ (8 * r + k) % 8 = k := fun k hk => by omega
    have e1 : ∀ k, k < many → svcS G all many S v e 1 (8 * r + k) = S 0 k := fun k hk => by
      show (if all ≤ (8 * r + k) / 8 ∧ (((8 * r + k) / 8 : Nat) : Int) < all + v ∧ (8 * r + k) % 8 < many then S 0 ((8 * r + k) % 8) else G 1 (8 * r + k)) = _
      rw [(d k hk).1, (d k hk).2, if_pos ⟨c, by omega, hk⟩]
    have e2 : ∀ k, k < many → svcS G all many S v e 2 (8 * r + k) = S 1 k + ((r : Int) - all) * e := fun k hk => by
      show (if all ≤ (8 * r + k) / 8 ∧ (((8 * r + k) / 8 : Nat) : Int) < all + v ∧ (8 * r + k) % 8 < many then S 1 ((8 * r + k) % 8) + ((((8 * r + k) / 8 : Nat) : Int) - all) * e else G 2 (8 * r + k)) = _
      rw [(d k hk).1, (d k hk).2, if_pos ⟨c, by omega, hk⟩]
    have me : ((r : Int) - all) * e ≤ (v - 1) * e := Int.mul_le_mul_of_nonneg_right (by omega) he.1
    have m0 : 0 ≤ ((r : Int) - all) * e := Int.mul_nonneg (by omega) he.1
    refine ⟨many, e0, h2, h8, fun i hi => ?_, fun i j hij hj => ?_⟩
    · rw [e1 i hi, e2 i hi]
      have ki := k.1 i hi
      have le : S 1 i ≤ S 1 (many - 1) := by
        by_cases w : i = many - 1
        · rw [w]
          exact Int.le_refl _
        · have := (k.2 i (many - 1) (by omega) (by omega)).2
          omega
      exact ⟨ki.1, ki.2.1, by omega, by omega⟩
    · rw [e1 i (by omega), e1 j hj, e2 i (by omega), e2 j hj]
      have := k.2 i j hij hj
      exact ⟨this.1, by omega⟩
  · obtain ⟨m, g1, g2, g3, g4, g5⟩ := g r (by omega)
    have e0 : svcS G all many S v e 0 r = G 0 r := by
      show (if all ≤ r ∧ (r : Int) < all + v then (many : Int) else G 0 r) = _
      rw [if_neg (fun w => c w.1)]
    have e1 : ∀ k, k < m → svcS G all many S v e 1 (8 * r + k) = G 1 (8 * r + k) := fun k hk => by
      show (if all ≤ (8 * r + k) / 8 ∧ (((8 * r + k) / 8 : Nat) : Int) < all + v ∧ (8 * r + k) % 8 < many then S 0 ((8 * r + k) % 8) else G 1 (8 * r + k)) = _
      rw [if_neg (fun w => by have := w.1; omega)]
    have e2 : ∀ k, k < m → svcS G all many S v e 2 (8 * r + k) = G 2 (8 * r + k) := fun k hk => by
      show (if all ≤ (8 * r + k) / 8 ∧ (((8 * r + k) / 8 : Nat) : Int) < all + v ∧ (8 * r + k) % 8 < many then S 1 ((8 * r + k) % 8) + ((((8 * r + k) / 8 : Nat) : Int) - all) * e else G 2 (8 * r + k)) = _
      rw [if_neg (fun w => by have := w.1; omega)]
    refine ⟨m, by rw [e0]; exact g1, g2, g3, fun i hi => ?_, fun i j hij hj => ?_⟩
    · rw [e1 i hi, e2 i hi]
      exact g4 i hi
    · rw [e1 i (by omega), e1 j hj, e2 i (by omega), e2 j hj]
      exact g5 i j hij hj
end TS
