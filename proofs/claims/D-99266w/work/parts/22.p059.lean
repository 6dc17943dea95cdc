/-! CALL: orders, the plain law and the class. No JVM here. -/
set_option maxRecDepth 100000
set_option linter.unusedVariables false
/-- two readings that differ at the text's end alone -/
def TT (T T' : Nat → Int) : Prop := ∀ p, T p = T' p ∨ (T p = 0 ∧ T' p = -1)
theorem TT_dg {T T' : Nat → Int} (h : TT T T') (p : Nat) : isDg T p ↔ isDg T' p := by
  rcases h p with w | w
  · show 48 ≤ T p ∧ T p ≤ 57 ↔ 48 ≤ T' p ∧ T' p ≤ 57
    rw [w]
  · show 48 ≤ T p ∧ T p ≤ 57 ↔ 48 ≤ T' p ∧ T' p ≤ 57
    omega
theorem fnd_c {p q : Nat → Bool} : ∀ n, (∀ i, i < n → p i = q i) → fnd p n = fnd q n
  | 0, _ => rfl
  | n + 1, h => by
    rw [fnd, fnd, fnd_c n (fun i hi => h i (by omega)), h n (by omega)]
theorem TT_D {T T' : Nat → Int} (h : TT T T') (p dg : Nat) : numD T p dg = numD T' p dg := fnd_c _ fun i _ => decide_eq_decide.mpr (not_congr (TT_dg h (p + i)))
theorem TT_V {T T' : Nat → Int} (h : TT T T') (p : Nat) : ∀ k, (∀ i, i < k → isDg T (p + i)) → numV T p k = numV T' p k
  | 0, _ => rfl
  | k + 1, g => by
    have d := g k (by omega)
    rw [numV, numV, TT_V h p k fun i hi => g i (by omega)]
    rcases h (p + k) with w | w <;> omega
theorem TT_R {T T' : Nat → Int} (h : TT T T') (dg : Nat) (lo hi : Int) (p : Nat) : numR T dg lo hi p = numR T' dg lo hi p := by
  have v : numV T p (numD T p dg) = numV T' p (numD T p dg) := TT_V h p _ fun i hi => numD_dg hi
  unfold numR
  rw [v, TT_D h p dg]
theorem TT_c {T T' : Nat → Int} (h : TT T T') {p : Nat} {c : Int} (hc : 1 ≤ c) : T p = c ↔ T' p = c := by
  rcases h p with w | w <;> omega
theorem numR2 {T : Nat → Int} {hi : Int} (hh : 99 ≤ hi) (p : Nat) : numR T 2 0 hi p = numR T 2 0 99 p := by
  unfold numR
  by_cases c0 : numD T p 2 = 0
  · rw [if_pos c0, if_pos c0]
  · rw [if_neg c0, if_neg c0]
    by_cases c1 : numD T p 2 = 2 + 1
    · rw [if_pos c1, if_pos c1]
    · rw [if_neg c1, if_neg c1]
      have nb := numV_b (T := T) (p := p) (numD T p 2) fun i hi => numD_dg hi
      have e : (10 : Int) ^ numD T p 2 ≤ 100 := by
        have := numD_le T p 2
        have : numD T p 2 = 1 ∨ numD T p 2 = 2 := by omega
        rcases this with w | w <;> rw [w] <;> decide
      rw [if_pos (by omega), if_pos (by omega)]
/-- what one order says -/
def ordR (T : Nat → Int) (N cnt p : Nat) : (Int × Nat) ⊕ (Nat × Int × Int × Int) := if ¬ isDg T p then .inl (1, p) else if cnt = 20 then .inl (4, p) else match numR T 2 0 99 p with
  | .inl e => .inl e
  | .inr (r, p1) => if (N : Int) ≤ r then .inl (7, p) else if T p1 = 33 ∨ T p1 = 63 then .inr (p1 + 1, r, T p1, 0) else if T p1 = 43 then (match numR T 2 0 99 (p1 + 1) with
    | .inl e => .inl e
    | .inr (v, p2) => .inr (p2, r, 43, v)) else .inl (1, p1)
def ordS (O : Vw) (r : Nat) (sg v : Int) : Vw := if sg = 43 then up O 0 r v else up O 1 r (if sg = 63 then 1 else 0)
def ordGo (T : Nat → Int) (N n : Nat) : Nat → Nat → Nat → Vw → (Int × Nat) ⊕ (Nat × Vw)
  | 0, cnt, p, O => .inl (4, p)
  | fu + 1, cnt, p, O => match ordR T N cnt p with
    | .inl e => .inl e
    | .inr (p', r, sg, v) => if n ≤ p' then .inr (cnt + 1, ordS O r.toNat sg v) else if T p' = 59 then ordGo T N n fu (cnt + 1) (p' + 1) (ordS O r.toNat sg v) else .inl (1, p')
theorem TT_ord {T T' : Nat → Int} (h : TT T T') (N cnt p : Nat) : ordR T N cnt p = ordR T' N cnt p := by
  unfold ordR
  by_cases d : isDg T p
  · rw [if_neg (not_not_intro d), if_neg (not_not_intro ((TT_dg h p).mp d)), TT_R h]
    by_cases c : cnt = 20
    · rw [if_pos c, if_pos c]
    · rw [if_neg c, if_neg c]
      cases numR T' 2 0 99 p with
      | inl e => rfl
      | inr q =>
        obtain ⟨r, p1⟩ := q
        show (if _ then _ else _) = (if _ then _ else _)
        by_cases c1 : (N : Int) ≤ r
        · rw [if_pos c1, if_pos c1]
        · rw [if_neg c1, if_neg c1]
          rcases h p1 with w | ⟨w1, w2⟩
          · rw [w, TT_R h]
          · rw [w1, w2]
            rfl
  · rw [if_pos d, if_pos (show ¬ isDg T' p from fun w => d ((TT_dg h p).mpr w))]
theorem TT_go {T T' : Nat → Int} (h : TT T T') (N n : Nat) : ∀ fu cnt p O, ordGo T N n fu cnt p O = ordGo T' N n fu cnt p O
  | 0, _, _, _ => rfl
  | fu + 1, cnt, p, O => by
    rw [ordGo, ordGo, TT_ord h]
    cases ordR T' N cnt p with
    | inl e => rfl
    | inr q =>
      obtain ⟨p', r, sg, v⟩ := q
      show (if _ then _ else _) = (if _ then _ else _)
      by_cases c : n ≤ p'
      · rw [if_pos c, if_pos c]
      · rw [if_neg c, if_neg c, TT_go h N n fu]
        by_cases c2 : T p' = 59
        · rw [if_pos c2, if_pos ((TT_c h (by decide)).mp c2)]
        · rw [if_neg c2, if_neg (fun w => c2 ((TT_c h (by decide)).mpr w))]
/-- what is known of an order that is read -/
theorem numR_b {T : Nat → Int} {dg p : Nat} {lo hi : Int} (hd : dg ≤ 5) : match numR T dg lo hi p with
    | .inl (w, q) => 1 ≤ w ∧ w ≤ 3 ∧ p ≤ q ∧ q ≤ p + dg
    | .inr (v, p') => lo ≤ v ∧ v ≤ hi ∧ p < p' ∧ p' ≤ p + dg := by
  have hD := numD_le T p dg
  unfold numR
  by_cases c0 : numD T p dg = 0
  · rw [if_pos c0]
    exact ⟨by decide, by decide, by omega, by omega⟩
  · rw [if_neg c0]
    by_cases c1 : numD T p dg = dg + 1
    · rw [if_pos c1]
      exact ⟨by decide, by decide, by omega, by omega⟩
    · rw [if_neg c1]
      by_cases c2 : lo ≤ numV T p (numD T p dg) ∧ numV T p (numD T p dg) ≤ hi
      · rw [if_pos c2]
        exact ⟨c2.1, c2.2, by omega, by omega⟩
      · rw [if_neg c2]
        exact ⟨by decide, by decide, by omega, by omega⟩
theorem ordR_b {T : Nat → Int} {N cnt p : Nat} : match ordR T N cnt p with
    | .inl (w, q) => 1 ≤ w ∧ w ≤ 7 ∧ p ≤ q ∧ q ≤ p + 6
    | .inr (p', r, sg, v) => p < p' ∧ p' ≤ p + 5 ∧ 0 ≤ r ∧ r < N ∧ 0 ≤ v ∧ v ≤ 99 ∧ cnt ≠ 20 := by
  have n1 := numR_b (T := T) (dg := 2) (p := p) (lo := 0) (hi := 99) (by decide)
  unfold ordR
  by_cases d : isDg T p
  · rw [if_neg (not_not_intro d)]
    by_cases c : cnt = 20
    · rw [if_pos c]
      exact ⟨by decide, by decide, by omega, by omega⟩
    · rw [if_neg c]
      cases e1 : numR T 2 0 99 p with
      | inl e =>
        rw [e1] at n1
        obtain ⟨w, q⟩ := e
        have n1 : 1 ≤ w ∧ w ≤ 3 ∧ p ≤ q ∧ q ≤ p + 2 := n1
        exact ⟨n1.1, by omega, by omega, by omega⟩
      | inr q =>
        rw [e1] at n1
        obtain ⟨r, p1⟩ := q
        have n1 : 0 ≤ r ∧ r ≤ 99 ∧ p < p1 ∧ p1 ≤ p + 2 := n1
        show match (if (N : Int) ≤ r then _ else _ : (Int × Nat) ⊕ (Nat × Int × Int × Int)) with | .inl (w, q) => _ | .inr (p', r, sg, v) => _
        by_cases c1 : (N : Int) ≤ r
        · rw [if_pos c1]
          exact ⟨by decide, by decide, by omega, by omega⟩
        · rw [if_neg c1]
          by_cases c2 : T p1 = 33 ∨ T p1 = 63
          · rw [if_pos c2]
            exact ⟨by omega, by omega, n1.1, by omega, by decide, by decide, c⟩
          · rw [if_neg c2]
            by_cases c3 : T p1 = 43
            · rw [if_pos c3]
              have n2 := numR_b (T := T) (dg := 2) (p := p1 + 1) (lo := 0) (hi := 99) (by decide)
              cases e2 : numR T 2 0 99 (p1 + 1) with
              | inl e =>
                rw [e2] at n2
                obtain ⟨w, q⟩ := e
                have n2 : 1 ≤ w ∧ w ≤ 3 ∧ p1 + 1 ≤ q ∧ q ≤ p1 + 1 + 2 := n2
                exact ⟨n2.1, by omega, by omega, by omega⟩
              | inr q =>
                rw [e2] at n2
                obtain ⟨v, p2⟩ := q
                have n2 : 0 ≤ v ∧ v ≤ 99 ∧ p1 + 1 < p2 ∧ p2 ≤ p1 + 1 + 2 := n2
                exact ⟨by omega, by omega, n1.1, by omega, n2.1, n2.2.1, c⟩
            · rw [if_neg c3]
              exact ⟨by decide, by decide, by omega, by omega⟩
  · rw [if_pos d]
    exact ⟨by decide, by decide, by omega, by omega⟩
