/-! THE START: the reference's constructor; the start. No JVM here. -/
set_option maxRecDepth 100000
set_option linter.unusedVariables false
set_option linter.unusedSimpArgs false
def ini (a c : Nat) (G : Hp → Option (Hp × Nat × Nat)) : List (Nat × Nat × Nat) → Nat → Hp → Option (Hp × Nat × Nat)
  | [], nx, m => G m
  | (k, t, n) :: l, nx, m => (some (hp_newa m nx t n)).bind fun m1 => andA 1 n ((hp_pR m1 (some a) c k (some nx)).bind fun m3 => ini a c G l (nx + 1) m3)
def l7 : List (Nat × Nat × Nat) := [(0, 0, 26), (1, 0, 26), (2, 0, 26), (3, 0, 12), (4, 0, 12), (5, 0, 12), (6, 0, 48), (7, 0, 384), (8, 0, 384), (9, 0, 48), (10, 0, 384), (11, 2, 12), (12, 2, 48), (16, 1, 260), (27, 0, 260), (28, 0, 260), (29, 0, 16), (30, 0, 16), (31, 0, 16), (32, 0, 16), (33, 0, 260), (34, 0, 16), (35, 0, 16), (36, 0, 16), (37, 0, 16), (38, 0, 260), (39, 0, 9), (40, 0, 48), (41, 0, 384), (42, 0, 384), (45, 0, 8), (46, 0, 8), (47, 0, 48), (48, 2, 48), (50, 0, 12), (51, 0, 48), (55, 0, 10), (56, 0, 10), (57, 0, 48), (58, 0, 48), (59, 2, 1440), (60, 0, 48), (61, 0, 48), (62, 0, 48), (63, 0, 384), (64, 0, 61)]
def tail7 (a : Nat) (m138 : Hp) : Option (Hp × Nat × Nat) :=
  (hp_gR m138 (some a) 6 0).bind fun v139 =>
  (hp_sI m138 v139 0 (25 : Int32) (1 : Int32)).bind fun m140 =>
  (hp_pI m140 (some a) 6 13 (5 : Int32)).bind fun m141 =>
  some (m141, 0, 0)
theorem y_ini (m : Hp) (nx a : Nat) : fX7_init m nx a = ini a 6 (tail7 a) l7 nx m := rfl
def setF : List Vl → Nat → List (Nat × Nat × Nat) → List Vl
  | fs, _, [] => fs
  | fs, nx, (k, _, _) :: l => setF (fs.set k (.inr (some nx))) (nx + 1) l
def sumN : List (Nat × Nat × Nat) → Nat
  | [] => 0
  | (_, _, n) :: l => n + sumN l
def okL : Nat → List (Nat × Nat × Nat) → Bool
  | _, [] => true
  | k, (f, t, n) :: l => decide (dK k = (1, t, n)) && decide (f < 66) && okL (k + 1) l
def SR (b k : Nat) (m0 m : Hp) (fs : List Vl) : Prop := m (b + 258) = some (.inr (6, fs)) ∧ fs.length = 66 ∧ (∀ q, q < b + 258 → m q = m0 q) ∧ (∀ o, 259 < o → o < k → m (b + o) = stC b o) ∧ (259 < k → m (b + 259) = some (.inl (0, 26, .inl fun _ => 0))) ∧ ∀ q, b + k ≤ q → m q = none
section RI
variable {b k : Nat} {m0 m : Hp} {fs : List Vl}
theorem ini_run (G : Hp → Option (Hp × Nat × Nat)) : ∀ (l : List (Nat × Nat × Nat)) (k : Nat) (m : Hp) (fs : List Vl), 259 ≤ k → okL k l = true → SR b k m0 m fs → ∃ m', ini (b + 258) 6 G l (b + k) m = andA l.length (sumN l) (G m') ∧ SR b (k + l.length) m0 m' (setF fs (b + k) l)
  | [], k, m, fs, hk, ho, h => ⟨m, (andA_0 _).symm, h⟩
  | (f, t, n) :: l, k, m, fs, hk, ho, h => by
    obtain ⟨h1, h2, h3, h4, h5, h6⟩ := h
    unfold okL at ho
    rw [Bool.and_eq_true, Bool.and_eq_true, decide_eq_true_eq, decide_eq_true_eq] at ho
    obtain ⟨⟨o1, o2⟩, o3⟩ := ho
    have e1 : hp_pR (hp_newa m (b + k) t n) (some (b + 258)) 6 f (some (b + k)) = some (hp_set (hp_newa m (b + k) t n) (b + 258) (.inr (6, fs.set f (.inr (some (b + k)))))) := by
      unfold hp_pR hp_newa
      rw [g_pV (c := 6) (fs := fs) (by rw [s_n (by omega)]; exact h1) (by omega)]
    obtain ⟨m', w1, w2⟩ := ini_run G l (k + 1) (hp_set (hp_newa m (b + k) t n) (b + 258) (.inr (6, fs.set f (.inr (some (b + k)))))) (fs.set f (.inr (some (b + k)))) (by omega) o3 (by
      unfold hp_newa
      refine ⟨s_s _ _, by rw [List.length_set]; exact h2, fun q hq => by rw [s_n (by omega), s_n (by omega)]; exact h3 q hq, fun o q1 q2 => ?_, fun q => ?_, fun q hq => by rw [s_n (by omega), s_n (by omega)]; exact h6 q (by omega)⟩
      · rw [s_n (by omega)]
        by_cases e : o = k
        · rw [e, s_s]
          exact stC_a o1 (by omega) (by omega) (by omega) (by omega)
        · rw [s_n (by omega)]
          exact h4 o q1 (by omega)
      · rw [s_n (by omega)]
        by_cases e : k = 259
        · rw [e, s_s]
          have e2 : ((1, 0, 26) : Nat × Nat × Nat) = (1, t, n) := by rw [← o1, e]; decide
          have e3 : (0, 26) = (t, n) := congrArg Prod.snd e2
          have e4 : 0 = t := congrArg Prod.fst e3
          have e5 : 26 = n := congrArg Prod.snd e3
          rw [← e4, ← e5]
        · rw [s_n (by omega)]
          exact h5 (by omega))
    refine ⟨m', ?_, ?_⟩
    · show (some (hp_newa m (b + k) t n)).bind _ = _
      rw [Option.bind_some, e1, Option.bind_some, show b + k + 1 = b + (k + 1) by omega, w1]
      unfold andA
      cases G m' with
      | none => rfl
      | some q =>
        obtain ⟨q1, q2, q3⟩ := q
        simp only [Option.map_some, List.length_cons]
        show some (q1, 1 + (l.length + q2), n + (sumN l + q3)) = some (q1, l.length + 1 + q2, n + sumN l + q3)
        rw [show 1 + (l.length + q2) = l.length + 1 + q2 by omega, show n + (sumN l + q3) = n + sumN l + q3 by omega]
    · rw [List.length_cons, show k + (l.length + 1) = k + 1 + l.length by omega]
      exact w2
/-- the reference's fields, in the end -/
def stG (b : Nat) : List Vl := (List.range 66).map fun k => dF b stV (some (b + 54)) 258 k
theorem setF_7 : (setF dfX7 (b + 259) l7).set 13 (.inl 5) = stG b := rfl
theorem y_init (h0 : ∀ q, b + 258 ≤ q → m0 q = none) : ∃ (m' : Hp) (c : Nat), fX7_init (hp_set m0 (b + 258) (.inr (6, dfX7))) (b + 259) (b + 258) = some (m', 46, c) ∧ c ≤ 20000 ∧ (∀ q, q < b + 258 → m' q = m0 q) ∧ m' (b + 258) = some (.inr (6, stG b)) ∧ (∀ o, 259 ≤ o → o < 305 → m' (b + o) = stC b o) ∧ ∀ q, b + 305 ≤ q → m' q = none := by
  obtain ⟨m1, w1, h1, h2, h3, h4, h5, h6⟩ := ini_run (b := b) (m0 := m0) (tail7 (b + 258)) l7 259 (hp_set m0 (b + 258) (.inr (6, dfX7))) dfX7 (by omega) (by decide) ⟨s_s _ _, rfl, fun q hq => s_n (by omega) _, fun o q1 q2 => by omega, fun q => by omega, fun q hq => by rw [s_n (by omega)]; exact h0 q (by omega)⟩
  have L : l7.length = 46 := rfl
  have h5 := h5 (by rw [L]; omega)
  have e1 : hp_gR m1 (some (b + 258)) 6 0 = some (some (b + 259)) := g_gR h1 rfl
  have e2 : hp_sI m1 (some (b + 259)) 0 (25 : Int32) (1 : Int32) = some (hp_set m1 (b + 259) (.inl (0, 26, .inl (hp_upI (fun _ => 0) 25 1)))) := by
    have i1 : hp_in (25 : Int32) 26 = true := by decide
    have i2 : (25 : Int32).toNatClampNeg = 25 := by decide
    have i3 : hp_nar 0 (1 : Int32) = 1 := by decide
    unfold hp_sI hp_arr
    simp only [h5, if_true, i1, i2, i3]
  have e3 : hp_pI (hp_set m1 (b + 259) (.inl (0, 26, .inl (hp_upI (fun _ => 0) 25 1)))) (some (b + 258)) 6 13 (5 : Int32) = some (hp_set (hp_set m1 (b + 259) (.inl (0, 26, .inl (hp_upI (fun _ => 0) 25 1)))) (b + 258) (.inr (6, stG b))) := by
    unfold hp_pI
    rw [g_pV (c := 6) (by rw [s_n (by omega)]; exact h1) (by rw [h2]; omega), setF_7]
  refine ⟨hp_set (hp_set m1 (b + 259) (.inl (0, 26, .inl (hp_upI (fun _ => 0) 25 1)))) (b + 258) (.inr (6, stG b)), sumN l7, ?_, by decide, fun q hq => by rw [s_n (by omega), s_n (by omega)]; exact h3 q hq, s_s _ _, fun o o1 o2 => ?_, fun q hq => by rw [s_n (by omega), s_n (by omega)]; exact h6 q (by rw [L]; omega)⟩
  · rw [y_ini, w1]
    unfold tail7
    rw [e1, Option.bind_some, e2, Option.bind_some, e3]
    rfl
  · rw [s_n (by omega)]
    by_cases c : o = 259
    · subst c
      rw [s_s]
      unfold stC
      rw [if_neg (by omega), if_neg (by omega), if_neg (by omega), if_neg (by omega)]
      unfold dC
      rw [show dK 259 = (1, 0, 26) by decide]
      refine congrArg some (congrArg Sum.inl (Prod.ext rfl (Prod.ext rfl (congrArg Sum.inl (funext fun i => ?_)))))
      have : stV 259 i = if i = 25 then 1 else 0 := rfl
      rw [this]
      unfold hp_upI
      by_cases c : i = 25
      · rw [if_pos c, if_pos c]
        rfl
      · rw [if_neg c, if_neg c]
        rfl
    · rw [s_n (by omega)]
      exact h4 o (by omega) (by rw [L]; omega)
theorem dK_a : ∀ o, o < 114 → ((54 ≤ o ∧ o ≤ 57) ∨ (dK o).1 ≠ 0) ∧ ((54 ≤ o ∧ o ≤ 57) → (dK o).1 = 0) := by decide
theorem dK_b : ∀ j, j < 47 → (dK (258 + j)).1 ≠ 0 := by decide
theorem dK_c {o : Nat} (h : o < 305) (h2 : ¬ (54 ≤ o ∧ o ≤ 57)) : (dK o).1 ≠ 0 := by
  by_cases c1 : o < 114
  · exact (dK_a o c1).1.resolve_left h2
  · by_cases c2 : o < 258
    · unfold dK
      rw [if_neg c1, if_pos c2]
      split
      · exact (by decide : (3 : Nat) ≠ 0)
      · exact (by decide : (1 : Nat) ≠ 0)
    · have := dK_b (o - 258) (by omega)
      rw [show 258 + (o - 258) = o by omega] at this
      exact this
def stR (b : Nat) : Hp := fun q => if b + 54 ≤ q ∧ q ≤ b + 57 then stC b (q - b) else none
theorem dC_lw {V : Vw} {lw lw' : Option Nat} {o : Nat} (h : o ≠ 0) : dC b V lw o = dC b V lw' o := by
  have : (fun k => dF b V lw o k) = fun k => dF b V lw' o k := funext fun k => by
    unfold dF
    rw [if_neg (fun q => h q.1), if_neg (fun q => h q.1)]
  unfold dC
  rw [this]
/-- the start: both constructors have run -/
theorem start_W : ∃ (m1 m2 : Hp) (c1 c2 : Nat), fX0_init (hp_set (fun _ => none) b (.inr (0, dfX0))) (b + 1) b = some (m1, 257, c1) ∧ fX7_init (hp_set m1 (b + 258) (.inr (6, dfX7))) (b + 259) (b + 258) = some (m2, 46, c2) ∧ c1 ≤ 20000 ∧ c2 ≤ 20000 ∧ m2 = Wd b stV (some (b + 54)) (stR b) := by
  obtain ⟨m1, c1, a1, a2, a3, a4, a5, a6⟩ := x_init (b := b)
  obtain ⟨m2, c2, b1, b2, b3, b4, b5, b6⟩ := y_init (b := b) (m0 := m1) fun q hq => a6 q (Or.inr hq)
  refine ⟨m1, m2, c1, c2, a1, b1, a2, b2, funext fun q => ?_⟩
  unfold Wd
  by_cases c0 : q < b
  · rw [if_neg (by omega), b3 q (by omega), a6 q (Or.inl c0)]
    exact (if_neg (by omega)).symm
  · obtain ⟨o, rfl⟩ : ∃ o, q = b + o := ⟨q - b, by omega⟩
    rw [show b + o - b = o by omega]
    by_cases ct : 54 ≤ o ∧ o ≤ 57
    · rw [if_neg (fun w => w.2 ((dK_a o (by omega)).2 ct)), b3 _ (by omega), a5 o (by omega) (by omega)]
      unfold stR
      rw [if_pos (by omega), show b + o - b = o by omega]
    · by_cases c5 : 305 ≤ o
      · rw [if_neg (fun w => w.2 (dK_hi c5)), b6 _ (by omega)]
        exact (if_neg (by omega)).symm
      · rw [if_pos ⟨by omega, dK_c (by omega) ct⟩]
        by_cases o0 : o = 0
        · subst o0
          show m2 b = _
          rw [b3 b (by omega), a3]
          rfl
        · by_cases o1 : o = 1
          · subst o1
            rw [b3 _ (by omega), a4]
            exact dC_lw (by omega)
          · by_cases c2 : o < 258
            · rw [b3 _ (by omega), a5 o (by omega) c2, stC_d (by omega)]
              exact dC_lw o0
            · by_cases c3 : o = 258
              · subst c3
                rw [b4]
                rfl
              · rw [b5 o (by omega) (by omega), stC_d (by omega)]
                exact dC_lw o0
end RI
