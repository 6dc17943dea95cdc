/-! LAW: what codes come to, as a plain machine. No JVM here. -/
set_option maxRecDepth 100000
set_option linter.unusedVariables false
abbrev Cd : Type := Nat × Nat
def enc (c : Cd) : Int := 1048576 * (c.1 : Int) + (c.2 : Int)
def rk (op : Nat) (x y : Int32) : Int32 := if op = 2 then x + y else if op = 3 then x - y else if op = 4 then x * y else if op = 5 then x / y else if op = 6 then jrem x y else if op = 7 then (if y ≤ x then 0 else 1) else if op = 8 then (if x ≤ y then 0 else 1) else if x = y then 1 else 0
/-- one step: position, stack (top first) -/
def stp (cd : Nat → Cd) (F : Nat → Int32) (to : Nat) : Nat × List Int32 → Option ((Nat × List Int32) ⊕ Int32) := fun (k, st) =>
  if to ≤ k then (match st with
    | [x] => some (.inr x)
    | _ => none)
  else if (cd k).1 = 0 then (if st.length < 260 then some (.inl (k + 1, I ((cd k).2 : Int) :: st)) else none)
  else if (cd k).1 = 1 then (if st.length < 260 ∧ (cd k).2 < 9 then some (.inl (k + 1, F (cd k).2 :: st)) else none)
  else match st with
    | [] => none
    | x :: s =>
      if (cd k).1 = 10 then some (.inl (k + 1, (1 - x) :: s))
      else if (cd k).1 = 11 then (if x = 0 then some (.inl ((cd k).2, x :: s)) else some (.inl (k + 1, s)))
      else if (cd k).1 = 12 then (if x = 1 then some (.inl ((cd k).2, x :: s)) else some (.inl (k + 1, s)))
      else match s with
        | [] => none
        | y :: s => if ((cd k).1 = 5 ∨ (cd k).1 = 6) ∧ x = 0 then some (.inr 0) else some (.inl (k + 1, rk (cd k).1 y x :: s))
def AtC (cd : Nat → Cd) : Nat → List Cd → Prop
  | _, [] => True
  | k, c :: C => cd k = c ∧ AtC cd (k + 1) C
theorem AtC_app {cd : Nat → Cd} : ∀ (C : List Cd) (D : List Cd) (k : Nat), AtC cd k (C ++ D) ↔ AtC cd k C ∧ AtC cd (k + C.length) D
  | [], D, k => by
    show AtC cd k D ↔ True ∧ AtC cd (k + 0) D
    rw [Nat.add_zero, true_and]
  | c :: C, D, k => by
    show cd k = c ∧ AtC cd (k + 1) (C ++ D) ↔ (cd k = c ∧ AtC cd (k + 1) C) ∧ AtC cd (k + (C.length + 1)) D
    rw [AtC_app C D (k + 1), and_assoc, show k + (C.length + 1) = k + 1 + C.length by omega]
theorem iter_m1 {σ ρ : Type} {b : σ → Option (σ ⊕ ρ)} : ∀ {n : Nat} {s : σ} {r : ρ}, iter b n s = some r → iter b (n + 1) s = some r
  | 0, s, r, h => by cases h
  | n + 1, s, r, h => by
    rw [iter] at h ⊢
    cases hb : b s with
    | none => rw [hb] at h; cases h
    | some q =>
      rw [hb] at h
      cases q with
      | inl s' => exact iter_m1 (n := n) h
      | inr r' => exact h
theorem iter_mk {σ ρ : Type} {b : σ → Option (σ ⊕ ρ)} {n : Nat} {s : σ} {r : ρ} (h : iter b n s = some r) : ∀ k, iter b (n + k) s = some r
  | 0 => h
  | k + 1 => iter_m1 (iter_mk h k)
abbrev Fm : Type := (Nat → Int32) → Int32 × Bool
abbrev Gm : Type := (Nat → Int32) → Int32
def fNum (v : Nat) : Fm := fun _ => (I (v : Int), false)
def fLet (l : Nat) : Fm := fun F => (F l, false)
abbrev isDv (op : Nat) : Prop := op = 5 ∨ op = 6
def fBin (op : Nat) (f g : Fm) : Fm := fun F => (if isDv op ∧ (g F).1 = 0 then 0 else rk op (f F).1 (g F).1, (f F).2 || (g F).2 || decide (isDv op ∧ (g F).1 = 0))
def gCmp (how : Nat) (f g : Fm) : Gm := fun F => if ((f F).2 || (g F).2) = true then 2 else rk how (f F).1 (g F).1
def gNot (g : Gm) : Gm := fun F => if g F = 2 then 2 else 1 - g F
def gAnd (g h : Gm) : Gm := fun F => if g F = 2 then 2 else if g F = 0 then 0 else h F
def gOr (g h : Gm) : Gm := fun F => if g F = 2 then 2 else if g F = 1 then 1 else h F
def MS (C : List Cd) (f : Fm) : Prop := ∀ (cd : Nat → Cd) (F : Nat → Int32) (to k : Nat) (st : List Int32) (fu : Nat), AtC cd k C → k + C.length ≤ to → st.length + C.length ≤ 260 → if (f F).2 = true then iter (stp cd F to) (fu + C.length) (k, st) = some 0 else ∀ r, iter (stp cd F to) fu (k + C.length, (f F).1 :: st) = some r → iter (stp cd F to) (fu + C.length) (k, st) = some r
def MC (n : Nat) (C : Nat → List Cd) (g : Gm) : Prop := (∀ k, (C k).length = n) ∧ (∀ F, g F = 0 ∨ g F = 1 ∨ g F = 2) ∧ ∀ (cd : Nat → Cd) (F : Nat → Int32) (to k : Nat) (st : List Int32) (fu : Nat), AtC cd k (C k) → k + n ≤ to → st.length + n ≤ 260 → if g F = 2 then iter (stp cd F to) (fu + n) (k, st) = some 0 else ∀ r, iter (stp cd F to) fu (k + n, g F :: st) = some r → iter (stp cd F to) (fu + n) (k, st) = some r
theorem MS_num (v : Nat) : MS [(0, v)] (fNum v) := fun cd F to k st fu h hk hs => by
  show ∀ r, iter (stp cd F to) fu (k + 1, I (v : Int) :: st) = some r → iter (stp cd F to) (fu + 1) (k, st) = some r
  intro r hr
  have e : cd k = (0, v) := h.1
  have hs : st.length + 1 ≤ 260 := hs
  have hk : k + 1 ≤ to := hk
  rw [← hr]
  refine iter_s ?_
  unfold stp
  simp only [e, if_neg (show ¬ to ≤ k by omega), if_true, if_pos (show st.length < 260 by omega)]
theorem MS_let {l : Nat} (hl : l < 9) : MS [(1, l)] (fLet l) := fun cd F to k st fu h hk hs => by
  show ∀ r, iter (stp cd F to) fu (k + 1, F l :: st) = some r → iter (stp cd F to) (fu + 1) (k, st) = some r
  intro r hr
  have e : cd k = (1, l) := h.1
  have hs : st.length + 1 ≤ 260 := hs
  have hk : k + 1 ≤ to := hk
  rw [← hr]
  refine iter_s ?_
  unfold stp
  simp only [e, if_neg (show ¬ to ≤ k by omega), if_neg (show ¬ (1 : Nat) = 0 by omega), if_true, if_pos (show st.length < 260 ∧ l < 9 by omega)]
theorem MS_bin {C D : List Cd} {f g : Fm} (hf : MS C f) (hg : MS D g) {op : Nat} (ho : 2 ≤ op ∧ op ≤ 6) : MS (C ++ (D ++ [(op, 0)])) (fBin op f g) := fun cd F to k st fu h hk hs => by
  have hl : (C ++ (D ++ [(op, 0)])).length = C.length + (D.length + 1) := by simp
  rw [hl] at hk hs ⊢
  obtain ⟨h1, h2⟩ := (AtC_app _ _ _).mp h
  obtain ⟨h3, h4, _⟩ := (AtC_app _ _ _).mp h2
  have a1 := hf cd F to k st (fu + (D.length + 1)) h1 (by omega) (by omega)
  have a2 := hg cd F to (k + C.length) ((f F).1 :: st) (fu + 1) h3 (by omega) (by simp only [List.length_cons]; omega)
  rw [show fu + (C.length + (D.length + 1)) = fu + (D.length + 1) + C.length by omega]
  by_cases c1 : (f F).2 = true
  · rw [if_pos c1] at a1
    rw [if_pos (show (fBin op f g F).2 = true from by unfold fBin; simp [c1])]
    exact a1
  · rw [if_neg c1] at a1
    by_cases c2 : (g F).2 = true
    · rw [if_pos c2] at a2
      rw [if_pos (show (fBin op f g F).2 = true from by unfold fBin; simp [c2])]
      exact a1 _ (by rw [show fu + (D.length + 1) = fu + 1 + D.length by omega]; exact a2)
    · rw [if_neg c2] at a2
      have st1 : ∀ q, stp cd F to (k + C.length + D.length, (g F).1 :: (f F).1 :: st) = q → stp cd F to (k + C.length + D.length, (g F).1 :: (f F).1 :: st) = q := fun q h => h
      have e : stp cd F to (k + C.length + D.length, (g F).1 :: (f F).1 :: st) = if isDv op ∧ (g F).1 = 0 then some (.inr 0) else some (.inl (k + C.length + D.length + 1, rk op (f F).1 (g F).1 :: st)) := by
        unfold stp
        simp only [h4, if_neg (show ¬ to ≤ k + C.length + D.length by omega), if_neg (show ¬ op = 0 by omega), if_neg (show ¬ op = 1 by omega), if_neg (show ¬ op = 10 by omega), if_neg (show ¬ op = 11 by omega), if_neg (show ¬ op = 12 by omega)]
      by_cases c3 : isDv op ∧ (g F).1 = 0
      · rw [if_pos c3] at e
        rw [if_pos (show (fBin op f g F).2 = true from by unfold fBin; simp [c3])]
        refine a1 _ ?_
        rw [show fu + (D.length + 1) = fu + 1 + D.length by omega]
        exact a2 _ (iter_r e)
      · rw [if_neg c3] at e
        rw [if_neg (show ¬ (fBin op f g F).2 = true from by
          unfold fBin
          rw [Bool.eq_false_iff.mpr c1, Bool.eq_false_iff.mpr c2, decide_eq_false c3]
          exact fun q => Bool.false_ne_true q)]
        intro r hr
        refine a1 _ ?_
        rw [show fu + (D.length + 1) = fu + 1 + D.length by omega]
        refine a2 _ ?_
        rw [iter_s e, ← hr]
        unfold fBin
        rw [if_neg c3, show k + (C.length + (D.length + 1)) = k + C.length + D.length + 1 by omega]
theorem rk_01 {how : Nat} (h : 7 ≤ how) (x y : Int32) : rk how x y = 0 ∨ rk how x y = 1 := by
  unfold rk
  rw [if_neg (by omega), if_neg (by omega), if_neg (by omega), if_neg (by omega), if_neg (by omega)]
  split
  · split
    · exact Or.inl rfl
    · exact Or.inr rfl
  · split
    · split
      · exact Or.inl rfl
      · exact Or.inr rfl
    · split
      · exact Or.inr rfl
      · exact Or.inl rfl
theorem MC_cmp {C D : List Cd} {f g : Fm} (hf : MS C f) (hg : MS D g) {how : Nat} (ho : 7 ≤ how ∧ how ≤ 9) : MC (C.length + (D.length + 1)) (fun _ => C ++ (D ++ [(how, 0)])) (gCmp how f g) := by
  refine ⟨fun k => by simp, fun F => ?_, fun cd F to k st fu h hk hs => ?_⟩
  · unfold gCmp
    split
    · exact Or.inr (Or.inr rfl)
    · exact (rk_01 ho.1 _ _).imp_right Or.inl
  · obtain ⟨h1, h2⟩ := (AtC_app _ _ _).mp h
    obtain ⟨h3, h4, _⟩ := (AtC_app _ _ _).mp h2
    have a1 := hf cd F to k st (fu + (D.length + 1)) h1 (by omega) (by omega)
    have a2 := hg cd F to (k + C.length) ((f F).1 :: st) (fu + 1) h3 (by omega) (by simp only [List.length_cons]; omega)
    rw [show fu + (C.length + (D.length + 1)) = fu + (D.length + 1) + C.length by omega]
    by_cases c1 : (f F).2 = true
    · rw [if_pos c1] at a1
      rw [if_pos (show gCmp how f g F = 2 from by unfold gCmp; simp [c1])]
      exact a1
    · rw [if_neg c1] at a1
      by_cases c2 : (g F).2 = true
      · rw [if_pos c2] at a2
        rw [if_pos (show gCmp how f g F = 2 from by unfold gCmp; simp [c2])]
        exact a1 _ (by rw [show fu + (D.length + 1) = fu + 1 + D.length by omega]; exact a2)
      · rw [if_neg c2] at a2
        have e : stp cd F to (k + C.length + D.length, (g F).1 :: (f F).1 :: st) = some (.inl (k + C.length + D.length + 1, rk how (f F).1 (g F).1 :: st)) := by
          unfold stp
          simp only [h4, if_neg (show ¬ to ≤ k + C.length + D.length by omega), if_neg (show ¬ how = 0 by omega), if_neg (show ¬ how = 1 by omega), if_neg (show ¬ how = 10 by omega), if_neg (show ¬ how = 11 by omega), if_neg (show ¬ how = 12 by omega)]
          rw [if_neg (by omega)]
        have eg : gCmp how f g F = rk how (f F).1 (g F).1 := by
          unfold gCmp
          rw [Bool.eq_false_iff.mpr c1, Bool.eq_false_iff.mpr c2]
          rfl
        rw [eg, if_neg (show ¬ rk how (f F).1 (g F).1 = 2 from by rcases rk_01 ho.1 (f F).1 (g F).1 with q | q <;> rw [q] <;> decide)]
        intro r hr
        refine a1 _ ?_
        rw [show fu + (D.length + 1) = fu + 1 + D.length by omega]
        refine a2 _ ?_
        rw [iter_s e, ← hr, show k + (C.length + (D.length + 1)) = k + C.length + D.length + 1 by omega]
theorem MC_not {n : Nat} {C : Nat → List Cd} {g : Gm} (h : MC n C g) : MC (n + 1) (fun k => C k ++ [(10, 0)]) (gNot g) := by
  obtain ⟨l, v, h⟩ := h
  refine ⟨fun k => by simp [l], fun F => ?_, fun cd F to k st fu hc hk hs => ?_⟩
  · unfold gNot
    rcases v F with q | q | q <;> rw [q] <;> decide
  · obtain ⟨h1, h2, _⟩ := (AtC_app _ _ _).mp hc
    rw [l] at h2
    have a := h cd F to k st (fu + 1) h1 (by omega) (by omega)
    rw [show fu + (n + 1) = fu + 1 + n by omega]
    by_cases c : g F = 2
    · rw [if_pos c] at a
      rw [if_pos (show gNot g F = 2 from if_pos c)]
      exact a
    · rw [if_neg c] at a
      have e2 : gNot g F = 1 - g F := if_neg c
      rw [e2, if_neg (show ¬ 1 - g F = 2 from by
        rcases v F with q | q | q
        · rw [q]; decide
        · rw [q]; decide
        · exact absurd q c)]
      intro r hr
      refine a _ ?_
      rw [← hr, show k + (n + 1) = k + n + 1 by omega]
      refine iter_s ?_
      unfold stp
      simp only [h2, if_neg (show ¬ to ≤ k + n by omega), if_neg (show ¬ (10 : Nat) = 0 by omega), if_neg (show ¬ (10 : Nat) = 1 by omega), if_true]
theorem MC_and {n m : Nat} {C D : Nat → List Cd} {g h : Gm} (hg : MC n C g) (hh : MC m D h) : MC (n + (m + 1)) (fun k => C k ++ (11, k + n + 1 + m) :: D (k + n + 1)) (gAnd g h) := by
  obtain ⟨l1, v1, h1⟩ := hg
  obtain ⟨l2, v2, h2⟩ := hh
  refine ⟨fun k => by simp [l1, l2], fun F => ?_, fun cd F to k st fu hc hk hs => ?_⟩
  · unfold gAnd
    split
    · exact Or.inr (Or.inr rfl)
    · split
      · exact Or.inl rfl
      · exact v2 F
  · obtain ⟨c1, c2, c3⟩ := (AtC_app _ _ _).mp hc
    rw [l1] at c2 c3
    have a := h1 cd F to k st (fu + (m + 1)) c1 (by omega) (by omega)
    rw [show fu + (n + (m + 1)) = fu + (m + 1) + n by omega]
    by_cases c : g F = 2
    · rw [if_pos c] at a
      rw [if_pos (show gAnd g h F = 2 from if_pos c)]
      exact a
    · rw [if_neg c] at a
      by_cases c0 : g F = 0
      · have e2 : gAnd g h F = 0 := by
          unfold gAnd
          rw [if_neg c, if_pos c0]
        rw [e2, if_neg (by decide)]
        intro r hr
        refine a _ ?_
        rw [show fu + (m + 1) = fu + m + 1 by omega]
        refine Eq.trans (iter_s (s' := (k + n + 1 + m, (0 : Int32) :: st)) ?_) ?_
        · unfold stp
          simp only [c2, if_neg (show ¬ to ≤ k + n by omega), if_neg (show ¬ (11 : Nat) = 0 by omega), if_neg (show ¬ (11 : Nat) = 1 by omega), if_neg (show ¬ (11 : Nat) = 10 by omega), if_true, c0]
        · refine iter_mk ?_ m
          rw [show k + n + 1 + m = k + (n + (m + 1)) by omega]
          exact hr
      · have e2 : gAnd g h F = h F := by
          unfold gAnd
          rw [if_neg c, if_neg c0]
        rw [e2]
        have e : ∀ z, iter (stp cd F to) (fu + (m + 1)) (k + n, g F :: st) = z ↔ iter (stp cd F to) (fu + m) (k + n + 1, st) = z := fun z => by
          rw [show fu + (m + 1) = fu + m + 1 by omega, iter_s (s' := (k + n + 1, st))]
          unfold stp
          simp only [c2, if_neg (show ¬ to ≤ k + n by omega), if_neg (show ¬ (11 : Nat) = 0 by omega), if_neg (show ¬ (11 : Nat) = 1 by omega), if_neg (show ¬ (11 : Nat) = 10 by omega), if_true, if_neg c0]
        have b := h2 cd F to (k + n + 1) st fu c3 (by omega) (by omega)
        split
        · rw [if_pos ‹_›] at b
          exact a _ ((e _).mpr b)
        · rw [if_neg ‹_›] at b
          intro r hr
          refine a _ ((e _).mpr (b _ ?_))
          rw [show k + n + 1 + m = k + (n + (m + 1)) by omega]
          exact hr
theorem MC_or {n m : Nat} {C D : Nat → List Cd} {g h : Gm} (hg : MC n C g) (hh : MC m D h) : MC (n + (m + 1)) (fun k => C k ++ (12, k + n + 1 + m) :: D (k + n + 1)) (gOr g h) := by
  obtain ⟨l1, v1, h1⟩ := hg
  obtain ⟨l2, v2, h2⟩ := hh
  refine ⟨fun k => by simp [l1, l2], fun F => ?_, fun cd F to k st fu hc hk hs => ?_⟩
  · unfold gOr
    split
    · exact Or.inr (Or.inr rfl)
    · split
      · exact Or.inr (Or.inl rfl)
      · exact v2 F
  · obtain ⟨c1, c2, c3⟩ := (AtC_app _ _ _).mp hc
    rw [l1] at c2 c3
    have a := h1 cd F to k st (fu + (m + 1)) c1 (by omega) (by omega)
    rw [show fu + (n + (m + 1)) = fu + (m + 1) + n by omega]
    by_cases c : g F = 2
    · rw [if_pos c] at a
      rw [if_pos (show gOr g h F = 2 from if_pos c)]
      exact a
    · rw [if_neg c] at a
      by_cases c0 : g F = 1
      · have e2 : gOr g h F = 1 := by
          unfold gOr
          rw [if_neg c, if_pos c0]
        rw [e2, if_neg (by decide)]
        intro r hr
        refine a _ ?_
        rw [show fu + (m + 1) = fu + m + 1 by omega]
        refine Eq.trans (iter_s (s' := (k + n + 1 + m, (1 : Int32) :: st)) ?_) ?_
        · unfold stp
          simp only [c2, if_neg (show ¬ to ≤ k + n by omega), if_neg (show ¬ (12 : Nat) = 0 by omega), if_neg (show ¬ (12 : Nat) = 1 by omega), if_neg (show ¬ (12 : Nat) = 10 by omega), if_neg (show ¬ (12 : Nat) = 11 by omega), if_true, c0]
        · refine iter_mk ?_ m
          rw [show k + n + 1 + m = k + (n + (m + 1)) by omega]
          exact hr
      · have e2 : gOr g h F = h F := by
          unfold gOr
          rw [if_neg c, if_neg c0]
        rw [e2]
        have e : ∀ z, iter (stp cd F to) (fu + (m + 1)) (k + n, g F :: st) = z ↔ iter (stp cd F to) (fu + m) (k + n + 1, st) = z := fun z => by
          rw [show fu + (m + 1) = fu + m + 1 by omega, iter_s (s' := (k + n + 1, st))]
          unfold stp
          simp only [c2, if_neg (show ¬ to ≤ k + n by omega), if_neg (show ¬ (12 : Nat) = 0 by omega), if_neg (show ¬ (12 : Nat) = 1 by omega), if_neg (show ¬ (12 : Nat) = 10 by omega), if_neg (show ¬ (12 : Nat) = 11 by omega), if_true, if_neg c0]
        have b := h2 cd F to (k + n + 1) st fu c3 (by omega) (by omega)
        split
        · rw [if_pos ‹_›] at b
          exact a _ ((e _).mpr b)
        · rw [if_neg ‹_›] at b
          intro r hr
          refine a _ ((e _).mpr (b _ ?_))
          rw [show k + n + 1 + m = k + (n + (m + 1)) by omega]
          exact hr
