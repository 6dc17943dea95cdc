/-! CALL: best, lists. No JVM here. -/
set_option maxRecDepth 100000
set_option linter.unusedVariables false
def bAr (F : Int) : List (Int × Int) → Int
  | [] => F
  | x :: _ => x.2
def bSt (F : Int) (m t : Int) (l : List (Int × Int)) : List (Int × Int) := if t < bAr F l then (m, t) :: l else l
def bJ (F : Int) (T : Int → Int) (S : Int → Prop) (l : List (Int × Int)) : Prop := List.Pairwise (fun x y => x.1 < y.1 ∧ x.2 < y.2) l ∧ (∀ x, x ∈ l ↔ S x.1 ∧ x.2 = T x.1 ∧ T x.1 < F ∧ ∀ m', S m' → x.1 < m' → T x.1 < T m') ∧ (∀ m', S m' → bAr F l ≤ T m')
theorem bJ_0 (F : Int) (T : Int → Int) {S : Int → Prop} (hS : ∀ m, ¬ S m) : bJ F T S [] :=
  ⟨List.Pairwise.nil, fun x => ⟨fun q => absurd q List.not_mem_nil, fun q => absurd q.1 (hS _)⟩, fun m' q => absurd q (hS _)⟩
theorem bAr_le {F : Int} {T : Int → Int} {S : Int → Prop} {l : List (Int × Int)} (h : bJ F T S l) : bAr F l ≤ F := by
  cases l with
  | nil => exact Int.le_refl _
  | cons x l =>
    have := (h.2.1 x).mp List.mem_cons_self
    show x.2 ≤ F
    omega
theorem bJ_c {F : Int} {T : Int → Int} {S S' : Int → Prop} {l : List (Int × Int)} (h : bJ F T S l) (e : ∀ m, S' m ↔ S m) : bJ F T S' l := by
  have e2 : S' = S := funext fun m => propext (e m)
  rw [e2]
  exact h
theorem bJ_s {F : Int} {T : Int → Int} {S : Int → Prop} {l : List (Int × Int)} {m : Int} (h : bJ F T S l) (hm : ∀ x, S x → m ≤ x) : bJ F T (fun x => S x ∨ x = m) (bSt F m (T m) l) := by
  have hF := bAr_le h
  obtain ⟨h1, h2, h3⟩ := h
  unfold bSt
  by_cases c : T m < bAr F l
  · rw [if_pos c]
    refine ⟨List.pairwise_cons.mpr ⟨fun x hx => ?_, h1⟩, fun x => ?_, fun m' q => ?_⟩
    · obtain ⟨a1, a2, a3, a4⟩ := (h2 x).mp hx
      have b1 := hm _ a1
      have b2 := h3 _ a1
      refine ⟨?_, show T m < x.2 by omega⟩
      show m < x.1
      by_cases e : m = x.1
      · rw [e] at c
        omega
      · omega
    · rw [List.mem_cons]
      constructor
      · rintro (rfl | hx)
        · refine ⟨Or.inr rfl, rfl, show T m < F by omega, fun m' q q2 => ?_⟩
          rcases q with q | q
          · have := h3 _ q
            show T m < T m'
            omega
          · have q2 : m < m' := q2
            omega
        · obtain ⟨a1, a2, a3, a4⟩ := (h2 x).mp hx
          refine ⟨Or.inl a1, a2, a3, fun m' q q2 => ?_⟩
          rcases q with q | q
          · exact a4 m' q q2
          · have := hm _ a1
            omega
      · rintro ⟨q | q, a2, a3, a4⟩
        · exact Or.inr ((h2 x).mpr ⟨q, a2, a3, fun m' w1 w2 => a4 m' (Or.inl w1) w2⟩)
        · refine Or.inl (Prod.ext q ?_)
          rw [a2, q]
    · show T m ≤ T m'
      rcases q with q | q
      · have := h3 _ q
        omega
      · rw [q]
        exact Int.le_refl _
  · rw [if_neg c]
    refine ⟨h1, fun x => ?_, fun m' q => ?_⟩
    · constructor
      · intro hx
        obtain ⟨a1, a2, a3, a4⟩ := (h2 x).mp hx
        refine ⟨Or.inl a1, a2, a3, fun m' q q2 => ?_⟩
        rcases q with q | q
        · exact a4 m' q q2
        · have := hm _ a1
          omega
      · rintro ⟨q, a2, a3, a4⟩
        by_cases q1 : S x.1
        · exact (h2 x).mpr ⟨q1, a2, a3, fun m' w1 w2 => a4 m' (Or.inl w1) w2⟩
        · have e : x.1 = m := q.elim (fun w => absurd w q1) id
          exfalso
          cases l with
          | nil =>
            have c : ¬ T m < F := c
            rw [e] at a3
            exact c a3
          | cons y l =>
            obtain ⟨y1, y2, y3, y4⟩ := (h2 y).mp List.mem_cons_self
            have c : ¬ T m < y.2 := c
            have b1 := hm _ y1
            have ne : x.1 ≠ y.1 := fun w => q1 (w ▸ y1)
            have := a4 y.1 (Or.inl y1) (by omega)
            rw [e] at this
            omega
    · rcases q with q | q
      · exact h3 _ q
      · rw [q]
        omega
theorem bJ_u {F F2 : Int} {T T2 : Int → Int} {S : Int → Prop} {l l2 : List (Int × Int)} (h : bJ F T S l) (g : bJ F2 T2 S l2) (hF : 1439 < F) (hF2 : 1439 < F2) (e : ∀ m, S m → (T m = T2 m ∧ T2 m ≤ 1439) ∨ (T m = F ∧ T2 m = F2)) : l = l2 := by
  obtain ⟨h1, h2, h3⟩ := h
  obtain ⟨g1, g2, g3⟩ := g
  have nd : ∀ l : List (Int × Int), List.Pairwise (fun x y : Int × Int => x.1 < y.1 ∧ x.2 < y.2) l → l.Nodup := fun l q => q.imp fun w w2 => by rw [w2] at w; omega
  have same : ∀ x, x ∈ l ↔ x ∈ l2 := fun x => by
    rw [h2 x, g2 x]
    constructor
    · rintro ⟨a1, a2, a3, a4⟩
      rcases e _ a1 with ⟨q1, q2⟩ | ⟨q1, q2⟩
      · refine ⟨a1, by omega, by omega, fun m' w1 w2 => ?_⟩
        have := a4 m' w1 w2
        rcases e _ w1 with ⟨p1, p2⟩ | ⟨p1, p2⟩ <;> omega
      · omega
    · rintro ⟨a1, a2, a3, a4⟩
      rcases e _ a1 with ⟨q1, q2⟩ | ⟨q1, q2⟩
      · refine ⟨a1, by omega, by omega, fun m' w1 w2 => ?_⟩
        have := a4 m' w1 w2
        rcases e _ w1 with ⟨p1, p2⟩ | ⟨p1, p2⟩ <;> omega
      · omega
  exact List.Perm.eq_of_pairwise (fun a b _ _ w1 w2 => by omega) h1 g1 ((List.perm_ext_iff_of_nodup (nd l h1) (nd l2 g1)).mpr same)
theorem bJ_len {F : Int} {T : Int → Int} {S : Int → Prop} {l : List (Int × Int)} (h : bJ F T S l) (M : Nat → Int) (n : Nat) (hS : ∀ m, S m → ∃ r, r < n ∧ M r = m) : l.length ≤ n := by
  have nd : l.Nodup := h.1.imp fun w w2 => by rw [w2] at w; omega
  have := nd.length_le_of_subset (l₂ := (List.range n).map fun r => (M r, T (M r))) fun x hx => by
    obtain ⟨a1, a2, a3, a4⟩ := (h.2.1 x).mp hx
    obtain ⟨r, r1, r2⟩ := hS _ a1
    refine List.mem_map.mpr ⟨r, List.mem_range.mpr r1, Prod.ext r2 ?_⟩
    rw [a2, r2]
  simpa using this
/-- two rows hold a list from its end on -/
def bAt (A B : Nat → Int) : List (Int × Int) → Prop
  | [] => True
  | x :: l => A l.length = x.1 ∧ B l.length = x.2 ∧ bAt A B l
theorem bAt_c {A B A' B' : Nat → Int} : ∀ l : List (Int × Int), (∀ i, i < l.length → A' i = A i ∧ B' i = B i) → bAt A B l → bAt A' B' l
  | [], _, _ => True.intro
  | x :: l, h, ⟨h1, h2, h3⟩ => by
    have := h l.length (by rw [List.length_cons]; omega)
    exact ⟨by rw [this.1, h1], by rw [this.2, h2], bAt_c l (fun i hi => h i (by rw [List.length_cons]; omega)) h3⟩
theorem bAt_g {A B : Nat → Int} : ∀ (l : List (Int × Int)) (i : Nat), i < l.length → bAt A B l → A (l.length - 1 - i) = (l.getD i (0, 0)).1 ∧ B (l.length - 1 - i) = (l.getD i (0, 0)).2
  | [], i, h, _ => absurd h (Nat.not_lt_zero _)
  | x :: l, 0, h, ⟨h1, h2, h3⟩ => ⟨h1, h2⟩
  | x :: l, i + 1, h, ⟨h1, h2, h3⟩ => by
    rw [List.length_cons] at h
    have := bAt_g l i (by omega) h3
    rw [List.length_cons, show l.length + 1 - 1 - (i + 1) = l.length - 1 - i by omega]
    exact this
