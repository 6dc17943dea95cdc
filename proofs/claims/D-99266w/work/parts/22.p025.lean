/-! JOURNEYS: the two tables say the same. No JVM here. -/
set_option maxRecDepth 100000
set_option linter.unusedVariables false
section JL
variable {b : Nat} {V0 V : Vw} {lw : Option Nat} {R : Hp} {p k j i r e n d f to : Nat} {s t z y w c lo hi m v : Int} {u : Int32} {N A N' A' : Nat → Int}
theorem onB_iff : ∀ k, onB V N c r k = true ↔ ∃ j, j < k ∧ N (st V r j).toNat + c ≤ mi V r j
  | 0 => ⟨fun h => (by cases h), fun ⟨j, hj, _⟩ => absurd hj (Nat.not_lt_zero _)⟩
  | k + 1 => by
    rw [onB, Bool.or_eq_true, onB_iff k, decide_eq_true_iff]
    constructor
    · intro q
      rcases q with ⟨j, h1, h2⟩ | q
      · exact ⟨j, by omega, h2⟩
      · exact ⟨k, by omega, q⟩
    · intro ⟨j, h1, h2⟩
      by_cases e : j = k
      · subst e
        exact Or.inr h2
      · exact Or.inl ⟨j, by omega, h2⟩
/-- an arrival by one ride from a table -/
abbrev rideT (V : Vw) (N : Nat → Int) (c : Int) (r k : Nat) (s : Nat) (v : Int) : Prop := (∃ j, j < k ∧ N (st V r j).toNat + c ≤ mi V r j) ∧ (st V r k).toNat = s ∧ mi V r k ≤ v
abbrev ride (V : Vw) (N : Nat → Int) (c : Int) (n s : Nat) (v : Int) : Prop := ∃ r, r < n ∧ ru V r ∧ ∃ k, k < sm V r ∧ rideT V N c r k s v
theorem tU_le {s : Nat} : ∀ k, tU V N c r A k s ≤ v ↔ A s ≤ v ∨ ∃ i, i < k ∧ rideT V N c r i s v
  | 0 => ⟨fun h => Or.inl h, fun h => h.elim id fun ⟨i, hi, _⟩ => absurd hi (Nat.not_lt_zero _)⟩
  | k + 1 => by
    have ih := tU_le (s := s) k
    rw [tU]
    have grow : (A s ≤ v ∨ ∃ i, i < k ∧ rideT V N c r i s v) → A s ≤ v ∨ ∃ i, i < k + 1 ∧ rideT V N c r i s v := fun q => q.elim Or.inl fun ⟨i, h1, h2⟩ => Or.inr ⟨i, by omega, h2⟩
    by_cases on : onB V N c r k = true
    · rw [if_pos on]
      show (if s = (st V r k).toNat then min (tU V N c r A k s) (mi V r k) else tU V N c r A k s) ≤ v ↔ _
      by_cases e : s = (st V r k).toNat
      · rw [if_pos e]
        constructor
        · intro q
          by_cases q2 : tU V N c r A k s ≤ v
          · exact grow (ih.mp q2)
          · exact Or.inr ⟨k, by omega, (onB_iff k).mp on, e.symm, by omega⟩
        · intro q
          rcases q with q | ⟨i, h1, h2⟩
          · have := ih.mpr (Or.inl q)
            omega
          · by_cases ei : i = k
            · subst ei
              have := h2.2.2
              omega
            · have := ih.mpr (Or.inr ⟨i, by omega, h2⟩)
              omega
      · rw [if_neg e, ih]
        constructor
        · exact grow
        · intro q
          rcases q with q | ⟨i, h1, h2⟩
          · exact Or.inl q
          · by_cases ei : i = k
            · subst ei
              exact absurd h2.2.1.symm e
            · exact Or.inr ⟨i, by omega, h2⟩
    · rw [if_neg on, ih]
      constructor
      · exact grow
      · intro q
        rcases q with q | ⟨i, h1, h2⟩
        · exact Or.inl q
        · by_cases ei : i = k
          · subst ei
            exact absurd ((onB_iff i).mpr h2.1) on
          · exact Or.inr ⟨i, by omega, h2⟩
theorem tA_le {s : Nat} : ∀ n, tA V N c A n s ≤ v ↔ A s ≤ v ∨ ride V N c n s v
  | 0 => ⟨fun h => Or.inl h, fun h => h.elim id fun ⟨i, hi, _⟩ => absurd hi (Nat.not_lt_zero _)⟩
  | n + 1 => by
    have ih := tA_le (s := s) n
    rw [tA]
    by_cases hr : ru V n
    · rw [if_pos hr, tU_le, ih]
      constructor
      · intro q
        rcases q with (q | ⟨r, h1, h2⟩) | ⟨k, h1, h2⟩
        · exact Or.inl q
        · exact Or.inr ⟨r, by omega, h2⟩
        · exact Or.inr ⟨n, by omega, hr, k, h1, h2⟩
      · intro q
        rcases q with q | ⟨r, h1, h2, k, h3, h4⟩
        · exact Or.inl (Or.inl q)
        · by_cases e : r = n
          · subst e
            exact Or.inr ⟨k, h3, h4⟩
          · exact Or.inl (Or.inr ⟨r, by omega, h2, k, h3, h4⟩)
    · rw [if_neg hr, ih]
      constructor
      · intro q
        rcases q with q | ⟨r, h1, h2⟩
        · exact Or.inl q
        · exact Or.inr ⟨r, by omega, h2⟩
      · intro q
        rcases q with q | ⟨r, h1, h2, h3⟩
        · exact Or.inl q
        · by_cases e : r = n
          · subst e
            exact absurd h2 hr
          · exact Or.inr ⟨r, by omega, h2, h3⟩
/-- a table never falls below a mark -/
theorem ride_gt (h : Rel V0 V) (hN : ∀ s, s < 10 → m ≤ N s + c) {s : Nat} (q : ride V0 N c (nT V0) s v) : m < v := by
  obtain ⟨r, h1, h2, k, h3, ⟨j, h4, h5⟩, h6, h7⟩ := q
  have hb := st_b h h1 (show j < sm V0 r by omega)
  have := mi_lt h h1 h4 h3
  have := hN (st V0 r j).toNat (by omega)
  omega
theorem cT_le (k : Nat) {s : Nat} : cT V f m (k + 1) s ≤ v ↔ cT V f m k s ≤ v ∨ ride V (cT V f m k) (if k = 0 then 0 else ch V) (nT V) s v := by
  rw [cT]
  exact tA_le _
theorem cT_dn {s : Nat} (k : Nat) : cT V f m (k + 1) s ≤ cT V f m k s := (cT_le k).mpr (Or.inl (Int.le_refl _))
theorem cT_dn2 {s : Nat} (k : Nat) : ∀ i, cT V f m (k + i) s ≤ cT V f m k s
  | 0 => Int.le_refl _
  | i + 1 => Int.le_trans (cT_dn (k + i)) (cT_dn2 k i)
theorem cT_ge (h : Rel V0 V) (hm : m ≤ 1439) : ∀ k s, s < 10 → m ≤ cT V0 f m k s
  | 0, s, hs => by
    show m ≤ if s = f then m else 268435456
    split <;> omega
  | k + 1, s, hs => by
    have hch := ch_b h
    have ih := cT_ge h hm k
    by_cases q : m ≤ cT V0 f m (k + 1) s
    · exact q
    · rcases (cT_le k).mp (show cT V0 f m (k + 1) s ≤ m - 1 by omega) with q2 | q2
      · have := ih s hs
        omega
      · have := ride_gt (m := m) h (fun s hs => by have := ih s hs; split <;> omega) q2
        omega
theorem cT_f (h : Rel V0 V) (hm : m ≤ 1439) (hf : f < 10) (k : Nat) : cT V0 f m k f = m := by
  have h1 := cT_ge h hm (f := f) k f hf
  have h2 := cT_dn2 (V := V0) (f := f) (m := m) (s := f) 0 k
  have h3 : cT V0 f m 0 f = m := if_pos rfl
  rw [Nat.zero_add, h3] at h2
  omega
/-- values: an hour of the day, or never -/
theorem cT_dom (h : Rel V0 V) : ∀ k s, s < 10 → cT V0 f m k s ≤ 1439 ∨ cT V0 f m k s = 268435456 ∨ s = f
  | 0, s, hs => by
    by_cases e : s = f
    · exact Or.inr (Or.inr e)
    · exact Or.inr (Or.inl (if_neg e))
  | k + 1, s, hs => by
    rcases (cT_le (v := cT V0 f m (k + 1) s) k).mp (Int.le_refl _) with q | ⟨r, h1, h2, i, h3, h4, h5, h6⟩
    · have e : cT V0 f m (k + 1) s = cT V0 f m k s := Int.le_antisymm (cT_dn k) q
      rw [e]
      exact cT_dom h k s hs
    · have h7 := mi_b h h1 h3
      have h8 := (cT_le (V := V0) (f := f) (m := m) (v := 1439) (s := s) k).mpr (Or.inr ⟨r, h1, h2, i, h3, h4, h5, h7.2⟩)
      exact Or.inl h8
theorem yT_le (k : Nat) {s : Nat} : yT V f m (k + 1) s ≤ v ↔ yT V f m k s ≤ v ∨ ride V (yT V f m k) (ch V) (nT V) s v := by
  rw [yT]
  exact tA_le _
theorem yT_le0 {s : Nat} (hs : s ≠ f) : yT V f m 0 s ≤ v ↔ yT0 f m s ≤ v ∨ ride V (yT0 f m) 0 (nT V) s v := by
  rw [yT]
  show (if s = f then _ else _) ≤ v ↔ _
  rw [if_neg hs]
  exact tA_le _
theorem yT_dn {s : Nat} (k : Nat) : yT V f m (k + 1) s ≤ yT V f m k s := (yT_le k).mpr (Or.inl (Int.le_refl _))
theorem yT_dn2 {s : Nat} (k : Nat) : ∀ i, yT V f m (k + i) s ≤ yT V f m k s
  | 0 => Int.le_refl _
  | i + 1 => Int.le_trans (yT_dn (k + i)) (yT_dn2 k i)
theorem yT_f (h : Rel V0 V) (hm : m ≤ 1439) (hf : f < 10) : ∀ k, yT V0 f m k f = m - ch V0 ∧ ∀ s, s < 10 → m ≤ yT V0 f m k s + ch V0
  | 0 => by
    have hch := ch_b h
    have e : yT V0 f m 0 f = m - ch V0 := by
      rw [yT]
      exact if_pos rfl
    refine ⟨e, fun s hs => ?_⟩
    by_cases c : s = f
    · rw [c, e]
      omega
    · by_cases q : m ≤ yT V0 f m 0 s + ch V0
      · exact q
      · rcases (yT_le0 c).mp (show yT V0 f m 0 s ≤ m - 1 by omega) with q2 | q2
        · unfold yT0 at q2
          rw [if_neg c] at q2
          omega
        · have := ride_gt (m := m) h (fun s hs => by unfold yT0; split <;> omega) q2
          omega
  | k + 1 => by
    have hch := ch_b h
    obtain ⟨i1, i2⟩ := yT_f h hm hf k
    have low : ∀ s, s < 10 → m ≤ yT V0 f m (k + 1) s + ch V0 := fun s hs => by
      by_cases q : m ≤ yT V0 f m (k + 1) s + ch V0
      · exact q
      · rcases (yT_le k).mp (show yT V0 f m (k + 1) s ≤ m - ch V0 - 1 by omega) with q2 | q2
        · have := i2 s hs
          omega
        · have := ride_gt (m := m) h i2 q2
          omega
    refine ⟨?_, low⟩
    have h1 := low f hf
    have h2 := yT_dn (V := V0) (f := f) (m := m) (s := f) k
    omega
/-- both tables, up to the day's last minute -/
theorem cT_yT (h : Rel V0 V) (hm : 0 ≤ m ∧ m ≤ 1439) (hf : f < 10) : ∀ k s, s < 10 → s ≠ f → ∀ v, v ≤ 1439 → (cT V0 f m (k + 1) s ≤ v ↔ yT V0 f m k s ≤ v)
  | 0, s, hs, hsf, v, hv => by
    have e0 : ∀ x, x ≤ 1439 → ∀ s, cT V0 f m 0 s ≤ x ↔ yT0 f m s ≤ x := fun x hx s => by
      show (if s = f then m else 268435456) ≤ x ↔ (if s = f then m else 1000000) ≤ x
      split
      · exact Iff.rfl
      · constructor <;> intro q <;> omega
    rw [cT_le, yT_le0 hsf, e0 v hv s, if_pos rfl]
    refine or_congr Iff.rfl ⟨fun ⟨r, h1, h2, k, h3, ⟨j, h4, h5⟩, h6⟩ => ⟨r, h1, h2, k, h3, ⟨j, h4, ?_⟩, h6⟩, fun ⟨r, h1, h2, k, h3, ⟨j, h4, h5⟩, h6⟩ => ⟨r, h1, h2, k, h3, ⟨j, h4, ?_⟩, h6⟩⟩
    · have hb := mi_b h h1 (show j < sm V0 r by omega)
      have := (e0 (mi V0 r j) (by omega) (st V0 r j).toNat).mp (by omega)
      omega
    · have hb := mi_b h h1 (show j < sm V0 r by omega)
      have := (e0 (mi V0 r j) (by omega) (st V0 r j).toNat).mpr (by omega)
      omega
  | k + 1, s, hs, hsf, v, hv => by
    have hch := ch_b h
    have ih := cT_yT h hm hf k
    have ef := cT_f h hm.2 hf (k + 1)
    have yf := (yT_f h hm.2 hf k).1
    rw [cT_le, yT_le, ih s hs hsf v hv, if_neg (by omega)]
    constructor
    · intro q
      rcases q with q | ⟨r, h1, h2, i, h3, ⟨j, h4, h5⟩, h6⟩
      · exact Or.inl q
      · refine Or.inr ⟨r, h1, h2, i, h3, ⟨j, h4, ?_⟩, h6⟩
        have hb := mi_b h h1 (show j < sm V0 r by omega)
        have hs2 := st_b h h1 (show j < sm V0 r by omega)
        by_cases e : (st V0 r j).toNat = f
        · rw [e] at h5 ⊢
          omega
        · have := (ih _ (by omega) e (mi V0 r j - ch V0) (by omega)).mp (by omega)
          omega
    · intro q
      rcases q with q | ⟨r, h1, h2, i, h3, ⟨j, h4, h5⟩, h6⟩
      · exact Or.inl q
      · have hb := mi_b h h1 (show j < sm V0 r by omega)
        have hs2 := st_b h h1 (show j < sm V0 r by omega)
        by_cases e : (st V0 r j).toNat = f
        · refine Or.inl ?_
          rw [e] at h5
          have first : cT V0 f m 1 s ≤ v := (cT_le 0).mpr (Or.inr ⟨r, h1, h2, i, h3, ⟨j, h4, by
            rw [e, if_pos rfl]
            show (if f = f then m else 268435456) + 0 ≤ _
            rw [if_pos rfl]
            omega⟩, h6⟩)
          have dn := cT_dn2 (V := V0) (f := f) (m := m) (s := s) 1 k
          rw [Nat.add_comm 1 k] at dn
          exact (ih s hs hsf v hv).mp (Int.le_trans dn first)
        · refine Or.inr ⟨r, h1, h2, i, h3, ⟨j, h4, ?_⟩, h6⟩
          have := (ih _ (by omega) e (mi V0 r j - ch V0) (by omega)).mpr (by omega)
          omega
theorem yT_dom (h : Rel V0 V) (hm : 0 ≤ m ∧ m ≤ 1439) (hf : f < 10) : ∀ k s, s < 10 → s ≠ f → yT V0 f m k s ≤ 1439 ∨ yT V0 f m k s = 1000000
  | 0, s, hs, hsf => by
    rcases (yT_le0 (V := V0) (m := m) (v := yT V0 f m 0 s) hsf).mp (Int.le_refl _) with q | ⟨r, h1, h2, i, h3, h4, h5, h6⟩
    · have e1 : yT V0 f m 0 s ≤ yT0 f m s := (yT_le0 hsf).mpr (Or.inl (Int.le_refl _))
      have e : yT V0 f m 0 s = yT0 f m s := Int.le_antisymm e1 q
      rw [e]
      exact Or.inr (if_neg hsf)
    · have h7 := mi_b h h1 h3
      exact Or.inl ((yT_le0 hsf).mpr (Or.inr ⟨r, h1, h2, i, h3, h4, h5, h7.2⟩))
  | k + 1, s, hs, hsf => by
    rcases (yT_le (v := yT V0 f m (k + 1) s) k).mp (Int.le_refl _) with q | ⟨r, h1, h2, i, h3, h4, h5, h6⟩
    · have e : yT V0 f m (k + 1) s = yT V0 f m k s := Int.le_antisymm (yT_dn k) q
      rw [e]
      exact yT_dom h hm hf k s hs hsf
    · have h7 := mi_b h h1 h3
      exact Or.inl ((yT_le k).mpr (Or.inr ⟨r, h1, h2, i, h3, h4, h5, h7.2⟩))
/-- .. so they are the same, or both never -/
theorem cT_yT2 (h : Rel V0 V) (hm : 0 ≤ m ∧ m ≤ 1439) (hf : f < 10) (k : Nat) {s : Nat} (hs : s < 10) (hsf : s ≠ f) : (cT V0 f m (k + 1) s = yT V0 f m k s ∧ m ≤ yT V0 f m k s ∧ yT V0 f m k s ≤ 1439) ∨ (cT V0 f m (k + 1) s = 268435456 ∧ yT V0 f m k s = 1000000) := by
  have e := cT_yT h hm hf k s hs hsf
  have g := cT_ge h hm.2 (f := f) (k + 1) s hs
  rcases cT_dom h (f := f) (m := m) (k + 1) s hs with c | c | c
  · rcases yT_dom h hm hf k s hs hsf with d | d
    · have h1 := (e _ c).mp (Int.le_refl _)
      have h2 := (e _ d).mpr (Int.le_refl _)
      exact Or.inl ⟨by omega, by omega, d⟩
    · have h1 := (e _ c).mp (Int.le_refl _)
      omega
  · rcases yT_dom h hm hf k s hs hsf with d | d
    · have h2 := (e _ d).mpr (Int.le_refl _)
      omega
    · exact Or.inr ⟨c, d⟩
  · exact absurd c hsf
end JL
