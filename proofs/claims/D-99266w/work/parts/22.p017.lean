/-! FARES: the class's side and the plain law. No JVM here. -/
set_option maxRecDepth 100000
set_option linter.unusedVariables false
/-- the least of a start and n values -/
def mn (f : Nat → Int) (s : Int) : Nat → Int
  | 0 => s
  | n + 1 => min (mn f s n) (f n)
theorem mn_le (f : Nat → Int) (s : Int) : ∀ n, mn f s n ≤ s ∧ ∀ i, i < n → mn f s n ≤ f i
  | 0 => ⟨Int.le_refl _, fun i h => absurd h (Nat.not_lt_zero _)⟩
  | n + 1 => by
    have ih := mn_le f s n
    rw [mn]
    refine ⟨by omega, fun i hi => ?_⟩
    by_cases e : i = n
    · subst e
      omega
    · have := ih.2 i (by omega)
      omega
theorem mn_at (f : Nat → Int) (s : Int) : ∀ n, mn f s n = s ∨ ∃ i, i < n ∧ mn f s n = f i
  | 0 => Or.inl rfl
  | n + 1 => by
    rw [mn]
    by_cases h : mn f s n ≤ f n
    · rw [Int.min_eq_left h]
      rcases mn_at f s n with e | ⟨i, h1, h2⟩
      · exact Or.inl e
      · exact Or.inr ⟨i, by omega, h2⟩
    · rw [Int.min_eq_right (by omega)]
      exact Or.inr ⟨n, by omega, rfl⟩
theorem mn_c {f g : Nat → Int} {s t : Int} : ∀ n, s = t → (∀ i, i < n → f i = g i) → mn f s n = mn g t n
  | 0, h, _ => h
  | n + 1, h, h2 => by rw [mn, mn, mn_c n h (fun i hi => h2 i (by omega)), h2 n (by omega)]
/-- the class's rule, the reference's rule -/
abbrev faF (A : Nat → Int) (hs : Nat → Prop) (dd pr : Nat → Int) (n d : Nat) : Prop := (hs d → A d = mn (fun i => A (min 30 ((d : Int) + dd i)).toNat + pr i) 268435456 n) ∧ (¬ hs d → A d = A (d + 1))
abbrev faG (B : Nat → Int) (hs : Nat → Prop) (dd pr : Nat → Int) (n d : Nat) : Prop := (hs d → B d = mn (fun i => pr i + B ((d : Int) + dd i).toNat) 1000000 n) ∧ (¬ hs d → B d = mn (fun i => pr i + B ((d : Int) + dd i).toNat) (B (d + 1)) n)
theorem fares_law {A B : Nat → Int} {hs : Nat → Prop} {dd pr : Nat → Int} {n : Nat} (hn : 0 < n) (hd : ∀ i, i < n → 1 ≤ dd i ∧ dd i ≤ 30) (hp : ∀ i, i < n → 0 ≤ pr i ∧ pr i ≤ 255) (a0 : A 30 = 0) (aF : ∀ d, d < 30 → faF A hs dd pr n d) (b0 : ∀ d, 30 ≤ d → d ≤ 60 → B d = 0) (bG : ∀ d, d < 30 → faG B hs dd pr n d) : A 0 = B 0 := by
  -- the reference never rises as days go, and lies low; from any day on, a ticket may be bought
  have key : ∀ e, e ≤ 30 → (∀ d, 30 - e ≤ d → d ≤ 60 → 0 ≤ B d ∧ B d ≤ 255 * 30 ∧ B d ≤ 255 * (30 - d : Nat)) ∧ (∀ d, 30 - e ≤ d → d < 60 → B (d + 1) ≤ B d) ∧ (∀ d i, 30 - e ≤ d → d < 30 → i < n → B d ≤ pr i + B ((d : Int) + dd i).toNat) ∧ (∀ d, 30 - e ≤ d → d ≤ 30 → A d = B d) := by
    intro e
    induction e with
    | zero =>
      intro _
      refine ⟨fun d h1 h2 => ?_, fun d h1 h2 => ?_, fun d i h1 h2 => by omega, fun d h1 h2 => ?_⟩
      · rw [b0 d (by omega) h2]
        omega
      · rw [b0 d (by omega) (by omega), b0 (d + 1) (by omega) (by omega)]
        exact Int.le_refl _
      · rw [show d = 30 by omega, a0, b0 30 (by omega) (by omega)]
    | succ e ih =>
      intro he
      obtain ⟨k1, k2, k3, k4⟩ := ih (by omega)
      have hd0 : 30 - (e + 1) < 30 := by omega
      obtain ⟨d0, hd0e⟩ : ∃ d0, d0 = 30 - (e + 1) := ⟨_, rfl⟩
      rw [← hd0e] at hd0 ⊢
      have hd1 : d0 + 1 = 30 - e := by omega
      have t1 := k1 (d0 + 1) (by omega) (by omega)
      have nx : ∀ i, i < n → (30 - e ≤ ((d0 : Int) + dd i).toNat) ∧ ((d0 : Int) + dd i).toNat ≤ 60 := fun i hi => by
        have := hd i hi
        omega
      -- a ticket at d0 is no cheaper than what is to be paid from d0 + 1 on
      have up1 : ∀ i, i < n → B (d0 + 1) ≤ pr i + B ((d0 : Int) + dd i).toNat := fun i hi => by
        have h1 := nx i hi
        have h2 := hp i hi
        have h3 := hd i hi
        by_cases c : d0 + 1 < 30
        · have h4 := k3 (d0 + 1) i (by omega) c hi
          have h5 := k2 ((d0 : Int) + dd i).toNat h1.1 (by omega)
          have h6 : (((d0 + 1 : Nat) : Int) + dd i).toNat = ((d0 : Int) + dd i).toNat + 1 := by omega
          rw [h6] at h4
          omega
        · have h4 := b0 (d0 + 1) (by omega) (by omega)
          have h5 := k1 _ h1.1 h1.2
          omega
      have hB := bG d0 hd0
      have hA := aF d0 hd0
      have bb : B (d0 + 1) ≤ B d0 ∧ B d0 ≤ 255 * (30 - d0 : Nat) ∧ (∀ i, i < n → B d0 ≤ pr i + B ((d0 : Int) + dd i).toNat) ∧ A d0 = B d0 := by
        by_cases c : hs d0
        · have e1 := hB.1 c
          have e2 := hA.1 c
          have m1 := mn_le (fun i => pr i + B ((d0 : Int) + dd i).toNat) 1000000 n
          rw [← e1] at m1
          have z := m1.2 0 hn
          have z1 := nx 0 hn
          have z2 := k1 _ z1.1 z1.2
          have z3 := hp 0 hn
          refine ⟨?_, ?_, m1.2, ?_⟩
          · rcases mn_at (fun i => pr i + B ((d0 : Int) + dd i).toNat) 1000000 n with q | ⟨i, q1, q2⟩
            · omega
            · have := up1 i q1
              omega
          · have q1 : (30 - ((d0 : Int) + dd 0).toNat : Nat) + 1 ≤ (30 - d0 : Nat) := by have := hd 0 hn; omega
            have q2 : (255 : Int) * ((30 - ((d0 : Int) + dd 0).toNat : Nat) : Int) + 255 ≤ 255 * (30 - d0 : Nat) := by omega
            have q3 := z2.2.2
            show B d0 ≤ _
            have q4 : B d0 ≤ pr 0 + B ((d0 : Int) + dd 0).toNat := z
            omega
          · rw [e2, e1]
            have ee : ∀ i, i < n → A (min 30 ((d0 : Int) + dd i)).toNat + pr i = pr i + B ((d0 : Int) + dd i).toNat := fun i hi => by
              have h1 := nx i hi
              have h3 := hd i hi
              by_cases c2 : ((d0 : Int) + dd i) ≤ 30
              · rw [Int.min_eq_right c2, k4 _ h1.1 (by omega)]
                omega
              · rw [Int.min_eq_left (by omega), b0 _ (by omega) h1.2, show (30 : Int).toNat = 30 from rfl, a0]
                omega
            rw [mn_c n rfl ee]
            -- the start is never taken
            have s1 := mn_le (fun i => pr i + B ((d0 : Int) + dd i).toNat) 268435456 n
            have s2 := mn_le (fun i => pr i + B ((d0 : Int) + dd i).toNat) 1000000 n
            have f1 := s1.2 0 hn
            have f2 := s2.2 0 hn
            have z4 : pr 0 + B ((d0 : Int) + dd 0).toNat ≤ 255 + 255 * 30 := by omega
            rcases mn_at (fun i => pr i + B ((d0 : Int) + dd i).toNat) 268435456 n with q | ⟨i, q1, q2⟩
            · omega
            · rcases mn_at (fun i => pr i + B ((d0 : Int) + dd i).toNat) 1000000 n with p | ⟨j, p1, p2⟩
              · omega
              · have g1 := s2.2 i q1
                have g2 := s1.2 j p1
                omega
        · have e1 := hB.2 c
          have e2 := hA.2 c
          have m1 := mn_le (fun i => pr i + B ((d0 : Int) + dd i).toNat) (B (d0 + 1)) n
          have e3 : B d0 = B (d0 + 1) := by
            rcases mn_at (fun i => pr i + B ((d0 : Int) + dd i).toNat) (B (d0 + 1)) n with q | ⟨i, q1, q2⟩
            · rw [e1, q]
            · have := up1 i q1
              omega
          refine ⟨by omega, ?_, fun i hi => by rw [e3]; exact up1 i hi, ?_⟩
          · have := t1.2.2
            omega
          · rw [e2, e3]
            exact k4 (d0 + 1) (by omega) (by omega)
      have bpos : 0 ≤ B d0 := by omega
      refine ⟨fun d h1 h2 => ?_, fun d h1 h2 => ?_, fun d i h1 h2 hi => ?_, fun d h1 h2 => ?_⟩
      · by_cases q : d = d0
        · subst q
          omega
        · exact k1 d (by omega) h2
      · by_cases q : d = d0
        · subst q
          exact bb.1
        · exact k2 d (by omega) h2
      · by_cases q : d = d0
        · subst q
          exact bb.2.2.1 i hi
        · exact k3 d i (by omega) h2 hi
      · by_cases q : d = d0
        · subst q
          exact bb.2.2.2
        · exact k4 d (by omega) h2
  exact (key 30 (by omega)).2.2.2 0 (by omega) (by omega)
