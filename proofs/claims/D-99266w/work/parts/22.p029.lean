/-! CALL: latest. No JVM here. -/
set_option maxRecDepth 100000
set_option linter.unusedVariables false
section LT
variable {b : Nat} {V0 V : Vw} {lw : Option Nat} {R : Hp} {p k j i r e n d f to : Nat} {s t z y w c lo hi m v : Int} {u : Int32} {A : Nat → Int}
/-- what one comes to from a minute ahead of the day, one comes to from a train's leaving -/
theorem cT_low (h : Rel V0 V) (hf : f < 10) : ∀ k s v, s < 10 → s ≠ f → v ≤ 1439 → cT V0 f (-1) k s ≤ v → ∃ r, r < nT V0 ∧ leaves V0 r (f : Int) ∧ cT V0 f (minAt V0 r (f : Int)) k s ≤ v
  | 0, s, v, hs, hsf, hv, q => by
    have : cT V0 f (-1) 0 s = 268435456 := if_neg hsf
    omega
  | k + 1, s, v, hs, hsf, hv, q => by
    have hch := ch_b h
    rcases (cT_le k).mp q with q | ⟨r, h1, h2, i, h3, ⟨j, h4, h5⟩, h6, h7⟩
    · obtain ⟨r, r1, r2, r3⟩ := cT_low h hf k s v hs hsf hv q
      exact ⟨r, r1, r2, (cT_le k).mpr (Or.inl r3)⟩
    · have hj := st_b h h1 (show j < sm V0 r by omega)
      have hmj := mi_b h h1 (show j < sm V0 r by omega)
      have hi := mi_b h h1 h3
      by_cases e : (st V0 r j).toNat = f
      · have est : st V0 r j = (f : Int) := by omega
        obtain ⟨s1, s2⟩ := sAt_k h h1 (show j < sm V0 r by omega)
        rw [est] at s1 s2
        have em : minAt V0 r (f : Int) = mi V0 r j := by
          unfold minAt
          rw [s2]
        refine ⟨r, h1, ⟨h2, by omega, by omega⟩, ?_⟩
        have first : cT V0 f (minAt V0 r (f : Int)) 1 s ≤ v := (cT_le 0).mpr (Or.inr ⟨r, h1, h2, i, h3, ⟨j, h4, by
          rw [e, if_pos rfl]
          show (if f = f then minAt V0 r (f : Int) else 268435456) + 0 ≤ _
          rw [if_pos rfl, em]
          omega⟩, h6, h7⟩)
        have dn := cT_dn2 (V := V0) (f := f) (m := minAt V0 r (f : Int)) (s := s) 1 k
        rw [Nat.add_comm 1 k] at dn
        omega
      · obtain ⟨r', r1, r2, r3⟩ := cT_low h hf k (st V0 r j).toNat (mi V0 r j - if k = 0 then 0 else ch V0) (by omega) e (by split <;> omega) (by omega)
        exact ⟨r', r1, r2, (cT_le k).mpr (Or.inr ⟨r, h1, h2, i, h3, ⟨j, h4, by omega⟩, h6, h7⟩)⟩
def lvM (V : Vw) (f r : Nat) : Int := if leaves V r (f : Int) then minAt V r (f : Int) else -1
def laC (V : Vw) (f to : Nat) (z : Int) : Nat → Int
  | 0 => -2
  | r + 1 => if lvM V f r ≤ laC V f to z r then laC V f to z r else if z < cT V f (lvM V f r) 10 to then laC V f to z r else lvM V f r
theorem laC_sp (V : Vw) (f to : Nat) (z : Int) : ∀ r, (laC V f to z r = -2 ∨ ∃ i, i < r ∧ laC V f to z r = lvM V f i ∧ cT V f (lvM V f i) 10 to ≤ z) ∧ ∀ i, i < r → cT V f (lvM V f i) 10 to ≤ z → lvM V f i ≤ laC V f to z r
  | 0 => ⟨Or.inl rfl, fun i h => absurd h (Nat.not_lt_zero _)⟩
  | r + 1 => by
    obtain ⟨i1, i2⟩ := laC_sp V f to z r
    have grow : (laC V f to z r = -2 ∨ ∃ i, i < r ∧ laC V f to z r = lvM V f i ∧ cT V f (lvM V f i) 10 to ≤ z) → (laC V f to z r = -2 ∨ ∃ i, i < r + 1 ∧ laC V f to z r = lvM V f i ∧ cT V f (lvM V f i) 10 to ≤ z) := fun q => q.elim Or.inl fun ⟨i, h1, h2⟩ => Or.inr ⟨i, by omega, h2⟩
    rw [laC]
    by_cases c : lvM V f r ≤ laC V f to z r
    · rw [if_pos c]
      refine ⟨grow i1, fun i hi hp => ?_⟩
      by_cases e : i = r
      · rw [e]
        exact c
      · exact i2 i (by omega) hp
    · rw [if_neg c]
      by_cases c2 : z < cT V f (lvM V f r) 10 to
      · rw [if_pos c2]
        refine ⟨grow i1, fun i hi hp => ?_⟩
        by_cases e : i = r
        · rw [e] at hp
          omega
        · exact i2 i (by omega) hp
      · rw [if_neg c2]
        refine ⟨Or.inr ⟨r, by omega, rfl, by omega⟩, fun i hi hp => ?_⟩
        by_cases e : i = r
        · rw [e]
          exact Int.le_refl _
        · have := i2 i (by omega) hp
          omega
/-- the class's answer: the last minute of leaving that does, or none -/
theorem laC_fin (h : Rel V0 V) (hf : f < 10) (hto : to < 10) (hne : to ≠ f) (hz : z ≤ 1439) : (laC V0 f to z (nT V0) = -2 ∧ ∀ r, r < nT V0 → leaves V0 r (f : Int) → ¬ cT V0 f (minAt V0 r (f : Int)) 10 to ≤ z) ∨ (∃ r, r < nT V0 ∧ leaves V0 r (f : Int) ∧ cT V0 f (minAt V0 r (f : Int)) 10 to ≤ z ∧ laC V0 f to z (nT V0) = minAt V0 r (f : Int) ∧ ∀ i, i < nT V0 → leaves V0 i (f : Int) → cT V0 f (minAt V0 i (f : Int)) 10 to ≤ z → minAt V0 i (f : Int) ≤ minAt V0 r (f : Int)) := by
  obtain ⟨i1, i2⟩ := laC_sp V0 f to z (nT V0)
  have lv : ∀ r, leaves V0 r (f : Int) → lvM V0 f r = minAt V0 r (f : Int) := fun r q => if_pos q
  have all : ∀ r, r < nT V0 → leaves V0 r (f : Int) → cT V0 f (minAt V0 r (f : Int)) 10 to ≤ z → minAt V0 r (f : Int) ≤ laC V0 f to z (nT V0) := fun r hr hl hp => by
    have := i2 r hr (by rw [lv r hl]; exact hp)
    rw [lv r hl] at this
    exact this
  rcases i1 with i1 | ⟨r, h1, h2, h3⟩
  · refine Or.inl ⟨i1, fun r hr hl hp => ?_⟩
    have h4 := all r hr hl hp
    have h5 := minAt_b h hr hl.2.1
    omega
  · by_cases c : leaves V0 r (f : Int)
    · rw [lv r c] at h2 h3
      exact Or.inr ⟨r, h1, c, h3, h2, fun i hi hl hp => by rw [← h2]; exact all i hi hl hp⟩
    · have e : lvM V0 f r = -1 := if_neg c
      rw [e] at h2 h3
      obtain ⟨r', r1, r2, r3⟩ := cT_low h hf 10 to z hto hne hz h3
      have h4 := all r' r1 r2 r3
      have h5 := minAt_b h r1 r2.2.1
      omega
end LT
