/-! CALL: inspector, rows of rides. No JVM here. -/
set_option maxRecDepth 100000
set_option linter.unusedVariables false
/-- so many rides from a stop on -/
def iPf (V : Vw) : Nat → Nat → Nat → Prop
  | 0, _, _ => True
  | n + 1, r, i => ∃ r', r' < nT V ∧ r' ≠ r ∧ ru V r' ∧ ∃ j, st V r' j = st V r i ∧ mi V r i + ch V ≤ mi V r' j ∧ ∃ k, j < k ∧ k < sm V r' ∧ iPf V n r' k
/-- so many rides to a stop -/
def iPt (V : Vw) (s : Int) : Nat → Nat → Nat → Prop
  | 0, _, _ => False
  | n + 1, r, i => ru V r ∧ ∃ j, j < i ∧ ((n = 0 ∧ st V r j = s) ∨ ∃ r' k, r' < nT V ∧ r' ≠ r ∧ k < sm V r' ∧ st V r' k = st V r j ∧ mi V r' k + ch V ≤ mi V r j ∧ iPt V s n r' k)
/-- .. at least, when one gets on at a stop -/
def iHt (V : Vw) (s : Int) (n r j : Nat) : Prop := (st V r j = s ∧ n = 0) ∨ ∃ r' k, r' < nT V ∧ r' ≠ r ∧ k < sm V r' ∧ st V r' k = st V r j ∧ mi V r' k + ch V ≤ mi V r j ∧ ∃ n', n ≤ n' ∧ iPt V s n' r' k
def iAns (V : Vw) (s : Int) (n : Nat) : Prop := ∃ r, r < nT V ∧ ru V r ∧ ∃ j, st V r j = s ∧ ∃ i, j < i ∧ i < sm V r ∧ iPf V n r i
section IP
variable {b : Nat} {V0 V : Vw} {lw : Option Nat} {R : Hp} {p k j i r e n d f to : Nat} {s t z y w c lo hi m v : Int} {u : Int32} {A : Nat → Int}
theorem iPf_dn : ∀ {n r i : Nat}, iPf V (n + 1) r i → iPf V n r i
  | 0, r, i, _ => True.intro
  | n + 1, r, i, ⟨r', h1, h2, h3, j, h4, h5, k, h6, h7, h8⟩ => ⟨r', h1, h2, h3, j, h4, h5, k, h6, h7, iPf_dn h8⟩
theorem iPf_le {a : Nat} : ∀ d, iPf V (a + d) r i → iPf V a r i
  | 0, h => h
  | d + 1, h => iPf_le d (iPf_dn h)
theorem iPf_b (h : Rel V0 V) : ∀ {n r i : Nat}, r < nT V0 → i < sm V0 r → iPf V0 n r i → (n : Int) + mi V0 r i ≤ 1439
  | 0, r, i, hr, hi, _ => by
    have := mi_b h hr hi
    omega
  | n + 1, r, i, hr, hi, ⟨r', h1, h2, h3, j, h4, h5, k, h6, h7, h8⟩ => by
    have := iPf_b h h1 h7 h8
    have := mi_lt h h1 h6 h7
    have := ch_b h
    omega
theorem iPt_on (h : Rel V0 V) : ∀ {n m r i : Nat}, r < nT V0 → i < sm V0 r → iPt V0 s (m + 1) r i → iPf V0 n r i → ∃ r' i', r' < nT V0 ∧ i' < sm V0 r' ∧ iPt V0 s (m + 1 + n) r' i'
  | 0, m, r, i, hr, hi, q, _ => ⟨r, i, hr, hi, q⟩
  | n + 1, m, r, i, hr, hi, q, ⟨r', h1, h2, h3, j, h4, h5, k, h6, h7, h8⟩ => by
    have q2 : iPt V0 s (m + 1 + 1) r' k := ⟨h3, j, h6, Or.inr ⟨r, i, hr, fun e => h2 e.symm, hi, h4.symm, h5, q⟩⟩
    obtain ⟨r2, i2, a1, a2, a3⟩ := iPt_on h h1 h7 q2 h8
    exact ⟨r2, i2, a1, a2, by rw [show m + 1 + (n + 1) = m + 1 + 1 + n by omega]; exact a3⟩
theorem iPt_off (h : Rel V0 V) : ∀ {m n r i : Nat}, r < nT V0 → i < sm V0 r → iPt V0 s (m + 1) r i → iPf V0 n r i → iAns V0 s (m + n)
  | 0, n, r, i, hr, hi, ⟨h1, j, h2, h3⟩, q => by
    rcases h3 with ⟨_, h3⟩ | ⟨r', k, _, _, _, _, _, h4⟩
    · exact ⟨r, hr, h1, j, h3, i, h2, hi, by rw [Nat.zero_add]; exact q⟩
    · exact h4.elim
  | m + 1, n, r, i, hr, hi, ⟨h1, j, h2, h3⟩, q => by
    rcases h3 with ⟨h3, _⟩ | ⟨r', k, a1, a2, a3, a4, a5, a6⟩
    · omega
    · have := iPt_off h (n := n + 1) a1 a3 a6 ⟨r, hr, fun e => a2 e.symm, h1, j, a4.symm, a5, i, h2, hi, q⟩
      rw [show m + 1 + n = m + (n + 1) by omega]
      exact this
theorem iAns_iff (h : Rel V0 V) : iAns V0 s n ↔ ∃ r i, r < nT V0 ∧ i < sm V0 r ∧ ru V0 r ∧ ∃ j, j < i ∧ iHt V0 s n r j := by
  constructor
  · rintro ⟨r, hr, h1, j, h2, i, h3, h4, h5⟩
    have q : iPt V0 s (0 + 1) r i := ⟨h1, j, h3, Or.inl ⟨rfl, h2⟩⟩
    obtain ⟨r', i', a1, a2, a3⟩ := iPt_on h hr h4 q h5
    rw [show 0 + 1 + n = n + 1 by omega] at a3
    obtain ⟨b1, j', b2, b3⟩ := a3
    refine ⟨r', i', a1, a2, b1, j', b2, ?_⟩
    rcases b3 with ⟨b3, b4⟩ | ⟨r2, k, c1, c2, c3, c4, c5, c6⟩
    · exact Or.inl ⟨b4, b3⟩
    · exact Or.inr ⟨r2, k, c1, c2, c3, c4, c5, n, Nat.le_refl _, c6⟩
  · rintro ⟨r, i, hr, hi, h1, j, h2, h3⟩
    have : ∃ m, n ≤ m ∧ iPt V0 s (m + 1) r i := by
      rcases h3 with ⟨h3, h4⟩ | ⟨r2, k, c1, c2, c3, c4, c5, n', c6, c7⟩
      · exact ⟨0, by omega, h1, j, h2, Or.inl ⟨rfl, h3⟩⟩
      · exact ⟨n', c6, h1, j, h2, Or.inr ⟨r2, k, c1, c2, c3, c4, c5, c7⟩⟩
    obtain ⟨m, m1, m2⟩ := this
    obtain ⟨r', a1, a2, j', a3, i', a4, a5, a6⟩ := iPt_off h (n := 0) hr hi m2 True.intro
    exact ⟨r', a1, a2, j', a3, i', a4, a5, iPf_le (m - n) (by rw [show n + (m - n) = m + 0 by omega]; exact a6)⟩
/-- a stop's most rides, as far as events ahead of t go -/
def iZ (V : Vw) (s : Int) (t n r i : Nat) : Prop := ru V r ∧ ∃ j, j < i ∧ (∃ e, e < t ∧ evT V e = r ∧ evS V e = j) ∧ iHt V s n r j
theorem iZ_Pt (h : Rel V0 V) {t : Nat} (hr : r < nT V0) (hi : i < sm V0 r) (ht : t < nE V0) (hm : mi V0 r i ≤ evM V0 t) : iZ V0 s t n r i ↔ ∃ n', n ≤ n' ∧ iPt V0 s (n' + 1) r i := by
  constructor
  · rintro ⟨h1, j, h2, _, h3⟩
    rcases h3 with ⟨h3, h4⟩ | ⟨r2, k, c1, c2, c3, c4, c5, n', c6, c7⟩
    · exact ⟨0, by omega, h1, j, h2, Or.inl ⟨rfl, h3⟩⟩
    · exact ⟨n', c6, h1, j, h2, Or.inr ⟨r2, k, c1, c2, c3, c4, c5, c7⟩⟩
  · rintro ⟨n', h0, h1, j, h2, h3⟩
    obtain ⟨e, e1, e2, e3⟩ := ev_of h hr (show j < sm V0 r by omega)
    have lt : e < t := by
      by_cases c : t ≤ e
      · have a1 := ev_le2 h c e1
        have a2 := mi_lt h hr h2 hi
        have a3 : evM V0 e = mi V0 r j := by
          unfold evM
          rw [e2, e3]
        omega
      · omega
    refine ⟨h1, j, h2, ⟨e, lt, e2, e3⟩, ?_⟩
    rcases h3 with ⟨h3, h4⟩ | ⟨r2, k, c1, c2, c3, c4, c5, c6⟩
    · exact Or.inl ⟨h4, by omega⟩
    · exact Or.inr ⟨r2, k, c1, c2, c3, c4, c5, n', h0, c6⟩
theorem iPt_b (h : Rel V0 V) : ∀ {n r i : Nat}, r < nT V0 → i < sm V0 r → iPt V0 s n r i → (n : Int) ≤ mi V0 r i
  | 0, r, i, hr, hi, q => q.elim
  | n + 1, r, i, hr, hi, ⟨h1, j, h2, h3⟩ => by
    have a1 := mi_lt h hr h2 hi
    have a2 := mi_b h hr (show j < sm V0 r by omega)
    have a3 := ch_b h
    rcases h3 with ⟨h3, h4⟩ | ⟨r2, k, c1, c2, c3, c4, c5, c6⟩
    · omega
    · have := iPt_b h c1 c3 c6
      omega
theorem iHt_b (h : Rel V0 V) (hr : r < nT V0) (hj : j < sm V0 r) (q : iHt V0 s n r j) : (n : Int) ≤ mi V0 r j := by
  have a2 := mi_b h hr hj
  have a3 := ch_b h
  rcases q with ⟨h3, h4⟩ | ⟨r2, k, c1, c2, c3, c4, c5, n', c6, c7⟩
  · omega
  · have := iPt_b h c1 c3 c7
    omega
end IP
