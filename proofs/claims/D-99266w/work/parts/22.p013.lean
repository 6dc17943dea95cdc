/-! CALLS: direct, longestWait; gaps between minutes. No JVM here. -/
set_option maxRecDepth 100000
set_option linter.unusedVariables false
def gapOf (S : Int → Prop) (g : Int) : Prop := 0 ≤ g ∧ (∀ a c, S a → S c → a < c → (∀ x, S x → ¬ (a < x ∧ x < c)) → c - a ≤ g) ∧ (g = 0 ∨ ∃ a c, S a ∧ S c ∧ a < c ∧ (∀ x, S x → ¬ (a < x ∧ x < c)) ∧ c - a = g)
def gapS (S : Int → Prop) (la lo : Int) : Prop := (la = -1 ∧ (∀ x, ¬ S x) ∧ lo = 0) ∨ (0 ≤ la ∧ S la ∧ (∀ x, S x → x ≤ la) ∧ gapOf S lo)
theorem gapS_c {S S' : Int → Prop} {la lo : Int} (e : ∀ x, S x ↔ S' x) (h : gapS S la lo) : gapS S' la lo := by
  have : S = S' := funext fun x => propext (e x)
  rw [← this]
  exact h
theorem gapS_u {S : Int → Prop} {la lo la2 lo2 : Int} (h : gapS S la lo) (h2 : gapS S la2 lo2) : lo = lo2 := by
  rcases h with ⟨_, n1, e1⟩ | ⟨_, s1, _, g1⟩ <;> rcases h2 with ⟨_, n2, e2⟩ | ⟨_, s2, _, g2⟩
  · omega
  · exact absurd s2 (n1 _)
  · exact absurd s1 (n2 _)
  · obtain ⟨p1, p2, p3⟩ := g1
    obtain ⟨q1, q2, q3⟩ := g2
    have a1 : lo ≤ lo2 := by
      rcases p3 with e | ⟨a, c, x1, x2, x3, x4, x5⟩
      · omega
      · have := q2 a c x1 x2 x3 x4
        omega
    have a2 : lo2 ≤ lo := by
      rcases q3 with e | ⟨a, c, x1, x2, x3, x4, x5⟩
      · omega
      · have := p2 a c x1 x2 x3 x4
        omega
    omega
theorem gapS_s {S : Int → Prop} {la lo m : Int} (h : gapS S la lo) (hm : la ≤ m) (h0 : 0 ≤ m) : gapS (fun x => S x ∨ x = m) m (if la = -1 then 0 else max lo (m - la)) := by
  rcases h with ⟨e, n1, e1⟩ | ⟨l0, s1, s2, p1, p2, p3⟩
  · rw [if_pos e]
    refine Or.inr ⟨h0, Or.inr rfl, fun x hx => ?_, Int.le_refl _, fun a c ha hc hac _ => ?_, Or.inl rfl⟩
    · rcases hx with hx | hx
      · exact absurd hx (n1 _)
      · omega
    · rcases ha with ha | ha
      · exact absurd ha (n1 _)
      · rcases hc with hc | hc
        · exact absurd hc (n1 _)
        · omega
  · rw [if_neg (by omega)]
    refine Or.inr ⟨h0, Or.inr rfl, fun x hx => ?_, by omega, fun a c ha hc hac hb => ?_, ?_⟩
    · rcases hx with hx | hx
      · have := s2 x hx
        omega
      · omega
    · rcases ha with ha | ha
      · rcases hc with hc | hc
        · have := p2 a c ha hc hac (fun x hx => hb x (Or.inl hx))
          omega
        · have h1 := hb la (Or.inl s1)
          have h2 := s2 a ha
          by_cases e : la = m
          · subst e
            have h3 := p2 a la ha s1 (by omega) (fun x hx => by have := hb x (Or.inl hx); omega)
            omega
          · omega
      · rcases hc with hc | hc
        · have := s2 c hc
          omega
        · omega
    · by_cases hl : m - la ≤ lo
      · have e : max lo (m - la) = lo := by omega
        rw [e]
        rcases p3 with e | ⟨a, c, x1, x2, x3, x4, x5⟩
        · exact Or.inl e
        · refine Or.inr ⟨a, c, Or.inl x1, Or.inl x2, x3, fun x hx => ?_, x5⟩
          rcases hx with hx | hx
          · exact x4 x hx
          · have := s2 c x2
            omega
      · refine Or.inr ⟨la, m, Or.inl s1, Or.inr rfl, by omega, fun x hx => ?_, by omega⟩
        rcases hx with hx | hx
        · have := s2 x hx
          omega
        · omega
theorem cnt_erase {q : Nat → Bool} {j : Nat} : ∀ m : Nat, j < m → q j = true → cnt q m = cnt (fun i => q i && decide (i ≠ j)) m + 1
  | 0, h, _ => absurd h (Nat.not_lt_zero _)
  | m + 1, h, hq => by
    rw [cnt, cnt]
    by_cases e : j = m
    · subst e
      rw [if_pos hq, if_neg (by simp), cnt_c j (q := fun i => q i && decide (i ≠ j)) (fun i hi => by simp [show i ≠ j by omega])]
      omega
    · rw [cnt_erase m (by omega) hq]
      have : (q m && decide (m ≠ j)) = q m := by simp [show m ≠ j by omega]
      rw [this]
      omega
theorem cnt_inj {p q : Nat → Bool} {m : Nat} (f : Nat → Nat) : ∀ n : Nat, (∀ i, i < n → p i = true → f i < m ∧ q (f i) = true) → (∀ i k, i < n → k < n → p i = true → p k = true → f i = f k → i = k) → cnt p n ≤ cnt q m := by
  intro n
  induction n generalizing q with
  | zero => intro _ _; exact (cnt_le q m).1
  | succ n ih =>
    intro h1 h2
    rw [cnt]
    by_cases hp : p n = true
    · rw [if_pos hp]
      have hn := h1 n (by omega) hp
      rw [cnt_erase m hn.1 hn.2]
      have := ih (q := fun i => q i && decide (i ≠ f n)) (fun i hi hpi => ⟨(h1 i (by omega) hpi).1, by
        have h3 := (h1 i (by omega) hpi).2
        have h4 : f i ≠ f n := fun e => by have := h2 i n (by omega) (by omega) hpi hp e; omega
        simp [h3, h4]⟩) (fun i k hi hk a c e => h2 i k (by omega) (by omega) a c e)
      omega
    · rw [if_neg hp, Int.add_zero]
      exact ih (fun i hi => h1 i (by omega)) (fun i k hi hk => h2 i k (by omega) (by omega))
section DR
variable {b : Nat} {V0 V : Vw} {lw : Option Nat} {R : Hp} {p k j i r e : Nat} {s t z y w : Int}
theorem y_clears : ∃ V', fX7_clearsMinutes (Wd b V lw R) (some (b + 258)) = some (Wd b V' lw R) ∧ (∀ o, o ≠ 299 → V' o = V o) ∧ ∀ k, k < 1440 → V' 299 k = 0 := by
  obtain ⟨r, h1, V', h2, h3, h4⟩ := iter_for (b := fX7_clearsMinutes_L2 (some (b + 258))) (s := (I 0, Wd b V lw R)) (fun n s => ∃ V', s = (I (n : Int), Wd b V' lw R) ∧ (∀ o, o ≠ 299 → V' o = V o) ∧ ∀ k, k < n → V' 299 k = 0) (fun r => ∃ V', r = Wd b V' lw R ∧ (∀ o, o ≠ 299 → V' o = V o) ∧ ∀ k, k < 1440 → V' 299 k = 0) 1440 (by decide) ⟨V, rfl, fun _ _ => rfl, fun k h => absurd h (Nat.not_lt_zero _)⟩ (fun n s hS hn => by
      obtain ⟨V', rfl, h1, h2⟩ := hS
      refine ⟨(I ((n + 1 : Nat) : Int), Wd b (up V' 299 n 0) lw R), ?_, up V' 299 n 0, rfl, fun o ho => by rw [up_r ho, h1 o ho], fun k hk => ?_⟩
      · unfold fX7_clearsMinutes_L2
        simp (disch := omega) only [k_1439, k_1, k_0, I_lt, if_neg, gR258_59, Option.bind_some, wA299, tn, I_add]
        rfl
      · by_cases e : k = n
        · subst e
          rw [up_s]
        · rw [up_k e, h2 k (by omega)]) (fun s hS => by
      obtain ⟨V', rfl, h1, h2⟩ := hS
      exact ⟨Wd b V' lw R, by unfold fX7_clearsMinutes_L2; simp (disch := omega) only [k_1439, I_lt, if_pos], V', rfl, h1, h2⟩)
  refine ⟨V', ?_, h3, h4⟩
  unfold fX7_clearsMinutes
  rw [k_0, h1, h2]
  rfl
theorem sc_isMinute {V V' : Vw} (h : ∀ o, o ≠ 299 → V' o = V o) : Sc V V' := fun o k q => by rw [h o (fun e => q (by unfold scr; omega))]
/-- the marked minutes -/
abbrev mkS (V : Vw) (x : Int) : Prop := 0 ≤ x ∧ x < 1440 ∧ V 299 x.toNat = 1
theorem y_between (h01 : ∀ k, k < 1440 → V 299 k = 0 ∨ V 299 k = 1) : ∃ g la, fX7_longestBetween (Wd b V lw R) (some (b + 258)) = some (I g) ∧ gapS (mkS V) la g ∧ 0 ≤ g ∧ g ≤ 1440 := by
  obtain ⟨r, h1, g, la, h2, h3, h4, h5⟩ := iter_for (b := fX7_longestBetween_L6 (Wd b V lw R) (some (b + 258))) (s := (I (-1), I 0, I 0)) (fun n s => ∃ la lo : Int, s = (I la, I lo, I (n : Int)) ∧ gapS (fun x => mkS V x ∧ x < n) la lo ∧ -1 ≤ la ∧ la < n ∧ 0 ≤ lo ∧ lo ≤ 1440) (fun r => ∃ g la, r = I g ∧ gapS (mkS V) la g ∧ 0 ≤ g ∧ g ≤ 1440) 1440 (by decide) ⟨-1, 0, rfl, Or.inl ⟨rfl, fun x hx => by have := hx.1.1; have := hx.2; omega, rfl⟩, by decide, by decide, by decide, by decide⟩ (fun n s hS hn => by
      obtain ⟨la, lo, rfl, h1, h2, h3, h4, h5⟩ := hS
      unfold fX7_longestBetween_L6
      simp (disch := omega) only [k_1439, k_1, k_0, I_neg, I_lt, if_neg, gR258_59, Option.bind_some, rA299, tn, I_inj, I_sub, I_add, y_max]
      by_cases c : V 299 n = 1
      · have e : gapS (fun x => mkS V x ∧ x < ((n + 1 : Nat) : Int)) n (if la = -1 then 0 else max lo ((n : Int) - la)) := gapS_c (fun x => by
          constructor
          · intro q
            rcases q with q | q
            · exact ⟨q.1, by have := q.2; omega⟩
            · exact ⟨⟨by omega, by omega, by rw [q]; exact c⟩, by omega⟩
          · intro q
            by_cases e : x = n
            · exact Or.inr e
            · exact Or.inl ⟨q.1, by have := q.2; omega⟩) (gapS_s h1 (show la ≤ (n : Int) by omega) (by omega))
        rw [c, if_neg (by decide)]
        by_cases d : la = -1
        · rw [if_pos d] at e ⊢
          have hlo : lo = 0 := by
            rcases h1 with ⟨_, _, x⟩ | ⟨x, _⟩
            · exact x
            · omega
          rw [hlo]
          exact ⟨_, rfl, n, 0, rfl, e, by omega, by omega, by omega, by omega⟩
        · rw [if_neg d] at e ⊢
          exact ⟨_, rfl, n, max lo ((n : Int) - la), rfl, e, by omega, by omega, by omega, by omega⟩
      · have c0 : V 299 n = 0 := (h01 n hn).elim id (fun q => absurd q c)
        rw [c0, if_pos rfl]
        refine ⟨_, rfl, la, lo, rfl, gapS_c (fun x => ?_) h1, by omega, by omega, by omega, by omega⟩
        constructor
        · intro q
          exact ⟨q.1, by have := q.2; omega⟩
        · intro q
          refine ⟨q.1, ?_⟩
          have q2 := q.2
          by_cases e : x = n
          · have q3 := q.1.2.2
            rw [e, tn] at q3
            exact absurd q3 c
          · omega) (fun s hS => by
      obtain ⟨la, lo, rfl, h1, h2, h3, h4, h5⟩ := hS
      refine ⟨I lo, ?_, lo, la, rfl, gapS_c (fun x => ⟨fun q => q.1, fun q => ⟨q, by have := q.2.1; omega⟩⟩) h1, h4, h5⟩
      unfold fX7_longestBetween_L6
      simp (disch := omega) only [k_1439, I_lt, if_pos])
  refine ⟨g, la, ?_, h3, h4, h5⟩
  unfold fX7_longestBetween
  rw [k_1, k_0, I_neg, h1, h2]
  rfl
end DR
