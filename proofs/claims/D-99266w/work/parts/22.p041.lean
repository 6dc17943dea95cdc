/-! CALL: sets, matchings. No JVM here. -/
set_option maxRecDepth 100000
set_option linter.unusedVariables false
abbrev fE (V : Vw) (r q : Nat) : Prop := ru V r ∧ ru V q ∧ st V r (sm V r - 1) = st V q 0 ∧ mi V r (sm V r - 1) + ch V ≤ mi V q 0
def mU (M : Nat → Int) (q : Nat) (v : Int) : Nat → Int := fun p => if p = q then v else M p
def mV (V : Vw) (M : Nat → Int) : Prop := (∀ q, q < nT V → M q = -1 ∨ ∃ r, r < nT V ∧ M q = (r : Int) ∧ fE V r q) ∧ ∀ q q', q < nT V → q' < nT V → q ≠ q' → M q = M q' → M q = -1
def mC (V : Vw) (M : Nat → Int) (x : Nat) : Prop := ∃ q, q < nT V ∧ M q = (x : Int)
section MT
variable {V : Vw} {M M' N : Nat → Int} {p q r x y k : Nat}
theorem mU_s {v : Int} : mU M q v q = v := if_pos rfl
theorem mU_n {v : Int} (h : p ≠ q) : mU M q v p = M p := if_neg h
theorem mV_c (h : ∀ q, q < nT V → M' q = M q) (g : mV V M) : mV V M' := by
  refine ⟨fun q hq => ?_, fun q q' hq hq' hn e => ?_⟩
  · rw [h q hq]
    exact g.1 q hq
  · rw [h q hq, h q' hq'] at e
    rw [h q hq]
    exact g.2 q q' hq hq' hn e
theorem mC_c (h : ∀ q, q < nT V → M' q = M q) : mC V M' x ↔ mC V M x :=
  ⟨fun ⟨q, h1, h2⟩ => ⟨q, h1, by rw [← h q h1]; exact h2⟩, fun ⟨q, h1, h2⟩ => ⟨q, h1, by rw [h q h1]; exact h2⟩⟩
theorem mV_put (g : mV V M) (hq : q < nT V) (hM : M q = -1) (hx : x < nT V) (he : fE V x q) (hc : ¬ mC V M x) : mV V (mU M q (x : Int)) ∧ ∀ y, mC V (mU M q (x : Int)) y ↔ mC V M y ∨ y = x := by
  refine ⟨⟨fun p hp => ?_, fun p p' hp hp' hn e => ?_⟩, fun y => ⟨?_, ?_⟩⟩
  · by_cases c : p = q
    · rw [c, mU_s]
      exact Or.inr ⟨x, hx, rfl, he⟩
    · rw [mU_n c]
      exact g.1 p hp
  · by_cases c : p = q
    · rw [c, mU_s, mU_n (by omega)] at e
      exact absurd ⟨p', hp', e.symm⟩ hc
    · by_cases c' : p' = q
      · rw [c', mU_s, mU_n c] at e
        exact absurd ⟨p, hp, e⟩ hc
      · rw [mU_n c, mU_n c'] at e
        rw [mU_n c]
        exact g.2 p p' hp hp' hn e
  · rintro ⟨p, hp, e⟩
    by_cases c : p = q
    · rw [c, mU_s] at e
      exact Or.inr (by omega)
    · rw [mU_n c] at e
      exact Or.inl ⟨p, hp, e⟩
  · rintro (⟨p, hp, e⟩ | e)
    · by_cases c : p = q
      · rw [c, hM] at e
        omega
      · exact ⟨p, hp, by rw [mU_n c]; exact e⟩
    · exact ⟨q, hq, by rw [mU_s, e]⟩
theorem mV_del (g : mV V M) (hq : q < nT V) (hM : M q = (y : Int)) : mV V (mU M q (-1)) ∧ ∀ z, mC V (mU M q (-1)) z ↔ mC V M z ∧ z ≠ y := by
  refine ⟨⟨fun p hp => ?_, fun p p' hp hp' hn e => ?_⟩, fun z => ⟨?_, ?_⟩⟩
  · by_cases c : p = q
    · rw [c, mU_s]
      exact Or.inl rfl
    · rw [mU_n c]
      exact g.1 p hp
  · by_cases c : p = q
    · rw [c, mU_s]
    · by_cases c' : p' = q
      · rw [c', mU_s] at e
        exact e
      · rw [mU_n c, mU_n c'] at e
        rw [mU_n c]
        exact g.2 p p' hp hp' hn e
  · rintro ⟨p, hp, e⟩
    by_cases c : p = q
    · rw [c, mU_s] at e
      omega
    · rw [mU_n c] at e
      refine ⟨⟨p, hp, e⟩, fun w => ?_⟩
      have := g.2 p q hp hq c (by rw [e, hM, w])
      omega
  · rintro ⟨⟨p, hp, e⟩, w⟩
    by_cases c : p = q
    · rw [c, hM] at e
      omega
    · exact ⟨p, hp, by rw [mU_n c]; exact e⟩
theorem cnt_del {p : Nat → Bool} : ∀ n r, r < n → p r = true → cnt (fun x => p x && decide (x ≠ r)) n + 1 = cnt p n
  | 0, r, h, _ => absurd h (Nat.not_lt_zero _)
  | n + 1, r, h, hp => by
    rw [cnt, cnt]
    by_cases c : r = n
    · subst c
      have : cnt (fun x => p x && decide (x ≠ r)) r = cnt p r := cnt_c r fun i hi => by
        rw [decide_eq_true (by omega), Bool.and_true]
      rw [this, hp]
      simp
    · have ih := cnt_del n r (by omega) hp
      have e : (p n && decide (n ≠ r)) = p n := by rw [decide_eq_true (by omega), Bool.and_true]
      rw [e]
      omega
/-- a set that a failing search has closed: nothing can be matched more than is -/
theorem mt_key {S : Nat → Bool} (g : mV V M) (hr : r < nT V) (hc : ¬ mC V M r) (s1 : S r = true) (s2 : ∀ x, S x = true → x = r ∨ mC V M x) (s3 : ∀ x q, S x = true → q < nT V → fE V x q → ∃ y, M q = ((y : Nat) : Int) ∧ S y = true) (g' : mV V M') (hC : ∀ x, mC V M' x ↔ mC V M x ∨ x = r) : False := by
  have fq : ∀ x, S x = true → ∃ q, q = fnd (fun q => decide (M' q = (x : Int))) (nT V) ∧ q < nT V ∧ M' q = (x : Int) ∧ fE V x q := fun x hx => by
    obtain ⟨q0, q1, q2⟩ : mC V M' x := (hC x).mpr ((s2 x hx).elim Or.inr Or.inl)
    have lt : fnd (fun q => decide (M' q = (x : Int))) (nT V) < nT V := by
      by_cases c : fnd (fun q => decide (M' q = (x : Int))) (nT V) < nT V
      · exact c
      · have := fnd_no (fun q => decide (M' q = (x : Int))) (nT V) q0 (by omega)
        rw [decide_eq_true q2] at this
        cases this
    have hit := of_decide_eq_true (fnd_yes _ _ lt)
    refine ⟨_, rfl, lt, hit, ?_⟩
    rcases g'.1 _ lt with w | ⟨r', w1, w2, w3⟩
    · rw [hit] at w
      omega
    · rw [hit] at w2
      have : r' = x := by omega
      rw [this] at w3
      exact w3
  have a := cnt_inj (p := S) (q := fun x => S x && decide (x ≠ r)) (m := nT V) (fun x => (M (fnd (fun q => decide (M' q = (x : Int))) (nT V))).toNat) (nT V) (fun x hx hp => by
    obtain ⟨q, e, q1, q2, q3⟩ := fq x hp
    rw [← e]
    obtain ⟨y, y1, y2⟩ := s3 x q hp q1 q3
    rw [y1, tn]
    have ylt : y < nT V := by
      rcases g.1 q q1 with w | ⟨r', w1, w2, w3⟩ <;> omega
    have yr : y ≠ r := fun w => hc ⟨q, q1, by rw [y1, w]⟩
    refine ⟨ylt, ?_⟩
    simp only [y2, Bool.true_and, decide_eq_true_eq]
    exact yr) (fun x x' hx hx' hp hp' e => by
    obtain ⟨q, e1, q1, q2, q3⟩ := fq x hp
    obtain ⟨q', e1', q1', q2', q3'⟩ := fq x' hp'
    rw [← e1, ← e1'] at e
    obtain ⟨y, y1, y2⟩ := s3 x q hp q1 q3
    obtain ⟨y', y1', y2'⟩ := s3 x' q' hp' q1' q3'
    rw [y1, y1', tn, tn] at e
    by_cases c : q = q'
    · rw [c] at q2
      omega
    · have := g.2 q q' q1 q1' c (by rw [y1, y1', e])
      omega)
  have b := cnt_del (p := S) (nT V) r hr s1
  omega
/-- a search's success: what becomes of any matching that is like this one where the search may look -/
def mS (V : Vw) (x : Nat) (seen : Nat → Prop) (M M' : Nat → Int) : Prop := (∀ q, q < nT V → seen q → M' q = M q) ∧ ∀ Mv : Nat → Int, mV V Mv → (∀ q, q < nT V → ¬ seen q → Mv q = M q) → ¬ mC V Mv x → ∀ Mt : Nat → Int, (∀ q, q < nT V → seen q → Mt q = Mv q) → (∀ q, q < nT V → ¬ seen q → Mt q = M' q) → mV V Mt ∧ ∀ y, mC V Mt y ↔ mC V Mv y ∨ y = x
theorem mS_1 {seen : Nat → Prop} (hq : q < nT V) (hs : ¬ seen q) (hx : x < nT V) (he : fE V x q) (hM : M q = -1) : mS V x seen M (mU M q (x : Int)) := by
  refine ⟨fun p hp hps => mU_n fun c => hs (c ▸ hps), fun Mv g a1 a2 Mt a3 a4 => ?_⟩
  have e : ∀ p, p < nT V → Mt p = mU Mv q (x : Int) p := fun p hp => by
    by_cases c : p = q
    · rw [c, mU_s, a4 q hq hs, mU_s]
    · rw [mU_n c]
      by_cases c2 : seen p
      · exact a3 p hp c2
      · rw [a4 p hp c2, mU_n c, a1 p hp c2]
  obtain ⟨b1, b2⟩ := mV_put g hq (by rw [a1 q hq hs]; exact hM) hx he a2
  exact ⟨mV_c e b1, fun y => by rw [mC_c e]; exact b2 y⟩
theorem mS_2 {seen seen1 : Nat → Prop} (hq : q < nT V) (hs : ¬ seen1 q) (hsub : ∀ p, seen p → seen1 p) (hx : x < nT V) (he : fE V x q) (hM : M q = (y : Int)) (ih : mS V y (fun p => seen1 p ∨ p = q) M M') : mS V x seen M (mU M' q (x : Int)) := by
  obtain ⟨i1, i2⟩ := ih
  have hs0 : ¬ seen q := fun c => hs (hsub q c)
  refine ⟨fun p hp hps => by rw [mU_n (fun c => by rw [c] at hps; exact hs0 hps)]; exact i1 p hp (Or.inl (hsub p hps)), fun Mv g a1 a2 Mt a3 a4 => ?_⟩
  have hMv : Mv q = (y : Int) := by rw [a1 q hq hs0]; exact hM
  obtain ⟨d1, d2⟩ := mV_del g hq hMv
  obtain ⟨b1, b2⟩ := i2 (mU Mv q (-1)) d1 (fun p hp c => by
    rw [mU_n (fun e => c (Or.inr e)), a1 p hp (fun w => c (Or.inl (hsub p w)))]) (fun w => ((d2 y).mp w).2 rfl) (mU Mt q (-1)) (fun p hp c => by
    by_cases e : p = q
    · rw [e, mU_s, mU_s]
    · rw [mU_n e, mU_n e]
      by_cases c2 : seen p
      · exact a3 p hp c2
      · have w : seen1 p := c.elim id fun w => absurd w e
        rw [a4 p hp c2, mU_n e, i1 p hp (Or.inl w), a1 p hp c2]) (fun p hp c => by
    have e : p ≠ q := fun w => c (Or.inr w)
    rw [mU_n e, a4 p hp (fun w => c (Or.inl (hsub p w))), mU_n e])
  have same : ∀ z, mC V (mU Mt q (-1)) z ↔ mC V Mv z := fun z => by
    rw [b2 z, d2 z]
    constructor
    · rintro (w | w)
      · exact w.1
      · exact ⟨q, hq, by rw [hMv, w]⟩
    · intro w
      by_cases c : z = y
      · exact Or.inr c
      · exact Or.inl ⟨w, c⟩
  obtain ⟨p1, p2⟩ := mV_put b1 hq mU_s hx he (fun w => a2 ((same x).mp w))
  have e : ∀ p, p < nT V → Mt p = mU (mU Mt q (-1)) q (x : Int) p := fun p hp => by
    by_cases c : p = q
    · rw [c, mU_s, a4 q hq hs0, mU_s]
    · rw [mU_n c, mU_n c]
  refine ⟨mV_c e p1, fun z => ?_⟩
  rw [mC_c e, p2 z, same z]
/-- greedy growth: which trains find a next one, one after the other -/
def mG (V : Vw) (n : Nat) (succ : Nat → Bool) : Prop := ∀ r, r < n → (succ r = true ↔ ∃ M', mV V M' ∧ ∀ x, mC V M' x ↔ (x < r ∧ succ x = true) ∨ x = r)
theorem mG_u {s1 s2 : Nat → Bool} {n : Nat} (h1 : mG V n s1) (h2 : mG V n s2) : ∀ r, r < n → s1 r = s2 r := by
  intro r
  induction r using Nat.strongRecOn with
  | _ r ih =>
    intro hr
    have a := h1 r hr
    have b := h2 r hr
    have e : ∀ x, (x < r ∧ s1 x = true) ↔ (x < r ∧ s2 x = true) := fun x => ⟨fun ⟨w1, w2⟩ => ⟨w1, by rw [← ih x w1 (by omega)]; exact w2⟩, fun ⟨w1, w2⟩ => ⟨w1, by rw [ih x w1 (by omega)]; exact w2⟩⟩
    rw [Bool.eq_iff_iff, a, b]
    simp only [e]
/-- one round more -/
theorem mG_s {s1 : Nat → Bool} {M M' : Nat → Int} {v : Bool} (h : mG V r s1) (hr : r < nT V) (g : mV V M) (hC : ∀ x, mC V M x ↔ x < r ∧ s1 x = true) (yes : v = true → mV V M' ∧ ∀ x, mC V M' x ↔ mC V M x ∨ x = r) (no : v = false → (∀ q, q < nT V → M' q = M q) ∧ ¬ ∃ M', mV V M' ∧ ∀ x, mC V M' x ↔ mC V M x ∨ x = r) : ∃ s2 : Nat → Bool, mG V (r + 1) s2 ∧ mV V M' ∧ (∀ x, mC V M' x ↔ x < r + 1 ∧ s2 x = true) ∧ cnt s2 (r + 1) = cnt s1 r + (if v = true then 1 else 0) := by
  obtain ⟨s2, hn, same⟩ : ∃ s2 : Nat → Bool, (∀ x, x ≠ r → s2 x = s1 x) ∧ s2 r = v := ⟨fun x => if x = r then v else s1 x, fun x hx => if_neg hx, if_pos rfl⟩
  have cc : ∀ r' x, r' ≤ r → ((x < r' ∧ s2 x = true) ↔ (x < r' ∧ s1 x = true)) := fun r' x hr' => ⟨fun ⟨w1, w2⟩ => ⟨w1, by rw [hn x (by omega)] at w2; exact w2⟩, fun ⟨w1, w2⟩ => ⟨w1, by rw [hn x (by omega)]; exact w2⟩⟩
  have cases : v = true ∨ v = false := by cases v <;> simp
  refine ⟨s2, fun r' hr' => ?_, ?_, fun x => ?_, ?_⟩
  · by_cases c : r' = r
    · rw [c]
      have e : ∀ x, (x < r ∧ s2 x = true) ↔ mC V M x := fun x => by
        rw [hC x]
        exact cc r x (Nat.le_refl _)
      simp only [e, same]
      constructor
      · intro w
        exact ⟨M', yes w⟩
      · intro w
        exact cases.elim id fun q => absurd w (no q).2
    · have e : ∀ x, (x < r' ∧ s2 x = true) ↔ (x < r' ∧ s1 x = true) := fun x => cc r' x (by omega)
      simp only [e, hn r' c]
      exact h r' (by omega)
  · rcases cases with q | q
    · exact (yes q).1
    · exact mV_c (no q).1 g
  · rcases cases with q | q
    · rw [(yes q).2 x, hC x]
      constructor
      · rintro (⟨w1, w2⟩ | w)
        · exact ⟨by omega, by rw [hn x (by omega)]; exact w2⟩
        · exact ⟨by omega, by rw [w, same]; exact q⟩
      · rintro ⟨w1, w2⟩
        by_cases c : x = r
        · exact Or.inr c
        · rw [hn x c] at w2
          exact Or.inl ⟨by omega, w2⟩
    · rw [mC_c (no q).1, hC x]
      constructor
      · rintro ⟨w1, w2⟩
        exact ⟨by omega, by rw [hn x (by omega)]; exact w2⟩
      · rintro ⟨w1, w2⟩
        by_cases c : x = r
        · rw [c, same, q] at w2
          cases w2
        · rw [hn x c] at w2
          exact ⟨by omega, w2⟩
  · rw [cnt, cnt_c r (fun x hx => hn x (by omega)), same]
end MT
