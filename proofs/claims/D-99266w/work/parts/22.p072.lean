/-! CALL: timetable, events in order. No JVM here. -/
set_option maxRecDepth 100000
set_option linter.unusedVariables false
def insAt (M : Nat → Int) (A : Nat → Nat) (c : Nat) : Nat → Nat
  | 0 => 0
  | n + 1 => if M (A n) ≤ M c then n + 1 else insAt M A c n
theorem insAt_le {M : Nat → Int} {A : Nat → Nat} {c : Nat} : ∀ n, insAt M A c n ≤ n
  | 0 => Nat.le_refl _
  | n + 1 => by
    have := insAt_le (M := M) (A := A) (c := c) n
    rw [insAt]
    split <;> omega
theorem insAt_hi {M : Nat → Int} {A : Nat → Nat} {c : Nat} : ∀ n i, insAt M A c n ≤ i → i < n → ¬ M (A i) ≤ M c
  | 0, i, h1, h2 => by omega
  | n + 1, i, h1, h2 => by
    rw [insAt] at h1
    by_cases q : M (A n) ≤ M c
    · rw [if_pos q] at h1
      omega
    · rw [if_neg q] at h1
      by_cases e : i = n
      · rw [e]
        exact q
      · exact insAt_hi n i h1 (by omega)
theorem insAt_lo {M : Nat → Int} {A : Nat → Nat} {c : Nat} : ∀ n, 0 < insAt M A c n → M (A (insAt M A c n - 1)) ≤ M c
  | 0, h => absurd h (Nat.lt_irrefl _)
  | n + 1, h => by
    rw [insAt] at h ⊢
    by_cases q : M (A n) ≤ M c
    · rw [if_pos q]
      exact q
    · rw [if_neg q] at h ⊢
      exact insAt_lo n h
def ins (M : Nat → Int) (A : Nat → Nat) (n c : Nat) : Nat → Nat := fun i => if i < insAt M A c n then A i else if i = insAt M A c n then c else if i ≤ n then A (i - 1) else A i
def insJ (M : Nat → Int) (n : Nat) (A : Nat → Nat) (D : Nat → Prop) : Prop := (∀ i, i < n → D (A i)) ∧ (∀ c, D c → ∃ i, i < n ∧ A i = c) ∧ ∀ i j, i < j → j < n → M (A i) ≤ M (A j) ∧ A i ≠ A j
theorem ins_a {M : Nat → Int} {A : Nat → Nat} {n c i : Nat} (h : i < insAt M A c n) : ins M A n c i = A i := if_pos h
theorem ins_b {M : Nat → Int} {A : Nat → Nat} {n c : Nat} : ins M A n c (insAt M A c n) = c := by
  unfold ins
  rw [if_neg (Nat.lt_irrefl _), if_pos rfl]
theorem ins_c {M : Nat → Int} {A : Nat → Nat} {n c i : Nat} (h : insAt M A c n < i) (h2 : i ≤ n) : ins M A n c i = A (i - 1) := by
  unfold ins
  rw [if_neg (by omega), if_neg (by omega), if_pos h2]
theorem insJ_s {M : Nat → Int} {n : Nat} {A : Nat → Nat} {D : Nat → Prop} {c : Nat} (h : insJ M n A D) (hc : ¬ D c) : insJ M (n + 1) (ins M A n c) (fun x => D x ∨ x = c) := by
  obtain ⟨h1, h2, h3⟩ := h
  have le := insAt_le (M := M) (A := A) (c := c) n
  refine ⟨fun i hi => ?_, fun x hx => ?_, fun i j hij hj => ?_⟩
  · by_cases c1 : i < insAt M A c n
    · rw [ins_a c1]
      exact Or.inl (h1 i (by omega))
    · by_cases c2 : i = insAt M A c n
      · rw [c2, ins_b]
        exact Or.inr rfl
      · rw [ins_c (by omega) (by omega)]
        exact Or.inl (h1 _ (by omega))
  · rcases hx with hx | hx
    · obtain ⟨i, i1, i2⟩ := h2 x hx
      by_cases c1 : i < insAt M A c n
      · exact ⟨i, by omega, by rw [ins_a c1]; exact i2⟩
      · exact ⟨i + 1, by omega, by rw [ins_c (by omega) (by omega)]; exact i2⟩
    · exact ⟨insAt M A c n, by omega, by rw [ins_b, hx]⟩
  · by_cases c1 : j < insAt M A c n
    · rw [ins_a c1, ins_a (by omega)]
      exact h3 i j hij (by omega)
    · by_cases c2 : j = insAt M A c n
      · rw [c2, ins_b, ins_a (by omega)]
        have lo := insAt_lo (M := M) (A := A) (c := c) n (by omega)
        refine ⟨?_, fun e => hc (e ▸ h1 i (by omega))⟩
        by_cases c3 : i = insAt M A c n - 1
        · rw [c3]
          exact lo
        · have := (h3 i (insAt M A c n - 1) (by omega) (by omega)).1
          omega
      · rw [ins_c (show insAt M A c n < j by omega) (by omega)]
        by_cases c3 : i < insAt M A c n
        · rw [ins_a c3]
          exact h3 i (j - 1) (by omega) (by omega)
        · by_cases c4 : i = insAt M A c n
          · rw [c4, ins_b]
            have hi := insAt_hi (M := M) (A := A) (c := c) n (j - 1) (by omega) (by omega)
            exact ⟨by omega, fun e => hc (e ▸ h1 (j - 1) (by omega))⟩
          · rw [ins_c (by omega) (by omega)]
            exact h3 (i - 1) (j - 1) (by omega) (by omega)
def srtK (M : Nat → Int) (r : Nat) (n0 : Nat) (A0 : Nat → Nat) : Nat → Nat → Nat
  | 0 => A0
  | k + 1 => ins M (srtK M r n0 A0 k) (n0 + k) (8 * r + k)
def srtN (sN : Nat → Nat) : Nat → Nat
  | 0 => 0
  | r + 1 => srtN sN r + sN r
def srtA (M : Nat → Int) (sN : Nat → Nat) : Nat → Nat → Nat
  | 0 => fun _ => 0
  | r + 1 => srtK M r (srtN sN r) (srtA M sN r) (sN r)
theorem srtN_le {sN : Nat → Nat} : ∀ r, (∀ q, q < r → sN q ≤ 8) → srtN sN r ≤ 8 * r
  | 0, _ => Nat.le_refl _
  | r + 1, h => by
    have := srtN_le r fun q hq => h q (by omega)
    have := h r (by omega)
    rw [srtN]
    omega
theorem srtK_J {M : Nat → Int} {r n0 : Nat} {A0 : Nat → Nat} {D : Nat → Prop} (h : insJ M n0 A0 D) (hD : ∀ k, k < 8 → ¬ D (8 * r + k)) : ∀ k, k ≤ 8 → insJ M (n0 + k) (srtK M r n0 A0 k) (fun x => D x ∨ ∃ j, j < k ∧ x = 8 * r + j)
  | 0, _ => by
    have e : (fun x => D x ∨ ∃ j, j < 0 ∧ x = 8 * r + j) = D := funext fun x => propext ⟨fun w => w.elim id fun ⟨j, w, _⟩ => absurd w (Nat.not_lt_zero _), Or.inl⟩
    rw [e]
    exact h
  | k + 1, hk => by
    have ih := insJ_s (c := 8 * r + k) (srtK_J h hD k (by omega)) (fun w => w.elim (hD k (by omega)) fun ⟨j, j1, j2⟩ => by omega)
    have e : (fun x => (D x ∨ ∃ j, j < k ∧ x = 8 * r + j) ∨ x = 8 * r + k) = (fun x => D x ∨ ∃ j, j < k + 1 ∧ x = 8 * r + j) := funext fun x => propext (by
      constructor
      · rintro ((w | ⟨j, w1, w2⟩) | w)
        · exact Or.inl w
        · exact Or.inr ⟨j, by omega, w2⟩
        · exact Or.inr ⟨k, by omega, w⟩
      · rintro (w | ⟨j, w1, w2⟩)
        · exact Or.inl (Or.inl w)
        · by_cases c : j = k
          · rw [c] at w2
            exact Or.inr w2
          · exact Or.inl (Or.inr ⟨j, by omega, w2⟩))
    rw [e] at ih
    exact ih
theorem srt_J {M : Nat → Int} {sN : Nat → Nat} : ∀ r, (∀ q, q < r → sN q ≤ 8) → insJ M (srtN sN r) (srtA M sN r) (fun x => ∃ q k, q < r ∧ k < sN q ∧ x = 8 * q + k)
  | 0, _ => ⟨fun i hi => absurd hi (Nat.not_lt_zero _), fun c ⟨q, k, h, _⟩ => absurd h (Nat.not_lt_zero _), fun i j _ hj => absurd hj (Nat.not_lt_zero _)⟩
  | r + 1, h => by
    have ih := srtK_J (M := M) (r := r) (srt_J (M := M) r fun q hq => h q (by omega)) (fun k hk ⟨q, k2, w1, w2, w3⟩ => by
      have := h q (by omega)
      omega) (sN r) (h r (by omega))
    have e : (fun x => (∃ q k, q < r ∧ k < sN q ∧ x = 8 * q + k) ∨ ∃ j, j < sN r ∧ x = 8 * r + j) = (fun x => ∃ q k, q < r + 1 ∧ k < sN q ∧ x = 8 * q + k) := funext fun x => propext (by
      constructor
      · rintro (⟨q, k, w1, w2, w3⟩ | ⟨j, w1, w2⟩)
        · exact ⟨q, k, by omega, w2, w3⟩
        · exact ⟨r, j, by omega, w1, w2⟩
      · rintro ⟨q, k, w1, w2, w3⟩
        by_cases c : q = r
        · rw [c] at w2 w3
          exact Or.inr ⟨k, w2, w3⟩
        · exact Or.inl ⟨q, k, by omega, w2, w3⟩)
    rw [e] at ih
    exact ih
/-! the class -/
def xTr (V : Vw) (N : Nat) (sN : Nat → Nat) : Prop := N ≤ 48 ∧ V 0 3 = (N : Int) ∧ ∀ r, r < N → V (114 + 3 * r) 2 = (sN r : Int) ∧ sN r ≤ 8 ∧ ∀ k, k < sN r → 0 ≤ V (116 + 3 * r) k ∧ V (116 + 3 * r) k ≤ 1439
def xM (V : Vw) (c : Nat) : Int := V (116 + 3 * (c / 8)) (c % 8)
def xA (V : Vw) (n : Nat) (A : Nat → Nat) : Prop := V 0 4 = (n : Int) ∧ ∀ i, i < n → V 2 i = ((A i / 8 : Nat) : Int) ∧ V 3 i = ((A i % 8 : Nat) : Int)
abbrev xEc (o k : Nat) : Prop := o = 2 ∨ o = 3 ∨ (o = 0 ∧ k = 4)
def xEf (V V' : Vw) : Prop := ∀ o k, ¬ xEc o k → V' o k = V o k
section EV
variable {b : Nat} {V0 V V' : Vw} {lw : Option Nat} {R : Hp} {n N r k : Nat} {sN : Nat → Nat} {A : Nat → Nat}
theorem xEf.tr {V1 V2 V3 : Vw} (h : xEf V1 V2) (g : xEf V2 V3) : xEf V1 V3 := fun o k q => (g o k q).trans (h o k q)
theorem xTr.c (h : xTr V N sN) (f : xEf V V') : xTr V' N sN := by
  obtain ⟨h1, h2, h3⟩ := h
  refine ⟨h1, by rw [f _ _ (by omega)]; exact h2, fun r hr => ?_⟩
  obtain ⟨g1, g2, g3⟩ := h3 r hr
  refine ⟨by rw [f _ _ (by omega)]; exact g1, g2, fun k hk => ?_⟩
  rw [f _ _ (by omega)]
  exact g3 k hk
theorem xM_c (f : xEf V V') : xM V' = xM V := funext fun c => f _ _ (by omega)
theorem x_min (h : xTr V N sN) {e q j : Nat} (he : e < 384) (hq : q < N) (hj : j < sN q) (e2 : V 2 e = (q : Int)) (e3 : V 3 e = (j : Int)) : fX0_minuteOf (Wd b V lw R) (some b) (I (e : Int)) = some (I (V (116 + 3 * q) j)) := by
  obtain ⟨h1, h2, h3⟩ := h
  obtain ⟨g1, g2, g3⟩ := h3 q hq
  unfold fX0_minuteOf
  simp (disch := omega) only [gR0_0, gR0_1, gR0_2, rA2, rA3, tn, e2, e3, rTr, gTr1, rMi, Option.bind_some]
theorem x_insert (h : xTr V N sN) (hr : r < N) (hk : k < sN r) (hn : n < 384) (a : xA V n A) (hA : ∀ i, i < n → ∃ q j, q < N ∧ j < sN q ∧ A i = 8 * q + j) : ∃ V', iter (fX0_laysEvents_L35 (some b) (I (r : Int)) (I (k : Int))) FUEL (I (n : Int), Wd b V lw R) = some (I (insAt (xM V) A (8 * r + k) n : Int), Wd b V' lw R) ∧ (∀ o i, ¬ ((o = 2 ∨ o = 3) ∧ insAt (xM V) A (8 * r + k) n < i ∧ i ≤ n) → V' o i = V o i) ∧ ∀ i, insAt (xM V) A (8 * r + k) n < i → i ≤ n → V' 2 i = V 2 (i - 1) ∧ V' 3 i = V 3 (i - 1) := by
  obtain ⟨a1, a2⟩ := a
  have le := insAt_le (M := xM V) (A := A) (c := 8 * r + k) n
  have h48 : r < 48 := by have := h.1; omega
  have hs := (h.2.2 r hr).2.1
  have mk := (h.2.2 r hr).2.2 k hk
  have mc : xM V (8 * r + k) = V (116 + 3 * r) k := by
    unfold xM
    rw [show (8 * r + k) / 8 = r by omega, show (8 * r + k) % 8 = k by omega]
  obtain ⟨p, hp⟩ : ∃ p, p = insAt (xM V) A (8 * r + k) n := ⟨_, rfl⟩
  rw [← hp] at le ⊢
  -- reading the event ahead
  have rd : ∀ (V' : Vw) (at_ : Nat), 0 < at_ → at_ ≤ n → (∀ o i, ¬ ((o = 2 ∨ o = 3) ∧ at_ < i ∧ i ≤ n) → V' o i = V o i) → fX0_minuteOf (Wd b V' lw R) (some b) (I ((at_ : Int) - 1)) = some (I (xM V (A (at_ - 1)))) ∧ 0 ≤ xM V (A (at_ - 1)) ∧ xM V (A (at_ - 1)) ≤ 1439 := fun V' at_ p0 p1 f => by
    obtain ⟨q, j, q1, q2, q3⟩ := hA (at_ - 1) (by omega)
    have ee := a2 (at_ - 1) (by omega)
    have hq := h.2.2 q q1
    have q8 : (A (at_ - 1)) / 8 = q := by omega
    have q9 : (A (at_ - 1)) % 8 = j := by omega
    have h' : xTr V' N sN := h.c fun o i w => f o i (by omega)
    have := x_min (b := b) (lw := lw) (R := R) (e := at_ - 1) h' (by omega) q1 q2 (by rw [f _ _ (by omega), ee.1, q8]) (by rw [f _ _ (by omega), ee.2, q9])
    rw [show ((at_ - 1 : Nat) : Int) = (at_ : Int) - 1 by omega] at this
    rw [this, f _ _ (by omega)]
    have e : xM V (A (at_ - 1)) = V (116 + 3 * q) j := by
      unfold xM
      rw [q8, q9]
    rw [e]
    exact ⟨rfl, hq.2.2 j q2⟩
  have rk : ∀ (V' : Vw), (∀ o i, ¬ (o = 2 ∨ o = 3) → V' o i = V o i) → V' (116 + 3 * r) k = V (116 + 3 * r) k := fun V' f => f _ _ (by omega)
  obtain ⟨rr, k1, V', k2, k3, k4⟩ := iter_for (b := fX0_laysEvents_L35 (some b) (I (r : Int)) (I (k : Int))) (s := (I (n : Int), Wd b V lw R)) (fun t s => ∃ V', s = (I ((n - t : Nat) : Int), Wd b V' lw R) ∧ (∀ o i, ¬ ((o = 2 ∨ o = 3) ∧ n - t < i ∧ i ≤ n) → V' o i = V o i) ∧ ∀ i, n - t < i → i ≤ n → V' 2 i = V 2 (i - 1) ∧ V' 3 i = V 3 (i - 1)) (fun s => ∃ V', s = (I (p : Int), Wd b V' lw R) ∧ (∀ o i, ¬ ((o = 2 ∨ o = 3) ∧ p < i ∧ i ≤ n) → V' o i = V o i) ∧ ∀ i, p < i → i ≤ n → V' 2 i = V 2 (i - 1) ∧ V' 3 i = V 3 (i - 1)) (n - p) (by omega) ⟨V, rfl, fun _ _ _ => rfl, fun i h1 h2 => by omega⟩ (fun t s hS ht => by
    obtain ⟨V', rfl, b1, b2⟩ := hS
    obtain ⟨at_, hat⟩ : ∃ at_, at_ = n - t := ⟨_, rfl⟩
    rw [← hat] at b1 b2 ⊢
    obtain ⟨c1, c2⟩ := rd V' at_ (by omega) (by omega) b1
    have gt := insAt_hi (M := xM V) (A := A) (c := 8 * r + k) n (at_ - 1) (by omega) (by omega)
    rw [mc] at gt
    have rkk := rk V' (fun o i w => b1 o i (by omega))
    have et : ((at_ : Int) - 1).toNat = at_ - 1 := by omega
    have x2 : V' 2 (at_ - 1) = V 2 (at_ - 1) := b1 _ _ (by omega)
    have x3 : up V' 2 at_ (V 2 (at_ - 1)) 3 (at_ - 1) = V 3 (at_ - 1) := by rw [up_r (by omega)]; exact b1 _ _ (by omega)
    refine ⟨(I ((at_ : Int) - 1), Wd b (up (up V' 2 at_ (V 2 (at_ - 1))) 3 at_ (V 3 (at_ - 1))) lw R), ?_, _, by rw [show ((n - (t + 1) : Nat) : Int) = (at_ : Int) - 1 by omega], fun o i w => ?_, fun i w1 w2 => ?_⟩
    · unfold fX0_laysEvents_L35
      simp (disch := omega) only [k_0, k_1, I_le, if_neg, on0, I_sub, c1, Option.bind_some, gR0_0, rTr, tn, gTr1, rMi, rkk, gR0_1, rA2, et, x2, wA2, gR0_2, rA3, x3, wA3, I_neg, I_add]
      rfl
    · have e1 : ¬ (o = 3 ∧ i = at_) := by omega
      have e2 : ¬ (o = 2 ∧ i = at_) := by omega
      rw [show up (up V' 2 at_ (V 2 (at_ - 1))) 3 at_ (V 3 (at_ - 1)) o i = up V' 2 at_ (V 2 (at_ - 1)) o i from if_neg e1, show up V' 2 at_ (V 2 (at_ - 1)) o i = V' o i from if_neg e2]
      exact b1 o i (by omega)
    · by_cases c : i = at_
      · rw [c, up_r (by omega), up_s, up_s]
        exact ⟨rfl, rfl⟩
      · rw [up_r (by omega), up_k c, up_k c, up_r (by omega)]
        exact b2 i (by omega) w2) (fun s hS => by
    obtain ⟨V', rfl, b1, b2⟩ := hS
    rw [show n - (n - p) = p by omega] at b1 b2 ⊢
    refine ⟨_, ?_, V', rfl, b1, b2⟩
    unfold fX0_laysEvents_L35
    by_cases c : p = 0
    · rw [c]
      simp (disch := omega) only [k_0, I_le, if_pos]
    · obtain ⟨c1, c2⟩ := rd V' p (by omega) (by omega) b1
      have lo := insAt_lo (M := xM V) (A := A) (c := 8 * r + k) n (by omega)
      rw [← hp, mc] at lo
      have rkk := rk V' (fun o i w => b1 o i (by omega))
      simp (disch := omega) only [k_0, k_1, I_le, if_neg, on0, I_sub, c1, Option.bind_some, gR0_0, rTr, tn, gTr1, rMi, rkk, if_pos])
  exact ⟨V', by rw [k1, k2], k3, k4⟩
/-- one train's stops -/
theorem x_laysK (h : xTr V N sN) (hr : r < N) (n0 : Nat) (A0 : Nat → Nat) (a : xA V n0 A0) (hn : n0 ≤ 8 * r) (hA : ∀ i, i < n0 → ∃ q j, q < N ∧ j < sN q ∧ A0 i = 8 * q + j) : ∃ V', iter (fX0_laysEvents_L17 (some b) (I (r : Int))) FUEL (I 0, Wd b V lw R) = some (Wd b V' lw R) ∧ xEf V V' ∧ xA V' (n0 + sN r) (srtK (xM V) r n0 A0 (sN r)) ∧ ∀ i, i < n0 + sN r → ∃ q j, q < N ∧ j < sN q ∧ srtK (xM V) r n0 A0 (sN r) i = 8 * q + j := by
  have h48 : r < 48 := by have := h.1; omega
  have hs := (h.2.2 r hr).2.1
  obtain ⟨m, k1, V', k2, k3, k4, k5⟩ := iter_for (b := fX0_laysEvents_L17 (some b) (I (r : Int))) (s := (I 0, Wd b V lw R)) (fun t s => ∃ V', s = (I (t : Int), Wd b V' lw R) ∧ xEf V V' ∧ xA V' (n0 + t) (srtK (xM V) r n0 A0 t) ∧ ∀ i, i < n0 + t → ∃ q j, q < N ∧ j < sN q ∧ srtK (xM V) r n0 A0 t i = 8 * q + j) (fun m => ∃ V', m = Wd b V' lw R ∧ xEf V V' ∧ xA V' (n0 + sN r) (srtK (xM V) r n0 A0 (sN r)) ∧ ∀ i, i < n0 + sN r → ∃ q j, q < N ∧ j < sN q ∧ srtK (xM V) r n0 A0 (sN r) i = 8 * q + j) (sN r) (by omega) ⟨V, rfl, fun _ _ _ => rfl, a, hA⟩ (fun t s hS ht => by
    obtain ⟨V', rfl, f, a', g⟩ := hS
    have h' := h.c f
    have sm' := (h'.2.2 r hr).1
    obtain ⟨V2, b1, b2, b3⟩ := x_insert (b := b) (lw := lw) (R := R) h' hr ht (n := n0 + t) (by omega) a' g
    rw [xM_c f] at b1 b2 b3
    have le := insAt_le (M := xM V) (A := srtK (xM V) r n0 A0 t) (c := 8 * r + t) (n0 + t)
    obtain ⟨p, hp⟩ : ∃ p, p = insAt (xM V) (srtK (xM V) r n0 A0 t) (8 * r + t) (n0 + t) := ⟨_, rfl⟩
    rw [← hp] at b1 b2 b3 le
    have e4 : V' 0 4 = ((n0 + t : Nat) : Int) := a'.1
    have e4' : up (up V2 2 p (r : Int)) 3 p (t : Int) 0 4 = ((n0 + t : Nat) : Int) := by rw [up_r (by omega), up_r (by omega), b2 _ _ (by omega)]; exact e4
    refine ⟨(I ((t + 1 : Nat) : Int), Wd b (up (up (up V2 2 p (r : Int)) 3 p (t : Int)) 0 4 (((n0 + t : Nat) : Int) + 1)) lw R), ?_, _, rfl, fun o i w => ?_, ⟨by rw [up_s]; rfl, fun i hi => ?_⟩, fun i hi => ?_⟩
    · unfold fX0_laysEvents_L17
      simp (disch := omega) only [k_0, k_1, gR0_0, rTr, tn, gTr2, sm', Option.bind_some, I_le, if_neg, gI0_4, e4, b1, gR0_1, wA2, gR0_2, wA3, e4', I_add, pI0_4]
      rfl
    · have e1 : ¬ (o = 0 ∧ i = 4) := by omega
      have e2 : ¬ (o = 3 ∧ i = p) := by omega
      have e3 : ¬ (o = 2 ∧ i = p) := by omega
      rw [show up (up (up V2 2 p (r : Int)) 3 p (t : Int)) 0 4 (((n0 + t : Nat) : Int) + 1) o i = up (up V2 2 p (r : Int)) 3 p (t : Int) o i from if_neg e1, show up (up V2 2 p (r : Int)) 3 p (t : Int) o i = up V2 2 p (r : Int) o i from if_neg e2, show up V2 2 p (r : Int) o i = V2 o i from if_neg e3, b2 o i (by omega)]
      exact f o i w
    · rw [up_r (show 2 ≠ 0 by omega), up_r (show 3 ≠ 0 by omega), up_r (show 2 ≠ 3 by omega)]
      rw [srtK]
      by_cases c : i = p
      · rw [c, up_s, up_s, hp, ins_b]
        exact ⟨by omega, by omega⟩
      · rw [up_k c, up_k c, up_r (show 3 ≠ 2 by omega)]
        by_cases c2 : i < p
        · rw [ins_a (by rw [← hp]; exact c2), b2 _ _ (by omega), b2 _ _ (by omega)]
          exact a'.2 i (by omega)
        · rw [ins_c (by rw [← hp]; omega) (by omega), (b3 i (by omega) (by omega)).1, (b3 i (by omega) (by omega)).2]
          exact a'.2 (i - 1) (by omega)
    · rw [srtK]
      by_cases c : i = p
      · rw [c, hp, ins_b]
        exact ⟨r, t, hr, ht, rfl⟩
      · by_cases c2 : i < p
        · rw [ins_a (by rw [← hp]; exact c2)]
          exact g i (by omega)
        · rw [ins_c (by rw [← hp]; omega) (by omega)]
          exact g (i - 1) (by omega)) (fun s hS => by
    obtain ⟨V', rfl, f, a', g⟩ := hS
    have sm' := ((h.c f).2.2 r hr).1
    refine ⟨_, ?_, V', rfl, f, a', g⟩
    unfold fX0_laysEvents_L17
    simp (disch := omega) only [gR0_0, rTr, tn, gTr2, sm', Option.bind_some, I_le, if_pos])
  exact ⟨V', by rw [k1, k2], k3, k4, k5⟩
theorem x_lays (h : xTr V N sN) : ∃ V', fX0_laysEvents (Wd b V lw R) (some b) = some (Wd b V' lw R) ∧ xEf V V' ∧ xA V' (srtN sN N) (srtA (xM V) sN N) := by
  have f0 : xEf V (up V 0 4 0) := fun o i w => by
    have e : ¬ (o = 0 ∧ i = 4) := by omega
    exact if_neg e
  obtain ⟨m, k1, V', k2, k3, k4, k5⟩ := iter_for (b := fX0_laysEvents_L7 (some b)) (s := (I 0, Wd b (up V 0 4 0) lw R)) (fun t s => ∃ V', s = (I (t : Int), Wd b V' lw R) ∧ xEf V V' ∧ xA V' (srtN sN t) (srtA (xM V) sN t) ∧ ∀ i, i < srtN sN t → ∃ q j, q < N ∧ j < sN q ∧ srtA (xM V) sN t i = 8 * q + j) (fun m => ∃ V', m = Wd b V' lw R ∧ xEf V V' ∧ xA V' (srtN sN N) (srtA (xM V) sN N) ∧ ∀ i, i < srtN sN N → ∃ q j, q < N ∧ j < sN q ∧ srtA (xM V) sN N i = 8 * q + j) N (by have := h.1; omega) ⟨_, rfl, f0, ⟨up_s, fun i hi => absurd hi (Nat.not_lt_zero _)⟩, fun i hi => absurd hi (Nat.not_lt_zero _)⟩ (fun t s hS ht => by
    obtain ⟨V', rfl, f, a', g⟩ := hS
    have h' := h.c f
    have le := srtN_le (sN := sN) t fun q hq => (h.2.2 q (by omega)).2.1
    have h48 := h.1
    obtain ⟨V2, b1, b2, b3, b4⟩ := x_laysK (b := b) (lw := lw) (R := R) h' ht (srtN sN t) (srtA (xM V) sN t) a' le g
    rw [xM_c f] at b3 b4
    refine ⟨(I ((t + 1 : Nat) : Int), Wd b V2 lw R), ?_, V2, rfl, f.tr b2, b3, b4⟩
    unfold fX0_laysEvents_L7
    simp (disch := omega) only [k_0, k_1, gI0_3, h'.2.1, Option.bind_some, I_le, if_neg, b1, I_add]
    rfl) (fun s hS => by
    obtain ⟨V', rfl, f, a', g⟩ := hS
    have h48 := h.1
    refine ⟨_, ?_, V', rfl, f, a', g⟩
    unfold fX0_laysEvents_L7
    simp (disch := omega) only [gI0_3, (h.c f).2.1, Option.bind_some, I_le, if_pos])
  refine ⟨V', ?_, k3, k4⟩
  unfold fX0_laysEvents
  simp only [k_0, pI0_4, Option.bind_some, k1, k2]
end EV
