/-! ARITHMETIC, LOOPS, COUNTING. No JVM here. -/
set_option maxRecDepth 100000
set_option linter.unusedVariables false
theorem k_0 : (0 : Int32) = I 0 := rfl
theorem k_1 : (1 : Int32) = I 1 := rfl
theorem k_2 : (2 : Int32) = I 2 := rfl
theorem k_3 : (3 : Int32) = I 3 := rfl
theorem k_4 : (4 : Int32) = I 4 := rfl
theorem k_5 : (5 : Int32) = I 5 := rfl
theorem k_6 : (6 : Int32) = I 6 := rfl
theorem k_7 : (7 : Int32) = I 7 := rfl
theorem k_8 : (8 : Int32) = I 8 := rfl
theorem k_9 : (9 : Int32) = I 9 := rfl
theorem k_10 : (10 : Int32) = I 10 := rfl
theorem k_11 : (11 : Int32) = I 11 := rfl
theorem k_12 : (12 : Int32) = I 12 := rfl
theorem k_13 : (13 : Int32) = I 13 := rfl
theorem k_14 : (14 : Int32) = I 14 := rfl
theorem k_15 : (15 : Int32) = I 15 := rfl
theorem k_16 : (16 : Int32) = I 16 := rfl
theorem k_17 : (17 : Int32) = I 17 := rfl
theorem k_18 : (18 : Int32) = I 18 := rfl
theorem k_19 : (19 : Int32) = I 19 := rfl
theorem k_20 : (20 : Int32) = I 20 := rfl
theorem k_21 : (21 : Int32) = I 21 := rfl
theorem k_22 : (22 : Int32) = I 22 := rfl
theorem k_23 : (23 : Int32) = I 23 := rfl
theorem k_24 : (24 : Int32) = I 24 := rfl
theorem k_25 : (25 : Int32) = I 25 := rfl
theorem k_26 : (26 : Int32) = I 26 := rfl
theorem k_27 : (27 : Int32) = I 27 := rfl
theorem k_28 : (28 : Int32) = I 28 := rfl
theorem k_29 : (29 : Int32) = I 29 := rfl
theorem k_30 : (30 : Int32) = I 30 := rfl
theorem k_31 : (31 : Int32) = I 31 := rfl
theorem k_33 : (33 : Int32) = I 33 := rfl
theorem k_37 : (37 : Int32) = I 37 := rfl
theorem k_38 : (38 : Int32) = I 38 := rfl
theorem k_40 : (40 : Int32) = I 40 := rfl
theorem k_41 : (41 : Int32) = I 41 := rfl
theorem k_42 : (42 : Int32) = I 42 := rfl
theorem k_43 : (43 : Int32) = I 43 := rfl
theorem k_45 : (45 : Int32) = I 45 := rfl
theorem k_47 : (47 : Int32) = I 47 := rfl
theorem k_48 : (48 : Int32) = I 48 := rfl
theorem k_57 : (57 : Int32) = I 57 := rfl
theorem k_59 : (59 : Int32) = I 59 := rfl
theorem k_60 : (60 : Int32) = I 60 := rfl
theorem k_61 : (61 : Int32) = I 61 := rfl
theorem k_62 : (62 : Int32) = I 62 := rfl
theorem k_63 : (63 : Int32) = I 63 := rfl
theorem k_91 : (91 : Int32) = I 91 := rfl
theorem k_93 : (93 : Int32) = I 93 := rfl
theorem k_97 : (97 : Int32) = I 97 := rfl
theorem k_99 : (99 : Int32) = I 99 := rfl
theorem k_100 : (100 : Int32) = I 100 := rfl
theorem k_102 : (102 : Int32) = I 102 := rfl
theorem k_106 : (106 : Int32) = I 106 := rfl
theorem k_107 : (107 : Int32) = I 107 := rfl
theorem k_108 : (108 : Int32) = I 108 := rfl
theorem k_109 : (109 : Int32) = I 109 := rfl
theorem k_110 : (110 : Int32) = I 110 := rfl
theorem k_112 : (112 : Int32) = I 112 := rfl
theorem k_114 : (114 : Int32) = I 114 := rfl
theorem k_115 : (115 : Int32) = I 115 := rfl
theorem k_117 : (117 : Int32) = I 117 := rfl
theorem k_120 : (120 : Int32) = I 120 := rfl
theorem k_121 : (121 : Int32) = I 121 := rfl
theorem k_124 : (124 : Int32) = I 124 := rfl
theorem k_160 : (160 : Int32) = I 160 := rfl
theorem k_200 : (200 : Int32) = I 200 := rfl
theorem k_240 : (240 : Int32) = I 240 := rfl
theorem k_255 : (255 : Int32) = I 255 := rfl
theorem k_256 : (256 : Int32) = I 256 := rfl
theorem k_260 : (260 : Int32) = I 260 := rfl
theorem k_384 : (384 : Int32) = I 384 := rfl
theorem k_720 : (720 : Int32) = I 720 := rfl
theorem k_1000 : (1000 : Int32) = I 1000 := rfl
theorem k_1047 : (1047 : Int32) = I 1047 := rfl
theorem k_1439 : (1439 : Int32) = I 1439 := rfl
theorem k_1440 : (1440 : Int32) = I 1440 := rfl
theorem k_2000 : (2000 : Int32) = I 2000 := rfl
theorem k_2047 : (2047 : Int32) = I 2047 := rfl
theorem k_9999 : (9999 : Int32) = I 9999 := rfl
theorem k_10059 : (10059 : Int32) = I 10059 := rfl
theorem k_13849 : (13849 : Int32) = I 13849 := rfl
theorem k_25173 : (25173 : Int32) = I 25173 := rfl
theorem k_65535 : (65535 : Int32) = I 65535 := rfl
theorem k_65536 : (65536 : Int32) = I 65536 := rfl
theorem k_1000000 : (1000000 : Int32) = I 1000000 := rfl
theorem k_1048576 : (1048576 : Int32) = I 1048576 := rfl
theorem k_268435456 : (268435456 : Int32) = I 268435456 := rfl
theorem k_1073741823 : (1073741823 : Int32) = I 1073741823 := rfl
theorem k_1073741824 : (1073741824 : Int32) = I 1073741824 := rfl
theorem I_ot (x : Int32) : I x.toInt = x := Int32.ofInt_toInt x
theorem I_of (x : Int32) : ∃ z : Int, -2147483648 ≤ z ∧ z ≤ 2147483647 ∧ x = I z := ⟨x.toInt, Int32.le_toInt x, Int.le_of_lt_add_one (Int32.toInt_lt x), (I_ot x).symm⟩
theorem I_add (a b : Int) : I a + I b = I (a + b) := (Int32.ofInt_add a b).symm
theorem I_sub (a b : Int) : I a - I b = I (a - b) := (Int32.ofInt_sub a b).symm
theorem I_mul (a b : Int) : I a * I b = I (a * b) := (Int32.ofInt_mul a b).symm
theorem I_neg (a : Int) : -I a = I (-a) := (Int32.ofInt_neg a).symm
theorem I_lt {a b : Int} (h1 : -2147483648 ≤ a) (h2 : a ≤ 2147483647) (h3 : -2147483648 ≤ b) (h4 : b ≤ 2147483647) : (I a < I b) = (a < b) := by
  rw [Int32.lt_iff_toInt_lt, I_ti h1 (by omega), I_ti h3 (by omega)]
theorem I_le {a b : Int} (h1 : -2147483648 ≤ a) (h2 : a ≤ 2147483647) (h3 : -2147483648 ≤ b) (h4 : b ≤ 2147483647) : (I a ≤ I b) = (a ≤ b) := by
  rw [Int32.le_iff_toInt_le, I_ti h1 (by omega), I_ti h3 (by omega)]
theorem I_inj {a b : Int} (h1 : -2147483648 ≤ a) (h2 : a ≤ 2147483647) (h3 : -2147483648 ≤ b) (h4 : b ≤ 2147483647) : (I a = I b) = (a = b) := by
  refine propext ⟨fun h => ?_, fun h => by rw [h]⟩
  have := congrArg Int32.toInt h
  rw [I_ti h1 (by omega), I_ti h3 (by omega)] at this
  exact this
theorem I_div {a b : Int} (h1 : 0 ≤ a) (h2 : a ≤ 2147483647) (h3 : 0 < b) (h4 : b ≤ 2147483647) : I a / I b = I (a / b) := by
  apply Int32.toInt_inj.mp
  have hb : I b ≠ -1 := by
    intro h
    have := congrArg Int32.toInt h
    rw [I_ti (by omega) (by omega)] at this
    have h5 : (-1 : Int32).toInt = -1 := by decide
    omega
  have hq : a / b ≤ a := Int.ediv_le_self b h1
  have hq0 : 0 ≤ a / b := Int.ediv_nonneg h1 (Int.le_of_lt h3)
  rw [Int32.toInt_div_of_ne_right _ _ hb, I_ti (by omega) (by omega), I_ti (by omega) (by omega), I_ti (by omega) (by omega), Int.tdiv_eq_ediv_of_nonneg h1]
theorem I_rem {a b : Int} (h1 : 0 ≤ a) (h2 : a ≤ 2147483647) (h3 : 0 < b) (h4 : b ≤ 2147483647) : jrem (I a) (I b) = I (a % b) := by
  unfold jrem
  rw [I_div h1 h2 h3 h4, I_mul, I_sub]
  congr 1
  rw [Int.emod_def, Int.mul_comm]
theorem I_max {a b : Int} (h1 : -2147483648 ≤ a) (h2 : a ≤ 2147483647) (h3 : -2147483648 ≤ b) (h4 : b ≤ 2147483647) : jmax (I a) (I b) = I (max a b) := by
  unfold jmax
  simp only [I_lt h1 h2 h3 h4]
  split
  · rw [Int.max_eq_right (by omega)]
  · rw [Int.max_eq_left (by omega)]
theorem I_min {a b : Int} (h1 : -2147483648 ≤ a) (h2 : a ≤ 2147483647) (h3 : -2147483648 ≤ b) (h4 : b ≤ 2147483647) : jmin (I a) (I b) = I (min a b) := by
  unfold jmin
  simp only [I_lt h3 h4 h1 h2]
  split
  · rw [Int.min_eq_right (by omega)]
  · rw [Int.min_eq_left (by omega)]
/-- a truth as an int -/
def bi (p : Prop) [Decidable p] : Int := if p then 1 else 0
theorem bi_t {p : Prop} [Decidable p] (h : p) : bi p = 1 := if_pos h
theorem bi_f {p : Prop} [Decidable p] (h : ¬ p) : bi p = 0 := if_neg h
theorem bi_01 (p : Prop) [Decidable p] : bi p = 0 ∨ bi p = 1 := by
  unfold bi
  split
  · exact Or.inr rfl
  · exact Or.inl rfl
theorem bi_le (p : Prop) [Decidable p] : 0 ≤ bi p ∧ bi p ≤ 1 := by
  rcases bi_01 p with h | h <;> omega
theorem bi_e0 (p : Prop) [Decidable p] : (I (bi p) = I 0) = ¬ p := by
  unfold bi
  split
  · exact propext ⟨fun h => absurd h (by decide), fun h => absurd ‹p› h⟩
  · exact propext ⟨fun _ => ‹¬ p›, fun _ => rfl⟩
theorem bi_e1 (p : Prop) [Decidable p] : (I (bi p) = I 1) = p := by
  unfold bi
  split
  · exact propext ⟨fun _ => ‹p›, fun _ => rfl⟩
  · exact propext ⟨fun h => absurd h (by decide), fun h => absurd h ‹¬ p›⟩
theorem bi_z (p : Prop) [Decidable p] : hp_z (I (bi p)) = some (I (bi p)) := by
  unfold hp_z bi
  split <;> rfl
theorem bi_c {p q : Prop} [Decidable p] [Decidable q] (h : p ↔ q) : bi p = bi q := by
  unfold bi
  by_cases hp : p
  · rw [if_pos hp, if_pos (h.mp hp)]
  · rw [if_neg hp, if_neg (fun c => hp (h.mpr c))]
theorem bi_in {p q : Prop} [Decidable p] [Decidable q] (h : bi p = bi q) : p ↔ q := by
  unfold bi at h
  by_cases hp : p <;> by_cases hq : q
  · exact ⟨fun _ => hq, fun _ => hp⟩
  · rw [if_pos hp, if_neg hq] at h
    omega
  · rw [if_neg hp, if_pos hq] at h
    omega
  · exact ⟨fun c => absurd c hp, fun c => absurd c hq⟩
theorem bi_i1 {p : Prop} [Decidable p] {x : Int} (h : p → x = 1) (h2 : ¬ p → x = 0) : x = bi p := by
  unfold bi
  split
  · exact h ‹p›
  · exact h2 ‹¬ p›
/-! loops -/
theorem iter_s {σ ρ : Type} {b : σ → Option (σ ⊕ ρ)} {n : Nat} {s s' : σ} (h : b s = some (.inl s')) : iter b (n + 1) s = iter b n s' := by
  rw [iter, h]
theorem iter_r {σ ρ : Type} {b : σ → Option (σ ⊕ ρ)} {n : Nat} {s : σ} {r : ρ} (h : b s = some (.inr r)) : iter b (n + 1) s = some r := by
  rw [iter, h]
theorem iter_fromTo {σ ρ : Type} {b : σ → Option (σ ⊕ ρ)} (g : Nat → σ) (r : ρ) (k n : Nat) (step : ∀ i, k ≤ i → i < n → b (g i) = some (.inl (g (i + 1)))) (fin : b (g n) = some (.inr r)) : ∀ (i fuel : Nat), k ≤ i → i ≤ n → n - i < fuel → iter b fuel (g i) = some r := by
  intro i fuel
  induction fuel generalizing i with
  | zero => intro _ _ h; omega
  | succ f ih =>
    intro hk hi hf
    by_cases he : i = n
    · subst he
      exact iter_r fin
    · rw [iter_s (step i hk (by omega))]
      exact ih (i + 1) (by omega) (by omega) (by omega)
theorem iter_det {σ ρ : Type} {b : σ → Option (σ ⊕ ρ)} (g : Nat → σ) (n : Nat) (r : ρ) (hn : n < 2000) (step : ∀ i, i < n → b (g i) = some (.inl (g (i + 1)))) (fin : b (g n) = some (.inr r)) : iter b FUEL (g 0) = some r :=
  iter_fromTo g r 0 n (fun i _ h => step i h) fin 0 FUEL (Nat.le_refl _) (Nat.zero_le _) (by unfold FUEL; omega)
/-- the first place where p holds, n without one -/
def fnd (p : Nat → Bool) : Nat → Nat
  | 0 => 0
  | n + 1 => if fnd p n < n then fnd p n else if p n then n else n + 1
theorem fnd_le (p : Nat → Bool) : ∀ n, fnd p n ≤ n
  | 0 => Nat.le_refl _
  | n + 1 => by
    rw [fnd]
    have := fnd_le p n
    split
    · omega
    · split <;> omega
theorem fnd_no (p : Nat → Bool) : ∀ n i, i < fnd p n → p i = false
  | 0, i, h => absurd h (Nat.not_lt_zero _)
  | n + 1, i, h => by
    rw [fnd] at h
    split at h
    · exact fnd_no p n i h
    · have hle := fnd_le p n
      split at h
      · exact fnd_no p n i (by omega)
      · by_cases hi : i = n
        · subst hi
          simpa using ‹¬ p i = true›
        · exact fnd_no p n i (by omega)
theorem fnd_yes (p : Nat → Bool) : ∀ n, fnd p n < n → p (fnd p n) = true
  | 0, h => absurd h (Nat.not_lt_zero _)
  | n + 1, h => by
    rw [fnd] at h ⊢
    split
    · exact fnd_yes p n ‹_›
    · split
      · assumption
      · rename_i h1 h2
        rw [if_neg h1, if_neg h2] at h
        omega
theorem fnd_eq {p : Nat → Bool} {n i : Nat} (h : i < n) (hp : p i = true) (hb : ∀ j, j < i → p j = false) : fnd p n = i := by
  have h1 : ¬ fnd p n < i := fun q => by
    have := fnd_yes p n (by omega)
    rw [hb _ q] at this
    cases this
  have h2 : ¬ i < fnd p n := fun q => by
    have := fnd_no p n i q
    rw [hp] at this
    cases this
  omega
theorem fnd_none {p : Nat → Bool} {n : Nat} (h : ∀ i, i < n → p i = false) : fnd p n = n := by
  have := fnd_le p n
  by_cases hl : fnd p n < n
  · have h2 := fnd_yes p n hl
    rw [h _ hl] at h2
    cases h2
  · omega
theorem iter_find {σ ρ : Type} {b : σ → Option (σ ⊕ ρ)} (g : Nat → σ) (p : Nat → Bool) (n : Nat) (hit : Nat → ρ) (r : ρ) (hn : n < 2000) (step : ∀ i, i < n → p i = false → b (g i) = some (.inl (g (i + 1)))) (yes : ∀ i, i < n → p i = true → b (g i) = some (.inr (hit i))) (fin : b (g n) = some (.inr r)) : iter b FUEL (g 0) = some (if fnd p n < n then hit (fnd p n) else r) := by
  by_cases h : fnd p n < n
  · rw [if_pos h]
    exact iter_fromTo g _ 0 (fnd p n) (fun i _ hi => step i (by omega) (fnd_no p n i hi)) (yes _ h (fnd_yes p n h)) 0 FUEL (Nat.le_refl _) (Nat.zero_le _) (by unfold FUEL; omega)
  · rw [if_neg h]
    have he : fnd p n = n := Nat.le_antisymm (fnd_le p n) (by omega)
    exact iter_fromTo g _ 0 n (fun i _ hi => step i hi (fnd_no p n i (by omega))) fin 0 FUEL (Nat.le_refl _) (Nat.zero_le _) (by unfold FUEL; omega)
/-- a loop with an invariant: ends within n - i steps more -/
theorem iter_inv {σ ρ : Type} {b : σ → Option (σ ⊕ ρ)} (S : Nat → σ → Prop) (P : ρ → Prop) (n : Nat) (step : ∀ i s, S i s → (∃ s', b s = some (.inl s') ∧ S (i + 1) s' ∧ i < n) ∨ (∃ r, b s = some (.inr r) ∧ P r)) : ∀ (fuel i : Nat) (s : σ), S i s → n - i < fuel → ∃ r, iter b fuel s = some r ∧ P r := by
  intro fuel
  induction fuel with
  | zero => intro i s _ h; omega
  | succ f ih =>
    intro i s hS hf
    rcases step i s hS with ⟨s', h1, h2, h3⟩ | ⟨r, h1, h2⟩
    · rw [iter_s h1]
      exact ih (i + 1) s' h2 (by omega)
    · exact ⟨r, iter_r h1, h2⟩
theorem iter_inv0 {σ ρ : Type} {b : σ → Option (σ ⊕ ρ)} (S : Nat → σ → Prop) (P : ρ → Prop) (n : Nat) (hn : n < 2000) {s : σ} (h0 : S 0 s) (step : ∀ i s, S i s → (∃ s', b s = some (.inl s') ∧ S (i + 1) s' ∧ i < n) ∨ (∃ r, b s = some (.inr r) ∧ P r)) : ∃ r, iter b FUEL s = some r ∧ P r := iter_inv S P n step FUEL 0 s h0 (by unfold FUEL; omega)
/-- a for-loop from 0 to n with an invariant -/
theorem iter_for {σ ρ : Type} {b : σ → Option (σ ⊕ ρ)} (S : Nat → σ → Prop) (P : ρ → Prop) (n : Nat) (hn : n < 2000) {s : σ} (h0 : S 0 s) (step : ∀ i s, S i s → i < n → ∃ s', b s = some (.inl s') ∧ S (i + 1) s') (fin : ∀ s, S n s → ∃ r, b s = some (.inr r) ∧ P r) : ∃ r, iter b FUEL s = some r ∧ P r := by
  refine iter_inv0 (fun i s => i ≤ n ∧ S i s) P n hn ⟨Nat.zero_le _, h0⟩ ?_
  intro i s ⟨hi, hS⟩
  by_cases he : i = n
  · subst he
    exact Or.inr (fin s hS)
  · obtain ⟨s', h1, h2⟩ := step i s hS (by omega)
    exact Or.inl ⟨s', h1, ⟨by omega, h2⟩, by omega⟩
/-! counting -/
def cnt (p : Nat → Bool) : Nat → Int
  | 0 => 0
  | n + 1 => cnt p n + (if p n then 1 else 0)
theorem cnt_le (p : Nat → Bool) : ∀ n : Nat, 0 ≤ cnt p n ∧ cnt p n ≤ n
  | 0 => ⟨Int.le_refl _, Int.le_refl _⟩
  | n + 1 => by
    have := cnt_le p n
    rw [cnt]
    split <;> omega
theorem cnt_c {p q : Nat → Bool} : ∀ n : Nat, (∀ i, i < n → p i = q i) → cnt p n = cnt q n
  | 0, _ => rfl
  | n + 1, h => by
    rw [cnt, cnt, cnt_c n (fun i hi => h i (by omega)), h n (by omega)]
theorem cnt_pos {p : Nat → Bool} : ∀ n : Nat, 0 < cnt p n ↔ ∃ i, i < n ∧ p i = true
  | 0 => ⟨fun h => by simp [cnt] at h, fun ⟨i, h, _⟩ => absurd h (Nat.not_lt_zero _)⟩
  | n + 1 => by
    have h0 := cnt_le p n
    rw [cnt]
    constructor
    · intro h
      by_cases hp : p n = true
      · exact ⟨n, by omega, hp⟩
      · rw [if_neg hp] at h
        obtain ⟨i, h1, h2⟩ := (cnt_pos (p := p) n).mp (by omega)
        exact ⟨i, by omega, h2⟩
    · intro ⟨i, h1, h2⟩
      by_cases hi : i = n
      · subst hi
        rw [if_pos h2]
        omega
      · have := (cnt_pos (p := p) n).mpr ⟨i, by omega, h2⟩
        split <;> omega
theorem iteI {p : Prop} [Decidable p] {x y : Int} : (if p then I x else I y) = I (if p then x else y) := by
  split <;> rfl
theorem tn (n : Nat) : ((n : Int)).toNat = n := Int.toNat_natCast n
theorem tn_at {r k : Nat} : ((8 : Int) * (r : Int) + (k : Int)).toNat = 8 * r + k := by omega
