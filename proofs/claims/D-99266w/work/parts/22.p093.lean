/-! LAW: the class's reader, the small steps. No JVM here. -/
set_option maxRecDepth 100000
set_option linter.unusedVariables false
set_option linter.unusedSimpArgs false
def rC (b n tx p : Nat) (o f q : Int) : Cel := .inr (7, [.inl (I (n : Int)), .inr (some tx), .inl (I (p : Int)), .inl (I o), .inl (I f), .inl (I q), .inr (some b)])
abbrev RW (b : Nat) (V : Vw) (lw : Option Nat) (a n tx : Nat) (R : Hp) (p : Nat) (o f q : Int) : Hp := Wd b V lw (hp_set R a (rC b n tx p o f q))
def cz (t : Int) : Int := if t = -1 then 0 else t
def TxOK (V : Vw) (n : Nat) (T : Nat → Int) : Prop := (∀ p, -1 ≤ T p ∧ T p ≤ 255) ∧ (∀ p, tk V n p = cz (T p)) ∧ (∀ p, T p ≠ -1 → p < n) ∧ (n ≤ 240)
theorem TxOK.b {V : Vw} {n : Nat} {T : Nat → Int} (h : TxOK V n T) : ∀ p, -1 ≤ T p ∧ T p ≤ 255 := h.1
theorem TxOK.e {V : Vw} {n : Nat} {T : Nat → Int} (h : TxOK V n T) : ∀ p, tk V n p = cz (T p) := h.2.1
theorem TxOK.l {V : Vw} {n : Nat} {T : Nat → Int} (h : TxOK V n T) : ∀ p, T p ≠ -1 → p < n := h.2.2.1
theorem TxOK.nn {V : Vw} {n : Nat} {T : Nat → Int} (h : TxOK V n T) : n ≤ 240 := h.2.2.2
section RA
variable {b : Nat} {V : Vw} {lw : Option Nat} {R : Hp} {a n tx p nx : Nat} {o f q x y : Int} {T : Nat → Int}
theorem rr_on {α : Type} {w : Option α} (h : b + 305 ≤ a) : hp_on (RW b V lw a n tx R p o f q) (some a) 7 w = w := o_on h (s_s a _)
theorem rr_n (h : b + 305 ≤ a) : hp_gI (RW b V lw a n tx R p o f q) (some a) 7 0 = some (I (n : Int)) := o_gI h (s_s a _) rfl
theorem rr_tx (h : b + 305 ≤ a) : hp_gR (RW b V lw a n tx R p o f q) (some a) 7 1 = some (some tx) := o_gR h (s_s a _) rfl
theorem rr_p (h : b + 305 ≤ a) : hp_gI (RW b V lw a n tx R p o f q) (some a) 7 2 = some (I (p : Int)) := o_gI h (s_s a _) rfl
theorem rr_o (h : b + 305 ≤ a) : hp_gI (RW b V lw a n tx R p o f q) (some a) 7 3 = some (I o) := o_gI h (s_s a _) rfl
theorem rr_f (h : b + 305 ≤ a) : hp_gI (RW b V lw a n tx R p o f q) (some a) 7 4 = some (I f) := o_gI h (s_s a _) rfl
theorem rr_q (h : b + 305 ≤ a) : hp_gI (RW b V lw a n tx R p o f q) (some a) 7 5 = some (I q) := o_gI h (s_s a _) rfl
theorem rr_b (h : b + 305 ≤ a) : hp_gR (RW b V lw a n tx R p o f q) (some a) 7 6 = some (some b) := o_gR h (s_s a _) rfl
theorem rr_wp (h : b + 305 ≤ a) : hp_pI (RW b V lw a n tx R p o f q) (some a) 7 2 (I (p : Int) + I 1) = some (RW b V lw a n tx R (p + 1) o f q) := by
  unfold hp_pI RW rC
  rw [o_pV h (s_s a _) (by simp), s_ss, I_add]
  rfl
theorem rr_wo (h : b + 305 ≤ a) : hp_pI (RW b V lw a n tx R p o f q) (some a) 7 3 (I x) = some (RW b V lw a n tx R p x f q) := by
  unfold hp_pI RW rC
  rw [o_pV h (s_s a _) (by simp), s_ss]
  rfl
theorem rr_wf (h : b + 305 ≤ a) : hp_pI (RW b V lw a n tx R p o f q) (some a) 7 4 (I x) = some (RW b V lw a n tx R p o x q) := by
  unfold hp_pI RW rC
  rw [o_pV h (s_s a _) (by simp), s_ss]
  rfl
theorem rr_wq (h : b + 305 ≤ a) : hp_pI (RW b V lw a n tx R p o f q) (some a) 7 5 (I x) = some (RW b V lw a n tx R p o f x) := by
  unfold hp_pI RW rC
  rw [o_pV h (s_s a _) (by simp), s_ss]
  rfl
theorem rr_set (h : b + 305 ≤ a) (hx : a < nx) (c : Cel) : hp_set (RW b V lw a n tx R p o f q) nx c = RW b V lw a n tx (hp_set R nx c) p o f q := by
  unfold RW
  rw [o_set (by omega), s_cm (by omega)]
theorem rr_g1 (h : b + 305 ≤ a) : fX8_isGood (RW b V lw a n tx R p o 0 q) (some a) = some (I 1) := by
  unfold fX8_isGood
  rw [rr_f h]
  rfl
theorem rr_g0 (h : b + 305 ≤ a) (hf : 1 ≤ f ∧ f ≤ 100) : fX8_isGood (RW b V lw a n tx R p o f q) (some a) = some (I 0) := by
  unfold fX8_isGood
  rw [rr_f h, Option.bind_some, k_0, if_neg (by rw [I_inj (by omega) (by omega) (by omega) (by omega)]; omega)]
theorem cz_b (t : TxOK V n T) (p : Nat) : 0 ≤ cz (T p) ∧ cz (T p) ≤ 255 := by
  have := t.b p
  unfold cz
  split <;> omega
theorem cz_eq {t c : Int} (h : 1 ≤ c) : (cz t = c) = (t = c) := by
  unfold cz
  refine propext ⟨fun q => ?_, fun q => ?_⟩
  · split at q <;> omega
  · rw [if_neg (by omega)]
    exact q
theorem cz_I (t : TxOK V n T) (p : Nat) {c : Int} (h : 1 ≤ c ∧ c ≤ 255) : (I (cz (T p)) = I c) = (T p = c) := by
  have := cz_b t p
  rw [I_inj (by omega) (by omega) (by omega) (by omega), cz_eq h.1]
theorem rr_here (h : b + 305 ≤ a) (t : TxOK V n T) (hp : p ≤ 2000) : fX8_here (RW b V lw a n tx R p o f q) (some a) = some (I (cz (T p))) := by
  have nn := t.nn
  rw [← t.e p]
  unfold fX8_here tk
  simp (disch := omega) only [rr_p h, rr_n h, Option.bind_some, I_le, k_0]
  by_cases c : p < n
  · rw [if_neg (by omega), if_pos c]
    simp (disch := omega) only [rr_b h, gR0_10, Option.bind_some, rA53, tn, k_255, I_and255]
  · rw [if_pos (by omega), if_neg c]
theorem rr_bad (h : b + 305 ≤ a) : fX8_bad (RW b V lw a n tx R p o 0 q) (some a) (I x) (I y) = some (RW b V lw a n tx R p o x y) := by
  unfold fX8_bad
  simp (disch := omega) only [rr_f h, Option.bind_some, I_le, k_0, if_pos, rr_wf h, rr_wq h]
theorem rr_bad1 (h : b + 305 ≤ a) (hf : 1 ≤ f ∧ f ≤ 100) : fX8_bad (RW b V lw a n tx R p o f q) (some a) (I x) (I y) = some (RW b V lw a n tx R p o f q) := by
  unfold fX8_bad
  simp (disch := omega) only [rr_f h, Option.bind_some, I_le, k_0, if_neg]
theorem rr_opens (h : b + 305 ≤ a) (ho : 0 ≤ o ∧ o < 6) : fX8_opens (RW b V lw a n tx R p o 0 0) (some a) = some (RW b V lw a n tx R (p + 1) (o + 1) 0 0) := by
  unfold fX8_opens
  simp (disch := omega) only [rr_o h, Option.bind_some, k_6, I_inj, if_neg, k_1, I_add, rr_wo h, rr_p h]
  rw [← I_add, rr_wp h]
  rfl
theorem rr_opens6 (h : b + 305 ≤ a) : fX8_opens (RW b V lw a n tx R p 6 0 0) (some a) = some (RW b V lw a n tx R (p + 1) 7 5 (p : Int)) := by
  unfold fX8_opens
  simp (disch := omega) only [rr_o h, Option.bind_some, k_6, ↓reduceIte, k_1, k_5, I_add, rr_on h, rr_bad h, rr_wo h, rr_p h]
  rw [show (6 : Int) + 1 = 7 from rfl]
  rw [← I_add, rr_wp h]
  rfl
theorem rr_must (h : b + 305 ≤ a) (t : TxOK V n T) (hp : p ≤ 2000) (hx : 1 ≤ x ∧ x ≤ 255) : fX8_must (RW b V lw a n tx R p o 0 0) (some a) (I x) = some (if T p = x then RW b V lw a n tx R (p + 1) o 0 0 else RW b V lw a n tx R (p + 1) o 1 (p : Int)) := by
  unfold fX8_must
  simp only [rr_on h, rr_here h t hp, Option.bind_some, cz_I t p hx, rr_p h, k_1, rr_wp h, rr_bad h]
  by_cases c : T p = x
  · rw [if_pos c, if_pos c]
  · rw [if_neg c, if_neg c]
theorem rr_sees (h : b + 305 ≤ a) (t : TxOK V n T) (hp : p ≤ 2000) : fX8_seesDigit (RW b V lw a n tx R p o f q) (some a) = some (I (bi (isDg T p))) := by
  have tb := t.b p
  have cb := cz_b t p
  have ce : cz (T p) = T p ∨ (T p = -1 ∧ cz (T p) = 0) := by
    unfold cz
    split
    · exact Or.inr ⟨‹_›, rfl⟩
    · exact Or.inl rfl
  unfold fX8_seesDigit
  simp (disch := omega) only [rr_on h, rr_here h t hp, Option.bind_some, I_lt, k_0, k_1, k_48, k_57]
  by_cases c1 : cz (T p) < 48
  · rw [if_pos c1, bi_f (by unfold isDg; omega)]
  · rw [if_neg c1]
    by_cases c2 : 57 < cz (T p)
    · rw [if_pos c2, bi_f (by unfold isDg; omega)]
    · rw [if_neg c2, bi_t (by unfold isDg; omega)]
theorem rr_number (h : b + 305 ≤ a) (t : TxOK V n T) (hp : p ≤ 1000) : fX8_number (RW b V lw a n tx R p o 0 0) (some a) = some (I (numV T p (numD T p 5)), if numD T p 5 = 6 then RW b V lw a n tx R (p + 6) o 2 ((p + 5 : Nat) : Int) else RW b V lw a n tx R (p + numD T p 5) o 0 0) := by
  have hD := numD_le T p 5
  have cd : ∀ i, isDg T i → cz (T i) = T i := fun i hi => by
    unfold cz
    rw [if_neg (by unfold isDg at hi; omega)]
  have norm : ∀ k, k < numD T p 5 → k < 5 → fX8_number_L7 (some a) (I (p : Int)) (I (numV T p k), RW b V lw a n tx R (p + k) o 0 0) = some (.inl (I (numV T p (k + 1)), RW b V lw a n tx R (p + k + 1) o 0 0)) := fun k h1 h2 => by
    have nb := numV_6 (T := T) (p := p) (k := k) (by omega) fun i hi => numD_dg (dg := 5) (by omega)
    have d := numD_dg h1
    unfold fX8_number_L7
    simp (disch := omega) only [rr_on h, rr_g1 h, rr_sees h t, k_0, k_1, k_5, k_10, k_48, Option.bind_some, bi_if, bi_t d, if_neg (show ¬ I 1 = I 0 by decide), rr_p h, I_add, I_inj, if_neg, rr_here h t, cd _ d, I_mul, I_sub]
    rw [← I_add, rr_wp h, numV]
    rfl
  have key : iter (fX8_number_L7 (some a) (I (p : Int))) FUEL (I 0, RW b V lw a n tx R p o 0 0) = some (I (numV T p (numD T p 5)), if numD T p 5 = 6 then RW b V lw a n tx R (p + 6) o 2 ((p + 5 : Nat) : Int) else RW b V lw a n tx R (p + numD T p 5) o 0 0) := by
    by_cases c : numD T p 5 = 6
    · rw [if_pos c, c]
      refine iter_det (fun k => if k ≤ 5 then (I (numV T p k), RW b V lw a n tx R (p + k) o 0 0) else (I (numV T p 6), RW b V lw a n tx R (p + 6) o 2 ((p + 5 : Nat) : Int))) 6 _ (by omega) (fun k hk => ?_) ?_
      · by_cases c2 : k < 5
        · rw [if_pos (by omega), if_pos (by omega)]
          exact norm k (by omega) c2
        · have : k = 5 := by omega
          subst this
          have nb := numV_6 (T := T) (p := p) (k := 5) (by omega) fun i hi => numD_dg (dg := 5) (by omega)
          have d := numD_dg (T := T) (p := p) (dg := 5) (i := 5) (by omega)
          rw [if_pos (Nat.le_refl _), if_neg (by omega)]
          unfold fX8_number_L7
          simp (disch := omega) only [rr_on h, rr_g1 h, rr_sees h t, k_0, k_1, k_2, k_5, k_10, k_48, Option.bind_some, bi_t d, if_neg (show ¬ I 1 = I 0 by decide), rr_p h, I_add, I_inj, if_pos, rr_bad h, rr_here h t, cd _ d, I_mul, I_sub]
          rw [← I_add, rr_wp h, numV]
          rfl
      · rw [if_neg (by omega)]
        unfold fX8_number_L7
        dsimp only
        rw [rr_on h, rr_g0 h (by omega), Option.bind_some, k_0, if_pos rfl]
    · rw [if_neg c]
      have nd := numD_no (T := T) (p := p) (dg := 5) (by omega)
      refine iter_det (fun k => (I (numV T p k), RW b V lw a n tx R (p + k) o 0 0)) (numD T p 5) _ (by omega) (fun k hk => norm k hk (by omega)) ?_
      unfold fX8_number_L7
      simp (disch := omega) only [rr_on h, rr_g1 h, rr_sees h t, k_0, Option.bind_some, bi_f nd, if_neg (show ¬ I 1 = I 0 by decide), ↓reduceIte]
  unfold fX8_number
  rw [rr_p h, Option.bind_some, k_0, key]
  rfl
theorem x_strS {t : Int} (h : 0 ≤ t ∧ t ≤ 255) : (0 ≤ strS (I t)) = (ltOf t ≠ -1) := by
  have e : ∀ c : Int, 0 ≤ c → c ≤ 255 → (I t = I c) = (t = c) := fun c h1 h2 => I_inj (by omega) (by omega) (by omega) (by omega)
  unfold strS ltOf
  simp (disch := omega) only [jidx, show (102 : Int32) = I 102 from rfl, show (107 : Int32) = I 107 from rfl, show (108 : Int32) = I 108 from rfl, show (110 : Int32) = I 110 from rfl, show (112 : Int32) = I 112 from rfl, show (114 : Int32) = I 114 from rfl, show (115 : Int32) = I 115 from rfl, show (117 : Int32) = I 117 from rfl, show (121 : Int32) = I 121 from rfl, e]
  by_cases c1 : t = 114
  · subst c1; decide
  by_cases c2 : t = 115
  · subst c2; decide
  by_cases c3 : t = 107
  · subst c3; decide
  by_cases c4 : t = 108
  · subst c4; decide
  by_cases c5 : t = 110
  · subst c5; decide
  by_cases c6 : t = 112
  · subst c6; decide
  by_cases c7 : t = 102
  · subst c7; decide
  by_cases c8 : t = 121
  · subst c8; decide
  by_cases c9 : t = 117
  · subst c9; decide
  simp only [c1, c2, c3, c4, c5, c6, c7, c8, c9, if_false]
  decide
end RA
