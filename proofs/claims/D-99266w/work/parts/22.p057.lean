/-! OWN CELLS: objects and arrays outside the layout; the scribes' reading. No JVM here. -/
set_option maxRecDepth 100000
set_option linter.unusedVariables false
section OC
variable {b : Nat} {V : Vw} {lw : Option Nat} {R : Hp} {a c k n t : Nat} {fs : List Vl} {z : Int}
theorem o_out (h : b + 305 ≤ a) : ¬ (b ≤ a ∧ (dK (a - b)).1 ≠ 0) := fun q => q.2 (dK_hi (by omega))
theorem o_at (h : b + 305 ≤ a) : Wd b V lw R a = R a := W_R (o_out h)
theorem o_set (h : b + 305 ≤ a) (c : Cel) : hp_set (Wd b V lw R) a c = Wd b V lw (hp_set R a c) := W_out (o_out h)
theorem s_s (a : Nat) (c : Cel) : hp_set R a c a = some c := if_pos rfl
theorem s_n {q : Nat} (h : q ≠ a) (c : Cel) : hp_set R a c q = R q := if_neg h
theorem s_ss (a : Nat) (c c' : Cel) : hp_set (hp_set R a c) a c' = hp_set R a c' := by
  funext q
  unfold hp_set
  by_cases h : q = a
  · rw [if_pos h, if_pos h]
  · rw [if_neg h, if_neg h, if_neg h]
theorem s_id {c : Cel} (h : R a = some c) : hp_set R a c = R := by
  funext q
  unfold hp_set
  by_cases h2 : q = a
  · rw [if_pos h2, h2, h]
  · rw [if_neg h2]
theorem o_gI (h : b + 305 ≤ a) (hR : R a = some (.inr (c, fs))) {x : Int32} (hk : fs[k]? = some (.inl x)) : hp_gI (Wd b V lw R) (some a) c k = some x := by
  unfold hp_gI hp_gV
  simp only [o_at h, hR, if_true, hk]
theorem o_gR (h : b + 305 ≤ a) (hR : R a = some (.inr (c, fs))) {x : Option Nat} (hk : fs[k]? = some (.inr x)) : hp_gR (Wd b V lw R) (some a) c k = some x := by
  unfold hp_gR hp_gV
  simp only [o_at h, hR, if_true, hk]
theorem o_cl (h : b + 305 ≤ a) (hR : R a = some (.inr (c, fs))) : hp_cls (Wd b V lw R) (some a) = some c := by
  unfold hp_cls
  simp only [o_at h, hR]
theorem o_on {α : Type} {x : Option α} (h : b + 305 ≤ a) (hR : R a = some (.inr (c, fs))) : hp_on (Wd b V lw R) (some a) c x = x := by
  unfold hp_on
  rw [o_cl h hR, if_pos rfl]
theorem o_pV (h : b + 305 ≤ a) (hR : R a = some (.inr (c, fs))) {v : Vl} (hk : k < fs.length) : hp_pV (Wd b V lw R) (some a) c k v = some (Wd b V lw (hp_set R a (.inr (c, fs.set k v)))) := by
  unfold hp_pV
  simp only [o_at h, hR, true_and, hk, if_true, o_set h]
theorem o_aI (h : b + 305 ≤ a) {f : Nat → Int32} (hR : R a = some (.inl (t, n, .inl f))) (h0 : 0 ≤ z) (h1 : z < n) (hn : n ≤ 2000) : hp_aI (Wd b V lw R) (some a) t (I z) = some (f z.toNat) := by
  unfold hp_aI hp_arr
  simp only [o_at h, hR, if_true, I_in h0 h1 hn, I_cl h0 (show z < 2000 by omega)]
theorem o_sI (h : b + 305 ≤ a) {f : Nat → Int32} (hR : R a = some (.inl (t, n, .inl f))) (h0 : 0 ≤ z) (h1 : z < n) (hn : n ≤ 2000) {x : Int32} : hp_sI (Wd b V lw R) (some a) t (I z) x = some (Wd b V lw (hp_set R a (.inl (t, n, .inl (hp_upI f z.toNat (hp_nar t x)))))) := by
  unfold hp_sI hp_arr
  simp only [o_at h, hR, if_true, I_in h0 h1 hn, I_cl h0 (show z < 2000 by omega), o_set h]
theorem o_aR (h : b + 305 ≤ a) {f : Nat → Option Nat} (hR : R a = some (.inl (t, n, .inr f))) (h0 : 0 ≤ z) (h1 : z < n) (hn : n ≤ 2000) : hp_aR (Wd b V lw R) (some a) t (I z) = some (f z.toNat) := by
  unfold hp_aR hp_arr
  simp only [o_at h, hR, if_true, I_in h0 h1 hn, I_cl h0 (show z < 2000 by omega)]
theorem o_sR (h : b + 305 ≤ a) {f : Nat → Option Nat} (hR : R a = some (.inl (t, n, .inr f))) (h0 : 0 ≤ z) (h1 : z < n) (hn : n ≤ 2000) {v : Option Nat} (hv : hp_okr (Wd b V lw R) t v = true) : hp_sR (Wd b V lw R) (some a) t (I z) v = some (Wd b V lw (hp_set R a (.inl (t, n, .inr (hp_upR f z.toNat v))))) := by
  unfold hp_sR hp_arr
  simp only [o_at h, hR, if_true, I_in h0 h1 hn, I_cl h0 (show z < 2000 by omega), o_set h, hv, and_self]
end OC
/-! scribes -/
def scC (ci b : Nat) (n p : Nat) (f q : Int) (rest : List Vl) : Cel := .inr (ci, .inl (I (n : Int)) :: .inl (I (p : Int)) :: .inl (I f) :: .inl (I q) :: .inr (some b) :: rest)
def tk (V : Vw) (n p : Nat) : Int := if p < n then V 53 p % 256 else 0
section SB
variable {b : Nat} {V : Vw} {lw : Option Nat} {R : Hp} {a ci n p : Nat} {f q x y lo hi : Int} {rest : List Vl}
theorem tk_b (V : Vw) (n p : Nat) : 0 ≤ tk V n p ∧ tk V n p ≤ 255 := by
  unfold tk
  split <;> omega
theorem tk_e (h : n ≤ p) : tk V n p = 0 := if_neg (by omega)
theorem sc_n (h : b + 305 ≤ a) : hp_gI (Wd b V lw (hp_set R a (scC ci b n p f q rest))) (some a) ci 0 = some (I (n : Int)) := o_gI h (s_s a _) rfl
theorem sc_p (h : b + 305 ≤ a) : hp_gI (Wd b V lw (hp_set R a (scC ci b n p f q rest))) (some a) ci 1 = some (I (p : Int)) := o_gI h (s_s a _) rfl
theorem sc_f (h : b + 305 ≤ a) : hp_gI (Wd b V lw (hp_set R a (scC ci b n p f q rest))) (some a) ci 2 = some (I f) := o_gI h (s_s a _) rfl
theorem sc_q (h : b + 305 ≤ a) : hp_gI (Wd b V lw (hp_set R a (scC ci b n p f q rest))) (some a) ci 3 = some (I q) := o_gI h (s_s a _) rfl
theorem sc_t (h : b + 305 ≤ a) : hp_gR (Wd b V lw (hp_set R a (scC ci b n p f q rest))) (some a) ci 4 = some (some b) := o_gR h (s_s a _) rfl
theorem sc_on {α : Type} {w : Option α} (h : b + 305 ≤ a) : hp_on (Wd b V lw (hp_set R a (scC ci b n p f q rest))) (some a) ci w = w := o_on h (s_s a _)
theorem sc_wp (h : b + 305 ≤ a) : hp_pI (Wd b V lw (hp_set R a (scC ci b n p f q rest))) (some a) ci 1 (I (p : Int) + I 1) = some (Wd b V lw (hp_set R a (scC ci b n (p + 1) f q rest))) := by
  unfold hp_pI scC
  rw [o_pV h (s_s a _) (by simp), s_ss, I_add]
  rfl
theorem sc_wf (h : b + 305 ≤ a) : hp_pI (Wd b V lw (hp_set R a (scC ci b n p f q rest))) (some a) ci 2 (I x) = some (Wd b V lw (hp_set R a (scC ci b n p x q rest))) := by
  unfold hp_pI scC
  rw [o_pV h (s_s a _) (by simp), s_ss]
  rfl
theorem sc_wq (h : b + 305 ≤ a) : hp_pI (Wd b V lw (hp_set R a (scC ci b n p f q rest))) (some a) ci 3 (I x) = some (Wd b V lw (hp_set R a (scC ci b n p f x rest))) := by
  unfold hp_pI scC
  rw [o_pV h (s_s a _) (by simp), s_ss]
  rfl
theorem sc_here (h : b + 305 ≤ a) (hn : n ≤ 260) (hp : p ≤ 2000) : fX17_here ci (Wd b V lw (hp_set R a (scC ci b n p f q rest))) (some a) = some (I (tk V n p)) := by
  unfold fX17_here tk
  simp (disch := omega) only [sc_p h, sc_n h, Option.bind_some, I_le, k_0]
  by_cases c : p < n
  · rw [if_neg (by omega), if_pos c]
    simp (disch := omega) only [sc_t h, gR0_10, Option.bind_some, rA53, tn, k_255, I_and255]
  · rw [if_pos (by omega), if_neg c]
theorem sc_sees (h : b + 305 ≤ a) (hn : n ≤ 260) (hp : p ≤ 2000) (hl : 0 ≤ lo ∧ lo ≤ 300) (hh : 0 ≤ hi ∧ hi ≤ 300) : fX17_sees ci (Wd b V lw (hp_set R a (scC ci b n p f q rest))) (some a) (I lo) (I hi) = some (I (bi (lo ≤ tk V n p ∧ tk V n p ≤ hi))) := by
  have tb := tk_b V n p
  unfold fX17_sees
  simp (disch := omega) only [sc_on h, sc_here h hn hp, Option.bind_some, I_lt, k_0, k_1]
  by_cases c1 : tk V n p < lo
  · rw [if_pos c1, bi_f (by omega)]
  · rw [if_neg c1]
    by_cases c2 : hi < tk V n p
    · rw [if_pos c2, bi_f (by omega)]
    · rw [if_neg c2, bi_t (by omega)]
theorem sc_good (h : b + 305 ≤ a) (hf : 0 ≤ f ∧ f ≤ 100) : fX17_isGood ci (Wd b V lw (hp_set R a (scC ci b n p f q rest))) (some a) = some (I (bi (f = 0))) := by
  unfold fX17_isGood
  simp (disch := omega) only [sc_f h, Option.bind_some, I_inj, k_0, k_1]
  by_cases c : f = 0
  · rw [if_pos c, bi_t c]
  · rw [if_neg c, bi_f c]
theorem sc_bad0 (h : b + 305 ≤ a) : fX17_bad ci (Wd b V lw (hp_set R a (scC ci b n p 0 q rest))) (some a) (I x) (I y) = some (Wd b V lw (hp_set R a (scC ci b n p x y rest))) := by
  unfold fX17_bad
  simp (disch := omega) only [sc_f h, Option.bind_some, I_le, k_0, if_pos, sc_wf h, sc_wq h]
theorem sc_bad1 (h : b + 305 ≤ a) (hf : 0 < f ∧ f ≤ 100) : fX17_bad ci (Wd b V lw (hp_set R a (scC ci b n p f q rest))) (some a) (I x) (I y) = some (Wd b V lw (hp_set R a (scC ci b n p f q rest))) := by
  unfold fX17_bad
  simp (disch := omega) only [sc_f h, Option.bind_some, I_le, k_0, if_neg]
end SB
/-! numbers -/
abbrev isDg (T : Nat → Int) (p : Nat) : Prop := 48 ≤ T p ∧ T p ≤ 57
def numD (T : Nat → Int) (p dg : Nat) : Nat := fnd (fun k => decide (¬ isDg T (p + k))) (dg + 1)
def numV (T : Nat → Int) (p : Nat) : Nat → Int
  | 0 => 0
  | k + 1 => 10 * numV T p k + T (p + k) - 48
def numR (T : Nat → Int) (dg : Nat) (lo hi : Int) (p : Nat) : (Int × Nat) ⊕ (Int × Nat) := if numD T p dg = 0 then .inl (1, p) else if numD T p dg = dg + 1 then .inl (2, p + dg) else if lo ≤ numV T p (numD T p dg) ∧ numV T p (numD T p dg) ≤ hi then .inr (numV T p (numD T p dg), p + numD T p dg) else .inl (3, p)
theorem numV_b {T : Nat → Int} {p : Nat} : ∀ k, (∀ i, i < k → isDg T (p + i)) → 0 ≤ numV T p k ∧ numV T p k < 10 ^ k
  | 0, _ => ⟨Int.le_refl _, show (0 : Int) < 10 ^ 0 by decide⟩
  | k + 1, h => by
    have ih := numV_b k fun i hi => h i (by omega)
    have d := h k (by omega)
    rw [numV, Int.pow_succ]
    omega
theorem numD_dg {T : Nat → Int} {p dg i : Nat} (h : i < numD T p dg) : isDg T (p + i) := by
  have := fnd_no (fun k => decide (¬ isDg T (p + k))) (dg + 1) i h
  simpa using this
theorem numD_le (T : Nat → Int) (p dg : Nat) : numD T p dg ≤ dg + 1 := fnd_le _ _
theorem numD_no {T : Nat → Int} {p dg : Nat} (h : numD T p dg < dg + 1) : ¬ isDg T (p + numD T p dg) := of_decide_eq_true (fnd_yes (fun k => decide (¬ isDg T (p + k))) (dg + 1) h)
theorem numV_6 {T : Nat → Int} {p k : Nat} (hk : k ≤ 6) (h : ∀ i, i < k → isDg T (p + i)) : 0 ≤ numV T p k ∧ numV T p k ≤ 1000000 := by
  have a := numV_b k h
  have b : (10 : Int) ^ k ≤ 1000000 := by
    have : k = 0 ∨ k = 1 ∨ k = 2 ∨ k = 3 ∨ k = 4 ∨ k = 5 ∨ k = 6 := by omega
    rcases this with rfl | rfl | rfl | rfl | rfl | rfl | rfl <;> decide
  omega
