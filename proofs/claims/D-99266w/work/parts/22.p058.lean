/-! NUMBERS, both sides. No JVM here. -/
set_option maxRecDepth 100000
set_option linter.unusedVariables false
section NU
variable {b : Nat} {V : Vw} {lw : Option Nat} {R : Hp} {a ci n p dg : Nat} {f q x y lo hi : Int} {rest : List Vl}
theorem sc_numL (h : b + 305 ≤ a) (hn : n ≤ 260) (hp : p ≤ 1000) (hd : dg ≤ 5) {u1 u2 : Int32} : iter (fX17_number_L34 ci (some a) (I (dg : Int)) u1 u2 (I (p : Int))) FUEL (I 0, Wd b V lw (hp_set R a (scC ci b n p 0 q rest))) = some (I (numV (tk V n) p (numD (tk V n) p dg)), Wd b V lw (hp_set R a (if numD (tk V n) p dg = dg + 1 then scC ci b n (p + dg + 1) 2 ((p + dg : Nat) : Int) rest else scC ci b n (p + numD (tk V n) p dg) 0 q rest))) := by
  have hD := numD_le (tk V n) p dg
  have norm : ∀ k, k < numD (tk V n) p dg → k < dg → fX17_number_L34 ci (some a) (I (dg : Int)) u1 u2 (I (p : Int)) (I (numV (tk V n) p k), Wd b V lw (hp_set R a (scC ci b n (p + k) 0 q rest))) = some (.inl (I (numV (tk V n) p (k + 1)), Wd b V lw (hp_set R a (scC ci b n (p + k + 1) 0 q rest)))) := fun k h1 h2 => by
    have nb := numV_6 (T := tk V n) (p := p) (k := k) (by omega) fun i hi => numD_dg (dg := dg) (by omega)
    have d := numD_dg h1
    unfold fX17_number_L34
    simp (disch := omega) only [sc_on h, sc_good h, sc_sees h hn, k_48, k_57, k_0, k_1, k_10, Option.bind_some, bi_if, if_true, if_pos, sc_p h, I_add, I_inj, if_neg, sc_here h hn, I_mul, I_sub]
    rw [← I_add, sc_wp h, numV]
    rfl
  by_cases c : numD (tk V n) p dg = dg + 1
  · rw [if_pos c, c]
    refine iter_det (fun k => if k ≤ dg then (I (numV (tk V n) p k), Wd b V lw (hp_set R a (scC ci b n (p + k) 0 q rest))) else (I (numV (tk V n) p (dg + 1)), Wd b V lw (hp_set R a (scC ci b n (p + dg + 1) 2 ((p + dg : Nat) : Int) rest)))) (dg + 1) _ (by omega) (fun k hk => ?_) ?_
    · by_cases c2 : k < dg
      · rw [if_pos (by omega), if_pos (by omega)]
        exact norm k (by omega) c2
      · have : k = dg := by omega
        subst this
        have nb := numV_6 (T := tk V n) (p := p) (k := k) (by omega) fun i hi => numD_dg (dg := k) (by omega)
        have d := numD_dg (T := tk V n) (p := p) (dg := k) (i := k) (by omega)
        rw [if_pos (Nat.le_refl _), if_neg (by omega)]
        unfold fX17_number_L34
        simp (disch := omega) only [sc_on h, sc_good h, sc_sees h hn, k_48, k_57, k_0, k_1, k_2, k_10, Option.bind_some, bi_if, if_true, if_pos, sc_p h, I_add, I_inj, sc_bad0 h, sc_here h hn, I_mul, I_sub]
        rw [← I_add, sc_wp h, numV]
        rfl
    · rw [if_neg (by omega)]
      unfold fX17_number_L34
      simp (disch := omega) only [sc_on h, sc_good h, Option.bind_some, k_0, bi_if, if_true, if_neg]
  · rw [if_neg c]
    have nd := numD_no (T := tk V n) (p := p) (dg := dg) (by omega)
    refine iter_det (fun k => (I (numV (tk V n) p k), Wd b V lw (hp_set R a (scC ci b n (p + k) 0 q rest)))) (numD (tk V n) p dg) _ (by omega) (fun k hk => norm k hk (by omega)) ?_
    unfold fX17_number_L34
    simp (disch := omega) only [sc_on h, sc_good h, sc_sees h hn, k_48, k_57, k_0, Option.bind_some, bi_if, if_true, if_pos]
    rw [if_neg nd]
/-- the class reads a number -/
theorem sc_number (h : b + 305 ≤ a) (hn : n ≤ 260) (hp : p ≤ 1000) (hd : dg ≤ 5) (hl : 0 ≤ lo ∧ lo ≤ 100000) (hh : 0 ≤ hi ∧ hi ≤ 100000) (hdg : 1 ≤ dg) : match numR (tk V n) dg lo hi p with
    | .inr (v, p') => fX17_number ci (Wd b V lw (hp_set R a (scC ci b n p 0 q rest))) (some a) (I (dg : Int)) (I lo) (I hi) = some (I v, Wd b V lw (hp_set R a (scC ci b n p' 0 q rest)))
    | .inl (w, q') => ∃ v p', p' ≤ p + dg + 1 ∧ fX17_number ci (Wd b V lw (hp_set R a (scC ci b n p 0 q rest))) (some a) (I (dg : Int)) (I lo) (I hi) = some (I v, Wd b V lw (hp_set R a (scC ci b n p' w (q' : Int) rest))) := by
  have hD := numD_le (tk V n) p dg
  have nb := numV_6 (T := tk V n) (p := p) (k := numD (tk V n) p dg) (by omega) fun i hi => numD_dg (dg := dg) hi
  unfold numR
  by_cases c0 : numD (tk V n) p dg = 0
  · rw [if_pos c0]
    have nd := numD_no (T := tk V n) (p := p) (dg := dg) (by omega)
    rw [c0, Nat.add_zero] at nd
    refine ⟨0, p, by omega, ?_⟩
    have stop : iter (fX17_number_L34 ci (some a) (I (dg : Int)) (I lo) (I hi) (I (p : Int))) FUEL (I 0, Wd b V lw (hp_set R a (scC ci b n p 1 (p : Int) rest))) = some (I 0, Wd b V lw (hp_set R a (scC ci b n p 1 (p : Int) rest))) := by
      show iter _ (1999 + 1) _ = _
      refine iter_r ?_
      unfold fX17_number_L34
      simp (disch := omega) only [sc_on h, sc_good h, Option.bind_some, k_0, bi_if, if_true, if_neg]
    unfold fX17_number
    simp (disch := omega) only [sc_p h, sc_on h, sc_good h, sc_sees h hn, k_48, k_57, k_0, k_1, Option.bind_some, bi_if, if_true, if_pos, sc_bad0 h]
    rw [if_neg nd]
    simp (disch := omega) only [Option.bind_some, stop, sc_on h, sc_good h, bi_if, if_true, if_neg]
  · rw [if_neg c0]
    have d0 := numD_dg (T := tk V n) (p := p) (dg := dg) (i := 0) (by omega)
    rw [Nat.add_zero] at d0
    have L := sc_numL (V := V) (lw := lw) (R := R) (ci := ci) (q := q) (rest := rest) h hn hp hd (u1 := I lo) (u2 := I hi)
    by_cases c1 : numD (tk V n) p dg = dg + 1
    · rw [if_pos c1]
      rw [if_pos c1] at L
      refine ⟨numV (tk V n) p (numD (tk V n) p dg), p + dg + 1, by omega, ?_⟩
      unfold fX17_number
      simp (disch := omega) only [sc_p h, sc_on h, sc_good h, sc_sees h hn, k_48, k_57, k_0, k_1, Option.bind_some, bi_if, if_true, if_pos, L, if_neg]
    · rw [if_neg c1]
      rw [if_neg c1] at L
      by_cases c2 : lo ≤ numV (tk V n) p (numD (tk V n) p dg) ∧ numV (tk V n) p (numD (tk V n) p dg) ≤ hi
      · rw [if_pos c2]
        show fX17_number ci _ _ _ _ _ = _
        unfold fX17_number
        simp (disch := omega) only [sc_p h, sc_on h, sc_good h, sc_sees h hn, k_48, k_57, k_0, k_1, Option.bind_some, bi_if, if_true, if_pos, L, x_within]
      · rw [if_neg c2]
        refine ⟨numV (tk V n) p (numD (tk V n) p dg), p + numD (tk V n) p dg, by omega, ?_⟩
        unfold fX17_number
        simp (disch := omega) only [sc_p h, sc_on h, sc_good h, sc_sees h hn, k_48, k_57, k_0, k_1, k_3, Option.bind_some, bi_if, if_true, if_pos, L, x_within]
        rw [if_neg c2, sc_bad0 h]
        rfl
/-! the reference -/
def yFr (V V' : Vw) : Prop := ∀ o k, ¬ (o = 258 ∧ 18 ≤ k ∧ k ≤ 25) → V' o k = V o k
theorem yFr.id : yFr V V := fun _ _ _ => rfl
theorem yFr.tr {V1 V2 V3 : Vw} (h : yFr V1 V2) (g : yFr V2 V3) : yFr V1 V3 := fun o k q => (g o k q).trans (h o k q)
theorem yFr.up {k : Nat} (hk : 18 ≤ k ∧ k ≤ 25) : yFr V (up V 258 k x) := fun o i q => by
  rw [up_e, if_neg (fun e => q (by omega))]
def yk (V : Vw) (n p : Nat) : Int := if p < n then V 272 p % 256 else -1
theorem yk_e (V : Vw) (n p : Nat) : yk V n p = if p < n then V 272 p % 256 else -1 := rfl
theorem yk_b (V : Vw) (n p : Nat) : -1 ≤ yk V n p ∧ yk V n p ≤ 255 := by
  unfold yk
  split <;> omega
theorem yk_fr {V' : Vw} (h : yFr V V') (n p : Nat) : yk V' n p = yk V n p := by
  unfold yk
  rw [h _ _ (by omega)]
/-- where the reference reads -/
def yPl (V : Vw) (n p : Nat) : Prop := V 258 18 = (p : Int) ∧ V 258 19 = (n : Int) ∧ n ≤ 260 ∧ p ≤ 1000
theorem y_here (h : yPl V n p) : fX7_here (Wd b V lw R) (some (b + 258)) = some (I (yk V n p)) := by
  obtain ⟨h1, h2, h3, h4⟩ := h
  unfold fX7_here yk
  simp (disch := omega) only [gI258_18, gI258_19, h1, h2, Option.bind_some, I_le, k_1, I_neg]
  by_cases c : p < n
  · rw [if_neg (by omega), if_pos c]
    simp (disch := omega) only [gR258_16, Option.bind_some, rA272, tn, k_255, I_and255]
  · rw [if_pos (by omega), if_neg c]
theorem y_isDg (h : yPl V n p) : fX7_isDigit (Wd b V lw R) (some (b + 258)) = some (I (bi (isDg (yk V n) p))) := by
  have tb := yk_b V n p
  unfold fX7_isDigit
  simp (disch := omega) only [on258, y_here h, Option.bind_some, I_lt, k_48, k_57, k_0, k_1]
  by_cases c1 : yk V n p < 48
  · rw [if_pos c1, bi_f (by omega)]
  · rw [if_neg c1]
    by_cases c2 : 57 < yk V n p
    · rw [if_pos c2, bi_f (by omega)]
    · rw [if_neg c2, bi_t (by omega)]
theorem y_wrong : fX7_wrongAt (Wd b V lw R) (some (b + 258)) (I x) (I y) = some (I 0, Wd b (up V 258 20 (-1000 * x - y)) lw R) := by
  unfold fX7_wrongAt
  rw [k_0, k_1000, I_neg, I_mul, I_sub, pI258_20]
  rfl
theorem z_0 : hp_z (I 0) = some (I 0) := rfl
theorem z_1 : hp_z (I 1) = some (I 1) := rfl
theorem y_takes (h : yPl V n p) (hx : 1 ≤ x ∧ x ≤ 255) : fX7_takes (Wd b V lw R) (some (b + 258)) (I x) = if yk V n p = x then some (I 1, Wd b (up V 258 18 ((p : Int) + 1)) lw R) else some (I 0, Wd b (up V 258 20 (-1000 * 1 - (p : Int))) lw R) := by
  have tb := yk_b V n p
  have h1 := h.1
  unfold fX7_takes
  simp (disch := omega) only [on258, y_here h, Option.bind_some, I_inj, gI258_18, h1, k_1, I_add, pI258_18, y_wrong, z_0]
/-- the reference reads a number -/
theorem y_readsW (h : yPl V n p) (hp : p ≤ 500) (hd : dg ≤ 5) (hdg : 1 ≤ dg) (hl : 0 ≤ lo ∧ lo ≤ 100000) (hh : 0 ≤ hi ∧ hi ≤ 100000) : ∃ V', yFr V V' ∧ (match numR (yk V n) dg lo hi p with
    | .inr (v, p') => fX7_readsWithin (Wd b V lw R) (some (b + 258)) (I (dg : Int)) (I lo) (I hi) = some (I 1, Wd b V' lw R) ∧ V' 258 21 = v ∧ V' 258 18 = (p' : Int)
    | .inl (w, q') => fX7_readsWithin (Wd b V lw R) (some (b + 258)) (I (dg : Int)) (I lo) (I hi) = some (I 0, Wd b V' lw R) ∧ V' 258 20 = -1000 * w - (q' : Int)) ∧ ∀ k, k ≠ 18 → k ≠ 20 → k ≠ 21 → V' 258 k = V 258 k := by
  have hD := numD_le (yk V n) p dg
  have nb := numV_6 (T := yk V n) (p := p) (k := numD (yk V n) p dg) (by omega) fun i hi => numD_dg (dg := dg) hi
  have h1 := h.1
  unfold numR
  by_cases c0 : numD (yk V n) p dg = 0
  · rw [if_pos c0]
    have nd := numD_no (T := yk V n) (p := p) (dg := dg) (by omega)
    rw [c0, Nat.add_zero] at nd
    refine ⟨up V 258 20 (-1000 * 1 - (p : Int)), yFr.up (by omega), ⟨?_, up_s⟩, fun k k1 k2 k3 => up_k k2⟩
    unfold fX7_readsWithin
    simp (disch := omega) only [gI258_18, h1, on258, y_isDg h, Option.bind_some, k_0, k_1, bi_if, if_true, y_wrong, z_0]
    rw [if_neg nd]
  · rw [if_neg c0]
    have d0 := numD_dg (T := yk V n) (p := p) (dg := dg) (i := 0) (by omega)
    rw [Nat.add_zero] at d0
    -- the loop
    obtain ⟨W, hW⟩ : ∃ W : Nat → Vw, W = fun k => up (up V 258 21 (numV (yk V n) p k)) 258 18 ((p + k : Nat) : Int) := ⟨_, rfl⟩
    have Wp : ∀ k, W k 258 18 = ((p + k : Nat) : Int) := fun k => by rw [hW]; exact up_s
    have Wn : ∀ k, W k 258 21 = numV (yk V n) p k := fun k => by
      rw [hW]
      show up _ _ _ _ _ _ = _
      rw [up_k (by omega), up_s]
    have Wf : ∀ k, yFr V (W k) := fun k => by
      rw [hW]
      exact (yFr.up (by omega)).tr (yFr.up (by omega))
    have Wo : ∀ k i, i ≠ 18 → i ≠ 21 → W k 258 i = V 258 i := fun k i i1 i2 => by
      rw [hW]
      show up _ _ _ _ _ _ = _
      rw [up_k i1, up_k i2]
    have WP : ∀ k, k ≤ dg + 1 → yPl (W k) n (p + k) := fun k hk => ⟨Wp k, by rw [Wo k _ (by omega) (by omega)]; exact h.2.1, h.2.2.1, by omega⟩
    have Wk : ∀ k i, yk (W k) n i = yk V n i := fun k i => yk_fr (Wf k) n i
    have W0 : ∀ x, up (up V 258 21 x) 258 18 (p : Int) = up V 258 21 x := fun x => by
      funext o i
      by_cases e : o = 258 ∧ i = 18
      · rw [e.1, e.2, up_s, up_k (by omega)]
        exact h1.symm
      · rw [up_e, if_neg e]
    have step : ∀ k, k < numD (yk V n) p dg → k < dg → fX7_readsWithin_L28 (some (b + 258)) (I (dg : Int)) (I lo) (I hi) (I (p : Int)) (Wd b (W k) lw R) = some (.inl (Wd b (W (k + 1)) lw R)) := fun k h1 h2 => by
      have nb := numV_6 (T := yk V n) (p := p) (k := k) (by omega) fun i hi => numD_dg (dg := dg) (by omega)
      have d : isDg (yk (W k) n) (p + k) := by
        show 48 ≤ yk (W k) n (p + k) ∧ _
        rw [Wk]
        exact numD_dg h1
      have e2 : up (up (W k) 258 21 (numV (yk V n) p (k + 1))) 258 18 ((p + k : Nat) : Int) = up (W k) 258 21 (numV (yk V n) p (k + 1)) := by
        funext o i
        by_cases e : o = 258 ∧ i = 18
        · rw [e.1, e.2, up_s, up_k (by omega), Wp]
        · rw [show up (up (W k) 258 21 (numV (yk V n) p (k + 1))) 258 18 ((p + k : Nat) : Int) o i = up (W k) 258 21 (numV (yk V n) p (k + 1)) o i from if_neg e]
      have e3 : up (up (W k) 258 21 (numV (yk V n) p (k + 1))) 258 18 ((p + (k + 1) : Nat) : Int) = W (k + 1) := by
        rw [hW]
        funext o i
        show up _ _ _ _ _ _ = up _ _ _ _ _ _
        by_cases e : o = 258 ∧ i = 18
        · rw [e.1, e.2, up_s, up_s]
        · by_cases e4 : o = 258 ∧ i = 21
          · rw [e4.1, e4.2, up_k (by omega), up_s, up_k (by omega), up_s]
          · have q1 : ∀ (A : Vw) (x : Int), up A 258 18 x o i = A o i := fun A x => if_neg e
            have q2 : ∀ (A : Vw) (x : Int), up A 258 21 x o i = A o i := fun A x => if_neg e4
            simp only [q1, q2]
      have p3 : up (W k) 258 21 (numV (yk V n) p (k + 1)) 258 18 = ((p + k : Nat) : Int) := by rw [up_k (by omega), Wp]
      unfold fX7_readsWithin_L28
      simp (disch := omega) only [on258, y_isDg (WP k (by omega)), y_here (WP k (by omega)), Option.bind_some, k_0, k_1, k_10, k_48, bi_if, if_true, if_pos d, gI258_18, Wp, I_add, I_inj, if_neg, gI258_21, Wn, I_mul, I_sub, pI258_21]
      rw [Wk k (p + k), show 10 * numV (yk V n) p k + yk V n (p + k) - 48 = numV (yk V n) p (k + 1) from rfl, p3]
      rw [pI258_18, Option.bind_some, ← e3]
      rfl
    have start : hp_pI (Wd b V lw R) (some (b + 258)) 6 21 (I 0) = some (Wd b (W 0) lw R) := by
      rw [pI258_21, hW]
      show some (Wd b (up V 258 21 0) lw R) = some (Wd b (up (up V 258 21 0) 258 18 (p : Int)) lw R)
      rw [W0]
    by_cases c1 : numD (yk V n) p dg = dg + 1
    · rw [if_pos c1]
      have d : isDg (yk (W dg) n) (p + dg) := by
        show 48 ≤ yk (W dg) n (p + dg) ∧ _
        rw [Wk]
        exact numD_dg (dg := dg) (by omega)
      have loop : iter (fX7_readsWithin_L28 (some (b + 258)) (I (dg : Int)) (I lo) (I hi) (I (p : Int))) FUEL (Wd b (W 0) lw R) = some (.inr (I 0, Wd b (up (W dg) 258 20 (-1000 * 2 - ((p + dg : Nat) : Int))) lw R)) := by
        refine iter_det (fun k => Wd b (W k) lw R) dg _ (by omega) (fun k hk => step k (by omega) hk) ?_
        have e : (((p + dg : Nat) : Int)) = (p : Int) + (dg : Int) := by omega
        unfold fX7_readsWithin_L28
        simp (disch := omega) only [on258, y_isDg (WP dg (by omega)), Option.bind_some, k_0, k_2, bi_if, if_true, if_pos d, gI258_18, Wp, I_add, e, if_true, y_wrong, z_0]
      refine ⟨up (W dg) 258 20 (-1000 * 2 - ((p + dg : Nat) : Int)), (Wf dg).tr (yFr.up (by omega)), ⟨?_, up_s⟩, fun k k1 k2 k3 => by rw [up_k k2, Wo dg k k1 k3]⟩
      unfold fX7_readsWithin
      simp (disch := omega) only [gI258_18, h1, on258, y_isDg h, Option.bind_some, k_0, bi_if, if_true, if_pos d0, start, loop]
    · rw [if_neg c1]
      have nd := numD_no (T := yk V n) (p := p) (dg := dg) (by omega)
      have ndW : ¬ isDg (yk (W (numD (yk V n) p dg)) n) (p + numD (yk V n) p dg) := by
        show ¬ (48 ≤ yk (W (numD (yk V n) p dg)) n _ ∧ yk (W (numD (yk V n) p dg)) n _ ≤ 57)
        rw [Wk]
        exact nd
      have loop : iter (fX7_readsWithin_L28 (some (b + 258)) (I (dg : Int)) (I lo) (I hi) (I (p : Int))) FUEL (Wd b (W 0) lw R) = some (.inl (Wd b (W (numD (yk V n) p dg)) lw R)) := by
        refine iter_det (fun k => Wd b (W k) lw R) (numD (yk V n) p dg) _ (by omega) (fun k hk => step k (by omega) (by omega)) ?_
        unfold fX7_readsWithin_L28
        simp (disch := omega) only [on258, y_isDg (WP (numD (yk V n) p dg) (by omega)), Option.bind_some, k_0, bi_if, if_true]
        rw [if_neg ndW]
      by_cases c2 : lo ≤ numV (yk V n) p (numD (yk V n) p dg) ∧ numV (yk V n) p (numD (yk V n) p dg) ≤ hi
      · rw [if_pos c2]
        refine ⟨W (numD (yk V n) p dg), Wf _, ⟨?_, Wn _, Wp _⟩, fun k k1 k2 k3 => Wo _ k k1 k3⟩
        unfold fX7_readsWithin
        simp (disch := omega) only [gI258_18, h1, on258, y_isDg h, Option.bind_some, k_0, k_1, bi_if, if_true, if_pos d0, start, loop, gI258_21, Wn, y_in, if_pos c2]
      · rw [if_neg c2]
        refine ⟨up (W (numD (yk V n) p dg)) 258 20 (-1000 * 3 - (p : Int)), (Wf _).tr (yFr.up (by omega)), ⟨?_, up_s⟩, fun k k1 k2 k3 => by rw [up_k k2, Wo _ k k1 k3]⟩
        unfold fX7_readsWithin
        simp (disch := omega) only [gI258_18, h1, on258, y_isDg h, Option.bind_some, k_0, k_1, k_3, bi_if, if_true, if_pos d0, start, loop, gI258_21, Wn, y_in, if_neg c2, y_wrong]
end NU
