/-! LAW: how the reference reads sums. No JVM here. -/
set_option maxRecDepth 100000
set_option linter.unusedVariables false
set_option linter.unusedSimpArgs false
def sgOf (t : Int) : Int := if t = 43 then 2 else if t = 45 then 3 else if t = 42 then 4 else if t = 47 then 5 else if t = 37 then 6 else -1
def ltOf (t : Int) : Int := if t = 102 then 6 else if t = 107 then 2 else if t = 108 then 3 else if t = 110 then 4 else if t = 112 then 5 else if t = 114 then 0 else if t = 115 then 1 else if t = 117 then 8 else if t = 121 then 7 else -1
/-- after a [ or at a factor: the rest of the factor, then the sum -/
def Afn (b base : Nat) (fa fb : Nat) (m : Hp) : Option (Int32 × Hp) := ((iter (fX7_readsFactor_L0 (some (b + 258))) fa m).bind fun r1 => (
  match r1 with
  | .inl m7 =>
    (hp_on m7 (some (b + 258)) 6 (fX7_isDigit m7 (some (b + 258)))).bind fun v8 =>
    if v8 = 0 then
      (hp_on m7 (some (b + 258)) 6 (fX7_here m7 (some (b + 258)))).bind fun v10 =>
      (fX7_factOf v10).bind fun v11 =>
      if v11 = (-1 : Int32) then
        (hp_gI m7 (some (b + 258)) 6 18).bind fun v16 =>
        (hp_on m7 (some (b + 258)) 6 (fX7_wrongAt m7 (some (b + 258)) (1 : Int32) v16)).bind fun (v17, m18) =>
        (hp_z v17).bind fun z19 =>
        some (z19, m18)
      else
      (hp_on m7 (some (b + 258)) 6 (fX7_notes m7 (some (b + 258)) (1 : Int32) v11)).bind fun m13 =>
      (hp_gI m13 (some (b + 258)) 6 18).bind fun v14 =>
      (hp_pI m13 (some (b + 258)) 6 18 (v14 + (1 : Int32))).bind fun m15 =>
      some ((1 : Int32), m15)
    else
    (hp_on m7 (some (b + 258)) 6 (fX7_readsNumber m7 (some (b + 258)))).bind fun (v20, m21) =>
    if v20 = 0 then
      some ((0 : Int32), m21)
    else
    (hp_gI m21 (some (b + 258)) 6 21).bind fun v23 =>
    (hp_on m21 (some (b + 258)) 6 (fX7_notes m21 (some (b + 258)) (0 : Int32) v23)).bind fun m24 =>
    some ((1 : Int32), m24)
  | .inr o => some o)).bind fun (v2, m3) =>
  if v2 = 0 then some ((0 : Int32), m3) else iter (fX7_readsSum_L14 (some (b + 258)) (I (base : Int))) fb m3
section YA
variable {b : Nat} {V V0 V' : Vw} {lw : Option Nat} {R : Hp} {n p o e e' v op a base : Nat} {W c : List Cd} {x : Cd} {q w t : Int} {Q : Option (Int32 × Hp) → Prop}
/-- what holds of every error -/
def ErQ (b : Nat) (V0 : Vw) (lw : Option Nat) (R : Hp) (w at' : Nat) (Q : Option (Int32 × Hp) → Prop) : Prop := ∀ V' : Vw, (∀ q k, ¬ yLc q k → V' q k = V0 q k) → V' 258 20 = -1000 * (w : Int) - (at' : Int) → Q (some (I 0, Wd b V' lw R))
def BQ (n b : Nat) (V0 : Vw) (lw : Option Nat) (R : Hp) (base p o : Nat) (W c : List Cd) (e : Nat) (Q : Option (Int32 × Hp) → Prop) : Prop := ∀ fb V, n - p < fb → LSt n V0 V p o W c e → Q (iter (fX7_readsSum_L14 (some (b + 258)) (I (base : Int))) fb (Wd b V lw R))
def AQ (n b : Nat) (V0 : Vw) (lw : Option Nat) (R : Hp) (base p o : Nat) (W c : List Cd) (e : Nat) (Q : Option (Int32 × Hp) → Prop) : Prop := ∀ fa fb V, 6 - o < fa → n - p < fb → LSt n V0 V p o W c e → Q (Afn b base fa fb (Wd b V lw R))
theorem y_sg (ht : -1 ≤ t ∧ t ≤ 255) : fX7_sumSign (I t) = some (I (sgOf t)) := by
  unfold fX7_sumSign sgOf
  simp (disch := omega) only [k_43, k_45, k_42, k_47, k_37, k_1, k_2, k_3, k_4, k_5, k_6, I_neg, I_inj]
  repeat (split; · rfl)
  rfl
theorem y_lt (ht : -1 ≤ t ∧ t ≤ 255) : fX7_factOf (I t) = some (I (ltOf t)) := by
  unfold fX7_factOf ltOf
  simp (disch := omega) only [show (102 : Int32) = I 102 from rfl, show (107 : Int32) = I 107 from rfl, show (108 : Int32) = I 108 from rfl, show (110 : Int32) = I 110 from rfl, show (112 : Int32) = I 112 from rfl, show (114 : Int32) = I 114 from rfl, show (115 : Int32) = I 115 from rfl, show (117 : Int32) = I 117 from rfl, show (121 : Int32) = I 121 from rfl, k_0, k_1, k_2, k_3, k_4, k_5, k_6, k_7, k_8, I_neg, I_inj]
  repeat (split; · rfl)
  rfl
theorem ltOf_b (t : Int) : -1 ≤ ltOf t ∧ ltOf t ≤ 8 := by
  unfold ltOf
  repeat (split; · omega)
  omega
theorem sgOf_b (t : Int) : sgOf t = -1 ∨ 2 ≤ sgOf t ∧ sgOf t ≤ 6 := by
  unfold sgOf
  repeat (split; · omega)
  omega
/-- [ -/
theorem A_open (hp : yk V0 n p = 91) (ho : o ≠ 6) (h : AQ n b V0 lw R base (p + 1) (o + 1) ((14, 0) :: W) c e Q) : AQ n b V0 lw R base p o W c e Q := fun fa fb V h1 h2 hl => by
  have oo := hl.oo
  have lt := hl.lt (by omega)
  obtain ⟨f, rfl⟩ : ∃ f, fa = f + 1 := ⟨fa - 1, by omega⟩
  obtain ⟨V', w1, w2⟩ := y_opens (b := b) (lw := lw) (R := R) hl ho lt (k := 14) (by omega)
  have e : fX7_readsFactor_L0 (some (b + 258)) (Wd b V lw R) = some (.inl (Wd b V' lw R)) := by
    have w1 : fX7_opens (Wd b V lw R) (some (b + 258)) (14 : Int32) = some (I 1, Wd b V' lw R) := w1
    unfold fX7_readsFactor_L0
    rw [on258, y_hr hl, Option.bind_some, hp, k_91, if_pos rfl, on258, w1, Option.bind_some, k_0]
    exact if_neg (by decide)
  unfold Afn
  rw [iter_s e]
  exact h f fb V' (by omega) (by omega) w2
theorem A_open6 (hp : yk V0 n p = 91) (h : ErQ b V0 lw R 5 p Q) : AQ n b V0 lw R base p 6 W c e Q := fun fa fb V h1 h2 hl => by
  obtain ⟨f, rfl⟩ : ∃ f, fa = f + 1 := ⟨fa - 1, by omega⟩
  have w1 : fX7_opens (Wd b V lw R) (some (b + 258)) (14 : Int32) = _ := y_opens6 (b := b) (lw := lw) (R := R) hl (k := 14)
  have e : fX7_readsFactor_L0 (some (b + 258)) (Wd b V lw R) = some (.inr (.inr (I 0, Wd b (up V 258 20 (-1000 * 5 - (p : Int))) lw R))) := by
    unfold fX7_readsFactor_L0
    rw [on258, y_hr hl, Option.bind_some, hp, k_91, if_pos rfl, on258, w1, Option.bind_some, k_0]
    exact if_pos rfl
  unfold Afn
  rw [iter_r e]
  refine h (up V 258 20 (-1000 * 5 - (p : Int))) (fun q k hq => ?_) ?_
  · rw [up_o (by omega)]
    exact hl.fr q k hq
  · rw [up_s]
    rfl
theorem A_stop (hp : yk V0 n p ≠ 91) (hl : LSt n V0 V p o W c e) : fX7_readsFactor_L0 (some (b + 258)) (Wd b V lw R) = some (.inr (.inl (Wd b V lw R))) := by
  have tb := yk_b V0 n p
  unfold fX7_readsFactor_L0
  rw [on258, y_hr hl, Option.bind_some, k_91, if_neg (I_ne (by omega) (by omega) hp)]
/-- a number -/
theorem A_num (hp : isDg (yk V0 n) p) (hd : numD (yk V0 n) p 5 ≠ 6) (h : BQ n b V0 lw R base (p + numD (yk V0 n) p 5) o W (c ++ [(0, (numV (yk V0 n) p (numD (yk V0 n) p 5)).toNat)]) e Q) : AQ n b V0 lw R base p o W c e Q := fun fa fb V h1 h2 hl => by
  obtain ⟨f, rfl⟩ : ∃ f, fa = f + 1 := ⟨fa - 1, by omega⟩
  have hD := numD_le (yk V0 n) p 5
  have d1 : numD (yk V0 n) p 5 ≠ 0 := fun q => by
    have := numD_no (T := yk V0 n) (p := p) (dg := 5) (by omega)
    rw [q] at this
    exact this hp
  have vb := numV_6 (T := yk V0 n) (p := p) (k := numD (yk V0 n) p 5) (by omega) fun i hi => numD_dg hi
  obtain ⟨V1, w1, _, _, w2⟩ := y_number (b := b) (lw := lw) (R := R) hl
  obtain ⟨w3, w4⟩ := w2 hd
  rw [if_neg hd] at w1
  have cl := w3.cl
  have pn := w3.pn
  have nn := w3.nn
  obtain ⟨x, hx⟩ : ∃ x : Cd, x = (0, (numV (yk V0 n) p (numD (yk V0 n) p 5)).toNat) := ⟨_, rfl⟩
  have nt : fX7_notes (Wd b V1 lw R) (some (b + 258)) (I 0) (I (numV (yk V0 n) p (numD (yk V0 n) p 5))) = some (Wd b (up (up V1 273 c.length (enc x)) 258 23 ((c.length : Int) + 1)) lw R) := (by
    have := y_notes (b := b) (lw := lw) (R := R) (x := x) w3.cm (by omega)
    rw [show (x.1 : Int) = 0 by rw [hx]; rfl] at this
    rw [show (x.2 : Int) = numV (yk V0 n) p (numD (yk V0 n) p 5) from by
      rw [hx]
      show (((numV (yk V0 n) p (numD (yk V0 n) p 5)).toNat : Nat) : Int) = _
      omega] at this
    exact this)
  have hk : okC x := by
    rw [hx]
    exact ⟨Nat.zero_le _, by show (numV (yk V0 n) p (numD (yk V0 n) p 5)).toNat < 1048576; omega⟩
  rw [← hx] at h
  unfold Afn
  have tb := yk_b V0 n p
  rw [iter_r (A_stop (by unfold isDg at hp; omega) hl)]
  have go : ∀ (m : Hp), some (I 1, m) = some (I 1, m) := fun m => rfl
  simp only [Option.bind_some, on258, y_dg hl, bi_t hp, k_0, if_neg (show ¬ I 1 = I 0 by decide), w1, gI258_21, w4, nt, k_1]
  refine h fb _ (by omega) (w3.to (fun q k hq => by rw [up_o (by omega), up_o (by omega)]) ?_ ?_ ?_ ?_ ?_ ?_ w3.wk (wk_a w3.ck hk) w3.wl (by rw [List.length_append, List.length_singleton]; omega) w3.pn w3.oo)
  · simp (disch := omega) only [up_k, up_r, w3.pl]
  · simp (disch := omega) only [up_k, up_r, w3.op]
  · simp (disch := omega) only [up_k, up_r, w3.wa]
  · rw [up_s, List.length_append, List.length_singleton]
    omega
  · exact WAt_c W (fun i hi => by simp (disch := omega) only [up_r]) w3.ww
  · exact CAt_app (CAt_c (fun i hi => by simp (disch := omega) only [up_k, up_r]) w3.cc) (by simp (disch := omega) only [up_s, up_r])
theorem A_num6 (hp : isDg (yk V0 n) p) (hd : numD (yk V0 n) p 5 = 6) (h : ErQ b V0 lw R 2 (p + 5) Q) : AQ n b V0 lw R base p o W c e Q := fun fa fb V h1 h2 hl => by
  obtain ⟨f, rfl⟩ : ∃ f, fa = f + 1 := ⟨fa - 1, by omega⟩
  obtain ⟨V1, w1, w2, w3, _⟩ := y_number (b := b) (lw := lw) (R := R) hl
  rw [if_pos hd] at w1
  unfold Afn
  rw [iter_r (A_stop (by unfold isDg at hp; omega) hl)]
  simp only [Option.bind_some, on258, y_dg hl, bi_t hp, k_0, if_neg (show ¬ I 1 = I 0 by decide), w1, ↓reduceIte]
  exact h V1 w2 (w3 hd)
/-- a letter -/
theorem A_let (hp : yk V0 n p ≠ 91) (hd : ¬ isDg (yk V0 n) p) (hl0 : ltOf (yk V0 n p) ≠ -1) (h : BQ n b V0 lw R base (p + 1) o W (c ++ [(1, (ltOf (yk V0 n p)).toNat)]) e Q) : AQ n b V0 lw R base p o W c e Q := fun fa fb V h1 h2 hl => by
  obtain ⟨f, rfl⟩ : ∃ f, fa = f + 1 := ⟨fa - 1, by omega⟩
  have tb := yk_b V0 n p
  have lb := ltOf_b (yk V0 n p)
  have lt : p < n := hl.lt (fun q => hl0 (by rw [q]; rfl))
  have cl := hl.cl
  have wl := hl.wl
  have nn := hl.nn
  obtain ⟨x, hx⟩ : ∃ x : Cd, x = (1, (ltOf (yk V0 n p)).toNat) := ⟨_, rfl⟩
  have nt : fX7_notes (Wd b V lw R) (some (b + 258)) (I 1) (I (ltOf (yk V0 n p))) = some (Wd b (up (up V 273 c.length (enc x)) 258 23 ((c.length : Int) + 1)) lw R) := (by
    have := y_notes (b := b) (lw := lw) (R := R) (x := x) hl.cm (by omega)
    rw [show (x.1 : Int) = 1 by rw [hx]; rfl] at this
    rw [show (x.2 : Int) = ltOf (yk V0 n p) from by
      rw [hx]
      show (((ltOf (yk V0 n p)).toNat : Nat) : Int) = _
      omega] at this
    exact this)
  have hk : okC x := by
    rw [hx]
    exact ⟨show 1 ≤ 14 by decide, by show (ltOf (yk V0 n p)).toNat < 1048576; omega⟩
  rw [← hx] at h
  unfold Afn
  rw [iter_r (A_stop hp hl)]
  simp only [Option.bind_some, on258, y_dg hl, bi_f hd, k_0, ↓reduceIte, y_hr hl, y_lt tb, k_1, I_neg, if_neg (I_ne (x := ltOf (yk V0 n p)) (y := -1) (by omega) (by omega) hl0), nt, gI258_18, up_k (show (18 : Nat) ≠ 23 by omega), up_r (show 258 ≠ 273 by omega), hl.pl, I_add, pI258_18, if_neg (show ¬ I 1 = I 0 by decide)]
  refine h fb _ (by omega) (hl.to (fun q k hq => by rw [up_o (by omega), up_o (by omega), up_o (by omega)]) ?_ ?_ ?_ ?_ ?_ ?_ hl.wk (wk_a hl.ck hk) (by omega) (by rw [List.length_append, List.length_singleton]; omega) (by omega) hl.oo)
  · rw [up_s]
    omega
  · simp (disch := omega) only [up_k, up_r, hl.op]
  · simp (disch := omega) only [up_k, up_r, hl.wa]
  · rw [up_k (by omega), up_s, List.length_append, List.length_singleton]
    omega
  · exact WAt_c W (fun i hi => by simp (disch := omega) only [up_r]) hl.ww
  · exact CAt_app (CAt_c (fun i hi => by simp (disch := omega) only [up_k, up_r]) hl.cc) (by simp (disch := omega) only [up_s, up_r])
theorem A_bad (hp : yk V0 n p ≠ 91) (hd : ¬ isDg (yk V0 n) p) (hl0 : ltOf (yk V0 n p) = -1) (h : ErQ b V0 lw R 1 p Q) : AQ n b V0 lw R base p o W c e Q := fun fa fb V h1 h2 hl => by
  obtain ⟨f, rfl⟩ : ∃ f, fa = f + 1 := ⟨fa - 1, by omega⟩
  have tb := yk_b V0 n p
  unfold Afn
  rw [iter_r (A_stop hp hl)]
  simp only [Option.bind_some, on258, y_dg hl, bi_f hd, k_0, ↓reduceIte, y_hr hl, y_lt tb, hl0, k_1, I_neg, gI258_18, hl.pl, y_wrong, z_0]
  refine h _ (fun q k hq => ?_) (by rw [up_s]; rfl)
  rw [up_o (by omega)]
  exact hl.fr q k hq
end YA
