/-! LAW: how the reference reads sums, the steps. No JVM here. -/
set_option maxRecDepth 100000
set_option linter.unusedVariables false
set_option linter.unusedSimpArgs false
abbrev clo (a : Nat) (t : Int) : Prop := (4 ≤ t ∧ t ≤ 6) ∨ (a = 1 ∧ (t = 2 ∨ t = 3))
def offs (M : List Cd) : List Cd := M.map fun x => (x.1, 0)
section YC
variable {b : Nat} {V V0 V' : Vw} {lw : Option Nat} {R : Hp} {n p o e e' v op a : Nat} {W c : List Cd} {x : Cd} {q w t : Int}
theorem I_F {x y : Int} (h1 : -1 ≤ x ∧ x ≤ 300) (h2 : -1 ≤ y ∧ y ≤ 300) (h : x ≠ y) : (I x = I y) = False := eq_false (by rw [I_inj (by omega) (by omega) (by omega) (by omega)]; exact h)
theorem I_T {x y : Int} (h : x = y) : (I x = I y) = True := by rw [h]; exact eq_true rfl
theorem I_ne {x y : Int} (h1 : -1 ≤ x ∧ x ≤ 300) (h2 : -1 ≤ y ∧ y ≤ 300) (h : x ≠ y) : ¬ I x = I y := of_eq_false (I_F h1 h2 h)
theorem I_leY {x y : Int} (h1 : -1 ≤ x ∧ x ≤ 3000) (h2 : -1 ≤ y ∧ y ≤ 3000) (h : x ≤ y) : I x ≤ I y := by rw [I_le (by omega) (by omega) (by omega) (by omega)]; exact h
theorem I_leN {x y : Int} (h1 : -1 ≤ x ∧ x ≤ 3000) (h2 : -1 ≤ y ∧ y ≤ 3000) (h : ¬ x ≤ y) : ¬ I x ≤ I y := by rw [I_le (by omega) (by omega) (by omega) (by omega)]; exact h
theorem I_ltY {x y : Int} (h1 : -1 ≤ x ∧ x ≤ 3000) (h2 : -1 ≤ y ∧ y ≤ 3000) (h : x < y) : I x < I y := by rw [I_lt (by omega) (by omega) (by omega) (by omega)]; exact h
theorem I_ltN {x y : Int} (h1 : -1 ≤ x ∧ x ≤ 3000) (h2 : -1 ≤ y ∧ y ≤ 3000) (h : ¬ x < y) : ¬ I x < I y := by rw [I_lt (by omega) (by omega) (by omega) (by omega)]; exact h
theorem y_cl0 (h : LSt n V0 V p o W c e) (ha : a ≤ 1) (ht : ¬ clo a (tpW W)) : fX7_closesSums_L0 (some (b + 258)) (I (a : Int)) (Wd b V lw R) = some (.inr (Wd b V lw R)) := by
  have tb := tpW_b h
  unfold fX7_closesSums_L0
  rw [on258, y_top h, Option.bind_some, k_4]
  by_cases c4 : tpW W < 4
  · rw [if_pos (I_ltY (by omega) (by omega) c4)]
    by_cases c0 : a = 0
    · rw [k_0, if_pos (by rw [c0]; rfl)]
    · have f0 : (I (a : Int) = I 0) = False := I_F (by omega) (by omega) (by omega)
      have f2 : (I (tpW W) = I 2) = False := I_F (by omega) (by omega) (by omega)
      have f3 : (I (tpW W) = I 3) = False := I_F (by omega) (by omega) (by omega)
      simp only [k_0, k_2, k_3, f0, f2, f3, ↓reduceIte, on258, y_top h, Option.bind_some]
  · rw [if_neg (I_ltN (by omega) (by omega) c4), Option.bind_some, k_6, if_neg (I_leN (by omega) (by omega) (by omega))]
    by_cases c0 : a = 0
    · rw [k_0, if_pos (by rw [c0]; rfl)]
      rfl
    · have f0 : (I (a : Int) = I 0) = False := I_F (by omega) (by omega) (by omega)
      have f2 : (I (tpW W) = I 2) = False := I_F (by omega) (by omega) (by omega)
      have f3 : (I (tpW W) = I 3) = False := I_F (by omega) (by omega) (by omega)
      simp only [k_0, k_2, k_3, f0, f2, f3, ↓reduceIte, on258, y_top h, Option.bind_some]
theorem y_cl1 (h : LSt n V0 V p o (x :: W) c e) (ha : a ≤ 1) (ht : clo a x.1) : ∃ V', fX7_closesSums_L0 (some (b + 258)) (I (a : Int)) (Wd b V lw R) = some (.inl (Wd b V' lw R)) ∧ LSt n V0 V' p o W (c ++ [(x.1, 0)]) e := by
  obtain ⟨V', w1, w2, w3, w4⟩ := y_noteTop (b := b) (lw := lw) (R := R) h (by omega)
  refine ⟨_, ?_, (w4 0 (by omega)).2⟩
  have wl : hp_pI (Wd b V' lw R) (some (b + 258)) 6 24 (I (((x :: W).length : Nat) : Int) - I 1) = some (Wd b (up V' 258 24 (W.length : Int)) lw R) := by
    rw [I_sub, show (((x :: W).length : Nat) : Int) - 1 = (W.length : Int) by simp, pI258_24]
  have tp : fX7_waitTop (Wd b V lw R) (some (b + 258)) = some (I (x.1 : Int)) := y_top h
  unfold fX7_closesSums_L0
  rw [on258, tp, Option.bind_some, k_4]
  by_cases c4 : (x.1 : Int) < 4
  · have f0 : (I (a : Int) = I 0) = False := I_F (by omega) (by omega) (by omega)
    rw [if_pos (I_ltY (by omega) (by omega) c4)]
    by_cases c2 : (x.1 : Int) = 2
    · have f2 : (I (x.1 : Int) = I 2) = True := I_T c2
      simp only [k_0, k_1, k_2, k_3, f0, f2, ↓reduceIte, on258, tp, Option.bind_some, w1, gI258_24, w2, wl]
    · have f2 : (I (x.1 : Int) = I 2) = False := I_F (by omega) (by omega) (by omega)
      have f3 : (I (x.1 : Int) = I 3) = True := I_T (by omega)
      simp only [k_0, k_1, k_2, k_3, f0, f2, f3, ↓reduceIte, on258, tp, Option.bind_some, w1, gI258_24, w2, wl]
  · rw [if_neg (I_ltN (by omega) (by omega) c4), Option.bind_some, k_6, if_pos (I_leY (by omega) (by omega) (by omega))]
    simp only [k_0, k_1, k_2, k_3, ↓reduceIte, on258, tp, Option.bind_some, w1, gI258_24, w2, wl]
theorem y_clL (ha : a ≤ 1) (ht : ¬ clo a (tpW W)) : ∀ (M : List Cd) (c : List Cd) (V : Vw) (fu : Nat), LSt n V0 V p o (M ++ W) c e → (∀ x ∈ M, clo a x.1) → M.length < fu → ∃ V', iter (fX7_closesSums_L0 (some (b + 258)) (I (a : Int))) fu (Wd b V lw R) = some (Wd b V' lw R) ∧ LSt n V0 V' p o W (c ++ offs M) e
  | [], c, V, fu, h, _, hf => by
    obtain ⟨f, rfl⟩ : ∃ f, fu = f + 1 := ⟨fu - 1, by simp only [List.length_nil] at hf; omega⟩
    refine ⟨V, iter_r (y_cl0 h ha ht), ?_⟩
    show LSt n V0 V p o W (c ++ []) e
    rw [List.append_nil]
    exact h
  | x :: M, c, V, fu, h, hM, hf => by
    rw [List.length_cons] at hf
    obtain ⟨f, rfl⟩ : ∃ f, fu = f + 1 := ⟨fu - 1, by omega⟩
    obtain ⟨V1, w1, w2⟩ := y_cl1 (b := b) (lw := lw) (R := R) h ha (hM x (by simp))
    obtain ⟨V2, w3, w4⟩ := y_clL ha ht M _ V1 f w2 (wk_t hM) (by omega)
    refine ⟨V2, ?_, ?_⟩
    · rw [iter_s w1, w3]
    · rw [List.append_assoc] at w4
      exact w4
/-- closes sums -/
theorem y_closes (ha : a ≤ 1) (ht : ¬ clo a (tpW W)) {M : List Cd} (h : LSt n V0 V p o (M ++ W) c e) (hM : ∀ x ∈ M, clo a x.1) : ∃ V', fX7_closesSums (Wd b V lw R) (some (b + 258)) (I (a : Int)) = some (Wd b V' lw R) ∧ LSt n V0 V' p o W (c ++ offs M) e := by
  have wl := h.wl
  have pn := h.pn
  have nn := h.nn
  rw [List.length_append] at wl
  obtain ⟨V', w1, w2⟩ := y_clL (b := b) (lw := lw) (R := R) ha ht M c V FUEL h hM (by unfold FUEL; omega)
  refine ⟨V', ?_, w2⟩
  unfold fX7_closesSums
  rw [w1]
  rfl
theorem WAt_rng {f : Nat → Int} {Wb : List Cd} : ∀ (M : List Cd), WAt f (M ++ Wb) → ∀ i, Wb.length ≤ i → i < (M ++ Wb).length → ∃ x, x ∈ M ∧ f i = enc x
  | [], _, i, h1, h2 => absurd h2 (Nat.not_lt.mpr h1)
  | x :: M, h, i, h1, h2 => by
    by_cases c : i = (M ++ Wb).length
    · exact ⟨x, by simp, by rw [c]; exact h.1⟩
    · obtain ⟨y, y1, y2⟩ := WAt_rng M h.2 i h1 (by simp only [List.cons_append, List.length_cons] at h2; omega)
      exact ⟨y, List.mem_cons_of_mem _ y1, y2⟩
theorem y_has0 (h : LSt n V0 V p o W c e) {k i : Nat} (hk : k < W.length) (hx : ∃ x, x ∈ W ∧ V 274 k = enc x ∧ x.1 ≠ 14) : fX7_hasOpenSum_L2 (Wd b V lw R) (some (b + 258)) (I (k : Int)) = some (.inl (I ((k + 1 : Nat) : Int))) := by
  have wl := h.wl
  have pn := h.pn
  have nn := h.nn
  obtain ⟨x, x1, x2, x3⟩ := hx
  have ok := h.wk x x1
  have f : (I (x.1 : Int) = I 14) = False := I_F (by omega) (by omega) (by omega)
  unfold fX7_hasOpenSum_L2
  rw [gI258_24, Option.bind_some, h.wa, if_neg (I_leN (by omega) (by omega) (by omega)), gR258_28, Option.bind_some, rA274 (by omega) (by omega), Option.bind_some, tn, x2, k_UN, enc_op ok.1 ok.2, show (14 : Int32) = I 14 from rfl, if_neg (of_eq_false f), k_1, I_add]
  rfl
theorem y_has1 (h : LSt n V0 V p o W c e) {k i : Nat} (hk : k < W.length) (hx : ∃ x, x ∈ W ∧ V 274 k = enc x ∧ x.1 = 14) : fX7_hasOpenSum_L2 (Wd b V lw R) (some (b + 258)) (I (k : Int)) = some (.inr (.inr (I 1))) := by
  have wl := h.wl
  have pn := h.pn
  have nn := h.nn
  obtain ⟨x, x1, x2, x3⟩ := hx
  have ok := h.wk x x1
  have f : (I (x.1 : Int) = I 14) = True := I_T (by omega)
  unfold fX7_hasOpenSum_L2
  rw [gI258_24, Option.bind_some, h.wa, if_neg (I_leN (by omega) (by omega) (by omega)), gR258_28, Option.bind_some, rA274 (by omega) (by omega), Option.bind_some, tn, x2, k_UN, enc_op ok.1 ok.2, show (14 : Int32) = I 14 from rfl, if_pos (of_eq_true f), k_1]
theorem y_has9 (h : LSt n V0 V p o W c e) : fX7_hasOpenSum_L2 (Wd b V lw R) (some (b + 258)) (I (W.length : Int)) = some (.inr (.inl ())) := by
  have wl := h.wl
  have pn := h.pn
  have nn := h.nn
  unfold fX7_hasOpenSum_L2
  rw [gI258_24, Option.bind_some, h.wa, if_pos (I_leY (by omega) (by omega) (by omega))]
theorem y_hasN {M Wb : List Cd} (h : LSt n V0 V p o (M ++ Wb) c e) (hM : ∀ x ∈ M, x.1 ≠ 14) : fX7_hasOpenSum (Wd b V lw R) (some (b + 258)) (I (Wb.length : Int)) = some (I 0) := by
  have wl := h.wl
  have pn := h.pn
  have nn := h.nn
  have L : iter (fX7_hasOpenSum_L2 (Wd b V lw R) (some (b + 258))) FUEL (I (Wb.length : Int)) = some (.inl ()) := by
    have := iter_det (b := fX7_hasOpenSum_L2 (Wd b V lw R) (some (b + 258))) (fun i => I ((Wb.length + i : Nat) : Int)) M.length (.inl ()) (by rw [List.length_append] at wl; omega) (fun i hi => y_has0 (i := 0) h (by rw [List.length_append]; omega) (by
      obtain ⟨x, x1, x2⟩ := WAt_rng M h.ww (Wb.length + i) (by omega) (by rw [List.length_append]; omega)
      exact ⟨x, List.mem_append_left _ x1, x2, hM x x1⟩)) (by
      have := y_has9 (b := b) (lw := lw) (R := R) h
      rw [List.length_append, Nat.add_comm M.length] at this
      exact this)
    exact this
  unfold fX7_hasOpenSum
  rw [L]
  rfl
theorem y_hasY {M Wb : List Cd} {y : Cd} (h : LSt n V0 V p o (M ++ y :: Wb) c e) (hM : ∀ x ∈ M, x.1 ≠ 14) (hy : y.1 = 14) {base : Nat} (hb : base ≤ Wb.length) : fX7_hasOpenSum (Wd b V lw R) (some (b + 258)) (I (base : Int)) = some (I 1) := by
  have wl := h.wl
  have pn := h.pn
  have nn := h.nn
  have ll : (M ++ y :: Wb).length = M.length + Wb.length + 1 := by simp [Nat.add_assoc]
  have hw : WAt (V 274) (y :: Wb) := by
    have : ∀ M : List Cd, WAt (V 274) (M ++ y :: Wb) → WAt (V 274) (y :: Wb) := fun M => by
      induction M with
      | nil => exact id
      | cons x M ih => exact fun q => ih q.2
    exact this M h.ww
  have go : ∀ (d k fu : Nat), k + d = Wb.length → d < fu → iter (fX7_hasOpenSum_L2 (Wd b V lw R) (some (b + 258))) fu (I (k : Int)) = some (.inr (I 1)) := fun d => by
    induction d with
    | zero =>
      intro k fu h1 h2
      obtain ⟨f, rfl⟩ : ∃ f, fu = f + 1 := ⟨fu - 1, by omega⟩
      refine iter_r (y_has1 (i := 0) h (by omega) ⟨y, by simp, ?_, hy⟩)
      rw [show k = Wb.length by omega]
      exact hw.1
    | succ d ih =>
      intro k fu h1 h2
      obtain ⟨f, rfl⟩ : ∃ f, fu = f + 1 := ⟨fu - 1, by omega⟩
      obtain ⟨x, x1, x2⟩ := WAt_rng (Wb := []) (M ++ y :: Wb) (by rw [List.append_nil]; exact h.ww) k (by simp) (by rw [List.append_nil]; omega)
      by_cases cx : x.1 = 14
      · exact iter_r (y_has1 (i := 0) h (by omega) ⟨x, x1, x2, cx⟩)
      · rw [iter_s (y_has0 (i := 0) h (by omega) ⟨x, x1, x2, cx⟩)]
        exact ih (k + 1) f (by omega) (by omega)
  unfold fX7_hasOpenSum
  rw [go (Wb.length - base) base FUEL (by omega) (by unfold FUEL; omega)]
  rfl
/-- a number is read -/
theorem y_numS (h : LSt n V0 V p o W c e) {k : Nat} {v : Int} (hv : V 258 21 = v) (vb : 0 ≤ v ∧ v ≤ 1000000) (hd : isDg (yk V0 n) p) {f : Nat} (hf : f + k = p) (hk : k < 5) : fX7_readsNumber_L10 (some (b + 258)) (I (f : Int)) (Wd b V lw R) = some (.inl (Wd b (up (up V 258 21 (10 * v + yk V0 n p - 48)) 258 18 ((p : Int) + 1)) lw R)) ∧ LSt n V0 (up (up V 258 21 (10 * v + yk V0 n p - 48)) 258 18 ((p : Int) + 1)) (p + 1) o W c (e + 1) := by
  have pn := h.pn
  have nn := h.nn
  have wl := h.wl
  have cl := h.cl
  have tb := yk_b V0 n p
  have lt := h.lt (by omega)
  constructor
  · unfold fX7_readsNumber_L10
    rw [on258, y_dg h, Option.bind_some, bi_t hd, k_0, if_neg (I_ne (by omega) (by omega) (by omega)), gI258_18, Option.bind_some, h.pl, k_5, I_add, if_neg (I_ne (by omega) (by omega) (by omega)), gI258_21, hv, Option.bind_some, on258, y_hr h, Option.bind_some, k_10, k_48, I_mul, I_add, I_sub, pI258_21, Option.bind_some, gI258_18, up_k (by omega), h.pl, Option.bind_some, k_1, I_add, pI258_18]
    rfl
  · refine h.to (fun q k hq => by rw [up_o (by omega), up_o (by omega)]) (by rw [up_s]; omega) ?_ ?_ ?_ ?_ ?_ h.wk h.ck (by omega) (by omega) (by omega) h.oo
    · simp (disch := omega) only [up_k, h.op]
    · simp (disch := omega) only [up_k, h.wa]
    · simp (disch := omega) only [up_k, h.cm]
    · exact WAt_c W (fun i hi => by simp (disch := omega) only [up_r]) h.ww
    · exact CAt_c (fun i hi => by simp (disch := omega) only [up_r]) h.cc
theorem y_numL (h : LSt n V0 V p o W c e) : ∀ (d k : Nat) (V : Vw) (fu : Nat), LSt n V0 V (p + k) o W c (e + k) → V 258 21 = numV (yk V0 n) p k → d + k = numD (yk V0 n) p 5 → d < fu → k ≤ 5 → (∃ V', iter (fX7_readsNumber_L10 (some (b + 258)) (I (p : Int))) fu (Wd b V lw R) = (if numD (yk V0 n) p 5 = 6 then some (.inr (I 0, Wd b V' lw R)) else some (.inl (Wd b V' lw R))) ∧ (∀ q k, ¬ yLc q k → V' q k = V0 q k) ∧ (numD (yk V0 n) p 5 = 6 → V' 258 20 = -1000 * 2 - ((p + 5 : Nat) : Int)) ∧ (numD (yk V0 n) p 5 ≠ 6 → LSt n V0 V' (p + numD (yk V0 n) p 5) o W c (e + numD (yk V0 n) p 5) ∧ V' 258 21 = numV (yk V0 n) p (numD (yk V0 n) p 5)))
  | 0, k, V, fu, h1, h2, h3, h4, h5 => by
    have hD := numD_le (yk V0 n) p 5
    have pn := h1.pn
    have nn := h1.nn
    obtain ⟨f, rfl⟩ : ∃ f, fu = f + 1 := ⟨fu - 1, by omega⟩
    rw [Nat.zero_add] at h3
    by_cases c6 : numD (yk V0 n) p 5 = 6
    · exfalso
      omega
    · have nd : ¬ isDg (yk V0 n) (p + k) := by
        rw [h3]
        exact numD_no (by omega)
      refine ⟨V, ?_, h1.fr, fun q => absurd q c6, fun _ => by rw [← h3]; exact ⟨h1, h2⟩⟩
      rw [if_neg c6]
      refine iter_r ?_
      unfold fX7_readsNumber_L10
      rw [on258, y_dg h1, Option.bind_some, bi_f nd, k_0, if_pos rfl]
  | d + 1, k, V, fu, h1, h2, h3, h4, h5 => by
    have hD := numD_le (yk V0 n) p 5
    have pn := h1.pn
    have nn := h1.nn
    obtain ⟨f, rfl⟩ : ∃ f, fu = f + 1 := ⟨fu - 1, by omega⟩
    have dg : isDg (yk V0 n) (p + k) := numD_dg (dg := 5) (by omega)
    have vb := numV_6 (T := yk V0 n) (p := p) (k := k) (by omega) fun i hi => numD_dg (dg := 5) (by omega)
    by_cases c5 : k = 5
    · subst c5
      have c6 : numD (yk V0 n) p 5 = 6 := by omega
      refine ⟨up V 258 20 (-1000 * 2 - ((p + 5 : Nat) : Int)), ?_, fun q k hq => by rw [up_o (by omega)]; exact h1.fr q k hq, fun _ => up_s, fun q => absurd c6 q⟩
      rw [if_pos c6]
      refine iter_r ?_
      unfold fX7_readsNumber_L10
      rw [on258, y_dg h1, Option.bind_some, bi_t dg, k_0, if_neg (I_ne (by omega) (by omega) (by omega)), gI258_18, Option.bind_some, h1.pl, k_5, I_add, if_pos (by rw [show ((p + 5 : Nat) : Int) = (p : Int) + 5 by omega]), Option.bind_some, on258, k_2, y_wrong, Option.bind_some]
      rfl
    · obtain ⟨w1, w2⟩ := y_numS (b := b) (lw := lw) (R := R) h1 h2 vb dg (f := p) rfl (by omega)
      obtain ⟨V', w3⟩ := y_numL h d (k + 1) _ f w2 (by rw [up_k (by omega), up_s, numV]) (by omega) (by omega) (by omega)
      refine ⟨V', ?_, w3.2⟩
      rw [iter_s w1]
      exact w3.1
theorem y_number (h : LSt n V0 V p o W c e) : ∃ V', fX7_readsNumber (Wd b V lw R) (some (b + 258)) = (if numD (yk V0 n) p 5 = 6 then some (I 0, Wd b V' lw R) else some (I 1, Wd b V' lw R)) ∧ (∀ q k, ¬ yLc q k → V' q k = V0 q k) ∧ (numD (yk V0 n) p 5 = 6 → V' 258 20 = -1000 * 2 - ((p + 5 : Nat) : Int)) ∧ (numD (yk V0 n) p 5 ≠ 6 → LSt n V0 V' (p + numD (yk V0 n) p 5) o W c (e + numD (yk V0 n) p 5) ∧ V' 258 21 = numV (yk V0 n) p (numD (yk V0 n) p 5)) := by
  have hD := numD_le (yk V0 n) p 5
  have h0 : LSt n V0 (up V 258 21 0) p o W c e := by
    refine h.to (fun q k hq => by rw [up_o (by omega)]) ?_ ?_ ?_ ?_ ?_ ?_ h.wk h.ck h.wl h.cl h.pn h.oo
    · simp (disch := omega) only [up_k, h.pl]
    · simp (disch := omega) only [up_k, h.op]
    · simp (disch := omega) only [up_k, h.wa]
    · simp (disch := omega) only [up_k, h.cm]
    · exact WAt_c W (fun i hi => by simp (disch := omega) only [up_r]) h.ww
    · exact CAt_c (fun i hi => by simp (disch := omega) only [up_r]) h.cc
  obtain ⟨V', w1, w2⟩ := y_numL (b := b) (lw := lw) (R := R) h (numD (yk V0 n) p 5) 0 (up V 258 21 0) FUEL h0 up_s (by omega) (by unfold FUEL; omega) (by omega)
  refine ⟨V', ?_, w2⟩
  unfold fX7_readsNumber
  rw [gI258_18, h.pl, Option.bind_some, k_0, pI258_21, Option.bind_some, w1]
  by_cases c6 : numD (yk V0 n) p 5 = 6
  · rw [if_pos c6, if_pos c6]
    rfl
  · rw [if_neg c6, if_neg c6]
    rfl
end YC
