/-! LAW: how the reference reads conditions, the steps. No JVM here. -/
set_option maxRecDepth 100000
set_option linter.unusedVariables false
set_option linter.unusedSimpArgs false
def K92 (b0 : Option Nat) : (Hp ⊕ (Unit ⊕ (Hp ⊕ (Int32 × Hp)))) → Option (Unit ⊕ (Hp ⊕ (Int32 × Hp))) := fun r25 =>
  (
  match r25 with
  | .inl m38 =>
    (hp_on m38 b0 6 (fX7_here m38 b0)).bind fun v39 =>
    ((if v39 = (38 : Int32) then
      some (.inl ())
    else
    (hp_on m38 b0 6 (fX7_here m38 b0)).bind fun v51 =>
    if v51 = (124 : Int32) then
      some (.inl ())
    else
    (hp_gI m38 b0 6 18).bind fun v53 =>
    (hp_on m38 b0 6 (fX7_wrongAt m38 b0 (1 : Int32) v53)).bind fun (v54, m55) =>
    (hp_z v54).bind fun z56 =>
    some (.inr (.inr (.inr (z56, m55)))) : Option (Unit ⊕ (Unit ⊕ (Hp ⊕ (Int32 × Hp)))))).bind fun p40 =>
    (
    match p40 with
    | .inl _ =>
      (hp_on m38 b0 6 (fX7_here m38 b0)).bind fun v41 =>
      ((if v41 = (124 : Int32) then
        some (1 : Int32)
      else
      some (0 : Int32) : Option Int32)).bind fun v42 =>
      (hp_on m38 b0 6 (fX7_lands m38 b0 v42)).bind fun m44 =>
      (hp_on m44 b0 6 (fX7_here m44 b0)).bind fun v45 =>
      if v45 = (38 : Int32) then
        (hp_on m44 b0 6 (fX7_jumps m44 b0 (11 : Int32))).bind fun m48 =>
        some (.inr (.inl m48))
      else
      (hp_on m44 b0 6 (fX7_jumps m44 b0 (12 : Int32))).bind fun m47 =>
      some (.inr (.inl m47))
    | .inr o => some o
    )
  | .inr o => some o
  )
/-- after a piece (its nots ended): what is behind it, then on -/
def Efn (b : Nat) (z : Option (Int32 × Hp)) (fe fp : Nat) (m : Hp) : Option (Int32 × Hp) := match (iter (fX7_readsCondition_L92 (some (b + 258))) fe m).bind (K92 (some (b + 258))) with
  | none => none
  | some (.inl _) => z
  | some (.inr (.inl m')) => iter (fX7_readsCondition_L40 (some (b + 258))) fp m'
  | some (.inr (.inr r)) => some r
def Qfn (b : Nat) (z : Option (Int32 × Hp)) (fq fe fp : Nat) (m : Hp) : Option (Int32 × Hp) := (iter (fX7_endsPiece_L0 (some (b + 258))) fq m).bind (Efn b z fe fp)
def PQ (n b : Nat) (V0 : Vw) (lw : Option Nat) (R : Hp) (p o : Nat) (W c : List Cd) (e : Nat) (Q : Option (Int32 × Hp) → Prop) : Prop := ∀ fp V, n - p < fp → LSt n V0 V p o W c e → Q (iter (fX7_readsCondition_L40 (some (b + 258))) fp (Wd b V lw R))
def EQ (n b : Nat) (V0 : Vw) (lw : Option Nat) (R : Hp) (p o : Nat) (W c : List Cd) (e : Nat) (Q : Option (Int32 × Hp) → Prop) : Prop := ∀ z fe fp V, o < fe → n - p < fp → LSt n V0 V p o W c e → Q (Efn b z fe fp (Wd b V lw R))
def QQ (n b : Nat) (V0 : Vw) (lw : Option Nat) (R : Hp) (p o : Nat) (W c : List Cd) (e : Nat) (Q : Option (Int32 × Hp) → Prop) : Prop := ∀ z fq fe fp V, o < fq → o < fe → n - p < fp → LSt n V0 V p o W c e → Q (Qfn b z fq fe fp (Wd b V lw R))
def land1 (c : List Cd) (x : Cd) : List Cd := c.set x.2 ((c.getD x.2 (0, 0)).1, c.length)
def landA : List Cd → List Cd → List Cd
  | [], c => c
  | x :: M, c => landA M (land1 c x)
section YD
variable {b : Nat} {V V0 V' : Vw} {lw : Option Nat} {R : Hp} {n p o e e' v op a base s : Nat} {W c M : List Cd} {x : Cd} {q w t : Int} {Q : Option (Int32 × Hp) → Prop}
theorem land1_len : (land1 c x).length = c.length := by
  unfold land1
  rw [List.length_set]
theorem land_len : ∀ (M c : List Cd), (landA M c).length = c.length
  | [], c => rfl
  | x :: M, c => by
    rw [landA, land_len M, land1_len]
theorem CAt_set {f : Nat → Int} {k : Nat} {y : Cd} (h : CAt f c) : CAt (fun i => if i = k then enc y else f i) (c.set k y) := fun i hi => by
  rw [List.length_set] at hi
  show (if i = k then enc y else f i) = _
  rw [List.getD_eq_getElem?_getD, List.getElem?_set]
  by_cases q : i = k
  · rw [if_pos q, if_pos q.symm, if_pos (by omega)]
    rfl
  · rw [if_neg q, if_neg (fun z => q z.symm), h i hi, List.getD_eq_getElem?_getD]
theorem mem_set_ok {P : Cd → Prop} {k : Nat} {y : Cd} (h : ∀ z ∈ c, P z) (hy : P y) : ∀ z ∈ c.set k y, P z := fun z hz => by
  rcases List.mem_or_eq_of_mem_set hz with h1 | h1
  · exact h z h1
  · rw [h1]
    exact hy
abbrev jlo (a : Nat) (t : Int) : Prop := t = 11 ∨ (a = 1 ∧ t = 12)
theorem y_ld0 (h : LSt n V0 V p o W c e) (ha : a ≤ 1) (ht : ¬ jlo a (tpW W)) : fX7_lands_L0 (some (b + 258)) (I (a : Int)) (Wd b V lw R) = some (.inr (Wd b V lw R)) := by
  have tb := tpW_b h
  have f1 : (I (tpW W) = I 11) = False := I_F (by omega) (by omega) (by omega)
  unfold fX7_lands_L0
  by_cases c0 : a = 0
  · have f0 : (I (a : Int) = I 0) = True := I_T (by omega)
    simp only [on258, y_top h, Option.bind_some, k_11, k_0, f1, f0, ↓reduceIte]
  · have f0 : (I (a : Int) = I 0) = False := I_F (by omega) (by omega) (by omega)
    have f2 : (I (tpW W) = I 12) = False := I_F (by omega) (by omega) (by omega)
    simp only [on258, y_top h, Option.bind_some, k_11, k_0, k_12, f1, f0, f2, ↓reduceIte]
theorem y_ld1 (h : LSt n V0 V p o (x :: W) c e) (ha : a ≤ 1) (ht : jlo a x.1) (hx : x.2 < c.length) : ∃ V', fX7_lands_L0 (some (b + 258)) (I (a : Int)) (Wd b V lw R) = some (.inl (Wd b V' lw R)) ∧ LSt n V0 V' p o W (land1 c x) e := by
  have wl := h.wl
  have cl := h.cl
  have pn := h.pn
  have nn := h.nn
  rw [wt_0 (by omega)] at cl
  rw [List.length_cons] at wl
  have wk := h.wk x (by simp)
  have tp : fX7_waitTop (Wd b V lw R) (some (b + 258)) = some (I (x.1 : Int)) := y_top h
  have ck : okC (c.getD x.2 (0, 0)) := by
    rw [List.getD_eq_getElem?_getD, List.getElem?_eq_getElem hx]
    exact h.ck _ (List.getElem_mem hx)
  have ee : 1048576 * ((c.getD x.2 (0, 0)).1 : Int) + (c.length : Int) = enc ((c.getD x.2 (0, 0)).1, c.length) := rfl
  have e1 : (((x :: W).length : Nat) : Int) - 1 = (W.length : Int) := by simp
  have rs : V 273 x.2 = enc (c.getD x.2 (0, 0)) := h.cc x.2 hx
  refine ⟨up (up V 273 x.2 (enc ((c.getD x.2 (0, 0)).1, c.length))) 258 24 (W.length : Int), ?_, h.to (fun q k hq => by rw [up_o (by omega), up_o (by omega)]) ?_ ?_ up_s ?_ ?_ ?_ (wk_t h.wk) (mem_set_ok h.ck ⟨ck.1, show c.length < 1048576 by omega⟩) (by omega) (by rw [land1_len]; omega) pn h.oo⟩
  · have go : ∀ z : Option (Unit ⊕ (Hp ⊕ Hp)), z = some (.inl ()) → (z.bind fun p3 => (
        match p3 with
        | .inl _ =>
          (hp_gR (Wd b V lw R) (some (b + 258)) 6 28).bind fun v4 =>
          (hp_gI (Wd b V lw R) (some (b + 258)) 6 24).bind fun v5 =>
          (hp_aI (Wd b V lw R) v4 0 (v5 - (1 : Int32))).bind fun v6 =>
          (hp_gR (Wd b V lw R) (some (b + 258)) 6 27).bind fun v7 =>
          (hp_gR (Wd b V lw R) (some (b + 258)) 6 27).bind fun v8 =>
          (hp_aI (Wd b V lw R) v8 0 (jrem v6 (1048576 : Int32))).bind fun v9 =>
          (hp_gI (Wd b V lw R) (some (b + 258)) 6 23).bind fun v10 =>
          (hp_sI (Wd b V lw R) v7 0 (jrem v6 (1048576 : Int32)) (((1048576 : Int32) * (v9 / (1048576 : Int32))) + v10)).bind fun m11 =>
          (hp_gI m11 (some (b + 258)) 6 24).bind fun v12 =>
          (hp_pI m11 (some (b + 258)) 6 24 (v12 - (1 : Int32))).bind fun m13 =>
          some (.inl m13)
        | .inr o => some o) : Option (Hp ⊕ Hp)) = some (.inl (Wd b (up (up V 273 x.2 (enc ((c.getD x.2 (0, 0)).1, c.length))) 258 24 (W.length : Int)) lw R)) := fun z hz => by
      subst hz
      dsimp only [Option.bind_some]
      rw [gR258_28, Option.bind_some, gI258_24, h.wa, Option.bind_some, k_1, I_sub, e1, rA274 (by omega) (by omega), tn, h.ww.1, Option.bind_some, k_UN, enc_v wk.1 wk.2, gR258_27, Option.bind_some, Option.bind_some, rA273 (by omega) (by omega), tn, rs, Option.bind_some, enc_op ck.1 ck.2, gI258_23, h.cm, Option.bind_some, I_mul, I_add, ee, wA273 (by omega) (by omega), Option.bind_some, tn, gI258_24, up_r (by omega), h.wa, Option.bind_some, I_sub, e1, pI258_24]
      rfl
    unfold fX7_lands_L0
    rw [on258, tp, Option.bind_some]
    refine go _ ?_
    by_cases c1 : (x.1 : Int) = 11
    · rw [k_11, if_pos (by rw [c1])]
    · rw [k_11, if_neg (I_ne (by omega) (by omega) c1), k_0, if_neg (I_ne (by omega) (by omega) (by omega)), Option.bind_some, k_12, if_pos (by rw [show (x.1 : Int) = 12 by omega])]
  · simp (disch := omega) only [up_k, up_r, h.pl]
  · simp (disch := omega) only [up_k, up_r, h.op]
  · rw [up_k (by omega), up_r (by omega), h.cm, land1_len]
  · exact WAt_c W (fun i hi => by simp (disch := omega) only [up_k, up_r]) h.ww.2
  · refine CAt_c (fun i hi => ?_) (CAt_set (k := x.2) (y := ((c.getD x.2 (0, 0)).1, c.length)) h.cc)
    rw [up_r (by omega)]
    by_cases q : i = x.2
    · rw [if_pos q, q, up_s]
    · rw [if_neg q, up_k q]
theorem y_ldL (ha : a ≤ 1) (ht : ¬ jlo a (tpW W)) : ∀ (M : List Cd) (c : List Cd) (V : Vw) (fu : Nat), LSt n V0 V p o (M ++ W) c e → (∀ x ∈ M, jlo a x.1 ∧ x.2 < c.length) → M.length < fu → ∃ V', iter (fX7_lands_L0 (some (b + 258)) (I (a : Int))) fu (Wd b V lw R) = some (Wd b V' lw R) ∧ LSt n V0 V' p o W (landA M c) e
  | [], c, V, fu, h, _, hf => by
    obtain ⟨f, rfl⟩ : ∃ f, fu = f + 1 := ⟨fu - 1, by simp only [List.length_nil] at hf; omega⟩
    exact ⟨V, iter_r (y_ld0 h ha ht), h⟩
  | x :: M, c, V, fu, h, hM, hf => by
    rw [List.length_cons] at hf
    obtain ⟨f, rfl⟩ : ∃ f, fu = f + 1 := ⟨fu - 1, by omega⟩
    have hx := hM x (by simp)
    obtain ⟨V1, w1, w2⟩ := y_ld1 (b := b) (lw := lw) (R := R) h ha hx.1 hx.2
    obtain ⟨V2, w3, w4⟩ := y_ldL ha ht M _ V1 f w2 (fun y hy => by rw [land1_len]; exact hM y (List.mem_cons_of_mem _ hy)) (by omega)
    exact ⟨V2, by rw [iter_s w1, w3], w4⟩
theorem y_lands (ha : a ≤ 1) (ht : ¬ jlo a (tpW W)) (h : LSt n V0 V p o (M ++ W) c e) (hM : ∀ x ∈ M, jlo a x.1 ∧ x.2 < c.length) : ∃ V', fX7_lands (Wd b V lw R) (some (b + 258)) (I (a : Int)) = some (Wd b V' lw R) ∧ LSt n V0 V' p o W (landA M c) e := by
  have wl := h.wl
  have pn := h.pn
  have nn := h.nn
  rw [List.length_append] at wl
  obtain ⟨V', w1, w2⟩ := y_ldL (b := b) (lw := lw) (R := R) ha ht M c V FUEL h hM (by unfold FUEL; omega)
  refine ⟨V', ?_, w2⟩
  unfold fX7_lands
  rw [w1]
  rfl
/-- a jump is noted -/
theorem y_jumps (h : LSt n V0 V p o W c e) (hp : p < n) {k : Nat} (hk : k = 11 ∨ k = 12) : ∃ V', fX7_jumps (Wd b V lw R) (some (b + 258)) (I (k : Int)) = some (Wd b V' lw R) ∧ LSt n V0 V' (p + 1) o ((k, c.length) :: W) (c ++ [(k, 0)]) e := by
  have wl := h.wl
  have cl := h.cl
  have pn := h.pn
  have nn := h.nn
  have e1 : (1048576 * (k : Int)) + (c.length : Int) = enc (k, c.length) := rfl
  have cm1 : up (up V 274 W.length (enc (k, c.length))) 258 24 ((W.length : Int) + 1) 258 23 = (c.length : Int) := by simp (disch := omega) only [up_k, up_r, h.cm]
  have nt : fX7_notes (Wd b (up (up V 274 W.length (enc (k, c.length))) 258 24 ((W.length : Int) + 1)) lw R) (some (b + 258)) (I (k : Int)) (I 0) = some (Wd b (up (up (up (up V 274 W.length (enc (k, c.length))) 258 24 ((W.length : Int) + 1)) 273 c.length (enc (k, 0))) 258 23 ((c.length : Int) + 1)) lw R) := y_notes (x := (k, 0)) cm1 (by omega)
  refine ⟨up (up (up (up (up V 274 W.length (enc (k, c.length))) 258 24 ((W.length : Int) + 1)) 273 c.length (enc (k, 0))) 258 23 ((c.length : Int) + 1)) 258 18 ((p : Int) + 1), ?_, h.to (fun q k hq => by rw [up_o (by omega), up_o (by omega), up_o (by omega), up_o (by omega), up_o (by omega)]) (by rw [up_s]; omega) ?_ ?_ ?_ ⟨?_, ?_⟩ ?_ (wk_c h.wk ⟨show k ≤ 14 by omega, show c.length < 1048576 by omega⟩) (wk_a h.ck ⟨show k ≤ 14 by omega, show 0 < 1048576 by omega⟩) (by rw [List.length_cons]; omega) (by rw [wt_0 hk, List.length_append, List.length_singleton]; omega) hp h.oo⟩
  · unfold fX7_jumps
    rw [gR258_28, Option.bind_some, gI258_24, h.wa, Option.bind_some, gI258_23, h.cm, Option.bind_some, k_UN, I_mul, I_add, e1, wA274 (by omega) (by omega), Option.bind_some, tn, gI258_24, up_r (by omega), h.wa, Option.bind_some, k_1, I_add, pI258_24, Option.bind_some, on258, k_0, nt, Option.bind_some, gI258_18, up_k (by omega), up_r (by omega), up_k (by omega), up_r (by omega), h.pl, Option.bind_some, I_add, pI258_18]
    rfl
  · simp (disch := omega) only [up_k, up_r, h.op]
  · simp (disch := omega) only [up_k, up_r, up_s, List.length_cons]
    omega
  · rw [up_k (by omega), up_s, List.length_append, List.length_singleton]
    omega
  · simp (disch := omega) only [up_k, up_r, up_s]
  · exact WAt_c W (fun i hi => by simp (disch := omega) only [up_k, up_r]) h.ww
  · exact CAt_app (CAt_c (fun i hi => by simp (disch := omega) only [up_k, up_r]) h.cc) (by simp (disch := omega) only [up_s, up_r])
/-- nots end -/
theorem Q_not {v : Nat} (h : QQ n b V0 lw R p o W (c ++ [(10, 0)]) e Q) (ho : o < 6) : QQ n b V0 lw R p (o + 1) ((10, v) :: W) c e Q := fun z fq fe fp V h1 h2 h3 hl => by
  obtain ⟨f, rfl⟩ : ∃ f, fq = f + 1 := ⟨fq - 1, by omega⟩
  obtain ⟨V', w1, w2, w3, w4⟩ := y_noteTop (b := b) (lw := lw) (R := R) hl ⟨show (10 : Nat) ≠ 11 by omega, show (10 : Nat) ≠ 12 by omega⟩
  have w1 : fX7_notes (Wd b V lw R) (some (b + 258)) (I 10) (I 0) = some (Wd b V' lw R) := w1
  have tp : fX7_waitTop (Wd b V lw R) (some (b + 258)) = some (I 10) := y_top hl
  have e1 : ((((10, v) :: W : List Cd).length : Nat) : Int) - 1 = (W.length : Int) := by simp
  have e2 : ((o + 1 : Nat) : Int) - 1 = (o : Int) := by omega
  have st : fX7_endsPiece_L0 (some (b + 258)) (Wd b V lw R) = some (.inl (Wd b (up (up V' 258 24 (W.length : Int)) 258 22 (o : Int)) lw R)) := by
    unfold fX7_endsPiece_L0
    rw [on258, tp, Option.bind_some, k_10, if_pos rfl, on258, k_0, w1, Option.bind_some, gI258_24, w2, Option.bind_some, k_1, I_sub, e1, pI258_24, Option.bind_some, gI258_22, up_k (by omega), w3, Option.bind_some, I_sub, e2, pI258_22]
    rfl
  unfold Qfn
  rw [iter_s st]
  exact h z f fe fp _ (by omega) (by omega) h3 (w4 o (by omega)).1
theorem Q_end (ht : tpW W ≠ 10) (h : EQ n b V0 lw R p o W c e Q) : QQ n b V0 lw R p o W c e Q := fun z fq fe fp V h1 h2 h3 hl => by
  obtain ⟨f, rfl⟩ : ∃ f, fq = f + 1 := ⟨fq - 1, by omega⟩
  have tb := tpW_b hl
  have st : fX7_endsPiece_L0 (some (b + 258)) (Wd b V lw R) = some (.inr (Wd b V lw R)) := by
    unfold fX7_endsPiece_L0
    rw [on258, y_top hl, Option.bind_some, k_10, if_neg (I_ne (by omega) (by omega) ht)]
  unfold Qfn
  rw [iter_r st]
  exact h z fe fp V h2 h3 hl
theorem y_endsQ (m : Hp) (g : Hp → Option (Int32 × Hp)) : (fX7_endsPiece m (some (b + 258))).bind g = (iter (fX7_endsPiece_L0 (some (b + 258))) FUEL m).bind g := by
  unfold fX7_endsPiece
  cases iter (fX7_endsPiece_L0 (some (b + 258))) FUEL m <;> rfl
/-- ! and ( -/
theorem P_op {k : Nat} (hp : (yk V0 n p = 33 ∧ k = 10) ∨ (yk V0 n p = 40 ∧ k = 13)) (ho : o < 6) (h : PQ n b V0 lw R (p + 1) (o + 1) ((k, 0) :: W) c e Q) : PQ n b V0 lw R p o W c e Q := fun fp V h1 hl => by
  obtain ⟨f, rfl⟩ : ∃ f, fp = f + 1 := ⟨fp - 1, by omega⟩
  have lt := hl.lt (by omega)
  obtain ⟨V', w1, w2⟩ := y_opens (b := b) (lw := lw) (R := R) hl (by omega) lt (k := k) (by omega)
  have st : fX7_readsCondition_L40 (some (b + 258)) (Wd b V lw R) = some (.inl (Wd b V' lw R)) := by
    rcases hp with ⟨h3, rfl⟩ | ⟨h3, rfl⟩
    · have w1 : fX7_opens (Wd b V lw R) (some (b + 258)) (I 10) = some (I 1, Wd b V' lw R) := w1
      unfold fX7_readsCondition_L40
      simp only [on258, y_hr hl, h3, Option.bind_some, show (33 : Int32) = I 33 from rfl, ↓reduceIte, k_10, w1, k_0]
      exact if_neg (by decide)
    · have w1 : fX7_opens (Wd b V lw R) (some (b + 258)) (I 13) = some (I 1, Wd b V' lw R) := w1
      unfold fX7_readsCondition_L40
      simp only [on258, y_hr hl, h3, Option.bind_some, show (33 : Int32) = I 33 from rfl, show (40 : Int32) = I 40 from rfl, show (13 : Int32) = I 13 from rfl, if_neg (show ¬ I 40 = I 33 by decide), ↓reduceIte, w1, k_0]
      exact if_neg (by decide)
  rw [iter_s st]
  exact h f V' (by omega) w2
theorem P_op6 (hp : yk V0 n p = 33 ∨ yk V0 n p = 40) (h : ErQ b V0 lw R 5 p Q) : PQ n b V0 lw R p 6 W c e Q := fun fp V h1 hl => by
  obtain ⟨f, rfl⟩ : ∃ f, fp = f + 1 := ⟨fp - 1, by omega⟩
  have st : fX7_readsCondition_L40 (some (b + 258)) (Wd b V lw R) = some (.inr (I 0, Wd b (up V 258 20 (-1000 * 5 - (p : Int))) lw R)) := by
    rcases hp with h3 | h3
    · have w1 : fX7_opens (Wd b V lw R) (some (b + 258)) (I 10) = _ := y_opens6 (b := b) (lw := lw) (R := R) hl (k := 10)
      unfold fX7_readsCondition_L40
      simp only [on258, y_hr hl, h3, Option.bind_some, show (33 : Int32) = I 33 from rfl, ↓reduceIte, k_10, w1, k_0]
    · have w1 : fX7_opens (Wd b V lw R) (some (b + 258)) (I 13) = _ := y_opens6 (b := b) (lw := lw) (R := R) hl (k := 13)
      unfold fX7_readsCondition_L40
      simp only [on258, y_hr hl, h3, Option.bind_some, show (33 : Int32) = I 33 from rfl, show (40 : Int32) = I 40 from rfl, show (13 : Int32) = I 13 from rfl, if_neg (show ¬ I 40 = I 33 by decide), ↓reduceIte, w1, k_0]
  rw [iter_r st]
  refine h _ (fun q k hq => ?_) (by rw [up_s]; rfl)
  rw [up_o (by omega)]
  exact hl.fr q k hq
end YD
