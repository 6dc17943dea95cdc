/-! LAW: how the reference reads conditions, III: the grammar. No JVM here. -/
set_option maxRecDepth 100000
set_option linter.unusedVariables false
set_option linter.unusedSimpArgs false
def E92 (b fp : Nat) : Hp ⊕ (Int32 × Hp) → Option (Int32 × Hp)
  | .inl m' => iter (fX7_readsCondition_L40 (some (b + 258))) fp m'
  | .inr q => some q
section YH
variable {b : Nat} {V V0 V' : Vw} {lw : Option Nat} {R : Hp} {n p p1 p2 o e e' v op a base s h' : Nat} {W c M C D : List Cd} {x : Cd} {q w t : Int} {Q : Option (Int32 × Hp) → Prop}
theorem E_close0 (hp : yk V0 n p = 41) (hM : ∀ x ∈ M, jlo 1 x.1 ∧ x.2 < c.length) (ho : o < 6) (hl : LSt n V0 V p (o + 1) (M ++ (13, v) :: W) c e) : ∃ V2, LSt n V0 V2 (p + 1) o W (landA M c) e ∧ fX7_readsCondition_L92 (some (b + 258)) (Wd b V lw R) = if W.length = 0 then some (.inr (.inr (.inr (.inr (I 1, Wd b V2 lw R))))) else (fX7_endsPiece (Wd b V2 lw R) (some (b + 258))).bind fun m37 => some (.inl m37) := by
  have lt := hl.lt (by omega)
  have nn := hl.nn
  obtain ⟨V1, w1, w2⟩ := y_lands (b := b) (lw := lw) (R := R) (a := 1) (by omega) (by
    have : tpW ((13, v) :: W) = 13 := rfl
    rw [this]
    omega) hl hM
  have w1 : fX7_lands (Wd b V lw R) (some (b + 258)) (I 1) = _ := w1
  have wl := w2.wl
  have cl := w2.cl
  rw [wt_1 ⟨show (13 : Nat) ≠ 11 by omega, show (13 : Nat) ≠ 12 by omega⟩] at cl
  rw [List.length_cons] at wl
  have wa := w2.wa
  have ww := w2.ww.2
  have e1 : ((((13, v) :: W : List Cd).length : Nat) : Int) - 1 = (W.length : Int) := by simp
  have e2 : ((o + 1 : Nat) : Int) - 1 = (o : Int) := by omega
  have L : LSt n V0 (up (up (up V1 258 24 (W.length : Int)) 258 22 (o : Int)) 258 18 ((p : Int) + 1)) (p + 1) o W (landA M c) e := by
    refine w2.to (fun q k hq => by rw [up_o (by omega), up_o (by omega), up_o (by omega)]) (by rw [up_s]; omega) ?_ ?_ ?_ ?_ ?_ (wk_t w2.wk) w2.ck (by omega) (by omega) lt (by omega)
    · simp (disch := omega) only [up_k, up_s]
    · simp (disch := omega) only [up_k, up_s]
    · simp (disch := omega) only [up_k, up_r, w2.cm]
    · exact WAt_c W (fun i hi => by simp (disch := omega) only [up_k, up_r]) ww
    · exact CAt_c (fun i hi => by simp (disch := omega) only [up_r]) w2.cc
  refine ⟨_, L, ?_⟩
  unfold fX7_readsCondition_L92
  rw [on258, y_hr hl, hp, Option.bind_some, show (41 : Int32) = I 41 from rfl, if_pos rfl, on258, k_1, w1, Option.bind_some, gI258_24, wa, Option.bind_some, I_sub, e1, pI258_24, Option.bind_some, gI258_22, up_k (by omega), w2.op, Option.bind_some, I_sub, e2, pI258_22, Option.bind_some, gI258_18, up_k (by omega), up_k (by omega), w2.pl, Option.bind_some, I_add, pI258_18, Option.bind_some, gI258_24, up_k (by omega), up_k (by omega), up_s, Option.bind_some, k_0, on258]
  by_cases c0 : W.length = 0
  · rw [if_pos (by rw [c0]; rfl), if_pos c0]
  · rw [if_neg (I_ne (by omega) (by omega) (by omega)), if_neg c0]
theorem E_close (hp : yk V0 n p = 41) (hM : ∀ x ∈ M, jlo 1 x.1 ∧ x.2 < c.length) (ho : o < 6) (hW : W ≠ []) (h : QQ n b V0 lw R (p + 1) o W (landA M c) e Q) : EQ n b V0 lw R p (o + 1) (M ++ (13, v) :: W) c e Q := fun z fe fp V h1 h2 hl => by
  obtain ⟨f, rfl⟩ : ∃ f, fe = f + 1 := ⟨fe - 1, by omega⟩
  obtain ⟨V2, L, E⟩ := E_close0 (b := b) (lw := lw) (R := R) hp hM ho hl
  rw [if_neg (fun q => hW (List.length_eq_zero_iff.mp q))] at E
  have g := h z FUEL f fp V2 (by unfold FUEL; omega) (by omega) (by omega) L
  have eq : Efn b z (f + 1) fp (Wd b V lw R) = Qfn b z FUEL f fp (Wd b V2 lw R) := by
    unfold Qfn
    rw [← y_endsQ]
    unfold Efn
    rw [iter, E]
    cases fX7_endsPiece (Wd b V2 lw R) (some (b + 258)) with
    | none => rfl
    | some m => rfl
  rw [eq]
  exact g
theorem E_closeT (hp : yk V0 n p = 41) (hM : ∀ x ∈ M, jlo 1 x.1 ∧ x.2 < c.length) (ho : o < 6) (h : ∀ V', LSt n V0 V' (p + 1) o [] (landA M c) e → Q (some (I 1, Wd b V' lw R))) : EQ n b V0 lw R p (o + 1) (M ++ [(13, v)]) c e Q := fun z fe fp V h1 h2 hl => by
  obtain ⟨f, rfl⟩ : ∃ f, fe = f + 1 := ⟨fe - 1, by omega⟩
  obtain ⟨V2, L, E⟩ := E_close0 (b := b) (lw := lw) (R := R) hp hM ho hl
  rw [if_pos (by rfl)] at E
  have eq : Efn b z (f + 1) fp (Wd b V lw R) = some (I 1, Wd b V2 lw R) := by
    unfold Efn
    rw [iter_r E]
    rfl
  rw [eq]
  exact h V2 L
theorem E_stop (hp : yk V0 n p ≠ 41) (hl : LSt n V0 V p o W c e) (z : Option (Int32 × Hp)) (f fp : Nat) {r : Hp ⊕ (Int32 × Hp)} (h : K92 (some (b + 258)) (.inl (Wd b V lw R)) = some (.inr r)) : Efn b z (f + 1) fp (Wd b V lw R) = E92 b fp r := by
  have tb := yk_b V0 n p
  have st : fX7_readsCondition_L92 (some (b + 258)) (Wd b V lw R) = some (.inr (.inl (Wd b V lw R))) := by
    unfold fX7_readsCondition_L92
    rw [on258, y_hr hl, Option.bind_some, show (41 : Int32) = I 41 from rfl, if_neg (I_ne (by omega) (by omega) hp)]
  unfold Efn
  rw [iter_r st, Option.bind_some, h]
  cases r <;> rfl
theorem E_jump {k : Nat} (hp : (yk V0 n p = 38 ∧ k = 11 ∧ a = 0) ∨ (yk V0 n p = 124 ∧ k = 12 ∧ a = 1)) (hM : ∀ x ∈ M, jlo a x.1 ∧ x.2 < c.length) (ht : ¬ jlo a (tpW W)) (h : PQ n b V0 lw R (p + 1) o ((k, c.length) :: W) (landA M c ++ [(k, 0)]) e Q) : EQ n b V0 lw R p o (M ++ W) c e Q := fun z fe fp V h1 h2 hl => by
  obtain ⟨f, rfl⟩ : ∃ f, fe = f + 1 := ⟨fe - 1, by omega⟩
  have lt := hl.lt (by omega)
  have tb := yk_b V0 n p
  obtain ⟨V1, w1, w2⟩ := y_lands (b := b) (lw := lw) (R := R) (a := a) (by omega) ht hl hM
  obtain ⟨V2, w3, w4⟩ := y_jumps (b := b) (lw := lw) (R := R) w2 lt (k := k) (by omega)
  rw [land_len] at w4
  have kk : K92 (some (b + 258)) (.inl (Wd b V lw R)) = some (.inr (.inl (Wd b V2 lw R))) := by
    rcases hp with ⟨h3, rfl, rfl⟩ | ⟨h3, rfl, rfl⟩
    · have w1 : fX7_lands (Wd b V lw R) (some (b + 258)) (I 0) = _ := w1
      have w3 : fX7_jumps (Wd b V1 lw R) (some (b + 258)) (I 11) = _ := w3
      have f1 : (I 38 = I 124) = False := eq_false (by decide)
      unfold K92
      simp only [on258, y_hr hl, h3, Option.bind_some, k_0, show (38 : Int32) = I 38 from rfl, show (124 : Int32) = I 124 from rfl, f1, ↓reduceIte, w1, y_hr w2, k_11, w3]
    · have w1 : fX7_lands (Wd b V lw R) (some (b + 258)) (I 1) = _ := w1
      have w3 : fX7_jumps (Wd b V1 lw R) (some (b + 258)) (I 12) = _ := w3
      have f1 : (I 124 = I 38) = False := eq_false (by decide)
      unfold K92
      simp only [on258, y_hr hl, h3, Option.bind_some, k_1, show (38 : Int32) = I 38 from rfl, show (124 : Int32) = I 124 from rfl, f1, ↓reduceIte, w1, y_hr w2, k_12, w3]
  rw [E_stop (by omega) hl z f fp kk]
  exact h fp V2 (by omega) w4
theorem E_err (h1 : yk V0 n p ≠ 41) (h2 : yk V0 n p ≠ 38) (h3 : yk V0 n p ≠ 124) (h : ErQ b V0 lw R 1 p Q) : EQ n b V0 lw R p o W c e Q := fun z fe fp V g1 g2 hl => by
  obtain ⟨f, rfl⟩ : ∃ f, fe = f + 1 := ⟨fe - 1, by omega⟩
  have tb := yk_b V0 n p
  have kk : K92 (some (b + 258)) (.inl (Wd b V lw R)) = some (.inr (.inr (I 0, Wd b (up V 258 20 (-1000 * 1 - (p : Int))) lw R))) := by
    unfold K92
    simp only [on258, y_hr hl, Option.bind_some, k_1, show (38 : Int32) = I 38 from rfl, show (124 : Int32) = I 124 from rfl, if_neg (I_ne (x := yk V0 n p) (y := 38) (by omega) (by omega) h2), if_neg (I_ne (x := yk V0 n p) (y := 124) (by omega) (by omega) h3), gI258_18, hl.pl, y_wrong, z_0]
  rw [E_stop h1 hl z f fp kk]
  refine h _ (fun q k hq => ?_) (by rw [up_s]; rfl)
  rw [up_o (by omega)]
  exact hl.fr q k hq
end YH
/-! the grammar of conditions -/
def RP (T : Nat → Int) (n p o p' : Nat) (C : Nat → List Cd) : Prop := ∀ (b : Nat) (V0 : Vw) (lw : Option Nat) (R : Hp) (W c : List Cd) (e : Nat) (Q : Option (Int32 × Hp) → Prop), yk V0 n = T → lv 2 W → W ≠ [] → QQ n b V0 lw R p' o W (c ++ C c.length) e Q → PQ n b V0 lw R p o W c e Q
/-- l: 0 a piece, 1 pieces, 2 a condition -/
def cw (l : Nat) (W : List Cd) : Prop := lv 2 W ∧ W ≠ [] ∧ (1 ≤ l → tpW W ≠ 10 ∧ tpW W ≠ 11) ∧ (2 ≤ l → tpW W ≠ 12)
def CE (T : Nat → Int) (n l p o w a : Nat) : Prop := ∀ (b : Nat) (V0 : Vw) (lw : Option Nat) (R : Hp) (W c : List Cd) (e : Nat) (Q : Option (Int32 × Hp) → Prop), yk V0 n = T → cw l W → ErQ b V0 lw R w a Q → PQ n b V0 lw R p o W c e Q
def RC (T : Nat → Int) (n l p o p' : Nat) (C : Nat → List Cd) : Prop := ∀ (b : Nat) (V0 : Vw) (lw : Option Nat) (R : Hp) (W c : List Cd) (e : Nat), yk V0 n = T → cw l W → ∃ M X, landA M X = c ++ C c.length ∧ (∀ x ∈ M, jlo (l - 1) x.1 ∧ x.2 < X.length) ∧ ∀ (Q : Option (Int32 × Hp) → Prop), EQ n b V0 lw R p' o (M ++ W) X e Q → PQ n b V0 lw R p o W c e Q
section YI
variable {T : Nat → Int} {n p o p' p1 p2 w a s l nC m h' : Nat} {C D : Nat → List Cd} {A B : List Cd}
theorem cw_d {W : List Cd} (h : cw (l + 1) W) : cw l W := ⟨h.1, h.2.1, fun q => h.2.2.1 (by omega), fun q => h.2.2.2 (by omega)⟩
theorem CE_up (h : CE T n l p o w a) : CE T n (l + 1) p o w a := fun b V0 lw R W c e Q hT hW g => h b V0 lw R W c e Q hT (cw_d hW) g
theorem lv_k {k v : Nat} {W : List Cd} (h : 7 ≤ k) : lv 2 ((k, v) :: W) := by
  have : tpW ((k, v) :: W) = (k : Int) := rfl
  unfold lv
  rw [this]
  omega
theorem cw_k {k v : Nat} {W : List Cd} (h : 10 ≤ k) (h1 : 1 ≤ l → k ≠ 10 ∧ k ≠ 11) (h2 : 2 ≤ l → k ≠ 12) : cw l ((k, v) :: W) := by
  refine ⟨lv_k (by omega), List.cons_ne_nil _ _, fun q => ?_, fun q => ?_⟩
  · have := h1 q
    show (k : Int) ≠ 10 ∧ (k : Int) ≠ 11
    omega
  · have := h2 q
    show (k : Int) ≠ 12
    omega
theorem RP_not (hp : T p = 33) (ho : o < 6) (h : RP T n (p + 1) (o + 1) p' C) : RP T n p o p' (fun k => C k ++ [(10, 0)]) := fun b V0 lw R W c e Q hT hv hW g => by
  have h3 := h b V0 lw R ((10, 0) :: W) c e Q hT (lv_k (by omega)) (List.cons_ne_nil _ _)
  subst hT
  refine P_op (k := 10) (Or.inl ⟨hp, rfl⟩) ho (h3 (Q_not ?_ ho))
  rw [List.append_assoc]
  exact g
theorem CE_not (hp : T p = 33) (ho : o < 6) (h : CE T n 0 (p + 1) (o + 1) w a) : CE T n 0 p o w a := fun b V0 lw R W c e Q hT hW g => by
  have h3 := h b V0 lw R ((10, 0) :: W) c e Q hT (cw_k (by omega) (by omega) (by omega)) g
  subst hT
  exact P_op (k := 10) (Or.inl ⟨hp, rfl⟩) ho h3
theorem CE_op6 (hp : T p = 33 ∨ T p = 40) : CE T n 0 p 6 5 p := fun b V0 lw R W c e Q hT hW g => by
  subst hT
  exact P_op6 hp g
theorem RP_cmp (h1 : T p ≠ 33) (h2 : T p ≠ 40) (hA : RO T n 2 p o p1 A) (hs : sgOf (T p1) = -1) (hh : hwOf (T p1) = (h' : Int)) (hB : RO T n 2 (p1 + 1) o p2 B) (hs2 : sgOf (T p2) = -1) (hp : p < p2) : RP T n p o p2 (fun _ => A ++ (B ++ [(h', 0)])) := fun b V0 lw R W c e Q hT hv hW g fp V h3 hl => by
  subst hT
  obtain ⟨f, rfl⟩ : ∃ f, fp = f + 1 := ⟨fp - 1, by omega⟩
  obtain ⟨V1, w1, w2⟩ := cmp_O (b := b) (lw := lw) (R := R) hl hv hA hs hh hB hs2
  obtain ⟨z, hz⟩ := P_ok hl h1 h2 w2 f
  rw [hz]
  have oo := w1.oo
  have pn := w1.pn
  exact g z FUEL FUEL f V1 (by unfold FUEL; omega) (by unfold FUEL; omega) (by omega) w1
theorem CE_cmp1 (h1 : T p ≠ 33) (h2 : T p ≠ 40) (hA : RE T n 2 p o w a) : CE T n 0 p o w a := fun b V0 lw R W c e Q hT hW g => by
  subst hT
  exact P_err h1 h2 (fun V Q hl hq => cmp_E1 hl hW.1 hA hq) g
theorem CE_cmp2 (h1 : T p ≠ 33) (h2 : T p ≠ 40) (hA : RO T n 2 p o p1 A) (hs : sgOf (T p1) = -1) (hh : hwOf (T p1) = -1) : CE T n 0 p o 1 p1 := fun b V0 lw R W c e Q hT hW g => by
  subst hT
  exact P_err h1 h2 (fun V Q hl hq => cmp_E2 hl hW.1 hA hs hh hq) g
theorem CE_cmp3 (h1 : T p ≠ 33) (h2 : T p ≠ 40) (hA : RO T n 2 p o p1 A) (hs : sgOf (T p1) = -1) (hh : hwOf (T p1) = (h' : Int)) (hB : RE T n 2 (p1 + 1) o w a) : CE T n 0 p o w a := fun b V0 lw R W c e Q hT hW g => by
  subst hT
  exact P_err h1 h2 (fun V Q hl hq => cmp_E3 hl hW.1 hA hs hh hB hq) g
theorem RP_cond (hp : T p = 40) (ho : o < 6) (h : RC T n 2 (p + 1) (o + 1) p' C) (hq : T p' = 41) : RP T n p o (p' + 1) C := fun b V0 lw R W c e Q hT hv hW g => by
  obtain ⟨M, X, h1, h2, h3⟩ := h b V0 lw R ((13, 0) :: W) c e hT (cw_k (by omega) (by omega) (by omega))
  subst hT
  refine P_op (k := 13) (Or.inr ⟨hp, rfl⟩) ho (h3 Q (E_close hq h2 ho hW ?_))
  rw [h1]
  exact g
theorem CE_cond (hp : T p = 40) (ho : o < 6) (h : CE T n 2 (p + 1) (o + 1) w a) : CE T n 0 p o w a := fun b V0 lw R W c e Q hT hW g => by
  have h3 := h b V0 lw R ((13, 0) :: W) c e Q hT (cw_k (by omega) (by omega) (by omega)) g
  subst hT
  exact P_op (k := 13) (Or.inr ⟨hp, rfl⟩) ho h3
theorem CE_cond2 (hp : T p = 40) (ho : o < 6) (h : RC T n 2 (p + 1) (o + 1) p' C) (h1 : T p' ≠ 41) (h2 : T p' ≠ 38) (h3 : T p' ≠ 124) : CE T n 0 p o 1 p' := fun b V0 lw R W c e Q hT hW g => by
  obtain ⟨M, X, g1, g2, g3⟩ := h b V0 lw R ((13, 0) :: W) c e hT (cw_k (by omega) (by omega) (by omega))
  subst hT
  exact P_op (k := 13) (Or.inr ⟨hp, rfl⟩) ho (g3 Q (E_err h1 h2 h3 g))
theorem RC_1 (h : RP T n p o p' C) : RC T n 1 p o p' C := fun b V0 lw R W c e hT hW => by
  refine ⟨[], _, rfl, fun x hx => (List.not_mem_nil hx).elim, fun Q g => ?_⟩
  exact h b V0 lw R W c e Q hT hW.1 hW.2.1 (Q_end (hW.2.2.1 (by omega)).1 g)
theorem RC_2 (h : RC T n 1 p o p' C) : RC T n 2 p o p' C := fun b V0 lw R W c e hT hW => by
  obtain ⟨M, X, h1, h2, h3⟩ := h b V0 lw R W c e hT (cw_d hW)
  exact ⟨M, X, h1, fun x hx => ⟨by have := (h2 x hx).1; omega, (h2 x hx).2⟩, h3⟩
theorem land_mid {j i : Nat} : land1 (A ++ (j, 0) :: B) (i, A.length) = A ++ (j, (A ++ (j, 0) :: B).length) :: B := by
  unfold land1
  show (A ++ (j, 0) :: B).set A.length (((A ++ (j, 0) :: B).getD A.length (0, 0)).1, _) = _
  rw [List.getD_eq_getElem?_getD, List.getElem?_append_right (Nat.le_refl _), Nat.sub_self, List.set_append_right _ _ (Nat.le_refl _), Nat.sub_self]
  rfl
theorem land_app : ∀ (M N c : List Cd), landA (M ++ N) c = landA N (landA M c)
  | [], N, c => rfl
  | x :: M, N, c => land_app M N (land1 c x)
theorem RC_and (h : RC T n 1 p o p' C) (hC : ∀ k, (C k).length = nC) (hp : T p' = 38) (g : RP T n (p' + 1) o p2 D) (hD : ∀ k, (D k).length = m) : RC T n 1 p o p2 (fun k => C k ++ (11, k + nC + 1 + m) :: D (k + nC + 1)) := fun b V0 lw R W c e hT hW => by
  obtain ⟨M, X, h1, h2, h3⟩ := h b V0 lw R W c e hT hW
  have lX : X.length = c.length + nC := by
    have := congrArg List.length h1
    rw [land_len, List.length_append, hC] at this
    exact this
  refine ⟨[(11, X.length)], c ++ C c.length ++ (11, 0) :: D (c.length + nC + 1), ?_, fun x hx => ?_, fun Q k => ?_⟩
  · show land1 _ (11, X.length) = _
    have e1 : X.length = (c ++ C c.length).length := by rw [lX, List.length_append, hC]
    rw [e1, land_mid, List.append_assoc]
    simp only [List.length_append, List.length_cons, hC, hD]
    rw [show c.length + nC + (m + 1) = c.length + nC + 1 + m by omega]
  · rw [List.mem_singleton] at hx
    subst hx
    refine ⟨Or.inl rfl, ?_⟩
    show X.length < _
    simp only [List.length_append, List.length_cons, hC, hD, lX]
    omega
  · have g3 := g b V0 lw R ((11, X.length) :: W) (c ++ C c.length ++ [(11, 0)]) e Q hT (lv_k (by omega)) (List.cons_ne_nil _ _)
    subst hT
    refine h3 Q (E_jump (k := 11) (a := 0) (Or.inl ⟨hp, rfl, rfl⟩) h2 ?_ ?_)
    · have := (hW.2.2.1 (by omega)).2
      omega
    · rw [h1]
      refine g3 (Q_end (show (11 : Int) ≠ 10 by omega) ?_)
      have e2 : (c ++ C c.length ++ [((11, 0) : Cd)]).length = c.length + nC + 1 := by simp only [List.length_append, List.length_singleton, hC]
      rw [e2]
      have e3 : c ++ C c.length ++ [((11, 0) : Cd)] ++ D (c.length + nC + 1) = c ++ C c.length ++ (11, 0) :: D (c.length + nC + 1) := by simp
      rw [e3]
      exact k
theorem CE_and (h : RC T n 1 p o p' C) (hp : T p' = 38) (g : CE T n 0 (p' + 1) o w a) : CE T n 1 p o w a := fun b V0 lw R W c e Q hT hW k => by
  obtain ⟨M, X, h1, h2, h3⟩ := h b V0 lw R W c e hT hW
  have g3 := g b V0 lw R ((11, X.length) :: W) (landA M X ++ [(11, 0)]) e Q hT (cw_k (by omega) (by omega) (by omega)) k
  subst hT
  refine h3 Q (E_jump (k := 11) (a := 0) (Or.inl ⟨hp, rfl, rfl⟩) h2 ?_ g3)
  have := (hW.2.2.1 (by omega)).2
  omega
theorem RC_or (h : RC T n 2 p o p' C) (hC : ∀ k, (C k).length = nC) (hp : T p' = 124) (g : RC T n 1 (p' + 1) o p2 D) (hD : ∀ k, (D k).length = m) : RC T n 2 p o p2 (fun k => C k ++ (12, k + nC + 1 + m) :: D (k + nC + 1)) := fun b V0 lw R W c e hT hW => by
  obtain ⟨M, X, h1, h2, h3⟩ := h b V0 lw R W c e hT hW
  have lX : X.length = c.length + nC := by
    have := congrArg List.length h1
    rw [land_len, List.length_append, hC] at this
    exact this
  obtain ⟨M2, X2, g1, g2, g3⟩ := g b V0 lw R ((12, X.length) :: W) (c ++ C c.length ++ [(12, 0)]) e hT (cw_k (by omega) (by omega) (by omega))
  have e2 : (c ++ C c.length ++ [((12, 0) : Cd)]).length = c.length + nC + 1 := by simp only [List.length_append, List.length_singleton, hC]
  have e3 : c ++ C c.length ++ [((12, 0) : Cd)] ++ D (c.length + nC + 1) = c ++ C c.length ++ (12, 0) :: D (c.length + nC + 1) := by simp
  rw [e2, e3] at g1
  have lX2 : X2.length = c.length + nC + 1 + m := by
    have := congrArg List.length g1
    rw [land_len] at this
    simp only [List.length_append, List.length_cons, hC, hD] at this
    omega
  refine ⟨M2 ++ [(12, X.length)], X2, ?_, fun x hx => ?_, fun Q k => ?_⟩
  · rw [land_app, g1]
    show land1 _ (12, X.length) = _
    have e1 : X.length = (c ++ C c.length).length := by rw [lX, List.length_append, hC]
    rw [e1, land_mid, List.append_assoc]
    simp only [List.length_append, List.length_cons, hC, hD]
    rw [show c.length + nC + (m + 1) = c.length + nC + 1 + m by omega]
  · rw [List.mem_append, List.mem_singleton] at hx
    rcases hx with hx | rfl
    · have := g2 x hx
      refine ⟨?_, this.2⟩
      omega
    · refine ⟨Or.inr ⟨rfl, rfl⟩, ?_⟩
      show X.length < _
      omega
  · have g3 := g3 Q
    subst hT
    refine h3 Q (E_jump (k := 12) (a := 1) (Or.inr ⟨hp, rfl, rfl⟩) h2 ?_ ?_)
    · have q1 := (hW.2.2.1 (by omega)).2
      have q2 := hW.2.2.2 (by omega)
      omega
    · rw [h1]
      refine g3 ?_
      rw [List.append_assoc] at k
      exact k
theorem CE_or (h : RC T n 2 p o p' C) (hp : T p' = 124) (g : CE T n 1 (p' + 1) o w a) : CE T n 2 p o w a := fun b V0 lw R W c e Q hT hW k => by
  obtain ⟨M, X, h1, h2, h3⟩ := h b V0 lw R W c e hT hW
  have g3 := g b V0 lw R ((12, X.length) :: W) (landA M X ++ [(12, 0)]) e Q hT (cw_k (by omega) (by omega) (by omega)) k
  subst hT
  refine h3 Q (E_jump (k := 12) (a := 1) (Or.inr ⟨hp, rfl, rfl⟩) h2 ?_ g3)
  have q1 := (hW.2.2.1 (by omega)).2
  have q2 := hW.2.2.2 (by omega)
  omega
end YI
