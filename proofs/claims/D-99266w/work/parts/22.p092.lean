/-! LAW: how the reference reads rules. No JVM here. -/
set_option maxRecDepth 100000
set_option linter.unusedVariables false
set_option linter.unusedSimpArgs false
abbrev Cls : Type := Int × Nat × Nat × Nat × Fm × Gm
def Cls.l (q : Cls) : Int := q.1
def Cls.fr (q : Cls) : Nat := q.2.1
def Cls.ha (q : Cls) : Nat := q.2.2.1
def Cls.to (q : Cls) : Nat := q.2.2.2.1
def Cls.f (q : Cls) : Fm := q.2.2.2.2.1
def Cls.g (q : Cls) : Gm := q.2.2.2.2.2
def CK (c : List Cd) (q : Cls) : Prop := q.fr ≤ q.ha ∧ q.ha ≤ q.to ∧ q.to ≤ c.length ∧ (∀ F, q.g F = 0 ∨ q.g F = 1 ∨ q.g F = 2) ∧ ∀ cd : Nat → Cd, (∀ k, k < c.length → cd k = c.getD k (0, 0)) → (q.l ≠ 109 → ∀ F, iter (stp cd F q.ha) FUEL (q.fr, []) = some (if (q.f F).2 = true then 0 else (q.f F).1)) ∧ ∀ F, iter (stp cd F q.to) FUEL (q.ha, []) = some (if q.g F = 2 then 0 else q.g F)
abbrev yRc (q k : Nat) : Prop := yLc q k ∨ (q = 258 ∧ k = 25) ∨ q = 275 ∨ q = 276 ∨ q = 277 ∨ q = 278
def LR (n : Nat) (V0 V : Vw) (p : Nat) (c : List Cd) (cls : List Cls) : Prop := (∀ q k, ¬ yRc q k → V q k = V0 q k) ∧ (V 258 18 = (p : Int)) ∧ (V 258 23 = (c.length : Int)) ∧ (V 258 25 = (cls.length : Int)) ∧ (CAt (V 273) c) ∧ (∀ x ∈ c, okC x) ∧ (c.length ≤ p) ∧ (p ≤ n) ∧ (n ≤ 240) ∧ (V0 258 19 = (n : Int)) ∧ (cls.length ≤ 16) ∧ (∀ j q, cls[j]? = some q → V 275 j = q.l ∧ V 276 j = (q.fr : Int) ∧ V 277 j = (q.ha : Int) ∧ V 278 j = (q.to : Int)) ∧ (∀ q ∈ cls, CK c q)
theorem LR.fr {n : Nat} {V0 V : Vw} {p : Nat} {c : List Cd} {cls : List Cls} (h : LR n V0 V p c cls) : ∀ q k, ¬ yRc q k → V q k = V0 q k := h.1
theorem LR.pl {n : Nat} {V0 V : Vw} {p : Nat} {c : List Cd} {cls : List Cls} (h : LR n V0 V p c cls) : V 258 18 = (p : Int) := h.2.1
theorem LR.cm {n : Nat} {V0 V : Vw} {p : Nat} {c : List Cd} {cls : List Cls} (h : LR n V0 V p c cls) : V 258 23 = (c.length : Int) := h.2.2.1
theorem LR.sm {n : Nat} {V0 V : Vw} {p : Nat} {c : List Cd} {cls : List Cls} (h : LR n V0 V p c cls) : V 258 25 = (cls.length : Int) := h.2.2.2.1
theorem LR.cc {n : Nat} {V0 V : Vw} {p : Nat} {c : List Cd} {cls : List Cls} (h : LR n V0 V p c cls) : CAt (V 273) c := h.2.2.2.2.1
theorem LR.ck {n : Nat} {V0 V : Vw} {p : Nat} {c : List Cd} {cls : List Cls} (h : LR n V0 V p c cls) : ∀ x ∈ c, okC x := h.2.2.2.2.2.1
theorem LR.cl {n : Nat} {V0 V : Vw} {p : Nat} {c : List Cd} {cls : List Cls} (h : LR n V0 V p c cls) : c.length ≤ p := h.2.2.2.2.2.2.1
theorem LR.pn {n : Nat} {V0 V : Vw} {p : Nat} {c : List Cd} {cls : List Cls} (h : LR n V0 V p c cls) : p ≤ n := h.2.2.2.2.2.2.2.1
theorem LR.nn {n : Nat} {V0 V : Vw} {p : Nat} {c : List Cd} {cls : List Cls} (h : LR n V0 V p c cls) : n ≤ 240 := h.2.2.2.2.2.2.2.2.1
theorem LR.ln {n : Nat} {V0 V : Vw} {p : Nat} {c : List Cd} {cls : List Cls} (h : LR n V0 V p c cls) : V0 258 19 = (n : Int) := h.2.2.2.2.2.2.2.2.2.1
theorem LR.ss {n : Nat} {V0 V : Vw} {p : Nat} {c : List Cd} {cls : List Cls} (h : LR n V0 V p c cls) : cls.length ≤ 16 := h.2.2.2.2.2.2.2.2.2.2.1
theorem LR.rw' {n : Nat} {V0 V : Vw} {p : Nat} {c : List Cd} {cls : List Cls} (h : LR n V0 V p c cls) : ∀ j q, cls[j]? = some q → V 275 j = q.l ∧ V 276 j = (q.fr : Int) ∧ V 277 j = (q.ha : Int) ∧ V 278 j = (q.to : Int) := h.2.2.2.2.2.2.2.2.2.2.2.1
theorem LR.ok {n : Nat} {V0 V : Vw} {p : Nat} {c : List Cd} {cls : List Cls} (h : LR n V0 V p c cls) : ∀ q ∈ cls, CK c q := h.2.2.2.2.2.2.2.2.2.2.2.2
abbrev ltrs (t : Int) : Prop := t = 100 ∨ t = 99 ∨ t = 109
/-- the rule's sum -/
def RuS (T : Nat → Int) (n p : Nat) (l : Int) (p1 : Nat) (A : List Cd) : Prop := ltrs l ∧ T p = l ∧ ((l = 109 ∧ p1 = p + 1 ∧ A = []) ∨ (l ≠ 109 ∧ RO T n 2 (p + 1) 0 p1 A ∧ sgOf (T p1) = -1))
def RuE (T : Nat → Int) (n p s w a : Nat) : Prop := (¬ ltrs (T p) ∧ w = 1 ∧ a = p) ∨ (ltrs (T p) ∧ s = 16 ∧ w = 4 ∧ a = p) ∨ (s < 16 ∧ ltrs (T p) ∧ T p ≠ 109 ∧ RE T n 2 (p + 1) 0 w a) ∨ ∃ l p1 A, s < 16 ∧ RuS T n p l p1 A ∧ ((T p1 ≠ 40 ∧ w = 1 ∧ a = p1) ∨ (T p1 = 40 ∧ CE T n 2 (p1 + 1) 1 w a) ∨ ∃ p2 B, T p1 = 40 ∧ RC T n 2 (p1 + 1) 1 p2 B ∧ T p2 ≠ 41 ∧ T p2 ≠ 38 ∧ T p2 ≠ 124 ∧ w = 1 ∧ a = p2)
section YR2
variable {b : Nat} {V V0 V' : Vw} {lw : Option Nat} {R : Hp} {n p p1 p2 o e nB s w a : Nat} {W c A : List Cd} {B : Nat → List Cd} {l q t : Int} {cls : List Cls} {Q : Option (Int32 × Hp) → Prop}
theorem CK_app {q : Cls} (h : CK c q) (d : List Cd) : CK (c ++ d) q := by
  obtain ⟨h1, h2, h3, h4, h5⟩ := h
  refine ⟨h1, h2, by rw [List.length_append]; omega, h4, fun cd hc => h5 cd fun k hk => ?_⟩
  rw [hc k (by rw [List.length_append]; omega), List.getD_eq_getElem?_getD, List.getD_eq_getElem?_getD, List.getElem?_append_left hk]
theorem T_begin (hl : LSt n V0 V p o W c e) (hp : yk V0 n p = 40) : ∃ V2, LSt n V0 V2 (p + 1) 1 [(13, 0)] c e ∧ fX7_readsCondition (Wd b V lw R) (some (b + 258)) = iter (fX7_readsCondition_L40 (some (b + 258))) FUEL (Wd b V2 lw R) := by
  have cl := hl.cl
  have L : LSt n V0 (up (up V 258 22 0) 258 24 0) p 0 [] c e := by
    refine hl.to (fun q k hq => by rw [up_o (by omega), up_o (by omega)]) ?_ ?_ up_s ?_ trivial ?_ (fun x hx => (List.not_mem_nil hx).elim) hl.ck (Nat.zero_le _) (by show c.length + 0 + e ≤ p; omega) hl.pn (by omega)
    · simp (disch := omega) only [up_k, hl.pl]
    · simp (disch := omega) only [up_k, up_s]
      rfl
    · simp (disch := omega) only [up_k, hl.cm]
    · exact CAt_c (fun i hi => by simp (disch := omega) only [up_r]) hl.cc
  have lt := hl.lt (by omega)
  obtain ⟨V2, w1, w2⟩ := y_opens (b := b) (lw := lw) (R := R) L (by omega) lt (k := 13) (by omega)
  have w1 : fX7_opens _ _ (13 : Int32) = _ := w1
  refine ⟨V2, w2, ?_⟩
  unfold fX7_readsCondition
  rw [on258, y_hr hl, hp, Option.bind_some, show (40 : Int32) = I 40 from rfl, if_pos rfl, k_0, pI258_22, Option.bind_some, pI258_24, Option.bind_some, on258, w1, Option.bind_some]
  dsimp only
  rw [if_neg (show ¬ I 1 = I 0 by decide)]
  cases iter (fX7_readsCondition_L40 (some (b + 258))) FUEL (Wd b V2 lw R) <;> rfl
theorem cw_13 : cw 2 [(13, 0)] := cw_k (by omega) (by omega) (by omega)
theorem T_O (hl : LSt n V0 V p o W c e) (hp : yk V0 n p = 40) (h : RC (yk V0 n) n 2 (p + 1) 1 p2 B) (hq : yk V0 n p2 = 41) : ∃ V', fX7_readsCondition (Wd b V lw R) (some (b + 258)) = some (I 1, Wd b V' lw R) ∧ LSt n V0 V' (p2 + 1) 0 [] (c ++ B c.length) e := by
  have nn := hl.nn
  obtain ⟨V2, L, E⟩ := T_begin (b := b) (lw := lw) (R := R) hl hp
  obtain ⟨M, X, h1, h2, h3⟩ := h b V0 lw R [(13, 0)] c e rfl cw_13
  rw [E]
  refine h3 (fun z => ∃ V', z = some (I 1, Wd b V' lw R) ∧ LSt n V0 V' (p2 + 1) 0 [] (c ++ B c.length) e) (E_closeT hq h2 (by omega) fun V' g => ⟨V', rfl, ?_⟩) FUEL V2 (by unfold FUEL; omega) L
  rw [← h1]
  exact g
def isEr (b : Nat) (V0 : Vw) (lw : Option Nat) (R : Hp) (w a : Nat) (z : Option (Int32 × Hp)) : Prop := ∃ V', z = some (I 0, Wd b V' lw R) ∧ (∀ q k, ¬ yLc q k → V' q k = V0 q k) ∧ V' 258 20 = -1000 * (w : Int) - (a : Int)
theorem isEr_Q : ErQ b V0 lw R w a (isEr b V0 lw R w a) := fun V' h1 h2 => ⟨V', rfl, h1, h2⟩
theorem T_E0 (hl : LSt n V0 V p o W c e) (hp : yk V0 n p ≠ 40) : isEr b V0 lw R 1 p (fX7_readsCondition (Wd b V lw R) (some (b + 258))) := by
  have tb := yk_b V0 n p
  refine ⟨up V 258 20 (-1000 * 1 - (p : Int)), ?_, fun q k hq => by rw [up_o (by omega)]; exact hl.fr q k hq, by rw [up_s]; rfl⟩
  unfold fX7_readsCondition
  rw [on258, y_hr hl, Option.bind_some, show (40 : Int32) = I 40 from rfl, if_neg (I_ne (by omega) (by omega) hp), gI258_18, hl.pl, Option.bind_some, on258, k_1, y_wrong, Option.bind_some]
  rfl
theorem T_E1 (hl : LSt n V0 V p o W c e) (hp : yk V0 n p = 40) (h : CE (yk V0 n) n 2 (p + 1) 1 w a) : isEr b V0 lw R w a (fX7_readsCondition (Wd b V lw R) (some (b + 258))) := by
  have nn := hl.nn
  obtain ⟨V2, L, E⟩ := T_begin (b := b) (lw := lw) (R := R) hl hp
  rw [E]
  exact h b V0 lw R [(13, 0)] c e _ rfl cw_13 isEr_Q FUEL V2 (by unfold FUEL; omega) L
theorem T_E2 (hl : LSt n V0 V p o W c e) (hp : yk V0 n p = 40) (h : RC (yk V0 n) n 2 (p + 1) 1 p2 B) (h1 : yk V0 n p2 ≠ 41) (h2 : yk V0 n p2 ≠ 38) (h3 : yk V0 n p2 ≠ 124) : isEr b V0 lw R 1 p2 (fX7_readsCondition (Wd b V lw R) (some (b + 258))) := by
  have nn := hl.nn
  obtain ⟨V2, L, E⟩ := T_begin (b := b) (lw := lw) (R := R) hl hp
  obtain ⟨M, X, g1, g2, g3⟩ := h b V0 lw R [(13, 0)] c e rfl cw_13
  rw [E]
  exact g3 _ (E_err h1 h2 h3 isEr_Q) FUEL V2 (by unfold FUEL; omega) L
theorem LR.yt (h : LR n V0 V p c cls) : yk V n = yk V0 n := funext fun i => by
  rw [yk_e, yk_e, h.fr _ _ (by omega)]
theorem LR.yp (h : LR n V0 V p c cls) : yPl V n p := by
  have := h.pn
  have := h.nn
  exact ⟨h.pl, by rw [h.fr _ _ (by omega)]; exact h.ln, by omega, by omega⟩
theorem LR.hr (h : LR n V0 V p c cls) : fX7_here (Wd b V lw R) (some (b + 258)) = some (I (yk V0 n p)) := by rw [y_here h.yp, h.yt]
def VA (V : Vw) (p s k : Nat) (l : Int) : Vw := up (up (up (up (up V 275 s l) 258 18 ((p : Int) + 1)) 276 s (k : Int)) 258 22 0) 258 24 0
theorem VA_o {q k : Nat} (h : ¬ yRc q k) : VA V p s e l q k = V q k := by
  unfold VA
  rw [up_o (by omega), up_o (by omega), up_o (by omega), up_o (by omega), up_o (by omega)]
theorem LR.ls (h : LR n V0 V p c cls) (lt : p < n) : LSt n (VA V p cls.length c.length l) (VA V p cls.length c.length l) (p + 1) 0 [] c 0 := by
  have cl := h.cl
  refine ⟨fun _ _ _ => rfl, ?_, ?_, up_s, ?_, trivial, ?_, fun x hx => (List.not_mem_nil hx).elim, h.ck, Nat.zero_le _, by show c.length + 0 + 0 ≤ p + 1; omega, lt, h.nn, ?_, by omega⟩
  · unfold VA
    simp (disch := omega) only [up_k, up_r, up_s]
    omega
  · unfold VA
    simp (disch := omega) only [up_k, up_r, up_s]
    rfl
  · unfold VA
    simp (disch := omega) only [up_k, up_r, up_s, h.cm]
  · exact CAt_c (fun i hi => by unfold VA; simp (disch := omega) only [up_r]) h.cc
  · rw [VA_o (by omega), h.fr _ _ (by omega)]
    exact h.ln
theorem LR.yA (h : LR n V0 V p c cls) : yk (VA V p s e l) n = yk V0 n := by
  rw [← h.yt]
  funext i
  rw [yk_e, yk_e, VA_o (by omega)]
/-- the rule's beginning -/
theorem rule_0 (h : LR n V0 V p c cls) (hl : ltrs (yk V0 n p)) (hs : cls.length < 16) : ∃ K : Hp → Option (Int32 × Hp), (∀ m, K m = (hp_gR m (some (b + 258)) 6 31).bind fun v18 =>
      (hp_gI m (some (b + 258)) 6 25).bind fun v19 =>
      (hp_gI m (some (b + 258)) 6 23).bind fun v20 =>
      (hp_sI m v18 0 v19 v20).bind fun m21 =>
      (hp_on m21 (some (b + 258)) 6 (fX7_readsCondition m21 (some (b + 258)))).bind fun (v22, m23) =>
      if v22 = 0 then
        some ((0 : Int32), m23)
      else
      (hp_gR m23 (some (b + 258)) 6 32).bind fun v25 =>
      (hp_gI m23 (some (b + 258)) 6 25).bind fun v26 =>
      (hp_gI m23 (some (b + 258)) 6 23).bind fun v27 =>
      (hp_sI m23 v25 0 v26 v27).bind fun m28 =>
      (hp_gI m28 (some (b + 258)) 6 25).bind fun v29 =>
      (hp_pI m28 (some (b + 258)) 6 25 (v29 + (1 : Int32))).bind fun m30 =>
      some ((1 : Int32), m30)) ∧ fX7_readsRule (Wd b V lw R) (some (b + 258)) = if yk V0 n p = 109 then K (Wd b (VA V p cls.length c.length (yk V0 n p)) lw R) else (fX7_readsSum (Wd b (VA V p cls.length c.length (yk V0 n p)) lw R) (some (b + 258))).bind fun (v32, m33) => if v32 = 0 then some ((0 : Int32), m33) else K m33 := by
  have tb := yk_b V0 n p
  have nn := h.nn
  have cl := h.cl
  have pn := h.pn
  refine ⟨_, fun m => rfl, ?_⟩
  have hh : ((if I (yk V0 n p) = (100 : Int32) then some (.inl ()) else if I (yk V0 n p) = (99 : Int32) then some (.inl ()) else if I (yk V0 n p) = (109 : Int32) then some (.inl ()) else (hp_gI (Wd b V lw R) (some (b + 258)) 6 18).bind fun v42 => (hp_on (Wd b V lw R) (some (b + 258)) 6 (fX7_wrongAt (Wd b V lw R) (some (b + 258)) (1 : Int32) v42)).bind fun (v43, m44) => (hp_z v43).bind fun z45 => some (.inr (z45, m44))) : Option (Unit ⊕ (Int32 × Hp))) = some (.inl ()) := by
    rw [show (100 : Int32) = I 100 from rfl, show (99 : Int32) = I 99 from rfl, show (109 : Int32) = I 109 from rfl]
    rcases hl with q | q | q
    · rw [if_pos (by rw [q])]
    · rw [q]
      rfl
    · rw [q]
      rfl
  unfold fX7_readsRule
  rw [on258, h.hr, Option.bind_some, hh, Option.bind_some]
  dsimp only
  rw [gI258_25, h.sm, Option.bind_some, show (16 : Int32) = I 16 from rfl, if_neg (I_ne (by omega) (by omega) (by omega)), gR258_29, Option.bind_some, Option.bind_some, wA275 (by omega) (by omega), Option.bind_some, tn, gI258_18, up_r (by omega), h.pl, Option.bind_some, k_1, I_add, pI258_18, Option.bind_some, gR258_30, Option.bind_some, gI258_25, up_k (by omega), up_r (by omega), h.sm, Option.bind_some, gI258_23, up_k (by omega), up_r (by omega), h.cm, Option.bind_some, wA276 (by omega) (by omega), Option.bind_some, tn, k_0, pI258_22, Option.bind_some, pI258_24, Option.bind_some, show (109 : Int32) = I 109 from rfl]
  by_cases c9 : yk V0 n p = 109
  · rw [if_pos (by rw [c9]), if_pos c9]
    rfl
  · rw [if_neg (I_ne (by omega) (by omega) c9), if_neg c9, on258]
    show Option.bind (Option.bind (fX7_readsSum (Wd b (VA V p cls.length c.length (yk V0 n p)) lw R) (some (b + 258))) _) _ = _
    cases fX7_readsSum (Wd b (VA V p cls.length c.length (yk V0 n p)) lw R) (some (b + 258)) with
    | none => rfl
    | some q =>
      obtain ⟨v32, m33⟩ := q
      simp only [Option.bind_some]
      by_cases c0 : v32 = I 0
      · rw [if_pos c0, if_pos c0]
        rfl
      · rw [if_neg c0, if_neg c0]
        rfl
end YR2
