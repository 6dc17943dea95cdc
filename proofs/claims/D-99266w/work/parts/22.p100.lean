/-! LAW: how the reference reads rules, II. No JVM here. -/
set_option maxRecDepth 100000
set_option linter.unusedVariables false
set_option linter.unusedSimpArgs false
theorem AtC_of {cd : Nat → Cd} : ∀ (C : List Cd) (k : Nat), (∀ i, i < C.length → cd (k + i) = C.getD i (0, 0)) → AtC cd k C
  | [], k, _ => trivial
  | c :: C, k, h => ⟨h 0 (by simp), AtC_of C (k + 1) fun i hi => by
      have := h (i + 1) (by simp only [List.length_cons]; omega)
      rw [show k + 1 + i = k + (i + 1) by omega, this]
      rfl⟩
theorem getD_mid {A B D : List Cd} {i : Nat} (h : i < B.length) : (A ++ B ++ D).getD (A.length + i) (0, 0) = B.getD i (0, 0) := by
  rw [List.getD_eq_getElem?_getD, List.getD_eq_getElem?_getD, List.append_assoc, List.getElem?_append_right (by omega), show A.length + i - A.length = i by omega, List.getElem?_append_left h]
theorem CK_new {c A : List Cd} {B : Nat → List Cd} {m : Nat} {f : Fm} {g : Gm} {l : Int} (hm : MC m B g) (hf : l ≠ 109 → MS A f) (hl : c.length + A.length + m ≤ 260) : CK (c ++ A ++ B (c.length + A.length)) (l, c.length, c.length + A.length, c.length + A.length + m, f, g) := by
  have hB := hm.1 (c.length + A.length)
  have len : (c ++ A ++ B (c.length + A.length)).length = c.length + A.length + m := by rw [List.length_append, List.length_append, hB]
  refine ⟨show c.length ≤ c.length + A.length by omega, show c.length + A.length ≤ c.length + A.length + m by omega, by rw [len]; exact Nat.le_refl _, hm.2.1, fun cd hc => ⟨fun hl9 F => ?_, fun F => ?_⟩⟩
  · show iter (stp cd F (c.length + A.length)) FUEL (c.length, []) = some (if (f F).2 = true then 0 else (f F).1)
    have a := hf hl9 cd F (c.length + A.length) c.length [] (FUEL - A.length) (AtC_of A c.length fun i hi => by
      rw [hc (c.length + i) (by rw [len]; omega)]
      exact getD_mid hi) (Nat.le_refl _) (by simp only [List.length_nil]; omega)
    rw [show FUEL - A.length + A.length = FUEL by unfold FUEL; omega] at a
    by_cases q : (f F).2 = true
    · rw [if_pos q] at a ⊢
      exact a
    · rw [if_neg q] at a ⊢
      obtain ⟨fu, hfu⟩ : ∃ fu, FUEL - A.length = fu + 1 := ⟨FUEL - A.length - 1, by unfold FUEL; omega⟩
      refine a _ ?_
      rw [hfu]
      refine iter_r ?_
      unfold stp
      simp only [Nat.le_refl, if_true]
  · show iter (stp cd F (c.length + A.length + m)) FUEL (c.length + A.length, []) = some (if g F = 2 then 0 else g F)
    have a := hm.2.2 cd F (c.length + A.length + m) (c.length + A.length) [] (FUEL - m) (AtC_of _ _ fun i hi => by
      rw [hc (c.length + A.length + i) (by rw [len]; omega)]
      have := getD_mid (A := c ++ A) (B := B (c.length + A.length)) (D := []) hi
      rw [List.append_nil, List.length_append] at this
      exact this) (Nat.le_refl _) (by simp only [List.length_nil]; omega)
    rw [show FUEL - m + m = FUEL by unfold FUEL; omega] at a
    by_cases q : g F = 2
    · rw [if_pos q] at a ⊢
      exact a
    · rw [if_neg q] at a ⊢
      obtain ⟨fu, hfu⟩ : ∃ fu, FUEL - m = fu + 1 := ⟨FUEL - m - 1, by unfold FUEL; omega⟩
      refine a _ ?_
      rw [hfu]
      refine iter_r ?_
      unfold stp
      simp only [Nat.le_refl, if_true]
def Kr (b : Nat) (m : Hp) : Option (Int32 × Hp) := (hp_gR m (some (b + 258)) 6 31).bind fun v18 =>
      (hp_gI m (some (b + 258)) 6 25).bind fun v19 =>
      (hp_gI m (some (b + 258)) 6 23).bind fun v20 =>
      (hp_sI m v18 0 v19 v20).bind fun m21 =>
      (hp_on m21 (some (b + 258)) 6 (fX7_readsCondition m21 (some (b + 258)))).bind fun (v22, m23) =>
      if v22 = 0 then
        some ((0 : Int32), m23)
      else
      (hp_gR m23 (some (b + 258)) 6 32).bind fun v25 =>
      (hp_gI m23 (some (b + 258)) 6 25).bind fun v26 =>
      (hp_gI m23 (some (b + 258)) 6 23).bind fun v27 =>
      (hp_sI m23 v25 0 v26 v27).bind fun m28 =>
      (hp_gI m28 (some (b + 258)) 6 25).bind fun v29 =>
      (hp_pI m28 (some (b + 258)) 6 25 (v29 + (1 : Int32))).bind fun m30 =>
      some ((1 : Int32), m30)
def isErR (b : Nat) (V0 : Vw) (lw : Option Nat) (R : Hp) (w a : Nat) (z : Option (Int32 × Hp)) : Prop := ∃ V', z = some (I 0, Wd b V' lw R) ∧ (∀ q k, ¬ yRc q k → V' q k = V0 q k) ∧ V' 258 20 = -1000 * (w : Int) - (a : Int)
section YS
variable {b : Nat} {V V0 V1 V' : Vw} {lw : Option Nat} {R : Hp} {n p p1 p2 o e nB s w a m : Nat} {W c c1 A : List Cd} {B : Nat → List Cd} {l q t : Int} {cls : List Cls} {f : Fm} {g : Gm}
theorem rule_K (h : LR n V0 V p c cls) (hl : ltrs (yk V0 n p)) (hs : cls.length < 16) : fX7_readsRule (Wd b V lw R) (some (b + 258)) = if yk V0 n p = 109 then Kr b (Wd b (VA V p cls.length c.length (yk V0 n p)) lw R) else (fX7_readsSum (Wd b (VA V p cls.length c.length (yk V0 n p)) lw R) (some (b + 258))).bind fun (v32, m33) => if v32 = 0 then some ((0 : Int32), m33) else Kr b m33 := by
  obtain ⟨K, k1, k2⟩ := rule_0 (b := b) (lw := lw) (R := R) h hl hs
  rw [k2]
  have e : K = Kr b := funext fun m => k1 m
  rw [e]
theorem ltrs_b (hl : ltrs l) : 99 ≤ l ∧ l ≤ 109 := by omega
/-- the sum of a rule is read -/
theorem rule_S (h : LR n V0 V p c cls) (hs : cls.length < 16) (hr : RuS (yk V0 n) n p l p1 A) : ∃ V1, fX7_readsRule (Wd b V lw R) (some (b + 258)) = Kr b (Wd b V1 lw R) ∧ LSt n (VA V p cls.length c.length l) V1 p1 0 [] (c ++ A) 0 := by
  obtain ⟨r1, r2, r3⟩ := hr
  have lt : p < n := by
    have : yk V0 n p ≠ -1 := by have := ltrs_b r1; omega
    unfold yk at this
    split at this
    · assumption
    · exact absurd rfl this
  have K := rule_K (b := b) (lw := lw) (R := R) h (by rw [r2]; exact r1) hs
  rw [r2] at K
  have L := h.ls (l := l) lt
  rcases r3 with ⟨rfl, rfl, rfl⟩ | ⟨r3, r4, r5⟩
  · rw [if_pos rfl] at K
    exact ⟨_, K, by rw [List.append_nil]; exact L⟩
  · rw [if_neg r3] at K
    have yA := h.yA (s := cls.length) (e := c.length) (l := l)
    obtain ⟨V1, w1, w2⟩ := y_sumO (b := b) (lw := lw) (R := R) L (by unfold lv; have : tpW [] = -1 := rfl; rw [this]; omega) (by rw [yA]; exact r4) (by rw [yA]; exact r5)
    refine ⟨V1, ?_, w2⟩
    rw [K, w1, Option.bind_some]
    exact if_neg (by decide)
theorem LS_reb {V2 : Vw} (h : LSt n V0 V p o [] c 0) (hV : ∀ q k, q ≠ 277 → V2 q k = V q k) : LSt n V2 V2 p o [] c 0 := ⟨fun _ _ _ => rfl, by rw [hV _ _ (by omega)]; exact h.pl, by rw [hV _ _ (by omega)]; exact h.op, by rw [hV _ _ (by omega)]; exact h.wa, by rw [hV _ _ (by omega)]; exact h.cm, trivial, CAt_c (fun i hi => hV _ _ (by omega)) h.cc, fun x hx => (List.not_mem_nil hx).elim, h.ck, Nat.zero_le _, h.cl, h.pn, h.nn, by rw [hV _ _ (by omega), h.fr _ _ (by omega)]; exact h.ln, h.oo⟩
theorem VA_s (j : Nat) : VA V p s e l 275 j = if j = s then l else V 275 j := by
  unfold VA
  rw [up_r (by omega), up_r (by omega), up_r (by omega), up_r (by omega)]
  by_cases q : j = s
  · rw [if_pos q, q, up_s]
  · rw [if_neg q, up_k q]
theorem VA_f (j : Nat) : VA V p s e l 276 j = if j = s then (e : Int) else V 276 j := by
  unfold VA
  rw [up_r (by omega), up_r (by omega)]
  by_cases q : j = s
  · rw [if_pos q, q, up_s]
  · rw [if_neg q, up_k q, up_r (by omega), up_r (by omega)]
theorem VA_25 : VA V p s e l 258 25 = V 258 25 := by
  unfold VA
  rw [up_k (by omega), up_k (by omega), up_r (by omega), up_k (by omega), up_r (by omega)]
theorem VA_q {q k : Nat} (h : ¬ yLc q k) (h1 : q ≠ 275) (h2 : q ≠ 276) : VA V p s e l q k = V q k := by
  unfold VA
  rw [up_o (by omega), up_o (by omega), up_o (by omega), up_o (by omega), up_o (by omega)]
/-- a condition's beginning in a rule -/
theorem Kr_0 (h : LR n V0 V p c cls) (hs : cls.length < 16) (L : LSt n (VA V p cls.length c.length l) V1 p1 0 [] c1 0) : ∃ K2 : (Int32 × Hp) → Option (Int32 × Hp), (∀ x, K2 x = if x.1 = 0 then some ((0 : Int32), x.2) else
      (hp_gR x.2 (some (b + 258)) 6 32).bind fun v25 =>
      (hp_gI x.2 (some (b + 258)) 6 25).bind fun v26 =>
      (hp_gI x.2 (some (b + 258)) 6 23).bind fun v27 =>
      (hp_sI x.2 v25 0 v26 v27).bind fun m28 =>
      (hp_gI m28 (some (b + 258)) 6 25).bind fun v29 =>
      (hp_pI m28 (some (b + 258)) 6 25 (v29 + (1 : Int32))).bind fun m30 =>
      some ((1 : Int32), m30)) ∧ Kr b (Wd b V1 lw R) = (fX7_readsCondition (Wd b (up V1 277 cls.length (c1.length : Int)) lw R) (some (b + 258))).bind K2 := by
  have s1 : V1 258 25 = (cls.length : Int) := by rw [L.fr _ _ (by omega), VA_25, h.sm]
  refine ⟨_, fun x => rfl, ?_⟩
  unfold Kr
  rw [gR258_31, Option.bind_some, gI258_25, s1, Option.bind_some, gI258_23, L.cm, Option.bind_some, wA277 (by omega) (by omega), tn, Option.bind_some, on258]
theorem Kr_yk (h : LR n V0 V p c cls) (L : LSt n (VA V p cls.length c.length l) V1 p1 0 [] c1 0) {x : Int} : yk (up V1 277 cls.length x) n = yk V0 n := by
  rw [← h.yA (s := cls.length) (e := c.length) (l := l), ← L.yt]
  funext i
  unfold yk
  rw [up_r (by omega)]
theorem rule_O (h : LR n V0 V p c cls) (hs : cls.length < 16) (hr : RuS (yk V0 n) n p l p1 A) (h40 : yk V0 n p1 = 40) (hC : RC (yk V0 n) n 2 (p1 + 1) 1 p2 B) (h41 : yk V0 n p2 = 41) (hm : MC m B g) (hf : l ≠ 109 → MS A f) : ∃ V', fX7_readsRule (Wd b V lw R) (some (b + 258)) = some (I 1, Wd b V' lw R) ∧ LR n V0 V' (p2 + 1) (c ++ A ++ B (c.length + A.length)) (cls ++ [(l, c.length, c.length + A.length, c.length + A.length + m, f, g)]) := by
  obtain ⟨V1, e1, L⟩ := rule_S (b := b) (lw := lw) (R := R) h hs hr
  obtain ⟨K2, k1, k2⟩ := Kr_0 (b := b) (lw := lw) (R := R) h hs L
  have L2 := LS_reb (V2 := up V1 277 cls.length ((c ++ A).length : Int)) L fun q k hq => by rw [up_r hq]
  have ey := Kr_yk h L (x := ((c ++ A).length : Int))
  obtain ⟨V3, w1, w2⟩ := T_O (b := b) (lw := lw) (R := R) (B := B) (p2 := p2) L2 (by rw [ey]; exact h40) (by rw [ey]; exact hC) (by rw [ey]; exact h41)
  rw [show B (c ++ A).length = B (c.length + A.length) by rw [List.length_append]] at w2
  have hB := hm.1 (c.length + A.length)
  have len : (c ++ A ++ B (c.length + A.length)).length = c.length + A.length + m := by rw [List.length_append, List.length_append, hB]
  have s3 : V3 258 25 = (cls.length : Int) := by rw [w2.fr _ _ (by omega), up_r (by omega), L.fr _ _ (by omega), VA_25, h.sm]
  have cl := w2.cl
  have pn := w2.pn
  have nn := w2.nn
  rw [len] at cl
  have w0 : wt [] = 0 := rfl
  refine ⟨up (up V3 278 cls.length ((c.length + A.length + m : Nat) : Int)) 258 25 ((cls.length : Int) + 1), ?_, ?_⟩
  · rw [e1, k2, w1, Option.bind_some, k1]
    dsimp only
    rw [if_neg (by decide), gR258_32, Option.bind_some, gI258_25, s3, Option.bind_some, gI258_23, w2.cm, len, Option.bind_some, wA278 (by omega) (by omega), tn, Option.bind_some, gI258_25, up_r (by omega), s3, Option.bind_some, k_1, I_add, pI258_25]
    rfl
  · have oth : ∀ q k, ¬ yLc q k → q ≠ 278 → ¬ (q = 258 ∧ k = 25) → up (up V3 278 cls.length ((c.length + A.length + m : Nat) : Int)) 258 25 ((cls.length : Int) + 1) q k = up V1 277 cls.length ((c ++ A).length : Int) q k := fun q k q1 q2 q3 => by
      rw [up_o (by omega), up_o (by omega), w2.fr _ _ q1]
    refine ⟨fun q k hq => ?_, ?_, ?_, ?_, ?_, w2.ck, by rw [len]; omega, pn, nn, h.ln, by rw [List.length_append, List.length_singleton]; omega, fun j q hj => ?_, fun q hq => ?_⟩
    · rw [oth q k (by omega) (by omega) (by omega), up_o (by omega), L.fr _ _ (by omega), VA_o (by omega), h.fr _ _ hq]
    · rw [up_k (by omega), up_r (by omega)]
      exact w2.pl
    · rw [up_k (by omega), up_r (by omega)]
      exact w2.cm
    · rw [up_s, List.length_append, List.length_singleton]
      omega
    · exact CAt_c (fun i hi => by rw [up_r (by omega), up_r (by omega)]) w2.cc
    · have a1 : up (up V3 278 cls.length ((c.length + A.length + m : Nat) : Int)) 258 25 ((cls.length : Int) + 1) 275 j = if j = cls.length then l else V 275 j := by
        rw [oth _ _ (by omega) (by omega) (by omega), up_r (by omega), L.fr _ _ (by omega), VA_s]
      have a2 : up (up V3 278 cls.length ((c.length + A.length + m : Nat) : Int)) 258 25 ((cls.length : Int) + 1) 276 j = if j = cls.length then (c.length : Int) else V 276 j := by
        rw [oth _ _ (by omega) (by omega) (by omega), up_r (by omega), L.fr _ _ (by omega), VA_f]
      have a3 : up (up V3 278 cls.length ((c.length + A.length + m : Nat) : Int)) 258 25 ((cls.length : Int) + 1) 277 j = if j = cls.length then ((c ++ A).length : Int) else V 277 j := by
        rw [oth _ _ (by omega) (by omega) (by omega)]
        by_cases q : j = cls.length
        · rw [if_pos q, q, up_s]
        · rw [if_neg q, up_k q, L.fr _ _ (by omega), VA_q (by omega) (by omega) (by omega)]
      have a4 : up (up V3 278 cls.length ((c.length + A.length + m : Nat) : Int)) 258 25 ((cls.length : Int) + 1) 278 j = if j = cls.length then ((c.length + A.length + m : Nat) : Int) else V 278 j := by
        rw [up_r (by omega)]
        by_cases q : j = cls.length
        · rw [if_pos q, q, up_s]
        · rw [if_neg q, up_k q, w2.fr _ _ (by omega), up_r (by omega), L.fr _ _ (by omega), VA_q (by omega) (by omega) (by omega)]
      rw [a1, a2, a3, a4]
      by_cases jl : j < cls.length
      · rw [List.getElem?_append_left jl] at hj
        rw [if_neg (by omega), if_neg (by omega), if_neg (by omega), if_neg (by omega)]
        exact h.rw' j q hj
      · have je : j = cls.length := by
          have := (List.getElem?_eq_some_iff.mp hj).1
          rw [List.length_append, List.length_singleton] at this
          omega
        rw [List.getElem?_append_right (by omega), je, Nat.sub_self] at hj
        have hj : (l, c.length, c.length + A.length, c.length + A.length + m, f, g) = q := Option.some.inj hj
        subst hj
        rw [if_pos je, if_pos je, if_pos je, if_pos je, List.length_append]
        exact ⟨rfl, rfl, rfl, rfl⟩
    · rw [List.mem_append, List.mem_singleton] at hq
      rcases hq with hq | rfl
      · rw [List.append_assoc]
        exact CK_app (h.ok q hq) _
      · exact CK_new hm hf (by omega)
theorem isEr_R {z : Option (Int32 × Hp)} (h : isEr b V' lw R w a z) (hV : ∀ q k, ¬ yRc q k → V' q k = V0 q k) : isErR b V0 lw R w a z := by
  obtain ⟨V2, h1, h2, h3⟩ := h
  exact ⟨V2, h1, fun q k hq => by rw [h2 q k (by omega), hV q k hq], h3⟩
theorem rule_E (h : LR n V0 V p c cls) (hr : RuE (yk V0 n) n p cls.length w a) : isErR b V0 lw R w a (fX7_readsRule (Wd b V lw R) (some (b + 258))) := by
  have tb := yk_b V0 n p
  have ss := h.ss
  rcases hr with ⟨r1, ew, ea⟩ | ⟨r1, r2, ew, ea⟩ | ⟨r1, r2, r3, r4⟩ | ⟨l, p1, A, r1, r2, r3⟩
  · rw [ew, ea]
    have hh : ((if I (yk V0 n p) = (100 : Int32) then some (.inl ()) else if I (yk V0 n p) = (99 : Int32) then some (.inl ()) else if I (yk V0 n p) = (109 : Int32) then some (.inl ()) else (hp_gI (Wd b V lw R) (some (b + 258)) 6 18).bind fun v42 => (hp_on (Wd b V lw R) (some (b + 258)) 6 (fX7_wrongAt (Wd b V lw R) (some (b + 258)) (1 : Int32) v42)).bind fun (v43, m44) => (hp_z v43).bind fun z45 => some (.inr (z45, m44))) : Option (Unit ⊕ (Int32 × Hp))) = some (.inr (I 0, Wd b (up V 258 20 (-1000 * 1 - (p : Int))) lw R)) := by
      rw [show (100 : Int32) = I 100 from rfl, show (99 : Int32) = I 99 from rfl, show (109 : Int32) = I 109 from rfl, if_neg (I_ne (by omega) (by omega) (by omega)), if_neg (I_ne (by omega) (by omega) (by omega)), if_neg (I_ne (by omega) (by omega) (by omega)), gI258_18, h.pl, Option.bind_some, on258, k_1, y_wrong, Option.bind_some]
      rfl
    refine ⟨up V 258 20 (-1000 * 1 - (p : Int)), ?_, fun q k hq => by rw [up_o (by omega), h.fr _ _ hq], by rw [up_s]; rfl⟩
    unfold fX7_readsRule
    rw [on258, h.hr, Option.bind_some, hh, Option.bind_some]
  · rw [ew, ea]
    have hh : ((if I (yk V0 n p) = (100 : Int32) then some (.inl ()) else if I (yk V0 n p) = (99 : Int32) then some (.inl ()) else if I (yk V0 n p) = (109 : Int32) then some (.inl ()) else (hp_gI (Wd b V lw R) (some (b + 258)) 6 18).bind fun v42 => (hp_on (Wd b V lw R) (some (b + 258)) 6 (fX7_wrongAt (Wd b V lw R) (some (b + 258)) (1 : Int32) v42)).bind fun (v43, m44) => (hp_z v43).bind fun z45 => some (.inr (z45, m44))) : Option (Unit ⊕ (Int32 × Hp))) = some (.inl ()) := by
      rw [show (100 : Int32) = I 100 from rfl, show (99 : Int32) = I 99 from rfl, show (109 : Int32) = I 109 from rfl]
      rcases r1 with q | q | q
      · rw [if_pos (by rw [q])]
      · rw [q]
        rfl
      · rw [q]
        rfl
    refine ⟨up V 258 20 (-1000 * 4 - (p : Int)), ?_, fun q k hq => by rw [up_o (by omega), h.fr _ _ hq], by rw [up_s]; rfl⟩
    unfold fX7_readsRule
    rw [on258, h.hr, Option.bind_some, hh, Option.bind_some]
    dsimp only
    rw [gI258_25, h.sm, r2, Option.bind_some, show (16 : Int32) = I 16 from rfl, if_pos (show I ((16 : Nat) : Int) = I 16 from rfl), gI258_18, h.pl, Option.bind_some, on258, k_4, y_wrong, Option.bind_some]
    rfl
  · have K := rule_K (b := b) (lw := lw) (R := R) h r2 r1
    rw [if_neg r3] at K
    have lt : p < n := by
      have : yk V0 n p ≠ -1 := by have := ltrs_b r2; omega
      unfold yk at this
      split at this
      · assumption
      · exact absurd rfl this
    have L := h.ls (l := yk V0 n p) lt
    have yA := h.yA (s := cls.length) (e := c.length) (l := yk V0 n p)
    obtain ⟨V1, w1, w2, w3⟩ := y_sumE (b := b) (lw := lw) (R := R) L (by unfold lv; have : tpW [] = -1 := rfl; rw [this]; omega) (by rw [yA]; exact r4)
    refine ⟨V1, ?_, fun q k hq => by rw [w2 q k (by omega), VA_o hq, h.fr _ _ hq], w3⟩
    rw [K, w1, Option.bind_some]
    exact if_pos rfl
  · obtain ⟨V1, e1, L⟩ := rule_S (b := b) (lw := lw) (R := R) h r1 r2
    obtain ⟨K2, k1, k2⟩ := Kr_0 (b := b) (lw := lw) (R := R) h r1 L
    have L2 := LS_reb (V2 := up V1 277 cls.length ((c ++ A).length : Int)) L fun q k hq => by rw [up_r hq]
    have ey := Kr_yk h L (x := ((c ++ A).length : Int))
    have fr2 : ∀ q k, ¬ yRc q k → up V1 277 cls.length ((c ++ A).length : Int) q k = V0 q k := fun q k hq => by
      rw [up_o (by omega), L.fr _ _ (by omega), VA_o hq, h.fr _ _ hq]
    have er : isEr b (up V1 277 cls.length ((c ++ A).length : Int)) lw R w a (fX7_readsCondition (Wd b (up V1 277 cls.length ((c ++ A).length : Int)) lw R) (some (b + 258))) := by
      rcases r3 with ⟨r4, rfl, rfl⟩ | ⟨r4, r5⟩ | ⟨p2, B, r4, r5, r6, r7, r8, rfl, rfl⟩
      · exact T_E0 L2 (by rw [ey]; exact r4)
      · exact T_E1 L2 (by rw [ey]; exact r4) (by rw [ey]; exact r5)
      · exact T_E2 L2 (by rw [ey]; exact r4) (by rw [ey]; exact r5) (by rw [ey]; exact r6) (by rw [ey]; exact r7) (by rw [ey]; exact r8)
    obtain ⟨V3, g1, g2, g3⟩ := er
    refine ⟨V3, ?_, fun q k hq => by rw [g2 q k (by omega), fr2 q k hq], g3⟩
    rw [e1, k2, g1, Option.bind_some, k1]
    exact if_pos rfl
end YS
