/-! DAYS, the reference, II. No JVM here. -/
set_option maxRecDepth 100000
set_option linter.unusedVariables false
section YE
variable {b : Nat} {V0 V V' S : Vw} {lw : Option Nat} {R : Hp} {p k j i r e n nx : Nat} {s t z u v w many : Int} {sy : Int → (Nat → Int) → Bool} {tl : Int → (Nat → Int) → Int}
theorem y_leavesT (h : Rem V0 V) (x : YS V0 V S) (g : dzK V0 S) (hs : 0 ≤ s ∧ s ≤ 9) (hr : r < 48) : ∃ V', fX7_leavesTrain (Wd b V lw R) (some (b + 258)) (I (r : Int)) (I s) = some (Wd b V' lw R) ∧ ChY V V' ∧ YS V0 V' (dzA V0 r s S 12) := by
  obtain ⟨q, k1, V1, k2, k3, k4⟩ := iter_for (b := fX7_leavesTrain_L2 (some (b + 258)) (I (r : Int)) (I s)) (s := (I 0, Wd b V lw R)) (fun n q => ∃ V', q = (I (n : Int), Wd b V' lw R) ∧ ChY V V' ∧ YS V0 V' (dzA V0 r s S n)) (fun q => ∃ V', q = Wd b V' lw R ∧ ChY V V' ∧ YS V0 V' (dzA V0 r s S 12)) 12 (by omega) ⟨V, rfl, ChY.id, x⟩ (fun n q hS hn => by
    obtain ⟨V', rfl, a1, a2⟩ := hS
    have h' := h.chy a1
    obtain ⟨x1, x2, x3⟩ := a2.1 n hn
    obtain ⟨y1, y2, y3, y4⟩ := perY h' hn
    have pb := perB h.1 hn
    have gb := (dzK_A (r := r) (s := s) g n (by omega)).1 n hn
    rw [dzA]
    unfold fX7_leavesTrain_L2
    simp (disch := omega) only [k_0, k_1, k_12, I_neg, I_le, if_neg, gR258_11, gR258_50, rA270, rA293, tn, Option.bind_some, y1, x3, I_inj, I_add]
    by_cases c1 : V0 (5 + 4 + n) 5 = 0
    · rw [if_pos c1, if_neg (by omega)]
      exact ⟨_, rfl, V', rfl, a1, a2⟩
    · rw [if_neg c1]
      by_cases c2 : dzA V0 r s S n 3 n = (r : Int)
      · rw [if_pos c2]
        simp (disch := omega) only [gR258_4, rA263, tn, y3, Option.bind_some, I_inj]
        by_cases c3 : V0 (5 + 4 + n) 1 = s
        · have h5 : V0 (5 + 4 + n) 5 = 1 := by omega
          rw [if_pos c3, if_pos ⟨h5, c2, c3⟩]
          have e0 : ((0 : Int) + (n : Int)) = (n : Int) := by omega
          have u0 : up V' 293 n 48 259 n = dzA V0 r s S n 0 n := by
            rw [up_r (by omega)]
            exact x1
          have u2 : up (up V' 293 n 48) 259 n (min 9999 (dzA V0 r s S n 0 n + 1)) 258 52 = dzA V0 r s S n 4 2 := by
            rw [up_r (by omega), up_r (by omega)]
            exact a2.2.2.2.2.1
          refine ⟨_, ?_, _, rfl, a1.tr ((ChY.up (o := 293) (i := n) (v := 48) (by omega)).tr ((ChY.up (o := 259) (i := n) (v := min 9999 (dzA V0 r s S n 0 n + 1)) (by omega)).tr (ChY.up (o := 258) (i := 52) (v := dzA V0 r s S n 4 2 + 1) (by omega)))), YS_f (YS_ar (YS_ri a2 48) hn _) (i := 2) (by omega) _⟩
          simp (disch := omega) only [k_48, k_9999, gR258_50, wA293, tn, Option.bind_some, gR258_0, e0, rA259, u0, I_add, y_min, wA259, gI258_52, u2, pI258_52]
          rfl
        · rw [if_neg c3, if_neg (fun q => c3 q.2.2)]
          exact ⟨_, rfl, V', rfl, a1, a2⟩
      · rw [if_neg c2, if_neg (fun q => c2 q.2.1)]
        exact ⟨_, rfl, V', rfl, a1, a2⟩) (fun q hS => by
    obtain ⟨V', rfl, a1, a2⟩ := hS
    refine ⟨_, ?_, V', rfl, a1, a2⟩
    unfold fX7_leavesTrain_L2
    simp (disch := omega) only [k_12, I_le, if_pos])
  refine ⟨V1, ?_, k3, k4⟩
  unfold fX7_leavesTrain
  rw [k_0, k1, k2]
  rfl
theorem y_mayRide (h : Rem V0 V) (law : LawY b V0 sy tl) (a : agL V0 V) (x : YS V0 V S) (g : dzK V0 S) (hr : r < nT V0) (hk : k < sm V0 r) (hp : p < 12) : ∃ V', fX7_mayRide (Wd b V lw R) (some (b + 258)) (I (p : Int)) (I (r : Int)) (I (k : Int)) (I u) = some (Wd b V' lw R) ∧ ChY V V' ∧ YS V0 V' (if dzC V0 S r k p then dzB sy V0 S p r k u else S) := by
  have i := h.1
  have h48 := r48 i.rel hr
  have hsm := sm2 i.rel hr
  have hst := st_b i.rel hr hk
  have hmi := mi_b i.rel hr hk
  obtain ⟨x1, x2, x3⟩ := x.1 p hp
  obtain ⟨y1, y2, y3, y4⟩ := perY h hp
  have xl := x.2.1 r hr
  have pb := perB i hp
  have gb := g.1 p hp
  have gr := g.2.1 r hr
  have sb := sAt_b V0 r (V0 (5 + 4 + p) 1)
  unfold fX7_mayRide fX7_at
  simp (disch := omega) only [k_0, k_1, k_8, I_neg, I_mul, I_add, gR258_11, rA270, tn, Option.bind_some, y1, I_inj]
  by_cases c1 : V0 (5 + 4 + p) 5 = 0
  · rw [if_pos c1, if_neg (show ¬ dzC V0 S r k p from fun q => by have := q.1; omega)]
    exact ⟨V, rfl, ChY.id, x⟩
  · rw [if_neg c1]
    have h5 : V0 (5 + 4 + p) 5 = 1 := by omega
    simp (disch := omega) only [gR258_3, rA262, tn, y2, gR258_7, yStM h hr hk, Option.bind_some, I_inj]
    by_cases c2 : V0 (5 + 4 + p) 0 = st V0 r k
    · rw [if_pos c2]
      simp (disch := omega) only [gR258_50, rA293, tn, x3, Option.bind_some, I_inj]
      by_cases c3 : S 3 p = -1
      · rw [if_pos c3, Option.bind_some, if_neg (show ¬ I 1 = I 0 by decide)]
        simp (disch := omega) only [Option.bind_some, gR258_5, rA264, tn, y4, gR258_8, yMiM h hr hk, gR258_51, rA294, xl, I_add, I_lt]
        by_cases c4 : mi V0 r k + S 2 r < V0 (5 + 4 + p) 2
        · rw [if_pos c4, if_neg (show ¬ dzC V0 S r k p from fun q => by have := q.2.2.2.1; omega)]
          exact ⟨V, rfl, ChY.id, x⟩
        · rw [if_neg c4]
          simp (disch := omega) only [gR258_4, rA263, tn, y3, on258, y_stopAtM h hr, Option.bind_some, I_lt]
          by_cases c5 : (k : Int) < sAt V0 r (V0 (5 + 4 + p) 1)
          · rw [if_pos c5, if_pos (show dzC V0 S r k p from ⟨h5, c2, c3, by omega, c5⟩)]
            obtain ⟨V1, e1, e2, e3⟩ := y_feels (b := b) (lw := lw) (R := R) (u := u) h x g hr hk
            have m1 : V1 259 (12 + p) = S 1 p := by rw [e2 _ (by omega)]; exact x2
            obtain ⟨V2, hV2⟩ : ∃ V2, V2 = up (up V1 285 5 (p : Int)) 285 6 (S 1 p) := ⟨_, rfl⟩
            have F0 : ∀ q, q < 9 → V2 285 q = dzF V0 S r k u (p : Int) (S 1 p) q := by
              rw [hV2]
              refine dzF_of (F := fun q => up (up V1 285 5 (p : Int)) 285 6 (S 1 p) 285 q) ?_ ?_ ?_ ?_ ?_ ?_ ?_ ?_ ?_
              · show up _ _ _ _ _ _ = _
                rw [up_k (by omega), up_k (by omega), e3 0 (by omega)]
                rfl
              · show up _ _ _ _ _ _ = _
                rw [up_k (by omega), up_k (by omega), e3 1 (by omega)]
                rfl
              · show up _ _ _ _ _ _ = _
                rw [up_k (by omega), up_k (by omega), e3 2 (by omega)]
                rfl
              · show up _ _ _ _ _ _ = _
                rw [up_k (by omega), up_k (by omega), e3 3 (by omega)]
                rfl
              · show up _ _ _ _ _ _ = _
                rw [up_k (by omega), up_k (by omega), e3 4 (by omega)]
                rfl
              · show up _ _ _ _ _ _ = _
                rw [up_k (by omega), up_s]
              · exact up_s
              · show up _ _ _ _ _ _ = _
                rw [up_k (by omega), up_k (by omega), e3 7 (by omega)]
                rfl
              · show up _ _ _ _ _ _ = _
                rw [up_k (by omega), up_k (by omega), e3 8 (by omega)]
                rfl
            have c12 : ChY V V2 := fun o k q => by
              rw [hV2, up_r (by omega), up_r (by omega), e2 o (by omega)]
            obtain ⟨⟨V3, f1, f2⟩, _⟩ := law V2 lw R (agL_y a c12) _ F0
            have c23 : ∀ o, o ≠ 285 → o ≠ 284 → V3 o = V o := fun o o1 o2 => by
              rw [f2 o o2, hV2, up_r o1, up_r o1, e2 o o1]
            have x3' := YS.c x c23
            have ch : ChY V V3 := fun o k q => by rw [c23 o (by omega) (by omega)]
            have m3 : V3 259 (12 + p) = S 1 p := (x3'.1 p hp).2.1
            have m53 : up V3 259 (12 + p) (min 9999 (S 1 p + 1)) 258 53 = S 4 3 := by
              rw [up_r (by omega)]
              exact x3'.2.2.2.2.2.1
            have e12 : ((12 : Int) + (p : Int)).toNat = 12 + p := by omega
            have t5 : ((5 : Int)).toNat = 5 := rfl
            have t6 : ((6 : Int)).toNat = 6 := rfl
            have m1' : up V1 285 5 (p : Int) 259 (12 + p) = S 1 p := by rw [up_r (by omega)]; exact m1
            simp (disch := omega) only [k_5, k_6, k_12, k_109, on258, e1, Option.bind_some, gR258_39, wA285, t5, t6, gR258_0, rA259, e12, m1', I_add]
            rw [← hV2, f1]
            unfold dzB
            cases hsy : sy 109 (dzF V0 S r k u (p : Int) (S 1 p)) with
            | true =>
              simp only [if_true]
              refine ⟨up (up V3 259 (12 + p) (min 9999 (S 1 p + 1))) 258 53 (S 4 3 + 1), ?_, ch.tr ((ChY.up (by omega)).tr (ChY.up (by omega))), YS_f (YS_mi x3' hp _) (i := 3) (by omega) _⟩
              rw [Option.bind_some, if_neg (show ¬ I 1 = I 0 by decide)]
              simp (disch := omega) only [gR258_0, rA259, e12, Option.bind_some, m3, k_9999, I_add, y_min, wA259, gI258_53, m53, pI258_53]
            | false =>
              simp only [Bool.false_eq_true, if_false]
              refine ⟨up V3 293 p (r : Int), ?_, ch.tr (ChY.up (by omega)), YS_ri x3' _⟩
              rw [Option.bind_some, if_pos (show I 0 = I 0 from rfl)]
              simp (disch := omega) only [gR258_50, wA293, tn, Option.bind_some]
          · rw [if_neg c5, if_neg (show ¬ dzC V0 S r k p from fun q => c5 q.2.2.2.2)]
            exact ⟨V, rfl, ChY.id, x⟩
      · rw [if_neg c3, if_neg (show ¬ dzC V0 S r k p from fun q => c3 q.2.2.1)]
        exact ⟨V, rfl, ChY.id, x⟩
    · rw [if_neg c2, if_neg (show ¬ dzC V0 S r k p from fun q => c2 q.2.1)]
      exact ⟨V, rfl, ChY.id, x⟩
theorem y_stopsL (h : Rem V0 V) (law : LawY b V0 sy tl) (a : agL V0 V) (x : YS V0 V S) (g : dzK V0 S) (hr : r < nT V0) (hk : k < sm V0 r) : ∃ V', iter (fX7_stops_L127 (some (b + 258)) (I (r : Int)) (I (k : Int)) (I u)) FUEL (I 0, Wd b V lw R) = some (Wd b V' lw R) ∧ ChY V V' ∧ YS V0 V' (dzR sy V0 r k u S 12) := by
  have i := h.1
  have h48 := r48 i.rel hr
  have hsm := sm2 i.rel hr
  obtain ⟨q, k1, V1, k2, k3, k4⟩ := iter_inv0 (b := fX7_stops_L127 (some (b + 258)) (I (r : Int)) (I (k : Int)) (I u)) (s := (I 0, Wd b V lw R)) (fun n q => ∃ V', q = (I (n : Int), Wd b V' lw R) ∧ n ≤ 12 ∧ ChY V V' ∧ YS V0 V' (dzR sy V0 r k u S n)) (fun q => ∃ V', q = Wd b V' lw R ∧ ChY V V' ∧ YS V0 V' (dzR sy V0 r k u S 12)) 12 (by omega) ⟨V, rfl, Nat.zero_le _, ChY.id, x⟩ (fun n q hS => by
    obtain ⟨V', rfl, a0, a1, a2⟩ := hS
    have h' := h.chy a1
    by_cases hn : n = 12
    · rw [hn] at a2 ⊢
      refine Or.inr ⟨_, ?_, V', rfl, a1, a2⟩
      unfold fX7_stops_L127
      simp (disch := omega) only [k_12, I_le, if_pos]
    · by_cases c : (sm V0 r : Int) - 1 ≤ (k : Int)
      · have last : ∀ p, p < 12 → ¬ (k : Int) < sAt V0 r (V0 (5 + 4 + p) 1) := fun p hp => by
          have := sAt_b V0 r (V0 (5 + 4 + p) 1)
          omega
        rw [dzR_last last n a0] at a2
        refine Or.inr ⟨Wd b V' lw R, ?_, V', rfl, a1, by rw [dzR_last last 12 (Nat.le_refl _)]; exact a2⟩
        unfold fX7_stops_L127
        simp (disch := omega) only [k_12, k_1, I_le, if_neg, gR258_6, ySmM h' hr, Option.bind_some, I_sub, if_pos]
      · obtain ⟨V2, f1, f2, f3⟩ := y_mayRide (b := b) (lw := lw) (R := R) (u := u) h' law (agL_y a a1) a2 (dzK_R g h48 n a0) hr hk (p := n) (by omega)
        refine Or.inl ⟨(I ((n + 1 : Nat) : Int), Wd b V2 lw R), ?_, ⟨V2, rfl, by omega, a1.tr f2, by rw [dzR]; exact f3⟩, by omega⟩
        unfold fX7_stops_L127
        simp (disch := omega) only [k_12, k_1, I_le, if_neg, gR258_6, ySmM h' hr, Option.bind_some, I_sub, on258, f1, I_add]
        rfl)
  exact ⟨V1, by rw [k1, k2], k3, k4⟩
theorem y_stops (h : Rem V0 V) (law : LawY b V0 sy tl) (a : agL V0 V) (tb : ∀ c F, c = 100 ∨ c = 99 → 0 ≤ tl c F ∧ tl c F ≤ 60) (x : YS V0 V S) (g : dzK V0 S) (hr : r < nT V0) (hk : k < sm V0 r) : ∃ V', fX7_stops (Wd b V lw R) (some (b + 258)) (I (r : Int)) (I (k : Int)) = some (Wd b V' lw R) ∧ ChY V V' ∧ YS V0 V' (dzStop sy tl V0 S r k) := by
  have i := h.1
  have h48 := r48 i.rel hr
  have hsm := sm2 i.rel hr
  have hst := st_b i.rel hr hk
  have hmi := mi_b i.rel hr hk
  have xx : V 259 25 = S 4 1 := x.2.2.2.1
  have gx := g.2.2
  have xD : YS V0 (up V 259 25 ((25173 * S 4 1 + 13849) % 65536)) (dzX S) := YS_n x (i := 1) (by omega) _
  have gD := dzK_X g
  have dD : dzX S 4 1 = (25173 * S 4 1 + 13849) % 65536 := up_s
  have gDb := gD.2.2
  obtain ⟨V1, hV1⟩ : ∃ V1, V1 = up V 259 25 ((25173 * S 4 1 + 13849) % 65536) := ⟨_, rfl⟩
  rw [← hV1] at xD
  have c1 : ChY V V1 := by
    rw [hV1]
    exact ChY.up (by omega)
  have h1 := h.chy c1
  have gr := gD.2.1 r hr
  obtain ⟨V2, e1, e2, e3⟩ := y_feels (b := b) (lw := lw) (R := R) (u := dzX S 4 1 % 10) h1 xD gD hr hk
  have c2 : ChY V V2 := c1.tr fun o k q => by rw [e2 o (by omega)]
  obtain ⟨V3, f1, f2⟩ := (law V2 lw R (agL_y a c2) _ e3).2 100 (Or.inl rfl)
  have c3 : ChY V V3 := c2.tr fun o k q => by rw [f2 o (by omega)]
  have F3 : ∀ q, q < 9 → V3 285 q = dzF V0 (dzX S) r k (dzX S 4 1 % 10) 0 0 q := fun q hq => by
    rw [f2 _ (by omega)]
    exact e3 q hq
  obtain ⟨V4, g1, g2⟩ := (law V3 lw R (agL_y a c3) _ F3).2 99 (Or.inr rfl)
  have c4 : ChY V V4 := c3.tr fun o k q => by rw [g2 o (by omega)]
  have x4 : YS V0 V4 (dzX S) := YS.c xD fun o o1 o2 => by rw [g2 o o2, f2 o o2, e2 o o1]
  have xl4 := x4.2.1 r hr
  have xw4 : V4 258 54 = dzX S 4 4 := x4.2.2.2.2.2.2
  have tb1 := tb 100 (dzF V0 (dzX S) r k (dzX S 4 1 % 10) 0 0) (Or.inl rfl)
  have tb2 := tb 99 (dzF V0 (dzX S) r k (dzX S 4 1 % 10) 0 0) (Or.inr rfl)
  have mB := dzK_M (tl := tl) (V0 := V0) (S := dzX S) r k
  have x5 : YS V0 (up (up V4 294 r (dzM tl V0 (dzX S) r k)) 258 54 (max (dzX S 4 4) (dzM tl V0 (dzX S) r k))) (dzL tl V0 (dzX S) r k) := YS_f (YS_la x4 _) (i := 4) (by omega) _
  have gL := dzK_L (tl := tl) (r := r) (k := k) gD
  obtain ⟨V5, hV5⟩ : ∃ V5, V5 = up (up V4 294 r (dzM tl V0 (dzX S) r k)) 258 54 (max (dzX S 4 4) (dzM tl V0 (dzX S) r k)) := ⟨_, rfl⟩
  rw [← hV5] at x5
  have c5 : ChY V V5 := by
    rw [hV5]
    exact c4.tr ((ChY.up (by omega)).tr (ChY.up (by omega)))
  have h5 := h.chy c5
  obtain ⟨V6, a1, a2, a3⟩ := y_leavesT (b := b) (lw := lw) (R := R) (s := st V0 r k) h5 x5 gL (by omega) h48
  have c6 : ChY V V6 := c5.tr a2
  obtain ⟨V7, b1, b2, b3⟩ := y_stopsL (b := b) (lw := lw) (R := R) (u := dzX S 4 1 % 10) (h.chy c6) law (agL_y a c6) a3 (dzK_A gL 12 (Nat.le_refl _)) hr hk
  refine ⟨V7, ?_, c6.tr b2, b3⟩
  have u54 : up V4 294 r (dzM tl V0 (dzX S) r k) 258 54 = dzX S 4 4 := by
    rw [up_r (by omega)]
    exact xw4
  have t25 : ((25 : Int)).toNat = 25 := rfl
  have s25 : V1 259 25 = dzX S 4 1 := by
    rw [hV1, up_s, dD]
  unfold fX7_stops
  simp (disch := omega) only [k_25, k_25173, k_13849, k_65536, k_10, gR258_0, rA259, t25, xx, Option.bind_some, I_mul, I_add, I_rem, wA259]
  rw [← hV1]
  simp (disch := omega) only [rA259, t25, s25, Option.bind_some, I_rem, k_100, k_99, k_60, on258, e1, f1, g1, gR258_51, rA294, tn, xl4]
  rw [show dzM tl V0 (dzX S) r k = max 0 (min 240 (dzX S 2 r + tl 100 (dzF V0 (dzX S) r k (dzX S 4 1 % 10) 0 0) - tl 99 (dzF V0 (dzX S) r k (dzX S 4 1 % 10) 0 0))) from rfl] at u54 hV5 mB
  simp (disch := omega) only [k_0, k_240, I_add, I_sub, y_min, y_max, Option.bind_some, wA294, rA294, tn, up_s, gI258_54, u54, pI258_54, gR258_51]
  rw [← hV5]
  unfold fX7_at
  simp (disch := omega) only [k_8, I_mul, I_add, gR258_7, yStM h5 hr hk, Option.bind_some, on258, a1, b1]
end YE
