/-! DAYS, the class, II. No JVM here. -/
set_option maxRecDepth 100000
set_option linter.unusedVariables false
section XE
variable {b : Nat} {V0 V V' S : Vw} {lw : Option Nat} {R : Hp} {p k j i r e n nx : Nat} {s t z u v w many : Int} {sy : Int → (Nat → Int) → Bool} {tl : Int → (Nat → Int) → Int}
theorem x_arrives (i : Inv V0) (hj : j = 5 ∨ j = 21) (x : XS V0 V j S) (g : dzK V0 S) (hs : 0 ≤ s ∧ s ≤ 9) (hr : r < 48) : ∃ V', fX3_arrives (Wd b V lw R) (some (b + j)) (I (r : Int)) (I s) = some (Wd b V' lw R) ∧ Chg j V V' ∧ XS V0 V' j (dzA V0 r s S 12) := by
  have hj3 := j3 hj
  obtain ⟨q, k1, V1, k2, k3, k4⟩ := iter_for (b := fX3_arrives_L2 (some (b + j)) (I (r : Int)) (I s)) (s := (I 0, Wd b V lw R)) (fun n q => ∃ V', q = (I (n : Int), Wd b V' lw R) ∧ Chg j V V' ∧ XS V0 V' j (dzA V0 r s S n)) (fun q => ∃ V', q = Wd b V' lw R ∧ Chg j V V' ∧ XS V0 V' j (dzA V0 r s S 12)) 12 (by omega) ⟨V, rfl, Chg.id, x⟩ (fun n q hS hn => by
    obtain ⟨V', rfl, a1, a2⟩ := hS
    obtain ⟨x1, x2, x3, x4, x5, x6, x7⟩ := a2.1 n hn
    have pb := perB i hn
    have gb := (dzK_A (r := r) (s := s) g n (by omega)).1 n hn
    rw [dzA]
    unfold fX3_arrives_L2
    simp (disch := omega) only [k_0, k_1, k_12, I_neg, I_le, if_neg, gPf0, rPe, tn, gPe, Option.bind_some, x4, I_inj, I_add, gPf2, rRi, x7, x2]
    by_cases c1 : V0 (5 + 4 + n) 5 = 0
    · rw [if_pos c1, if_neg (by omega)]
      exact ⟨_, rfl, V', rfl, a1, a2⟩
    · rw [if_neg c1]
      by_cases c2 : dzA V0 r s S n 3 n = (r : Int)
      · rw [if_pos c2]
        by_cases c3 : V0 (5 + 4 + n) 1 = s
        · have h5 : V0 (5 + 4 + n) 5 = 1 := by omega
          rw [if_pos c3, if_pos ⟨h5, c2, c3⟩]
          have t5 : V' j 5 = dzA V0 r s S n 4 2 := a2.2.2 2 (by omega)
          have u3 : up V' (j + 3) n 48 (j + 4 + n) 3 = dzA V0 r s S n 0 n := by
            rw [up_r (by omega)]
            exact x5
          have u5 : up (up V' (j + 3) n 48) (j + 4 + n) 3 (min 9999 (dzA V0 r s S n 0 n + 1)) j 5 = dzA V0 r s S n 4 2 := by
            rw [up_r (by omega), up_r (by omega)]
            exact t5
          refine ⟨_, ?_, _, rfl, a1.tr ((Chg.up (o := j + 3) (i := n) (v := 48) (by omega)).tr ((Chg.up (o := j + 4 + n) (i := 3) (v := min 9999 (dzA V0 r s S n 0 n + 1)) (by omega)).tr (Chg.up (o := j) (i := 5) (v := dzA V0 r s S n 4 2 + 1) (by omega)))), XS_sc (XS_ar (XS_ri a2 48) _) 2 _⟩
          simp (disch := omega) only [gPf2, k_48, k_9999, wRi, tn, Option.bind_some, gPe, u3, I_add, I_min, pPe, gPf, u5, pPf]
          rfl
        · rw [if_neg c3, if_neg (fun q => c3 q.2.2)]
          exact ⟨_, rfl, V', rfl, a1, a2⟩
      · rw [if_neg c2, if_neg (fun q => c2 q.2.1)]
        exact ⟨_, rfl, V', rfl, a1, a2⟩) (fun q hS => by
    obtain ⟨V', rfl, a1, a2⟩ := hS
    refine ⟨_, ?_, V', rfl, a1, a2⟩
    unfold fX3_arrives_L2
    simp (disch := omega) only [k_12, I_le, if_pos])
  refine ⟨V1, ?_, k3, k4⟩
  unfold fX3_arrives
  rw [k_0, k1, k2]
  rfl
theorem x_stopsL (h : Rem V0 V) (hj : j = 5 ∨ j = 21) (law : LawX b lw R nx sy tl many) (x : XS V0 V j S) (g : dzK V0 S) (hr : r < nT V0) (hk : k < sm V0 r) : ∃ V', iter (fX3_stops_L134 (some (b + j)) (I (r : Int)) (I (k : Int)) (some (b + (114 + 3 * r))) (I (st V0 r k)) (I u)) FUEL (I 0, Wd b V lw R) = some (Wd b V' lw R) ∧ Chg j V V' ∧ XS V0 V' j (dzR sy V0 r k u S 12) := by
  have hj3 := j3 hj
  have i := h.1
  have h48 := r48 i.rel hr
  have hsm := sm2 i.rel hr
  have hst := st_b i.rel hr hk
  have hmi := mi_b i.rel hr hk
  obtain ⟨q, k1, V1, k2, k3, k4⟩ := iter_for (b := fX3_stops_L134 (some (b + j)) (I (r : Int)) (I (k : Int)) (some (b + (114 + 3 * r))) (I (st V0 r k)) (I u)) (s := (I 0, Wd b V lw R)) (fun n q => ∃ V', q = (I (n : Int), Wd b V' lw R) ∧ Chg j V V' ∧ XS V0 V' j (dzR sy V0 r k u S n)) (fun q => ∃ V', q = Wd b V' lw R ∧ Chg j V V' ∧ XS V0 V' j (dzR sy V0 r k u S 12)) 12 (by omega) ⟨V, rfl, Chg.id, x⟩ (fun n q hS hn => by
    obtain ⟨V', rfl, a1, a2⟩ := hS
    have h' : Rem V0 V' := h.chg hj a1
    have gK := dzK_R (sy := sy) (k := k) (u := u) g h48 n (by omega)
    obtain ⟨x1, x2, x3, x4, x5, x6, x7⟩ := a2.1 n hn
    have xl := a2.2.1 r hr
    have pb := perB i hn
    have gb := gK.1 n hn
    have gr := gK.2.1 r hr
    have sb := sAt_b V0 r (V0 (5 + 4 + n) 1)
    rw [dzR]
    unfold fX3_stops_L134
    simp (disch := omega) only [k_0, k_1, k_12, I_neg, I_le, if_neg, gPf0, rPe, tn, gPe, Option.bind_some, x4, x1, I_inj, I_add, gPf2, rRi, x7]
    by_cases c1 : V0 (5 + 4 + n) 5 = 0
    · rw [if_pos c1, if_neg (by omega)]
      exact ⟨_, rfl, V', rfl, a1, a2⟩
    · rw [if_neg c1]
      by_cases c2 : V0 (5 + 4 + n) 0 = st V0 r k
      · rw [if_pos c2]
        by_cases c3 : dzR sy V0 r k u S n 3 n = -1
        · rw [if_pos c3]
          simp (disch := omega) only [x3, gTr1, rMi, tn, v_miM h' hr, gPf1, rLa, xl, Option.bind_some, I_add, I_lt]
          by_cases c4 : mi V0 r k + dzR sy V0 r k u S n 2 r < V0 (5 + 4 + n) 2
          · rw [if_pos c4, if_neg (fun q => by have := q.2.2.2.1; omega)]
            exact ⟨_, rfl, V', rfl, a1, a2⟩
          · rw [if_neg c4]
            simp (disch := omega) only [x2, onTr, x_stopAtM h' hr, Option.bind_some, I_le]
            by_cases c5 : sAt V0 r (V0 (5 + 4 + n) 1) ≤ (k : Int)
            · rw [if_pos c5, if_neg (fun q => by have := q.2.2.2.2; omega)]
              exact ⟨_, rfl, V', rfl, a1, a2⟩
            · have h5 : V0 (5 + 4 + n) 5 = 1 := by omega
              rw [if_neg c5, if_pos ⟨h5, c2, c3, by omega, by omega⟩]
              obtain ⟨V2, f1, f2, f3⟩ := x_boards (u := u) i hj law a2 gK hr hk hn
              simp (disch := omega) only [onPf, f1, Option.bind_some]
              exact ⟨_, rfl, V2, rfl, a1.tr f2, f3⟩
        · rw [if_neg c3, if_neg (fun q => c3 q.2.2.1)]
          exact ⟨_, rfl, V', rfl, a1, a2⟩
      · rw [if_neg c2, if_neg (fun q => c2 q.2.1)]
        exact ⟨_, rfl, V', rfl, a1, a2⟩) (fun q hS => by
    obtain ⟨V', rfl, a1, a2⟩ := hS
    refine ⟨_, ?_, V', rfl, a1, a2⟩
    unfold fX3_stops_L134
    simp (disch := omega) only [k_12, I_le, if_pos])
  exact ⟨V1, by rw [k1, k2], k3, k4⟩
theorem x_stops (h : Rem V0 V) (hj : j = 5 ∨ j = 21) (law : LawX b lw R nx sy tl many) (x : XS V0 V j S) (g : dzK V0 S) (hr : r < nT V0) (hk : k < sm V0 r) : ∃ V', fX3_stops (Wd b V lw R) (some (b + j)) (I (r : Int)) (I (k : Int)) = some (Wd b V' lw R) ∧ Chg j V V' ∧ XS V0 V' j (dzStop sy tl V0 S r k) := by
  have hj3 := j3 hj
  have i := h.1
  have h48 := r48 i.rel hr
  have hsm := sm2 i.rel hr
  have hst := st_b i.rel hr hk
  have hmi := mi_b i.rel hr hk
  have xx : V j 4 = S 4 1 := x.2.2 1 (by omega)
  have gx := g.2.2
  -- the draw
  have xD : XS V0 (up V j 4 ((25173 * S 4 1 + 13849) % 65536)) j (dzX S) := XS_sc x 1 _
  have gD := dzK_X g
  have dD : dzX S 4 1 = (25173 * S 4 1 + 13849) % 65536 := up_s
  have gDb := gD.2.2
  obtain ⟨V1, hV1⟩ : ∃ V1, V1 = up V j 4 ((25173 * S 4 1 + 13849) % 65536) := ⟨_, rfl⟩
  rw [← hV1] at xD
  have c1 : Chg j V V1 := by
    rw [hV1]
    exact Chg.up (by omega)
  have xl := xD.2.1 r hr
  have xd : V1 j 3 = dzX S 4 0 := xD.2.2 0 (by omega)
  have gr := gD.2.1 r hr
  have wb := dzW_b V0 (dzX S) (st V0 r k)
  obtain ⟨V2, e1, e2, e3⟩ := x_of (b := b) (V := V1) (lw := lw) (R := R) (a1 := (r : Int)) (a2 := st V0 r k) (a3 := (k : Int)) (a4 := dzX S 2 r) (a5 := dzW V0 (dzX S) (st V0 r k)) (a6 := dzX S 4 0) (a7 := dzX S 4 1 % 10) (by omega)
  have F0 : ∀ q, q < 9 → V2 4 (q + 1) = dzF V0 (dzX S) r k (dzX S 4 1 % 10) 0 0 q := dzF_of (F := fun q => V2 4 (q + 1)) e3.1 e3.2.1 e3.2.2.1 e3.2.2.2.1 e3.2.2.2.2.1 e3.2.2.2.2.2.1 e3.2.2.2.2.2.2.1 e3.2.2.2.2.2.2.2.1 e3.2.2.2.2.2.2.2.2
  obtain ⟨y1, f1, f2, f3⟩ := (law R (fun _ _ => rfl) V2).2.2 _ F0 |>.2 100 (Or.inl rfl)
  have F1 : ∀ q, q < 9 → up V2 4 0 y1 4 (q + 1) = dzF V0 (dzX S) r k (dzX S 4 1 % 10) 0 0 q := fun q hq => by
    rw [up_k (by omega)]
    exact F0 q hq
  obtain ⟨y2, g1, g2, g3⟩ := (law R (fun _ _ => rfl) (up V2 4 0 y1)).2.2 _ F1 |>.2 99 (Or.inr rfl)
  obtain ⟨V3, hV3⟩ : ∃ V3, V3 = up (up V2 4 0 y1) 4 0 y2 := ⟨_, rfl⟩
  rw [← hV3] at g1
  have c3 : ∀ o, o ≠ 4 → V3 o = V1 o := fun o ho => by rw [hV3, up_r ho, up_r ho, e2 o ho]
  have x3 := XS.c xD hj c3
  have ch3 : Chg j V1 V3 := fun o k q => by rw [c3 o (by omega)]
  have xl3 := x3.2.1 r hr
  have xw3 : V3 j 7 = dzX S 4 4 := x3.2.2 4 (by omega)
  have mB := dzK_M (tl := tl) (V0 := V0) (S := dzX S) r k
  have x4 : XS V0 (up (up V3 (j + 2) r (dzM tl V0 (dzX S) r k)) j 7 (max (dzX S 4 4) (dzM tl V0 (dzX S) r k))) j (dzL tl V0 (dzX S) r k) := XS_sc (XS_la x3 _) 4 _
  have gL := dzK_L (tl := tl) (r := r) (k := k) gD
  obtain ⟨V4, hV4⟩ : ∃ V4, V4 = up (up V3 (j + 2) r (dzM tl V0 (dzX S) r k)) j 7 (max (dzX S 4 4) (dzM tl V0 (dzX S) r k)) := ⟨_, rfl⟩
  rw [← hV4] at x4
  have c4 : Chg j V3 V4 := by
    rw [hV4]
    exact (Chg.up (by omega)).tr (Chg.up (by omega))
  obtain ⟨V5, a1, a2, a3⟩ := x_arrives (b := b) (lw := lw) (R := R) (s := st V0 r k) i hj x4 gL (by omega) h48
  have c5 : Chg j V V5 := c1.tr (ch3.tr (c4.tr a2))
  obtain ⟨V6, b1, b2, b3⟩ := x_stopsL (u := dzX S 4 1 % 10) (h.chg hj c5) hj law a3 (dzK_A gL 12 (Nat.le_refl _)) hr hk
  refine ⟨V6, ?_, c5.tr b2, b3⟩
  have u7 : up V3 (j + 2) r (dzM tl V0 (dzX S) r k) j 7 = dzX S 4 4 := by
    rw [up_r (by omega)]
    exact xw3
  have draw : fX3_draw (Wd b V lw R) (some (b + j)) = some (I (dzX S 4 1 % 10), Wd b V1 lw R) := by
    unfold fX3_draw
    simp (disch := omega) only [k_25173, k_13849, k_65536, k_10, gPf, xx, Option.bind_some, I_mul, I_add, I_rem, pPf, up_s]
    rw [← hV1, ← dD]
  unfold fX3_stops
  simp (disch := omega) only [gPf8, gR0_0, rTr, tn, gTr0, rSt, v_stM h hr, Option.bind_some, onPf, draw, gR0_6, gPf1, rLa, xl, x_wait i hj xD gD, gPf, xd, on4, e1, k_100, k_60, on0, f1, k_99, g1, xl3]
  unfold fX0_held
  rw [show dzM tl V0 (dzX S) r k = max 0 (min 240 (dzX S 2 r + tl 100 (dzF V0 (dzX S) r k (dzX S 4 1 % 10) 0 0) - tl 99 (dzF V0 (dzX S) r k (dzX S 4 1 % 10) 0 0))) from rfl] at u7 hV4 mB
  simp (disch := omega) only [k_0, k_240, I_add, I_sub, I_min, I_max, Option.bind_some, gPf1, wLa, rLa, tn, up_s, gPf, u7, pPf]
  rw [← hV4]
  simp (disch := omega) only [onPf, a1, Option.bind_some, b1]
end XE
