/-! CALL: timetable. No JVM here. -/
set_option maxRecDepth 100000
set_option linter.unusedVariables false
section TT3
variable {b : Nat} {V0 V V' : Vw} {lw : Option Nat} {R : Hp} {a n p tr many cnt all nx r : Nat} {q x y z s m al v e d f : Int} {S G : Vw} {rest : List Vl}
abbrev yTTc (o k : Nat) : Prop := yTc o k ∨ (265 ≤ o ∧ o ≤ 269) ∨ o = 271 ∨ (o = 258 ∧ (k = 14 ∨ k = 15))
theorem y_timetable (hn : 1 ≤ n ∧ n ≤ 160) (hy : (n : Int) ≤ V 258 17 ∧ V 258 17 ≤ 260) : ∃ (v : Int) (V' : Vw), fX7_timetable (Wd b V lw R) (some (b + 258)) (I (n : Int)) = some (I v, Wd b V' lw R) ∧ V' 258 17 = 0 ∧ match svcGo (yk V n) n 17 0 0 0 (fun _ _ => 0) with
    | .inl (w, qq) => v = -1000 * w - (qq : Int) ∧ yTf V V'
    | .inr (k, all, G) => v = (all : Int) ∧ (∀ o q, ¬ yTTc o q → V' o q = V o q) ∧ V' 258 14 = (all : Int) ∧ (∀ r, r < all → V' 265 r = G 0 r ∧ V' 268 r = 0 ∧ V' 271 r = 0 ∧ ∀ k : Nat, (k : Int) < G 0 r → V' 266 (8 * r + k) = G 1 (8 * r + k) ∧ V' 267 (8 * r + k) = G 2 (8 * r + k)) ∧ yA V' (srtN (gN G) all) (srtA (V' 267) (gN G) all) := by
  obtain ⟨VB, hVB⟩ : ∃ VB, VB = up (up (up (up (up (up V 258 18 0) 258 19 (n : Int)) 258 23 0) 258 25 0) 258 43 0) 258 44 0 := ⟨_, rfl⟩
  have fB : yTf V VB := by
    rw [hVB]
    exact (yTf.up (by omega)).tr ((yTf.up (by omega)).tr ((yTf.up (by omega)).tr ((yTf.up (by omega)).tr ((yTf.up (by omega)).tr (yTf.up (by omega))))))
  have PB : yPl VB n 0 := by
    refine ⟨?_, ?_, by omega, by omega⟩
    · rw [hVB]
      simp (disch := omega) only [up_k, up_s]
      rfl
    · rw [hVB]
      simp (disch := omega) only [up_k, up_s]
  have nB : VB 258 43 = ((0 : Nat) : Int) := by
    rw [hVB]
    simp (disch := omega) only [up_k, up_s]
    rfl
  have sB : VB 258 44 = ((0 : Nat) : Int) := by
    rw [hVB, up_s]
    rfl
  have ekB : yk VB n = yk V n := funext fun q => yk_of (fun k => fB _ _ (by omega)) n q
  obtain ⟨s1, m1, g1, g2, s2, VD, g3, g4, g5, g6⟩ := y_svcGo (b := b) (lw := lw) (R := R) (n := n) (by omega) 17 0 0 0 FUEL VB (fun _ _ => 0) (by omega) (by omega) (by omega) (by unfold FUEL; omega) PB nB sB (by omega) (fun r hr => absurd hr (Nat.not_lt_zero _)) (fun r hr => absurd hr (Nat.not_lt_zero _))
  rw [ekB] at g6
  have fD : yTf V (up VD 258 17 0) := fB.tr (g4.tr (yTf.up (by omega)))
  have pre : ∀ (vf : Int32) (mf : Hp), (if I s2 = I 0 then (hp_gI (Wd b (up VD 258 17 0) lw R) (some (b + 258)) 6 20).bind fun v51 => some (v51, Wd b (up VD 258 17 0) lw R) else (hp_gI (Wd b (up VD 258 17 0) lw R) (some (b + 258)) 6 43).bind fun v25 => (hp_pI (Wd b (up VD 258 17 0) lw R) (some (b + 258)) 6 14 v25).bind fun m26 => (iter (fX7_timetable_L105 (some (b + 258))) FUEL (I 0, m26)).bind fun r27 => (iter (fX7_timetable_L145 (some (b + 258))) FUEL (I 0, r27)).bind fun r38 => (hp_on r38 (some (b + 258)) 6 (fX7_sortsEvents r38 (some (b + 258)))).bind fun m49 => (hp_gI m49 (some (b + 258)) 6 14).bind fun v50 => some (v50, m49)) = some (vf, mf) → fX7_timetable (Wd b V lw R) (some (b + 258)) (I (n : Int)) = some (vf, mf) := fun vf mf hf => by
    rw [← hf]
    unfold fX7_timetable fX7_beginsText
    simp (disch := omega) only [k_0, k_1, k_160, y_in, Option.bind_some, bi_if, if_pos, gI258_17, I_le, on258, pI258_18, pI258_19, pI258_23, pI258_25, pI258_43, pI258_44]
    rw [← hVB]
    simp only [g1, Option.bind_some, g3, pI258_17]
    rfl
  cases hg : svcGo (yk V n) n 17 0 0 0 (fun _ _ => 0) with
  | inl ee =>
    obtain ⟨w, qq⟩ := ee
    rw [hg] at g6
    obtain ⟨rfl, gf⟩ := g6
    refine ⟨-1000 * w - (qq : Int), up VD 258 17 0, pre _ _ ?_, up_s, rfl, fD⟩
    have fa : up VD 258 17 0 258 20 = -1000 * w - (qq : Int) := by
      rw [up_k (by omega)]
      exact gf
    rw [if_pos rfl]
    simp only [gI258_20, fa, Option.bind_some]
  | inr ee =>
    obtain ⟨k, all, G⟩ := ee
    rw [hg] at g6
    obtain ⟨rfl, h1, h2, h3, h4⟩ := g6
    have nt : up VD 258 17 0 258 43 = (all : Int) := by
      rw [up_k (by omega)]
      exact h1
    obtain ⟨VE, a1, a2, a3⟩ := y_ttL105 (b := b) (V := up (up VD 258 17 0) 258 14 (all : Int)) (lw := lw) (R := R)
    obtain ⟨VF, b1, b2, b3⟩ := y_ttL145 (b := b) (V := VE) (lw := lw) (R := R)
    have news : ∀ o x, o = 286 ∨ o = 287 ∨ o = 288 → up (up VD 258 17 0) 258 14 (all : Int) o x = VD o x := fun o x h => by rw [up_r (by omega), up_r (by omega)]
    have facts : ∀ r, r < all → VF 265 r = G 0 r ∧ VF 268 r = 0 ∧ VF 271 r = 0 ∧ ∀ k : Nat, (k : Int) < G 0 r → VF 266 (8 * r + k) = G 1 (8 * r + k) ∧ VF 267 (8 * r + k) = G 2 (8 * r + k) := fun r hr => by
      obtain ⟨m, t1, t2, t3, t4, t5⟩ := h3 r hr
      obtain ⟨y1, y2⟩ := h2 r hr
      obtain ⟨z1, z2, z3⟩ := a3 r (by omega)
      rw [b2 _ (by omega) (by omega), b2 _ (by omega) (by omega), b2 _ (by omega) (by omega)]
      refine ⟨by rw [z1, news _ _ (Or.inl rfl)]; exact y1, z2, z3, fun k hk => ?_⟩
      have bb := b3 (8 * r + k) (by omega)
      rw [bb.1, bb.2, a2 _ (by omega) (by omega) (by omega), a2 _ (by omega) (by omega) (by omega), news _ _ (Or.inr (Or.inl rfl)), news _ _ (Or.inr (Or.inr rfl))]
      exact y2 k hk
    have tmF : VF 258 14 = (all : Int) := by rw [b2 _ (by omega) (by omega), a2 _ (by omega) (by omega) (by omega), up_s]
    have tr : yTr VF all (gN G) := by
      refine ⟨h4, tmF, fun r hr => ?_⟩
      obtain ⟨m, t1, t2, t3, t4, t5⟩ := h3 r hr
      have em : gN G r = m := by
        unfold gN
        rw [t1, tn]
      have t := facts r hr
      rw [em]
      refine ⟨by rw [t.1, t1], t3, fun k hk => ?_⟩
      rw [(t.2.2.2 k (by omega)).2]
      exact ⟨(t4 k hk).2.2.1, (t4 k hk).2.2.2⟩
    obtain ⟨VH, c1, c2, c3⟩ := y_sorts (b := b) (lw := lw) (R := R) tr
    have tmH : VH 258 14 = (all : Int) := by rw [c2 _ _ (by omega)]; exact tmF
    refine ⟨(all : Int), VH, pre _ _ ?_, ?_, rfl, fun o q w => ?_, tmH, fun r hr => ?_, ?_⟩
    · rw [if_neg (show ¬ I 1 = I 0 by decide)]
      simp only [gI258_43, nt, Option.bind_some, pI258_14, a1, b1, on258, c1, gI258_14, tmH]
    · rw [c2 _ _ (by omega), b2 _ (by omega) (by omega), a2 _ (by omega) (by omega) (by omega), up_k (by omega), up_s]
    · have e1 : ¬ (o = 258 ∧ q = 14) := by omega
      rw [c2 o q (by omega), b2 o (by omega) (by omega), a2 o (by omega) (by omega) (by omega), show up (up VD 258 17 0) 258 14 (all : Int) o q = up VD 258 17 0 o q from if_neg e1]
      exact fD o q (by omega)
    · have t := facts r hr
      rw [c2 _ _ (by omega), c2 _ _ (by omega), c2 _ _ (by omega)]
      refine ⟨t.1, t.2.1, t.2.2.1, fun k hk => ?_⟩
      rw [c2 _ _ (by omega), c2 _ _ (by omega)]
      exact t.2.2.2 k hk
    · rw [yM_c c2]
      exact c3
theorem call_timetable (h : Inv V) (hnx : b + 305 ≤ nx) (h1 : -2147483648 ≤ z) (h2 : z ≤ 2147483647) : Oka b nx V lw R 55 415 (fun m => fX0_timetable m nx (some b) (I z)) (fun m => fX7_timetable m (some (b + 258)) (I z)) := by
  unfold Oka
  have q0 := h.2.2.2
  obtain ⟨q1, q2, q3, q4, q5, q6, q7, q8, q9⟩ := q0
  by_cases g : 1 ≤ z ∧ z ≤ 160
  · by_cases g2 : z ≤ V 0 12
    · obtain ⟨n, rfl⟩ : ∃ q : Nat, z = q := ⟨z.toNat, by omega⟩
      obtain ⟨x, R', Vc, d, c, e1, e2, e3, e4, e5⟩ := x_timetable (b := b) (lw := lw) (R := R) (V := V) (n := n) (by omega) ⟨g2, q7⟩ hnx
      -- what the class has left alone
      have cc : ∀ o q, ¬ (114 ≤ o ∧ o < 258) → o ≠ 2 → o ≠ 3 → ¬ (o = 0 ∧ (q = 3 ∨ q = 4 ∨ q = 12)) → Vc o q = V o q := fun o q w1 w2 w3 w4 => by
        cases hg : svcGo (tk V n) n 17 0 0 0 (fun _ _ => 0) with
        | inl ee =>
          obtain ⟨w, qq⟩ := ee
          rw [hg] at e5
          rw [e5.2]
          have e : ¬ (o = 0 ∧ q = 12) := by omega
          exact if_neg e
        | inr ee =>
          obtain ⟨k, all, G⟩ := ee
          rw [hg] at e5
          exact e5.2.2.2.2.2.2.2 o q w1 w2 w3 w4
      have b17 : Vc 258 17 = V 0 12 := by
        rw [cc _ _ (by omega) (by omega) (by omega) (by omega)]
        exact q8
      obtain ⟨v, V', f1, f2, f3⟩ := y_timetable (b := b) (lw := lw) (R := R') (V := Vc) (n := n) (by omega) (by rw [b17]; exact ⟨g2, q7⟩)
      have tt : TT (tk V n) (yk Vc n) := tk_yk (W := Vc) (V := V) (fun k hk => by
        rw [cc _ _ (by omega) (by omega) (by omega) (by omega)]
        exact (q9 k hk).1) (by omega)
      rw [← TT_sgo tt] at f3
      cases hg : svcGo (tk V n) n 17 0 0 0 (fun _ _ => 0) with
      | inl ee =>
        obtain ⟨w, qq⟩ := ee
        rw [hg] at e5 f3
        obtain ⟨rfl, ev⟩ := e5
        obtain ⟨rfl, fT⟩ := f3
        have out : ∀ o k, ¬ (o = 0 ∧ k = 12) → ¬ yTc o k → V' o k = V o k := fun o k a1 a2 => by
          rw [fT o k a2, ev]
          exact if_neg a1
        have row : ∀ o, o ≠ 0 → (∀ k, ¬ yTc o k) → V' o = V o := fun o a1 a2 => funext fun k => out o k (by omega) (a2 k)
        have z12 : V' 0 12 = 0 := by rw [fT _ _ (by omega), ev, up_s]
        refine ⟨I (-1000 * w - (qq : Int)), _, V', R', d, c, e1, f1, ?_, agL.of (out _ _ (by omega) (by omega)) fun o q => row o (by omega) (fun k => by omega), e2, e3, e4, cO258⟩
        obtain ⟨i1, i2, i3, i4⟩ := h
        have aT : agT V V' := agT.of (out _ _ (by omega) (by omega)) (out _ _ (by omega) (by omega)) fun o q => row o (by omega) (fun k => by omega)
        refine ⟨InvT_c aT i1, InvE_c aT (agE.of (out _ _ (by omega) (by omega)) (out _ _ (by omega) (by omega)) fun o q => row o (by omega) (fun k => by omega)) i1 i2, InvP_c (fun o q => row o (by unfold pRow at q; omega) (fun k => by unfold pRow at q; omega)) (out _ _ (by omega) (by omega)) (out _ _ (by omega) (by omega)) (out _ _ (by omega) (by omega)) (out _ _ (by omega) (by omega)) i3, ?_⟩
        unfold InvQ
        rw [out 0 5 (by omega) (by omega), out 258 13 (by omega) (by omega), out 0 13 (by omega) (by omega), out 258 65 (by omega) (by omega), z12, f2, row 272 (by omega) (fun k => by omega), row 53 (by omega) (fun k => by omega)]
        exact ⟨q1, q2, q3, q4, q5, by omega, by omega, rfl, q9⟩
      | inr ee =>
        obtain ⟨k, all, G⟩ := ee
        rw [hg] at e5 f3
        obtain ⟨rfl, x48, gk, xg, c3, xa, c12, ccf⟩ := e5
        obtain ⟨rfl, yf, tm, yr, ya⟩ := f3
        have out : ∀ o q, ¬ (114 ≤ o ∧ o < 258) → o ≠ 2 → o ≠ 3 → ¬ (o = 0 ∧ (q = 3 ∨ q = 4 ∨ q = 12)) → ¬ yTTc o q → V' o q = V o q := fun o q w1 w2 w3 w4 w5 => by rw [yf o q w5, ccf o q w1 w2 w3 w4]
        have row : ∀ o, ¬ (114 ≤ o ∧ o < 258) → o ≠ 2 → o ≠ 3 → o ≠ 0 → (∀ k, ¬ yTTc o k) → V' o = V o := fun o a1 a2 a3 a4 a5 => funext fun k => out o k a1 a2 a3 (by omega) (a5 k)
        have z12 : V' 0 12 = 0 := by rw [yf _ _ (by omega)]; exact c12
        have z3 : V' 0 3 = (all : Int) := by rw [yf _ _ (by omega)]; exact c3
        have nt : nT V' = all := by
          unfold nT
          rw [z3, tn]
        have tre : ∀ o q, 114 ≤ o → o < 258 → V' o q = Vc o q := fun o q w1 w2 => yf o q (by omega)
        have smr : ∀ r, r < all → sm V' r = gN G r := fun r hr => by
          unfold sm gN
          rw [tre _ _ (by omega) (by omega), (xg r hr).1]
        have mir : ∀ r k, r < all → k < gN G r → mi V' r k = G 2 (8 * r + k) := fun r k hr hk => by
          obtain ⟨m, t1, t2, t3, t4, t5⟩ := gk r hr
          have em : gN G r = m := by
            unfold gN
            rw [t1, tn]
          unfold mi
          rw [tre _ _ (by omega) (by omega)]
          exact ((xg r hr).2.2.2 k (by omega)).2
        have nle : ∀ r, r < all → gN G r ≤ 8 := fun r hr => by
          obtain ⟨m, t1, t2, t3, t4, t5⟩ := gk r hr
          unfold gN
          rw [t1, tn]
          exact t3
        -- both orders are the same
        have sameM : ∀ q k, q < all → k < gN G q → xM Vc (8 * q + k) = V' 267 (8 * q + k) := fun q k hq hk => by
          obtain ⟨m, t1, t2, t3, t4, t5⟩ := gk q hq
          have em : gN G q = m := by
            unfold gN
            rw [t1, tn]
          unfold xM
          rw [show (8 * q + k) / 8 = q by omega, show (8 * q + k) % 8 = k by omega, ((xg q hq).2.2.2 k (by omega)).2, ((yr q hq).2.2.2 k (by omega)).2]
        have sA := (srtA_c all sameM).1
        rw [← sA] at ya
        have J := srt_J (M := xM Vc) (sN := gN G) all nle
        have nb := srtN_le (sN := gN G) all nle
        obtain ⟨A, hA⟩ : ∃ A, A = srtA (xM Vc) (gN G) all := ⟨_, rfl⟩
        obtain ⟨N, hN⟩ : ∃ N, N = srtN (gN G) all := ⟨_, rfl⟩
        rw [← hA, ← hN] at ya xa J
        rw [← hN] at nb
        obtain ⟨j1, j2, j3⟩ := J
        have x4 : V' 0 4 = (N : Int) := by rw [yf _ _ (by omega)]; exact xa.1
        have eN : nE V' = N := by
          unfold nE
          rw [x4, tn]
        have ev2 : ∀ i, i < N → V' 2 i = ((A i / 8 : Nat) : Int) ∧ V' 3 i = ((A i % 8 : Nat) : Int) := fun i hi => by
          rw [yf _ _ (by omega), yf _ _ (by omega)]
          exact xa.2 i hi
        have evTe : ∀ i, i < N → evT V' i = A i / 8 ∧ evS V' i = A i % 8 := fun i hi => by
          unfold evT evS
          rw [(ev2 i hi).1, (ev2 i hi).2, tn, tn]
          exact ⟨rfl, rfl⟩
        have evMe : ∀ i, i < N → evM V' i = xM Vc (A i) := fun i hi => by
          obtain ⟨w1, w2⟩ := evTe i hi
          obtain ⟨q, k2, a1, a2, a3⟩ := j1 i hi
          have := nle q a1
          unfold evM mi xM
          rw [w1, w2, tre _ _ (by omega) (by omega)]
        refine ⟨I (all : Int), _, V', R', d, c, e1, f1, ⟨⟨?_, ?_, ?_, fun r hr => ?_⟩, ⟨?_, ?_, ?_, fun e he => ?_, fun e f hef hf => ?_, fun r k2 hr hk => ?_⟩, ?_, ?_⟩, agL.of (out _ _ (by omega) (by omega) (by omega) (by omega) (by omega)) fun o q => row o (by omega) (by omega) (by omega) (by omega) (fun k => by omega), e2, e3, e4, cO258⟩
        · rw [nt]
          exact z3
        · rw [nt]
          exact x48
        · rw [nt]
          exact tm
        · rw [nt] at hr
          obtain ⟨m, t1, t2, t3, t4, t5⟩ := gk r hr
          have em : gN G r = m := by
            unfold gN
            rw [t1, tn]
          obtain ⟨x1, x2, x3, x5⟩ := xg r hr
          obtain ⟨y1, y2, y3, y5⟩ := yr r hr
          have s := smr r hr
          have str : ∀ k, k < m → st V' r k = G 1 (8 * r + k) := fun k hk => by
            unfold st
            rw [tre _ _ (by omega) (by omega)]
            exact (x5 k (by omega)).1
          have mtr : ∀ k, k < m → mi V' r k = G 2 (8 * r + k) := fun k hk => mir r k hr (by omega)
          have v2 : V' (114 + 3 * r) 2 = (m : Int) := by rw [tre _ _ (by omega) (by omega), x1, t1]
          have v4 : V' (114 + 3 * r) 4 = 1 := by rw [tre _ _ (by omega) (by omega), x3]
          unfold InvTr
          rw [s, em, v2, v4, y1, y2, y3, t1]
          have pl0 : pl V' r = 0 := by
            unfold pl
            rw [tre _ _ (by omega) (by omega)]
            exact x2
          rw [pl0]
          refine ⟨rfl, t2, t3, rfl, Or.inr rfl, by decide, by decide, by decide, rfl, fun k hk => ?_, fun i k hik hk => ?_⟩
          · rw [str k hk, mtr k hk, (y5 k (by omega)).1, (y5 k (by omega)).2]
            have := t4 k hk
            exact ⟨this.1, this.2.1, rfl, this.2.2.1, this.2.2.2, rfl⟩
          · rw [str i (by omega), str k hk, mtr i (by omega), mtr k hk]
            exact t5 i k hik hk
        · rw [eN]
          exact x4
        · rw [eN]
          omega
        · rw [eN]
          exact ya.1
        · rw [eN] at he
          obtain ⟨w1, w2⟩ := evTe e he
          obtain ⟨q, k2, a1, a2, a3⟩ := j1 e he
          have := nle q a1
          rw [w1, w2, nt, (ev2 e he).1, (ev2 e he).2, ya.2 e he, smr _ (by omega)]
          refine ⟨rfl, by omega, rfl, ?_, ?_⟩
          · rw [show A e / 8 = q by omega, show A e % 8 = k2 by omega]
            exact a2
          · rw [show 8 * (A e / 8) + A e % 8 = A e by omega]
        · rw [eN] at hf
          have := j3 e f hef hf
          rw [evMe e (by omega), evMe f hf, (evTe e (by omega)).1, (evTe f hf).1, (evTe e (by omega)).2, (evTe f hf).2]
          exact ⟨this.1, fun w => this.2 (by omega)⟩
        · rw [nt] at hr
          rw [smr r hr] at hk
          obtain ⟨i, i1, i2⟩ := j2 (8 * r + k2) ⟨r, k2, hr, hk, rfl⟩
          have := nle r hr
          rw [eN]
          exact ⟨i, i1, by rw [(evTe i i1).1, i2]; omega, by rw [(evTe i i1).2, i2]; omega⟩
        · exact InvP_c (fun o q => row o (by unfold pRow at q; omega) (by unfold pRow at q; omega) (by unfold pRow at q; omega) (by unfold pRow at q; omega) (fun k => by unfold pRow at q; omega)) (out _ _ (by omega) (by omega) (by omega) (by omega) (by omega)) (out _ _ (by omega) (by omega) (by omega) (by omega) (by omega)) (out _ _ (by omega) (by omega) (by omega) (by omega) (by omega)) (out _ _ (by omega) (by omega) (by omega) (by omega) (by omega)) h.2.2.1
        · unfold InvQ
          rw [out 0 5 (by omega) (by omega) (by omega) (by omega) (by omega), out 258 13 (by omega) (by omega) (by omega) (by omega) (by omega), out 0 13 (by omega) (by omega) (by omega) (by omega) (by omega), out 258 65 (by omega) (by omega) (by omega) (by omega) (by omega), z12, f2, row 272 (by omega) (by omega) (by omega) (by omega) (fun k => by omega), row 53 (by omega) (by omega) (by omega) (by omega) (fun k => by omega)]
          exact ⟨q1, q2, q3, q4, q5, by omega, by omega, rfl, q9⟩
    · refine ⟨I (-1), Wd b V lw R, V, R, 0, 0, ?_, ?_, h, agL.id V, by omega, by omega, (fun _ _ => rfl), cO258⟩
      · show fX0_timetable _ _ _ _ = _
        unfold fX0_timetable
        simp (disch := omega) only [k_0, k_1, k_160, I_neg, x_within, Option.bind_some, bi_if, if_pos, gI0_12, I_le, if_neg]
      · show fX7_timetable _ _ _ = _
        unfold fX7_timetable
        simp (disch := omega) only [k_0, k_1, k_160, I_neg, y_in, Option.bind_some, bi_if, if_pos, gI258_17, q8, I_le, if_neg]
  · refine ⟨I (-1), Wd b V lw R, V, R, 0, 0, ?_, ?_, h, agL.id V, by omega, by omega, (fun _ _ => rfl), cO258⟩
    · show fX0_timetable _ _ _ _ = _
      unfold fX0_timetable
      rw [k_0, k_1, k_160, I_neg, x_within h1 h2 (by omega) (by omega) (by omega) (by omega)]
      simp only [Option.bind_some, bi_if]
      rw [if_neg g]
    · show fX7_timetable _ _ _ = _
      unfold fX7_timetable
      rw [k_0, k_1, k_160, I_neg, y_in h1 h2 (by omega) (by omega) (by omega) (by omega)]
      simp only [Option.bind_some, bi_if]
      rw [if_neg g]
end TT3
