/-! CALL: orders, II. No JVM here. -/
set_option maxRecDepth 100000
set_option linter.unusedVariables false
section OW
variable {b : Nat} {V0 V V' : Vw} {lw : Option Nat} {R : Hp} {n p N cnt nx : Nat} {x y z : Int} {O : Vw}
theorem InvT_o (h : InvT V) (e1 : V' 0 3 = V 0 3) (e2 : V' 258 14 = V 258 14) (e3 : ∀ r, r < nT V → V' (114 + 3 * r) 2 = V (114 + 3 * r) 2 ∧ V' (115 + 3 * r) = V (115 + 3 * r) ∧ V' (116 + 3 * r) = V (116 + 3 * r)) (e4 : V' 265 = V 265) (e5 : V' 266 = V 266) (e6 : V' 267 = V 267) (k : oK (nT V) O) (c : ∀ r, r < nT V → V' (114 + 3 * r) 3 = O 0 r ∧ V' (114 + 3 * r) 4 = O 1 r) (w : yO V' (nT V) O) : InvT V' := by
  obtain ⟨i1, i2, i3, i4⟩ := h
  have en : nT V' = nT V := by
    unfold nT
    rw [e1]
  refine ⟨by rw [en, e1]; exact i1, by rw [en]; exact i2, by rw [en, e2]; exact i3, fun r hr => ?_⟩
  rw [en] at hr
  have i := i4 r hr
  have kr := k r hr
  have cr := c r hr
  have wr := w r hr
  obtain ⟨f1, f2, f3⟩ := e3 r hr
  unfold InvTr sm st mi pl at i ⊢
  rw [f1, f2, f3, e4, e5, e6, cr.1, cr.2, wr.1, wr.2]
  obtain ⟨j1, j2, j3, j4, j5, j6, j7, j8, j9, j10, j11⟩ := i
  exact ⟨j1, j2, j3, j4, kr.2.2, rfl, kr.1, kr.2.1, rfl, j10, j11⟩
theorem InvE_o (t : InvT V) (i : InvE V) (c : agE V V') (e1 : V' 0 3 = V 0 3) (e3 : ∀ r, r < nT V → V' (114 + 3 * r) 2 = V (114 + 3 * r) 2 ∧ V' (116 + 3 * r) = V (116 + 3 * r)) : InvE V' := by
  obtain ⟨c1, c2, c3, c4, c5⟩ := c
  obtain ⟨i1, i2, i3, i4, i5, i6⟩ := i
  have en : nT V' = nT V := by
    unfold nT
    rw [e1]
  have ee : nE V' = nE V := by
    unfold nE
    rw [c1]
  have et : evT V' = evT V := by
    funext e
    unfold evT
    rw [c3]
  have es : evS V' = evS V := by
    funext e
    unfold evS
    rw [c4]
  have hsm : ∀ r, r < nT V → sm V' r = sm V r := fun r hr => by
    unfold sm
    rw [(e3 r hr).1]
  have em : ∀ e, e < nE V → evM V' e = evM V e := fun e he => by
    have := (i4 e he).2.1
    unfold evM mi
    rw [et, es, (e3 _ this).2]
  refine ⟨by rw [ee, c1]; exact i1, by rw [ee]; exact i2, by rw [ee, c2]; exact i3, fun e he => ?_, fun e f h1 h2 => ?_, fun r k hr hk => ?_⟩
  · rw [ee] at he
    have := i4 e he
    rw [et, es, en, c3, c4, c5, hsm _ this.2.1]
    exact this
  · rw [ee] at h2
    rw [em e (by omega), em f h2, et, es]
    exact i5 e f h1 h2
  · rw [en] at hr
    rw [hsm r hr] at hk
    rw [ee, et, es]
    exact i6 r k hr hk
/-- the tape, both sides -/
theorem tk_yk {W : Vw} (q : ∀ k, k < 260 → W 272 k = V 53 k) (hn : n ≤ 260) : TT (tk V n) (yk W n) := fun p => by
  unfold tk yk
  by_cases c : p < n
  · rw [if_pos c, if_pos c, q p (by omega)]
    exact Or.inl rfl
  · rw [if_neg c, if_neg c]
    exact Or.inr ⟨rfl, rfl⟩
theorem call_orders (h : Inv V) (hnx : b + 305 ≤ nx) (h1 : -2147483648 ≤ z) (h2 : z ≤ 2147483647) : Oka b nx V lw R 3 104 (fun m => fX0_orders m nx (some b) (I z)) (fun m => fX7_orders m (some (b + 258)) (I z)) := by
  unfold Oka
  have q0 := h.2.2.2
  obtain ⟨q1, q2, q3, q4, q5, q6, q7, q8, q9⟩ := q0
  by_cases g : 1 ≤ z ∧ z ≤ 120
  · by_cases g2 : z ≤ V 0 12
    · obtain ⟨n, rfl⟩ : ∃ q : Nat, z = q := ⟨z.toNat, by omega⟩
      have hR := h.tp0 (x := 0) (by omega) (by omega)
      have eN : nT (up (up V 0 12 0) 258 17 0) = nT V := by
        unfold nT
        rw [up_r (by omega), up_k (by omega)]
      obtain ⟨x, R', Vc, e1, e2, e3⟩ := x_orders (lw := lw) (R := R) (n := n) (y := V 0 12) hR (by omega) (W := V) rfl ⟨g2, q7⟩ rfl hnx
      have eO : (fun o r => if o = 0 then pl (up (up V 0 12 0) 258 17 0) r else bi (ru (up (up V 0 12 0) 258 17 0) r) : Vw) = fun o r => if o = 0 then V (114 + 3 * r) 3 else bi (V (114 + 3 * r) 4 = 1) := by
        funext o r
        by_cases c : o = 0
        · rw [if_pos c, if_pos c]
          unfold pl
          by_cases c2 : 114 + 3 * r = 258
          · rw [c2, up_k (by omega), up_r (by omega)]
          · rw [up_r c2, up_r (by omega)]
        · rw [if_neg c, if_neg c]
          unfold ru
          by_cases c2 : 114 + 3 * r = 258
          · rw [c2, up_k (by omega), up_r (by omega)]
          · rw [up_r c2, up_r (by omega)]
      rw [eN, eO] at e3
      obtain ⟨O0, hO0⟩ : ∃ O0 : Vw, O0 = fun o r => if o = 0 then V (114 + 3 * r) 3 else bi (V (114 + 3 * r) 4 = 1) := ⟨_, rfl⟩
      rw [← hO0] at e3
      -- what the class has left alone
      have cc : ∀ o k, ¬ (114 ≤ o ∧ o < 258 ∧ o % 3 = 0 ∧ (k = 3 ∨ k = 4)) → ¬ (o = 0 ∧ k = 12) → Vc o k = V o k := fun o k w1 w2 => by
        cases hg : ordGo (tk (up V 0 12 0) n) (nT V) n 21 0 0 O0 with
        | inl ee =>
          obtain ⟨w, qq⟩ := ee
          rw [hg] at e3
          rw [e3.2]
          unfold up
          rw [if_neg w2]
        | inr ee =>
          obtain ⟨k2, O'⟩ := ee
          rw [hg] at e3
          rw [e3.2.2.1 o k w1]
          unfold up
          rw [if_neg w2]
      have cw : Vc 0 12 = 0 := by
        cases hg : ordGo (tk (up V 0 12 0) n) (nT V) n 21 0 0 O0 with
        | inl ee =>
          obtain ⟨w, qq⟩ := ee
          rw [hg] at e3
          rw [e3.2, up_s]
        | inr ee =>
          obtain ⟨k2, O'⟩ := ee
          rw [hg] at e3
          rw [e3.2.2.1 0 12 (by omega), up_s]
      -- the reference begins
      obtain ⟨VB, hVB⟩ : ∃ VB, VB = up (up (up (up (up Vc 258 18 0) 258 19 (n : Int)) 258 23 0) 258 25 0) 258 49 0 := ⟨_, rfl⟩
      have fB : yOf Vc VB := by
        rw [hVB]
        exact (yOf.up (by omega)).tr ((yOf.up (by omega)).tr ((yOf.up (by omega)).tr ((yOf.up (by omega)).tr (yOf.up (by omega)))))
      have rB : ∀ o, o ≠ 258 → VB o = Vc o := fun o ho => by
        rw [hVB]
        simp only [up_r ho]
      have b17 : VB 258 17 = V 258 17 := by
        rw [hVB]
        simp (disch := omega) only [up_k]
        exact cc _ _ (by omega) (by omega)
      obtain ⟨VC, w1, w2, w3⟩ := y_ordL32 (b := b) (V := VB) (lw := lw) (R := R')
      have rC : VC 258 = VB 258 := w2 258 (by omega) (by omega)
      have hN : VC 258 14 = (nT V : Int) := by
        rw [rC, hVB]
        simp (disch := omega) only [up_k]
        rw [cc _ _ (by omega) (by omega)]
        exact h.1.2.2.1
      have PC : yPl VC n 0 := by
        refine ⟨?_, ?_, by omega, by omega⟩
        · rw [rC, hVB]
          simp (disch := omega) only [up_k, up_s]
          rfl
        · rw [rC, hVB]
          simp (disch := omega) only [up_k, up_s]
      have hc0 : VC 258 49 = ((0 : Nat) : Int) := by
        rw [rC, hVB, up_s]
        rfl
      have rowC : ∀ o, o ≠ 258 → o ≠ 291 → o ≠ 292 → VC o = Vc o := fun o o1 o2 o3 => by rw [w2 o o2 o3, rB o o1]
      have ho : yO VC (nT V) O0 := fun r hr => by
        have t := h.1.2.2.2 r hr
        obtain ⟨j1, j2, j3, j4, j5, j6, j7, j8, j9, j10, j11⟩ := t
        rw [rowC _ (by omega) (by omega) (by omega), rowC _ (by omega) (by omega) (by omega), cc _ _ (by omega) (by omega), cc _ _ (by omega) (by omega), hO0]
        refine ⟨j9, ?_⟩
        show _ = 1 - bi (V (114 + 3 * r) 4 = 1)
        rw [j6]
        rcases j5 with w | w
        · rw [w, bi_f (by decide)]
        · rw [w, bi_t rfl]
      have tapeC : ∀ k, k < 260 → VC 272 k = up V 0 12 0 53 k := fun k hk => by
        rw [rowC _ (by omega) (by omega) (by omega), cc _ _ (by omega) (by omega), up_r (by omega)]
        exact (q9 k hk).1
      have tt := tk_yk (n := n) tapeC (by omega)
      obtain ⟨s1, m1, g1, g2', s2, VD, g3, g4, g5, g6⟩ := y_ordGo (b := b) (lw := lw) (R := R') (N := nT V) (n := n) h.1.2.1 (by omega) 21 0 0 FUEL VC O0 (by omega) (by omega) (by omega) (by unfold FUEL; omega) hN PC hc0 ho
      rw [← TT_go tt] at g6
      -- what has not changed
      have out : ∀ o k, ¬ (114 ≤ o ∧ o < 258 ∧ o % 3 = 0 ∧ (k = 3 ∨ k = 4)) → ¬ (o = 0 ∧ k = 12) → o ≠ 291 → o ≠ 292 → ¬ yOc o k → up VD 258 17 0 o k = V o k := fun o k a1 a2 a3 a4 a5 => by
        have e : ¬ (o = 258 ∧ k = 17) := fun w => a5 (by omega)
        rw [show up VD 258 17 0 o k = VD o k from if_neg e, g4 o k a5, w2 o a3 a4, fB o k a5, cc o k a1 a2]
      have z12 : up VD 258 17 0 0 12 = 0 := by
        rw [up_r (by omega), g4 0 12 (by omega), w2 0 (by omega) (by omega), fB 0 12 (by omega), cw]
      have fin : ∀ (W O : Vw), (∀ o k, ¬ ((o = 268 ∨ o = 271) ∧ k < 48) → W o k = up VD 258 17 0 o k) → oK (nT V) O → (∀ r, r < nT V → Vc (114 + 3 * r) 3 = O 0 r ∧ Vc (114 + 3 * r) 4 = O 1 r) → yO W (nT V) O → Inv W ∧ agL V W := fun W O hW kO cO yW => by
        have o2 : ∀ o k, ¬ (114 ≤ o ∧ o < 258 ∧ o % 3 = 0 ∧ (k = 3 ∨ k = 4)) → ¬ (o = 0 ∧ k = 12) → o ≠ 291 → o ≠ 292 → ¬ yOc o k → W o k = V o k := fun o k a1 a2 a3 a4 a5 => by rw [hW o k (by omega), out o k a1 a2 a3 a4 a5]
        have row : ∀ o, (∀ k, ¬ (114 ≤ o ∧ o < 258 ∧ o % 3 = 0 ∧ (k = 3 ∨ k = 4))) → o ≠ 0 → o ≠ 291 → o ≠ 292 → (∀ k, ¬ yOc o k) → W o = V o := fun o a1 a2 a3 a4 a5 => funext fun k => o2 o k (a1 k) (by omega) a3 a4 (a5 k)
        have tr : ∀ r, r < nT V → W (114 + 3 * r) 3 = O 0 r ∧ W (114 + 3 * r) 4 = O 1 r := fun r hr => by
          have h48 := r48 h.rel hr
          have e : ∀ k, W (114 + 3 * r) k = Vc (114 + 3 * r) k := fun k => by
            rw [hW _ _ (by omega), up_r (by omega), g4 _ _ (by omega), w2 _ (by omega) (by omega), rB _ (by omega)]
          rw [e, e]
          exact cO r hr
        have tR : ∀ r, r < nT V → W (114 + 3 * r) 2 = V (114 + 3 * r) 2 ∧ W (115 + 3 * r) = V (115 + 3 * r) ∧ W (116 + 3 * r) = V (116 + 3 * r) := fun r hr => by
          have h48 := r48 h.rel hr
          have e : ∀ o k, 114 ≤ o → o < 258 → W o k = Vc o k := fun o k a1 a2 => by
            rw [hW _ _ (by omega), up_r (by omega), g4 _ _ (by omega), w2 _ (by omega) (by omega), rB _ (by omega)]
          refine ⟨?_, funext fun k => ?_, funext fun k => ?_⟩
          · rw [e _ _ (by omega) (by omega), cc _ _ (by omega) (by omega)]
          · rw [e _ _ (by omega) (by omega), cc _ _ (by omega) (by omega)]
          · rw [e _ _ (by omega) (by omega), cc _ _ (by omega) (by omega)]
        obtain ⟨i1, i2, i3, i4⟩ := h
        have c1 : W 0 3 = V 0 3 := o2 _ _ (by omega) (by omega) (by omega) (by omega) (by omega)
        refine ⟨⟨InvT_o i1 c1 (o2 _ _ (by omega) (by omega) (by omega) (by omega) (by omega)) tR (row _ (fun k => by omega) (by omega) (by omega) (by omega) (fun k => by omega)) (row _ (fun k => by omega) (by omega) (by omega) (by omega) (fun k => by omega)) (row _ (fun k => by omega) (by omega) (by omega) (by omega) (fun k => by omega)) kO tr yW, InvE_o i1 i2 (agE.of (o2 _ _ (by omega) (by omega) (by omega) (by omega) (by omega)) (o2 _ _ (by omega) (by omega) (by omega) (by omega) (by omega)) fun o q => row o (fun k => by omega) (by omega) (by omega) (by omega) (fun k => by omega)) c1 (fun r hr => ⟨(tR r hr).1, (tR r hr).2.2⟩), InvP_c (fun o q => row o (fun k => by unfold pRow at q; omega) (by unfold pRow at q; omega) (by unfold pRow at q; omega) (by unfold pRow at q; omega) (fun k => by unfold pRow at q; omega)) (o2 _ _ (by omega) (by omega) (by omega) (by omega) (by omega)) (o2 _ _ (by omega) (by omega) (by omega) (by omega) (by omega)) (o2 _ _ (by omega) (by omega) (by omega) (by omega) (by omega)) (o2 _ _ (by omega) (by omega) (by omega) (by omega) (by omega)) i3, ?_⟩, agL.of (o2 _ _ (by omega) (by omega) (by omega) (by omega) (by omega)) fun o q => row o (fun k => by omega) (by omega) (by omega) (by omega) (fun k => by omega)⟩
        unfold InvQ
        rw [o2 0 5 (by omega) (by omega) (by omega) (by omega) (by omega), o2 258 13 (by omega) (by omega) (by omega) (by omega) (by omega), o2 0 13 (by omega) (by omega) (by omega) (by omega) (by omega), o2 258 65 (by omega) (by omega) (by omega) (by omega) (by omega), hW 0 12 (by omega), z12, hW 258 17 (by omega), up_s, row 272 (fun k => by omega) (by omega) (by omega) (by omega) (fun k => by omega), row 53 (fun k => by omega) (by omega) (by omega) (by omega) (fun k => by omega)]
        exact ⟨q1, q2, q3, q4, q5, by omega, by omega, rfl, q9⟩
      have kO0 : oK (nT V) O0 := fun r hr => by
        have := pl_b h.rel hr
        rw [hO0]
        exact ⟨this.1, this.2, bi_01 _⟩
      have b17' : Vc 258 17 = V 0 12 := by
        rw [cc _ _ (by omega) (by omega)]
        exact q8
      have yfin : ∀ (vf : Int32) (mf : Hp), (if I s2 = I 0 then (iter (fX7_orders_L129 (some (b + 258))) FUEL (I 0, Wd b (up VD 258 17 0) lw R')).bind fun r35 => (hp_gI r35 (some (b + 258)) 6 20).bind fun v46 => some (v46, r35) else (hp_gI (Wd b (up VD 258 17 0) lw R') (some (b + 258)) 6 49).bind fun v47 => some (v47, Wd b (up VD 258 17 0) lw R')) = some (vf, mf) → fX7_orders (Wd b Vc lw R') (some (b + 258)) (I (n : Int)) = some (vf, mf) := fun vf mf hf => by
        rw [← hf]
        unfold fX7_orders fX7_beginsText
        simp (disch := omega) only [k_0, k_1, k_120, y_in, Option.bind_some, bi_if, if_pos, gI258_17, b17', I_le, on258, pI258_18, pI258_19, pI258_23, pI258_25, pI258_49]
        rw [← hVB, w1]
        simp only [Option.bind_some, on258, g1, g3, pI258_17]
        rfl
      cases hg : ordGo (tk (up V 0 12 0) n) (nT V) n 21 0 0 O0 with
      | inl ee =>
        obtain ⟨w, qq⟩ := ee
        rw [hg] at e3 g6
        obtain ⟨rfl, ev⟩ := e3
        obtain ⟨rfl, gf⟩ := g6
        obtain ⟨VE, l1, l2, l3⟩ := y_ordL129 (b := b) (V := up VD 258 17 0) (lw := lw) (R := R')
        have was : ∀ r, r < nT V → up VD 258 17 0 291 r = O0 0 r ∧ up VD 258 17 0 292 r = 1 - O0 1 r := fun r hr => by
          have h48 := r48 h.rel hr
          have t := ho r hr
          have k0 := kO0 r hr
          have a1 := w3 r h48
          rw [← w2 268 (by omega) (by omega), ← w2 271 (by omega) (by omega), t.1, t.2] at a1
          rw [up_r (by omega), up_r (by omega), g4 _ _ (by omega), g4 _ _ (by omega)]
          exact ⟨a1.1, a1.2 (by omega)⟩
        obtain ⟨iv, al⟩ := fin VE O0 l2 kO0 (fun r hr => by
          have h48 := r48 h.rel hr
          have j := (h.1.2.2.2 r hr).2.2.2.2.1
          rw [ev, up_r (by omega), hO0]
          refine ⟨rfl, ?_⟩
          show _ = bi (V (114 + 3 * r) 4 = 1)
          rcases j with w | w
          · rw [w, bi_f (by decide)]
          · rw [w, bi_t rfl]) (fun r hr => by
          have h48 := r48 h.rel hr
          have a1 := l3 r h48
          have a2 := was r hr
          have k0 := kO0 r hr
          rw [a2.1, a2.2] at a1
          exact ⟨a1.1, a1.2 (by omega)⟩)
        refine ⟨I (-1000 * w - (qq : Int)), _, VE, R', 3, 104, e1, ?_, iv, al, Nat.le_refl _, Nat.le_refl _, e2, cO258⟩
        refine yfin _ _ ?_
        have fa : VE 258 20 = -1000 * w - (qq : Int) := by
          rw [l2 _ _ (by omega), up_k (by omega)]
          exact gf
        rw [if_pos rfl, l1]
        simp only [Option.bind_some, gI258_20, fa]
      | inr ee =>
        obtain ⟨k2, O'⟩ := ee
        rw [hg] at e3 g6
        obtain ⟨rfl, kO', ev, et⟩ := e3
        obtain ⟨rfl, gl, go⟩ := g6
        obtain ⟨iv, al⟩ := fin (up VD 258 17 0) O' (fun o k _ => rfl) kO' et (yO_c go (up_r (by omega)) (up_r (by omega)))
        refine ⟨I (k2 : Int), _, up VD 258 17 0, R', 3, 104, e1, ?_, iv, al, Nat.le_refl _, Nat.le_refl _, e2, cO258⟩
        refine yfin _ _ ?_
        have li : up VD 258 17 0 258 49 = (k2 : Int) := by
          rw [up_k (by omega)]
          exact gl
        rw [if_neg (show ¬ I 1 = I 0 by decide)]
        simp only [gI258_49, li, Option.bind_some]
    · refine ⟨I (-1), Wd b V lw R, V, R, 0, 0, ?_, ?_, h, agL.id V, by omega, by omega, (fun _ _ => rfl), cO258⟩
      · show fX0_orders _ _ _ _ = _
        unfold fX0_orders
        simp (disch := omega) only [k_0, k_1, k_120, I_neg, x_within, Option.bind_some, bi_if, if_pos, gI0_12, I_le, if_neg]
      · show fX7_orders _ _ _ = _
        unfold fX7_orders
        simp (disch := omega) only [k_0, k_1, k_120, I_neg, y_in, Option.bind_some, bi_if, if_pos, gI258_17, q8, I_le, if_neg]
  · refine ⟨I (-1), Wd b V lw R, V, R, 0, 0, ?_, ?_, h, agL.id V, by omega, by omega, (fun _ _ => rfl), cO258⟩
    · show fX0_orders _ _ _ _ = _
      unfold fX0_orders
      rw [k_0, k_1, k_120, I_neg, x_within h1 h2 (by omega) (by omega) (by omega) (by omega)]
      simp only [Option.bind_some, bi_if]
      rw [if_neg g]
    · show fX7_orders _ _ _ = _
      unfold fX7_orders
      rw [k_0, k_1, k_120, I_neg, y_in h1 h2 (by omega) (by omega) (by omega) (by omega)]
      simp only [Option.bind_some, bi_if]
      rw [if_neg g]
end OW
