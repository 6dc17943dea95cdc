/-! CALL: feed. No JVM here. -/
set_option maxRecDepth 100000
set_option linter.unusedVariables false
section FD
variable {b : Nat} {V0 V : Vw} {lw : Option Nat} {R : Hp} {p k j i r e : Nat} {s t z y w : Int} {u : Int32}
theorem j2b_b (u : Int32) : -128 ≤ (j2b u).toInt ∧ (j2b u).toInt ≤ 127 := by
  unfold j2b
  rw [Int8.toInt_toInt32]
  have h1 := Int8.le_toInt u.toInt8
  have h2 := Int8.toInt_lt u.toInt8
  omega
theorem j2b_n (u : Int32) : (I (j2b u).toInt).toInt8.toInt32 = I (j2b u).toInt := by
  rw [show I (j2b u).toInt = j2b u from I_ot _]
  unfold j2b
  rw [Int8.toInt8_toInt32]
theorem wT53 (h0 : 0 ≤ z) (h1 : z < 260) : hp_sI (Wd b V lw R) (some (b + 53)) 1 (I z) (j2b u) = some (Wd b (up V 53 z.toNat (j2b u).toInt) lw R) := by
  have := wA53 (b := b) (V := V) (lw := lw) (R := R) h0 h1 (j2b_n u)
  rw [show I (j2b u).toInt = j2b u from I_ot _] at this
  exact this
theorem wT272 (h0 : 0 ≤ z) (h1 : z < 260) : hp_sI (Wd b V lw R) (some (b + 272)) 1 (I z) (j2b u) = some (Wd b (up V 272 z.toNat (j2b u).toInt) lw R) := by
  have := wA272 (b := b) (V := V) (lw := lw) (R := R) h0 h1 (j2b_n u)
  rw [show I (j2b u).toInt = j2b u from I_ot _] at this
  exact this
def byo (u : Int32) (j : Nat) : Int := (j2b (jshr u (I (24 - 8 * (j : Int))))).toInt
theorem x_push1 (j : Nat) (hj : j < 4) (n : Nat) (hn : n < 260) (hV : V 0 12 = n) : fX0_push_L3 (some b) u (I (24 - 8 * (j : Int)), Wd b V lw R) = some (.inl (I (24 - 8 * ((j + 1 : Nat) : Int)), Wd b (up (up V 53 n (byo u j)) 0 12 ((n + 1 : Nat) : Int)) lw R)) := by
  have e : (24 : Int) - 8 * (j : Int) + -8 = 24 - 8 * ((j + 1 : Nat) : Int) := by omega
  have e0 : up V 53 n (byo u j) 0 12 = n := by rw [up_r (by decide), hV]
  unfold fX0_push_L3
  simp (disch := omega) only [k_0, k_1, k_8, I_neg, I_lt, if_neg, gR0_10, gI0_12, Option.bind_some, hV, wT53, tn, I_add, e]
  rw [show (j2b (jshr u (I (24 - 8 * (j : Int))))).toInt = byo u j from rfl, e0, pI0_12]
  rfl
theorem y_push1 (j : Nat) (hj : j < 4) (n : Nat) (hn : n < 260) (hV : V 258 17 = n) : fX7_types_L2 (some (b + 258)) u (I (3 - (j : Int)), Wd b V lw R) = some (.inl (I (3 - ((j + 1 : Nat) : Int)), Wd b (up (up V 272 n (byo u j)) 258 17 ((n + 1 : Nat) : Int)) lw R)) := by
  have e : (3 : Int) - (j : Int) + -1 = 3 - ((j + 1 : Nat) : Int) := by omega
  have e8 : (8 : Int) * (3 - (j : Int)) = 24 - 8 * (j : Int) := by omega
  have e0 : up V 272 n (byo u j) 258 17 = n := by rw [up_r (by decide), hV]
  unfold fX7_types_L2
  simp (disch := omega) only [k_0, k_1, k_8, I_neg, I_lt, if_neg, gR258_16, gI258_17, Option.bind_some, hV, I_mul, e8, wT272, tn, I_add, e]
  rw [show (j2b (jshr u (I (24 - 8 * (j : Int))))).toInt = byo u j from rfl, e0, pI258_17]
  rfl
theorem x_push (n : Nat) (hn : n + 4 ≤ 260) (hV : V 0 12 = n) : ∃ V', fX0_push (Wd b V lw R) (some b) u = some (Wd b V' lw R) ∧ (∀ o, o ≠ 53 → o ≠ 0 → V' o = V o) ∧ (∀ k, k ≠ 12 → V' 0 k = V 0 k) ∧ V' 0 12 = ((n + 4 : Nat) : Int) ∧ ∀ k, V' 53 k = if n ≤ k ∧ k < n + 4 then byo u (k - n) else V 53 k := by
  obtain ⟨r, h1, V', h2, h3, h4, h5, h6⟩ := iter_for (b := fX0_push_L3 (some b) u) (s := (I 24, Wd b V lw R)) (fun j q => ∃ V', q = (I (24 - 8 * (j : Int)), Wd b V' lw R) ∧ (∀ o, o ≠ 53 → o ≠ 0 → V' o = V o) ∧ (∀ k, k ≠ 12 → V' 0 k = V 0 k) ∧ V' 0 12 = ((n + j : Nat) : Int) ∧ ∀ k, V' 53 k = if n ≤ k ∧ k < n + j then byo u (k - n) else V 53 k) (fun r => ∃ V', r = Wd b V' lw R ∧ (∀ o, o ≠ 53 → o ≠ 0 → V' o = V o) ∧ (∀ k, k ≠ 12 → V' 0 k = V 0 k) ∧ V' 0 12 = ((n + 4 : Nat) : Int) ∧ ∀ k, V' 53 k = if n ≤ k ∧ k < n + 4 then byo u (k - n) else V 53 k) 4 (by decide) ⟨V, rfl, fun _ _ _ => rfl, fun _ _ => rfl, hV, fun k => by rw [if_neg (by omega)]⟩ (fun j q hS hj => by
      obtain ⟨V', rfl, h1, h2, h3, h4⟩ := hS
      refine ⟨_, x_push1 j hj (n + j) (by omega) h3, _, rfl, fun o h5 h6 => by rw [up_r h6, up_r h5, h1 o h5 h6], fun k hk => by rw [up_k hk, up_r (by decide), h2 k hk], by rw [up_s]; rfl, fun k => ?_⟩
      rw [up_r (by decide)]
      by_cases c : k = n + j
      · subst c
        rw [up_s, if_pos (by omega), Nat.add_sub_cancel_left]
      · rw [up_k c, h4 k]
        by_cases d : n ≤ k ∧ k < n + j
        · rw [if_pos d, if_pos (by omega)]
        · rw [if_neg d, if_neg (by omega)]) (fun q hS => by
      obtain ⟨V', rfl, h1, h2, h3, h4⟩ := hS
      refine ⟨_, ?_, V', rfl, h1, h2, h3, h4⟩
      unfold fX0_push_L3
      simp (disch := omega) only [k_0, I_lt, if_pos])
  refine ⟨V', ?_, h3, h4, h5, h6⟩
  unfold fX0_push
  rw [k_24, h1, h2]
  rfl
theorem y_push (n : Nat) (hn : n + 4 ≤ 260) (hV : V 258 17 = n) : ∃ V', fX7_types (Wd b V lw R) (some (b + 258)) u = some (Wd b V' lw R) ∧ (∀ o, o ≠ 272 → o ≠ 258 → V' o = V o) ∧ (∀ k, k ≠ 17 → V' 258 k = V 258 k) ∧ V' 258 17 = ((n + 4 : Nat) : Int) ∧ ∀ k, V' 272 k = if n ≤ k ∧ k < n + 4 then byo u (k - n) else V 272 k := by
  obtain ⟨r, h1, V', h2, h3, h4, h5, h6⟩ := iter_for (b := fX7_types_L2 (some (b + 258)) u) (s := (I 3, Wd b V lw R)) (fun j q => ∃ V', q = (I (3 - (j : Int)), Wd b V' lw R) ∧ (∀ o, o ≠ 272 → o ≠ 258 → V' o = V o) ∧ (∀ k, k ≠ 17 → V' 258 k = V 258 k) ∧ V' 258 17 = ((n + j : Nat) : Int) ∧ ∀ k, V' 272 k = if n ≤ k ∧ k < n + j then byo u (k - n) else V 272 k) (fun r => ∃ V', r = Wd b V' lw R ∧ (∀ o, o ≠ 272 → o ≠ 258 → V' o = V o) ∧ (∀ k, k ≠ 17 → V' 258 k = V 258 k) ∧ V' 258 17 = ((n + 4 : Nat) : Int) ∧ ∀ k, V' 272 k = if n ≤ k ∧ k < n + 4 then byo u (k - n) else V 272 k) 4 (by decide) ⟨V, rfl, fun _ _ _ => rfl, fun _ _ => rfl, hV, fun k => by rw [if_neg (by omega)]⟩ (fun j q hS hj => by
      obtain ⟨V', rfl, h1, h2, h3, h4⟩ := hS
      refine ⟨_, y_push1 j hj (n + j) (by omega) h3, _, rfl, fun o h5 h6 => by rw [up_r h6, up_r h5, h1 o h5 h6], fun k hk => by rw [up_k hk, up_r (by decide), h2 k hk], by rw [up_s]; rfl, fun k => ?_⟩
      rw [up_r (by decide)]
      by_cases c : k = n + j
      · subst c
        rw [up_s, if_pos (by omega), Nat.add_sub_cancel_left]
      · rw [up_k c, h4 k]
        by_cases d : n ≤ k ∧ k < n + j
        · rw [if_pos d, if_pos (by omega)]
        · rw [if_neg d, if_neg (by omega)]) (fun q hS => by
      obtain ⟨V', rfl, h1, h2, h3, h4⟩ := hS
      refine ⟨_, ?_, V', rfl, h1, h2, h3, h4⟩
      unfold fX7_types_L2
      simp (disch := omega) only [k_0, I_lt, if_pos])
  refine ⟨V', ?_, h3, h4, h5, h6⟩
  unfold fX7_types
  rw [k_3, h1, h2]
  rfl
/-- a tape with five numbers more -/
def fd5 (T : Nat → Int) (n : Nat) (u1 u2 u3 u4 u5 : Int32) (k : Nat) : Int := if n + 16 ≤ k ∧ k < n + 20 then byo u5 (k - (n + 16)) else if n + 12 ≤ k ∧ k < n + 16 then byo u4 (k - (n + 12)) else if n + 8 ≤ k ∧ k < n + 12 then byo u3 (k - (n + 8)) else if n + 4 ≤ k ∧ k < n + 8 then byo u2 (k - (n + 4)) else if n ≤ k ∧ k < n + 4 then byo u1 (k - n) else T k
theorem fd5_b {T : Nat → Int} {n : Nat} {u1 u2 u3 u4 u5 : Int32} {k : Nat} (h : -128 ≤ T k ∧ T k ≤ 127) : -128 ≤ fd5 T n u1 u2 u3 u4 u5 k ∧ fd5 T n u1 u2 u3 u4 u5 k ≤ 127 := by
  unfold fd5
  split
  · exact j2b_b _
  · split
    · exact j2b_b _
    · split
      · exact j2b_b _
      · split
        · exact j2b_b _
        · split
          · exact j2b_b _
          · exact h
theorem x_feed (n : Nat) (hn : n + 20 ≤ 260) (hV : V 0 12 = n) (u1 u2 u3 u4 u5 : Int32) : ∃ V', fX0_feed (Wd b V lw R) (some b) u1 u2 u3 u4 u5 = some (I ((n + 20 : Nat) : Int), Wd b V' lw R) ∧ (∀ o, o ≠ 53 → o ≠ 0 → V' o = V o) ∧ (∀ k, k ≠ 12 → V' 0 k = V 0 k) ∧ V' 0 12 = ((n + 20 : Nat) : Int) ∧ ∀ k, V' 53 k = fd5 (V 53) n u1 u2 u3 u4 u5 k := by
  obtain ⟨V1, e1, a1, b1, c1, d1⟩ := x_push (b := b) (lw := lw) (R := R) (u := u1) n (by omega) hV
  obtain ⟨V2, e2, a2, b2, c2, d2⟩ := x_push (b := b) (lw := lw) (R := R) (u := u2) (n + 4) (by omega) c1
  obtain ⟨V3, e3, a3, b3, c3, d3⟩ := x_push (b := b) (lw := lw) (R := R) (u := u3) (n + 8) (by omega) c2
  obtain ⟨V4, e4, a4, b4, c4, d4⟩ := x_push (b := b) (lw := lw) (R := R) (u := u4) (n + 12) (by omega) c3
  obtain ⟨V5, e5, a5, b5, c5, d5⟩ := x_push (b := b) (lw := lw) (R := R) (u := u5) (n + 16) (by omega) c4
  refine ⟨V5, ?_, fun o h1 h2 => by rw [a5 o h1 h2, a4 o h1 h2, a3 o h1 h2, a2 o h1 h2, a1 o h1 h2], fun k hk => by rw [b5 k hk, b4 k hk, b3 k hk, b2 k hk, b1 k hk], c5, fun k => by rw [d5 k, d4 k, d3 k, d2 k, d1 k]; rfl⟩
  unfold fX0_feed
  rw [gI0_12, Option.bind_some, hV, k_20, k_260, I_add]
  simp (disch := omega) only [I_le, if_pos]
  rw [on0, e1, Option.bind_some, on0, e2, Option.bind_some, on0, e3, Option.bind_some, on0, e4, Option.bind_some, on0, e5, Option.bind_some, gI0_12, Option.bind_some, c5]
theorem y_feed (n : Nat) (hn : n + 20 ≤ 260) (hV : V 258 17 = n) (u1 u2 u3 u4 u5 : Int32) : ∃ V', fX7_feed (Wd b V lw R) (some (b + 258)) u1 u2 u3 u4 u5 = some (I ((n + 20 : Nat) : Int), Wd b V' lw R) ∧ (∀ o, o ≠ 272 → o ≠ 258 → V' o = V o) ∧ (∀ k, k ≠ 17 → V' 258 k = V 258 k) ∧ V' 258 17 = ((n + 20 : Nat) : Int) ∧ ∀ k, V' 272 k = fd5 (V 272) n u1 u2 u3 u4 u5 k := by
  obtain ⟨V1, e1, a1, b1, c1, d1⟩ := y_push (b := b) (lw := lw) (R := R) (u := u1) n (by omega) hV
  obtain ⟨V2, e2, a2, b2, c2, d2⟩ := y_push (b := b) (lw := lw) (R := R) (u := u2) (n + 4) (by omega) c1
  obtain ⟨V3, e3, a3, b3, c3, d3⟩ := y_push (b := b) (lw := lw) (R := R) (u := u3) (n + 8) (by omega) c2
  obtain ⟨V4, e4, a4, b4, c4, d4⟩ := y_push (b := b) (lw := lw) (R := R) (u := u4) (n + 12) (by omega) c3
  obtain ⟨V5, e5, a5, b5, c5, d5⟩ := y_push (b := b) (lw := lw) (R := R) (u := u5) (n + 16) (by omega) c4
  refine ⟨V5, ?_, fun o h1 h2 => by rw [a5 o h1 h2, a4 o h1 h2, a3 o h1 h2, a2 o h1 h2, a1 o h1 h2], fun k hk => by rw [b5 k hk, b4 k hk, b3 k hk, b2 k hk, b1 k hk], c5, fun k => by rw [d5 k, d4 k, d3 k, d2 k, d1 k]; rfl⟩
  unfold fX7_feed
  rw [gI258_17, Option.bind_some, hV, k_20, k_260, I_add]
  simp (disch := omega) only [I_le, if_pos]
  rw [on258, e1, Option.bind_some, on258, e2, Option.bind_some, on258, e3, Option.bind_some, on258, e4, Option.bind_some, on258, e5, Option.bind_some, gI258_17, Option.bind_some, c5]
theorem call_feed (h : Inv V) (u1 u2 u3 u4 u5 : Int32) : Okc b V lw R (fun m => fX0_feed m (some b) u1 u2 u3 u4 u5) (fun m => fX7_feed m (some (b + 258)) u1 u2 u3 u4 u5) := by
  unfold Okc
  have h0 := h
  obtain ⟨i1, i2, i3, i4⟩ := h
  obtain ⟨q1, q2, q3, q4, q5, q6, q7, q8, q9⟩ := i4
  obtain ⟨n, hn⟩ : ∃ n : Nat, V 0 12 = n := ⟨(V 0 12).toNat, by omega⟩
  by_cases g : n + 20 ≤ 260
  · obtain ⟨V1, e1, a1, b1, c1, d1⟩ := x_feed (b := b) (lw := lw) (R := R) n g hn u1 u2 u3 u4 u5
    obtain ⟨V2, e2, a2, b2, c2, d2⟩ := y_feed (b := b) (lw := lw) (R := R) (V := V1) n g (by rw [a1 258 (by decide) (by decide), q8, hn]) u1 u2 u3 u4 u5
    have r : ∀ o, o ≠ 53 → o ≠ 0 → o ≠ 272 → o ≠ 258 → V2 o = V o := fun o h1 h2 h3 h4 => by rw [a2 o h3 h4, a1 o h1 h2]
    have r0 : ∀ k, k ≠ 12 → V2 0 k = V 0 k := fun k hk => by rw [a2 0 (by decide) (by decide), b1 k hk]
    have r258 : ∀ k, k ≠ 17 → V2 258 k = V 258 k := fun k hk => by rw [b2 k hk, a1 258 (by decide) (by decide)]
    have v12 : V2 0 12 = ((n + 20 : Nat) : Int) := by rw [a2 0 (by decide) (by decide), c1]
    refine ⟨_, _, V2, e1, e2, ?_, (agL.of (r258 _ (by decide)) fun o ho => r o (by omega) (by omega) (by omega) (by omega)), cO258⟩
    have aT : agT V V2 := agT.of (r0 _ (by decide)) (r258 _ (by decide)) fun o q => r o (by omega) (by omega) (by omega) (by omega)
    refine ⟨InvT_c aT i1, InvE_c aT (agE.of (r0 _ (by decide)) (r258 _ (by decide)) fun o q => r o (by omega) (by omega) (by omega) (by omega)) i1 i2, InvP_c (fun o q => r o (by unfold pRow at q; omega) (by unfold pRow at q; omega) (by unfold pRow at q; omega) (by unfold pRow at q; omega)) (by rw [r 5 (by decide) (by decide) (by decide) (by decide)]) (by rw [r 5 (by decide) (by decide) (by decide) (by decide)]) (by rw [r 37 (by decide) (by decide) (by decide) (by decide)]) (by rw [r 37 (by decide) (by decide) (by decide) (by decide)]) i3, ?_⟩
    unfold InvQ
    rw [v12, c2, r0 5 (by decide), r0 13 (by decide), r258 13 (by decide), r258 65 (by decide)]
    refine ⟨q1, q2, q3, q4, q5, by omega, by omega, rfl, fun k hk => ?_⟩
    have e53 : V2 53 k = fd5 (V 53) n u1 u2 u3 u4 u5 k := by rw [a2 53 (by decide) (by decide), d1 k]
    refine ⟨?_, ?_⟩
    · rw [e53, d2 k]
      unfold fd5
      rw [a1 272 (by decide) (by decide), (q9 k hk).1]
    · rw [e53]
      exact fd5_b (q9 k hk).2
  · refine ⟨I (-1), Wd b V lw R, V, ?_, ?_, h0, agL.id V, cO258⟩
    · show fX0_feed _ _ _ _ _ _ _ = _
      unfold fX0_feed
      rw [gI0_12, Option.bind_some, hn, k_20, k_260, I_add]
      simp (disch := omega) only [I_le, if_neg, k_1, I_neg]
    · show fX7_feed _ _ _ _ _ _ _ = _
      unfold fX7_feed
      rw [gI258_17, Option.bind_some, q8, hn, k_20, k_260, I_add]
      simp (disch := omega) only [I_le, if_neg, k_1, I_neg]
end FD
