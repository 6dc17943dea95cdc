/-! THE INVARIANT CARRIED OVER; small calls that change. No JVM here. -/
set_option maxRecDepth 100000
set_option linter.unusedVariables false
abbrev agT (V V' : Vw) : Prop := V' 0 3 = V 0 3 ∧ V' 258 14 = V 258 14 ∧ (∀ o k, 114 ≤ o → o < 258 → V' o k = V o k) ∧ V' 265 = V 265 ∧ V' 271 = V 271 ∧ V' 268 = V 268 ∧ V' 266 = V 266 ∧ V' 267 = V 267
abbrev agE (V V' : Vw) : Prop := V' 0 4 = V 0 4 ∧ V' 258 15 = V 258 15 ∧ V' 2 = V 2 ∧ V' 3 = V 3 ∧ V' 269 = V 269
abbrev agQ (V V' : Vw) : Prop := V' 0 5 = V 0 5 ∧ V' 258 13 = V 258 13 ∧ V' 0 13 = V 0 13 ∧ V' 258 65 = V 258 65 ∧ V' 0 12 = V 0 12 ∧ V' 258 17 = V 258 17 ∧ V' 272 = V 272 ∧ V' 53 = V 53
/-- the law's own cells: left alone -/
def agL (V V' : Vw) : Prop := V' 258 26 = V 258 26 ∧ V' 279 = V 279 ∧ V' 280 = V 280 ∧ V' 281 = V 281 ∧ V' 282 = V 282 ∧ V' 283 = V 283
theorem agL.tr {V V1 V2 : Vw} (h1 : agL V V1) (h2 : agL V1 V2) : agL V V2 := ⟨h2.1.trans h1.1, h2.2.1.trans h1.2.1, h2.2.2.1.trans h1.2.2.1, h2.2.2.2.1.trans h1.2.2.2.1, h2.2.2.2.2.1.trans h1.2.2.2.2.1, h2.2.2.2.2.2.trans h1.2.2.2.2.2⟩
theorem InvT_c {V V' : Vw} (a : agT V V') (i : InvT V) : InvT V' := by
  obtain ⟨a1, a2, a3, a4, a5, a6, a7, a8⟩ := a
  obtain ⟨i1, i2, i3, i4⟩ := i
  have en : nT V' = nT V := by
    unfold nT
    rw [a1]
  refine ⟨by rw [en, a1]; exact i1, by rw [en]; exact i2, by rw [en, a2]; exact i3, fun r hr => ?_⟩
  rw [en] at hr
  have e1 : V' (114 + 3 * r) = V (114 + 3 * r) := funext fun k => a3 _ k (by omega) (by omega)
  have e2 : V' (115 + 3 * r) = V (115 + 3 * r) := funext fun k => a3 _ k (by omega) (by omega)
  have e3 : V' (116 + 3 * r) = V (116 + 3 * r) := funext fun k => a3 _ k (by omega) (by omega)
  have := i4 r hr
  unfold InvTr sm st mi pl at this ⊢
  simp only [e1, e2, e3, a4, a5, a6, a7, a8]
  exact this
theorem InvE_c {V V' : Vw} (a : agT V V') (c : agE V V') (t : InvT V) (i : InvE V) : InvE V' := by
  obtain ⟨a1, a2, a3, a4, a5, a6, a7, a8⟩ := a
  obtain ⟨c1, c2, c3, c4, c5⟩ := c
  obtain ⟨i1, i2, i3, i4, i5, i6⟩ := i
  have h48 : nT V ≤ 48 := t.2.1
  have en : nT V' = nT V := by
    unfold nT
    rw [a1]
  have ee : nE V' = nE V := by
    unfold nE
    rw [c1]
  have et : evT V' = evT V := by
    funext e
    unfold evT
    rw [c3]
  have es : evS V' = evS V := by
    funext e
    unfold evS
    rw [c4]
  have hsm : ∀ r, r < nT V → sm V' r = sm V r := fun r hr => by
    unfold sm
    rw [a3 _ _ (by omega) (by omega)]
  have em : ∀ e, e < nE V → evM V' e = evM V e := fun e he => by
    have := (i4 e he).2.1
    unfold evM mi
    rw [et, es, a3 _ _ (by omega) (by omega)]
  refine ⟨by rw [ee, c1]; exact i1, by rw [ee]; exact i2, by rw [ee, c2]; exact i3, fun e he => ?_, fun e f h1 h2 => ?_, fun r k hr hk => ?_⟩
  · rw [ee] at he
    have := i4 e he
    rw [et, es, en, c3, c4, c5, hsm _ this.2.1]
    exact this
  · rw [ee] at h2
    rw [em e (by omega), em f h2, et, es]
    exact i5 e f h1 h2
  · rw [en] at hr
    rw [hsm r hr] at hk
    rw [ee, et, es]
    exact i6 r k hr hk
theorem InvQ_c {V V' : Vw} (a : agQ V V') (i : InvQ V) : InvQ V' := by
  obtain ⟨a1, a2, a3, a4, a5, a6, a7, a8⟩ := a
  unfold InvQ at i ⊢
  simp only [a1, a2, a3, a4, a5, a6, a7, a8]
  exact i
theorem up_e (V : Vw) (o i : Nat) (x : Int) (o2 i2 : Nat) : up V o i x o2 i2 = if o2 = o ∧ i2 = i then x else V o2 i2 := rfl
theorem up_s {V : Vw} {o i : Nat} {x : Int} : up V o i x o i = x := if_pos ⟨rfl, rfl⟩
theorem up_r {V : Vw} {o i o2 : Nat} {x : Int} (h : o2 ≠ o) : up V o i x o2 = V o2 := funext fun k => if_neg fun q => h q.1
theorem up_k {V : Vw} {o i o2 i2 : Nat} {x : Int} (h : i2 ≠ i) : up V o i x o2 i2 = V o2 i2 := if_neg fun q => h q.2
abbrev pRow (o : Nat) : Prop := (9 ≤ o ∧ o ≤ 20) ∨ (41 ≤ o ∧ o ≤ 52) ∨ o = 259 ∨ (261 ≤ o ∧ o ≤ 264) ∨ o = 270
theorem InvP_c {V V' : Vw} (a : ∀ o, pRow o → V' o = V o) (c1 : V' 5 3 = V 5 3) (c2 : V' 5 4 = V 5 4) (c3 : V' 37 3 = V 37 3) (c4 : V' 37 4 = V 37 4) (i : InvP V) : InvP V' := by
  unfold InvP at i ⊢
  obtain ⟨i1, i2⟩ := i
  have a1 := a 259 (by omega)
  have a2 := a 261 (by omega)
  have a3 := a 262 (by omega)
  have a4 := a 263 (by omega)
  have a5 := a 264 (by omega)
  have a6 := a 270 (by omega)
  refine ⟨fun p hp => ?_, ?_⟩
  · have := i1 p hp
    have b1 := a (5 + 4 + p) (by omega)
    have b2 := a (37 + 4 + p) (by omega)
    simp only [a1, a2, a3, a4, a5, a6, b1, b2]
    exact this
  · simp only [a1, a2, c1, c2, c3, c4]
    exact i2
theorem agT.of {V V' : Vw} (c1 : V' 0 3 = V 0 3) (c2 : V' 258 14 = V 258 14) (a : ∀ o, (114 ≤ o ∧ o < 258) ∨ (265 ≤ o ∧ o ≤ 268) ∨ o = 271 → V' o = V o) : agT V V' :=
  ⟨c1, c2, fun o k h1 h2 => by rw [a o (by omega)], a _ (by omega), a _ (by omega), a _ (by omega), a _ (by omega), a _ (by omega)⟩
theorem agE.of {V V' : Vw} (c1 : V' 0 4 = V 0 4) (c2 : V' 258 15 = V 258 15) (a : ∀ o, o = 2 ∨ o = 3 ∨ o = 269 → V' o = V o) : agE V V' :=
  ⟨c1, c2, a _ (by omega), a _ (by omega), a _ (by omega)⟩
theorem agL.of {V V' : Vw} (c : V' 258 26 = V 258 26) (a : ∀ o, (279 ≤ o ∧ o ≤ 283) → V' o = V o) : agL V V' :=
  ⟨c, a _ (by omega), a _ (by omega), a _ (by omega), a _ (by omega), a _ (by omega)⟩
theorem agL.id (V : Vw) : agL V V := ⟨rfl, rfl, rfl, rfl, rfl, rfl⟩
/-- scratch alone has changed -/
theorem Inv.sc {V0 V : Vw} (h : Inv V0) (s : Sc V0 V) : Inv V ∧ agL V0 V := by
  obtain ⟨i1, i2, i3, i4⟩ := h
  have row : ∀ o, (∀ k, ¬ scr o k) → V o = V0 o := fun o q => funext fun k => s o k (q k)
  have aT : agT V0 V := agT.of (s _ _ (by unfold scr; omega)) (s _ _ (by unfold scr; omega)) fun o q => row o fun k => by unfold scr; omega
  exact ⟨⟨InvT_c aT i1, InvE_c aT (agE.of (s _ _ (by unfold scr; omega)) (s _ _ (by unfold scr; omega)) fun o q => row o fun k => by unfold scr; omega) i1 i2, InvP_c (fun o q => row o fun k => by unfold scr; unfold pRow at q; omega) (s _ _ (by unfold scr; omega)) (s _ _ (by unfold scr; omega)) (s _ _ (by unfold scr; omega)) (s _ _ (by unfold scr; omega)) i3, InvQ_c ⟨s _ _ (by unfold scr; omega), s _ _ (by unfold scr; omega), s _ _ (by unfold scr; omega), s _ _ (by unfold scr; omega), s _ _ (by unfold scr; omega), s _ _ (by unfold scr; omega), row _ fun k => by unfold scr; omega, row _ fun k => by unfold scr; omega⟩ i4⟩, agL.of (s _ _ (by unfold scr; omega)) fun o q => row o fun k => by unfold scr; omega⟩
theorem Rel.invP {V0 V : Vw} (h : Rel V0 V) : InvP V := by
  obtain ⟨⟨i1, i2, i3, i4⟩, s⟩ := h
  have row : ∀ o, o ≠ 258 → (∀ k, ¬ scr o k) → V o = V0 o := fun o n q => funext fun k => s o k (q k) (by omega)
  exact InvP_c (fun o q => row o (by unfold pRow at q; omega) fun k => by unfold scr; unfold pRow at q; omega) (s _ _ (by unfold scr; omega) (by omega)) (s _ _ (by unfold scr; omega) (by omega)) (s _ _ (by unfold scr; omega) (by omega)) (s _ _ (by unfold scr; omega) (by omega)) i3
theorem Inv.rel {V : Vw} (h : Inv V) : Rel V V := ⟨h, fun _ _ _ _ => rfl⟩
/-- the tape's mark moves on both sides -/
theorem Inv.tp {V : Vw} (h : Inv V) {x : Int} (h0 : 0 ≤ x) (h1 : x ≤ 260) : Inv (up (up V 0 12 x) 258 17 x) ∧ agL V (up (up V 0 12 x) 258 17 x) := by
  obtain ⟨i1, i2, i3, i4⟩ := h
  have aT : agT V (up (up V 0 12 x) 258 17 x) := agT.of (by simp (disch := omega) only [up_s, up_r, up_k, and_true, true_and, or_true, false_or, or_false, true_or]) (by simp (disch := omega) only [up_s, up_r, up_k, and_true, true_and, or_true, false_or, or_false, true_or]) fun o q => by simp (disch := omega) only [up_s, up_r, up_k, and_true, true_and, or_true, false_or, or_false, true_or]
  refine ⟨⟨InvT_c aT i1, InvE_c aT (agE.of (by simp (disch := omega) only [up_s, up_r, up_k, and_true, true_and, or_true, false_or, or_false, true_or]) (by simp (disch := omega) only [up_s, up_r, up_k, and_true, true_and, or_true, false_or, or_false, true_or]) fun o q => by simp (disch := omega) only [up_s, up_r, up_k, and_true, true_and, or_true, false_or, or_false, true_or]) i1 i2, InvP_c (fun o q => by simp (disch := omega) only [up_s, up_r, up_k, and_true, true_and, or_true, false_or, or_false, true_or]) (by simp (disch := omega) only [up_s, up_r, up_k, and_true, true_and, or_true, false_or, or_false, true_or]) (by simp (disch := omega) only [up_s, up_r, up_k, and_true, true_and, or_true, false_or, or_false, true_or]) (by simp (disch := omega) only [up_s, up_r, up_k, and_true, true_and, or_true, false_or, or_false, true_or]) (by simp (disch := omega) only [up_s, up_r, up_k, and_true, true_and, or_true, false_or, or_false, true_or]) i3, ?_⟩, agL.of (by simp (disch := omega) only [up_s, up_r, up_k, and_true, true_and, or_true, false_or, or_false, true_or]) fun o q => by simp (disch := omega) only [up_s, up_r, up_k, and_true, true_and, or_true, false_or, or_false, true_or]⟩
  obtain ⟨j1, j2, j3, j4, j5, j6, j7, j8, j9⟩ := i4
  unfold InvQ
  simp (disch := omega) only [up_s, up_r, up_k, and_true, true_and, or_true, false_or, or_false, true_or]
  exact ⟨j1, j2, j3, j4, j5, h0, h1, j9⟩
/-- .. in the midst of a call: the class's has moved -/
theorem Inv.tp0 {V : Vw} (h : Inv V) {x : Int} (h0 : 0 ≤ x) (h1 : x ≤ 260) : Rel (up (up V 0 12 x) 258 17 x) (up V 0 12 x) := ⟨(h.tp h0 h1).1, fun o k _ q => by
  unfold up
  rw [if_neg q]⟩
/-- what a call that changes the memory owes -/
def Okc (b : Nat) (V : Vw) (lw : Option Nat) (R : Hp) (f g : Hp → Option (Int32 × Hp)) : Prop := ∃ (v : Int32) (m1 : Hp) (V' : Vw), f (Wd b V lw R) = some (v, m1) ∧ g m1 = some (v, Wd b V' lw R) ∧ Inv V' ∧ agL V V' ∧ hp_cls m1 (some (b + 258)) = some 6
section C5
variable {b : Nat} {V : Vw} {lw : Option Nat} {R : Hp} {s t z y w p : Int}
theorem call_changing (h : Inv V) (h1 : -2147483648 ≤ z) (h2 : z ≤ 2147483647) : Okc b V lw R (fun m => fX0_changing m (some b) (I z)) (fun m => fX7_changing m (some (b + 258)) (I z)) := by
  unfold Okc
  by_cases g : 0 ≤ z ∧ z ≤ 60
  · refine ⟨I 1, Wd b (up V 0 5 z) lw R, up (up V 0 5 z) 258 13 z, ?_, ?_, ?_, ?_, cO258⟩
    · simp (disch := omega) only [fX0_changing, k_0, k_1, k_2, k_3, k_4, k_5, k_6, k_7, k_8, k_9, k_10, k_11, k_12, k_13, k_14, k_15, k_16, k_17, k_18, k_19, k_20, k_21, k_22, k_23, k_24, k_25, k_26, k_27, k_28, k_29, k_30, k_31, k_33, k_37, k_38, k_40, k_41, k_42, k_43, k_45, k_47, k_48, k_57, k_59, k_60, k_61, k_62, k_63, k_91, k_93, k_97, k_99, k_100, k_102, k_106, k_107, k_108, k_109, k_110, k_112, k_114, k_115, k_117, k_120, k_121, k_124, k_160, k_200, k_240, k_255, k_256, k_260, k_384, k_720, k_1000, k_1047, k_1439, k_1440, k_2000, k_2047, k_9999, k_10059, k_13849, k_25173, k_65535, k_65536, k_1000000, k_1048576, k_268435456, k_1073741823, k_1073741824, I_add, I_sub, I_mul, I_neg, Option.bind_some, tn, tn_at, Int.add_zero, Int.toNat_zero, bi_e0, bi_e1, bi_z, x_within, I_lt, I_le, I_inj, if_pos, if_neg, I_max, I_min, pI0_5]
    · simp (disch := omega) only [fX7_changing, k_0, k_1, k_2, k_3, k_4, k_5, k_6, k_7, k_8, k_9, k_10, k_11, k_12, k_13, k_14, k_15, k_16, k_17, k_18, k_19, k_20, k_21, k_22, k_23, k_24, k_25, k_26, k_27, k_28, k_29, k_30, k_31, k_33, k_37, k_38, k_40, k_41, k_42, k_43, k_45, k_47, k_48, k_57, k_59, k_60, k_61, k_62, k_63, k_91, k_93, k_97, k_99, k_100, k_102, k_106, k_107, k_108, k_109, k_110, k_112, k_114, k_115, k_117, k_120, k_121, k_124, k_160, k_200, k_240, k_255, k_256, k_260, k_384, k_720, k_1000, k_1047, k_1439, k_1440, k_2000, k_2047, k_9999, k_10059, k_13849, k_25173, k_65535, k_65536, k_1000000, k_1048576, k_268435456, k_1073741823, k_1073741824, I_add, I_sub, I_mul, I_neg, Option.bind_some, tn, tn_at, Int.add_zero, Int.toNat_zero, bi_e0, bi_e1, bi_z, y_in, I_lt, I_le, I_inj, if_pos, if_neg, I_max, I_min, pI258_13]
    · obtain ⟨i1, i2, i3, i4⟩ := h
      have aT : agT V (up (up V 0 5 z) 258 13 z) := agT.of (by simp (disch := omega) only [up_s, up_r, up_k, and_true, true_and, or_true, false_or, or_false, true_or]) (by simp (disch := omega) only [up_s, up_r, up_k, and_true, true_and, or_true, false_or, or_false, true_or]) fun o q => by simp (disch := omega) only [up_s, up_r, up_k, and_true, true_and, or_true, false_or, or_false, true_or]
      refine ⟨InvT_c aT i1, InvE_c aT (agE.of (by simp (disch := omega) only [up_s, up_r, up_k, and_true, true_and, or_true, false_or, or_false, true_or]) (by simp (disch := omega) only [up_s, up_r, up_k, and_true, true_and, or_true, false_or, or_false, true_or]) fun o q => by simp (disch := omega) only [up_s, up_r, up_k, and_true, true_and, or_true, false_or, or_false, true_or]) i1 i2, InvP_c (fun o q => by simp (disch := omega) only [up_s, up_r, up_k, and_true, true_and, or_true, false_or, or_false, true_or]) (by simp (disch := omega) only [up_s, up_r, up_k, and_true, true_and, or_true, false_or, or_false, true_or]) (by simp (disch := omega) only [up_s, up_r, up_k, and_true, true_and, or_true, false_or, or_false, true_or]) (by simp (disch := omega) only [up_s, up_r, up_k, and_true, true_and, or_true, false_or, or_false, true_or]) (by simp (disch := omega) only [up_s, up_r, up_k, and_true, true_and, or_true, false_or, or_false, true_or]) i3, ?_⟩
      obtain ⟨j1, j2, j3, j4, j5, j6, j7, j8, j9⟩ := i4
      unfold InvQ
      simp (disch := omega) only [up_s, up_r, up_k, and_true, true_and, or_true, false_or, or_false, true_or]
      exact ⟨g.1, g.2, j4, j5, j6, j7, j8, j9⟩
    · exact agL.of (by simp (disch := omega) only [up_s, up_r, up_k, and_true, true_and, or_true, false_or, or_false, true_or]) fun o q => by simp (disch := omega) only [up_s, up_r, up_k, and_true, true_and, or_true, false_or, or_false, true_or]
  · refine ⟨I 0, Wd b V lw R, V, ?_, ?_, h, agL.id V, cO258⟩
    · simp (disch := omega) only [fX0_changing, k_0, k_1, k_2, k_3, k_4, k_5, k_6, k_7, k_8, k_9, k_10, k_11, k_12, k_13, k_14, k_15, k_16, k_17, k_18, k_19, k_20, k_21, k_22, k_23, k_24, k_25, k_26, k_27, k_28, k_29, k_30, k_31, k_33, k_37, k_38, k_40, k_41, k_42, k_43, k_45, k_47, k_48, k_57, k_59, k_60, k_61, k_62, k_63, k_91, k_93, k_97, k_99, k_100, k_102, k_106, k_107, k_108, k_109, k_110, k_112, k_114, k_115, k_117, k_120, k_121, k_124, k_160, k_200, k_240, k_255, k_256, k_260, k_384, k_720, k_1000, k_1047, k_1439, k_1440, k_2000, k_2047, k_9999, k_10059, k_13849, k_25173, k_65535, k_65536, k_1000000, k_1048576, k_268435456, k_1073741823, k_1073741824, I_add, I_sub, I_mul, I_neg, Option.bind_some, tn, tn_at, Int.add_zero, Int.toNat_zero, bi_e0, bi_e1, bi_z, x_within, I_lt, I_le, I_inj, if_pos, if_neg, I_max, I_min]
    · simp (disch := omega) only [fX7_changing, k_0, k_1, k_2, k_3, k_4, k_5, k_6, k_7, k_8, k_9, k_10, k_11, k_12, k_13, k_14, k_15, k_16, k_17, k_18, k_19, k_20, k_21, k_22, k_23, k_24, k_25, k_26, k_27, k_28, k_29, k_30, k_31, k_33, k_37, k_38, k_40, k_41, k_42, k_43, k_45, k_47, k_48, k_57, k_59, k_60, k_61, k_62, k_63, k_91, k_93, k_97, k_99, k_100, k_102, k_106, k_107, k_108, k_109, k_110, k_112, k_114, k_115, k_117, k_120, k_121, k_124, k_160, k_200, k_240, k_255, k_256, k_260, k_384, k_720, k_1000, k_1047, k_1439, k_1440, k_2000, k_2047, k_9999, k_10059, k_13849, k_25173, k_65535, k_65536, k_1000000, k_1048576, k_268435456, k_1073741823, k_1073741824, I_add, I_sub, I_mul, I_neg, Option.bind_some, tn, tn_at, Int.add_zero, Int.toNat_zero, bi_e0, bi_e1, bi_z, y_in, I_lt, I_le, I_inj, if_pos, if_neg, I_max, I_min]
theorem call_seed (h : Inv V) (h1 : -2147483648 ≤ z) (h2 : z ≤ 2147483647) : Okc b V lw R (fun m => fX0_seed m (some b) (I z)) (fun m => fX7_seed m (some (b + 258)) (I z)) := by
  unfold Okc
  by_cases g : 0 ≤ z ∧ z < 65536
  · refine ⟨I 1, Wd b (up V 5 4 z) lw R, up (up V 5 4 z) 259 25 z, ?_, ?_, ?_, ?_, cO258⟩
    · simp (disch := omega) only [fX0_seed, k_0, k_1, k_2, k_3, k_4, k_5, k_6, k_7, k_8, k_9, k_10, k_11, k_12, k_13, k_14, k_15, k_16, k_17, k_18, k_19, k_20, k_21, k_22, k_23, k_24, k_25, k_26, k_27, k_28, k_29, k_30, k_31, k_33, k_37, k_38, k_40, k_41, k_42, k_43, k_45, k_47, k_48, k_57, k_59, k_60, k_61, k_62, k_63, k_91, k_93, k_97, k_99, k_100, k_102, k_106, k_107, k_108, k_109, k_110, k_112, k_114, k_115, k_117, k_120, k_121, k_124, k_160, k_200, k_240, k_255, k_256, k_260, k_384, k_720, k_1000, k_1047, k_1439, k_1440, k_2000, k_2047, k_9999, k_10059, k_13849, k_25173, k_65535, k_65536, k_1000000, k_1048576, k_268435456, k_1073741823, k_1073741824, I_add, I_sub, I_mul, I_neg, Option.bind_some, tn, tn_at, Int.add_zero, Int.toNat_zero, bi_e0, bi_e1, bi_z, x_in, I_lt, I_le, I_inj, if_pos, if_neg, I_max, I_min, gR0_7, pI5_4]
    · simp (disch := omega) only [fX7_seed, k_0, k_1, k_2, k_3, k_4, k_5, k_6, k_7, k_8, k_9, k_10, k_11, k_12, k_13, k_14, k_15, k_16, k_17, k_18, k_19, k_20, k_21, k_22, k_23, k_24, k_25, k_26, k_27, k_28, k_29, k_30, k_31, k_33, k_37, k_38, k_40, k_41, k_42, k_43, k_45, k_47, k_48, k_57, k_59, k_60, k_61, k_62, k_63, k_91, k_93, k_97, k_99, k_100, k_102, k_106, k_107, k_108, k_109, k_110, k_112, k_114, k_115, k_117, k_120, k_121, k_124, k_160, k_200, k_240, k_255, k_256, k_260, k_384, k_720, k_1000, k_1047, k_1439, k_1440, k_2000, k_2047, k_9999, k_10059, k_13849, k_25173, k_65535, k_65536, k_1000000, k_1048576, k_268435456, k_1073741823, k_1073741824, I_add, I_sub, I_mul, I_neg, Option.bind_some, tn, tn_at, Int.add_zero, Int.toNat_zero, bi_e0, bi_e1, bi_z, y_in, I_lt, I_le, I_inj, if_pos, if_neg, I_max, I_min, gR258_0, wA259]
      rfl
    · obtain ⟨i1, i2, i3, i4⟩ := h
      have aT : agT V (up (up V 5 4 z) 259 25 z) := agT.of (by simp (disch := omega) only [up_s, up_r, up_k, and_true, true_and, or_true, false_or, or_false, true_or]) (by simp (disch := omega) only [up_s, up_r, up_k, and_true, true_and, or_true, false_or, or_false, true_or]) fun o q => by simp (disch := omega) only [up_s, up_r, up_k, and_true, true_and, or_true, false_or, or_false, true_or]
      refine ⟨InvT_c aT i1, InvE_c aT (agE.of (by simp (disch := omega) only [up_s, up_r, up_k, and_true, true_and, or_true, false_or, or_false, true_or]) (by simp (disch := omega) only [up_s, up_r, up_k, and_true, true_and, or_true, false_or, or_false, true_or]) fun o q => by simp (disch := omega) only [up_s, up_r, up_k, and_true, true_and, or_true, false_or, or_false, true_or]) i1 i2, ?_, InvQ_c (by refine ⟨?_, ?_, ?_, ?_, ?_, ?_, ?_, ?_⟩ <;> simp (disch := omega) only [up_s, up_r, up_k, and_true, true_and, or_true, false_or, or_false, true_or]) i4⟩
      obtain ⟨j1, j2⟩ := i3
      refine ⟨fun p hp => ?_, ?_⟩
      · have := j1 p hp
        simp (disch := omega) only [up_s, up_r, up_k, and_true, true_and, or_true, false_or, or_false, true_or]
        exact this
      · simp (disch := omega) only [up_s, up_r, up_k, and_true, true_and, or_true, false_or, or_false, true_or]
        omega
    · exact agL.of (by simp (disch := omega) only [up_s, up_r, up_k, and_true, true_and, or_true, false_or, or_false, true_or]) fun o q => by simp (disch := omega) only [up_s, up_r, up_k, and_true, true_and, or_true, false_or, or_false, true_or]
  · refine ⟨I 0, Wd b V lw R, V, ?_, ?_, h, agL.id V, cO258⟩
    · simp (disch := omega) only [fX0_seed, k_0, k_1, k_2, k_3, k_4, k_5, k_6, k_7, k_8, k_9, k_10, k_11, k_12, k_13, k_14, k_15, k_16, k_17, k_18, k_19, k_20, k_21, k_22, k_23, k_24, k_25, k_26, k_27, k_28, k_29, k_30, k_31, k_33, k_37, k_38, k_40, k_41, k_42, k_43, k_45, k_47, k_48, k_57, k_59, k_60, k_61, k_62, k_63, k_91, k_93, k_97, k_99, k_100, k_102, k_106, k_107, k_108, k_109, k_110, k_112, k_114, k_115, k_117, k_120, k_121, k_124, k_160, k_200, k_240, k_255, k_256, k_260, k_384, k_720, k_1000, k_1047, k_1439, k_1440, k_2000, k_2047, k_9999, k_10059, k_13849, k_25173, k_65535, k_65536, k_1000000, k_1048576, k_268435456, k_1073741823, k_1073741824, I_add, I_sub, I_mul, I_neg, Option.bind_some, tn, tn_at, Int.add_zero, Int.toNat_zero, bi_e0, bi_e1, bi_z, x_in, I_lt, I_le, I_inj, if_pos, if_neg, I_max, I_min]
    · simp (disch := omega) only [fX7_seed, k_0, k_1, k_2, k_3, k_4, k_5, k_6, k_7, k_8, k_9, k_10, k_11, k_12, k_13, k_14, k_15, k_16, k_17, k_18, k_19, k_20, k_21, k_22, k_23, k_24, k_25, k_26, k_27, k_28, k_29, k_30, k_31, k_33, k_37, k_38, k_40, k_41, k_42, k_43, k_45, k_47, k_48, k_57, k_59, k_60, k_61, k_62, k_63, k_91, k_93, k_97, k_99, k_100, k_102, k_106, k_107, k_108, k_109, k_110, k_112, k_114, k_115, k_117, k_120, k_121, k_124, k_160, k_200, k_240, k_255, k_256, k_260, k_384, k_720, k_1000, k_1047, k_1439, k_1440, k_2000, k_2047, k_9999, k_10059, k_13849, k_25173, k_65535, k_65536, k_1000000, k_1048576, k_268435456, k_1073741823, k_1073741824, I_add, I_sub, I_mul, I_neg, Option.bind_some, tn, tn_at, Int.add_zero, Int.toNat_zero, bi_e0, bi_e1, bi_z, y_in, I_lt, I_le, I_inj, if_pos, if_neg, I_max, I_min]
theorem call_person (h : Inv V) (hp1 : -2147483648 ≤ p) (hp2 : p ≤ 2147483647) (h1 : -2147483648 ≤ s) (h2 : s ≤ 2147483647) (h3 : -2147483648 ≤ t) (h4 : t ≤ 2147483647) (h5 : -2147483648 ≤ z) (h6 : z ≤ 2147483647) : Okc b V lw R (fun m => fX0_person m (some b) (I p) (I s) (I t) (I z)) (fun m => fX7_person m (some (b + 258)) (I p) (I s) (I t) (I z)) := by
  unfold Okc
  by_cases g : (0 ≤ p ∧ p < 12) ∧ ((0 ≤ s ∧ s < 10) ∧ (0 ≤ t ∧ t < 10) ∧ s ≠ t) ∧ 0 ≤ z ∧ z < 1440
  · obtain ⟨⟨g1, g2⟩, ⟨g3, g4, g5⟩, g6, g7⟩ := g
    obtain ⟨p, rfl⟩ : ∃ q : Nat, p = q := ⟨p.toNat, by omega⟩
    have hp : p < 12 := by omega
    refine ⟨I 1, Wd b (up (up (up (up (up (up V (5 + 4 + p) 5 1) (5 + 4 + p) 0 s) (5 + 4 + p) 1 t) (5 + 4 + p) 2 z) (5 + 4 + p) 3 0) (5 + 4 + p) 4 0) lw R, up (up (up (up (up (up (up (up (up (up (up (up V (5 + 4 + p) 5 1) (5 + 4 + p) 0 s) (5 + 4 + p) 1 t) (5 + 4 + p) 2 z) (5 + 4 + p) 3 0) (5 + 4 + p) 4 0) 270 p 1) 262 p s) 263 p t) 264 p z) 259 p 0) 259 (12 + p) 0, ?_, ?_, ?_, ?_, cO258⟩
    · simp (disch := omega) only [fX0_person, k_0, k_1, k_2, k_3, k_4, k_5, k_6, k_7, k_8, k_9, k_10, k_11, k_12, k_13, k_14, k_15, k_16, k_17, k_18, k_19, k_20, k_21, k_22, k_23, k_24, k_25, k_26, k_27, k_28, k_29, k_30, k_31, k_33, k_37, k_38, k_40, k_41, k_42, k_43, k_45, k_47, k_48, k_57, k_59, k_60, k_61, k_62, k_63, k_91, k_93, k_97, k_99, k_100, k_102, k_106, k_107, k_108, k_109, k_110, k_112, k_114, k_115, k_117, k_120, k_121, k_124, k_160, k_200, k_240, k_255, k_256, k_260, k_384, k_720, k_1000, k_1047, k_1439, k_1440, k_2000, k_2047, k_9999, k_10059, k_13849, k_25173, k_65535, k_65536, k_1000000, k_1048576, k_268435456, k_1073741823, k_1073741824, I_add, I_sub, I_mul, I_neg, Option.bind_some, tn, tn_at, Int.add_zero, Int.toNat_zero, bi_e0, bi_e1, bi_z, x_in, x_two, I_lt, I_le, I_inj, if_pos, if_neg, I_max, I_min, gR0_7, gR5_0]
      rw [show (some (b + 6) : Option Nat) = some (b + (5 + 1)) from rfl]
      simp (disch := omega) only [k_0, k_1, k_2, k_3, k_4, k_5, k_6, k_7, k_8, k_9, k_10, k_11, k_12, k_13, k_14, k_15, k_16, k_17, k_18, k_19, k_20, k_21, k_22, k_23, k_24, k_25, k_26, k_27, k_28, k_29, k_30, k_31, k_33, k_37, k_38, k_40, k_41, k_42, k_43, k_45, k_47, k_48, k_57, k_59, k_60, k_61, k_62, k_63, k_91, k_93, k_97, k_99, k_100, k_102, k_106, k_107, k_108, k_109, k_110, k_112, k_114, k_115, k_117, k_120, k_121, k_124, k_160, k_200, k_240, k_255, k_256, k_260, k_384, k_720, k_1000, k_1047, k_1439, k_1440, k_2000, k_2047, k_9999, k_10059, k_13849, k_25173, k_65535, k_65536, k_1000000, k_1048576, k_268435456, k_1073741823, k_1073741824, I_add, I_sub, I_mul, I_neg, Option.bind_some, tn, tn_at, Int.add_zero, Int.toNat_zero, bi_e0, bi_e1, bi_z, rPe, pPe, pPeZ]
    · have e12 : ((12 : Int) + (p : Int)).toNat = 12 + p := by omega
      simp (disch := omega) only [fX7_person, k_0, k_1, k_2, k_3, k_4, k_5, k_6, k_7, k_8, k_9, k_10, k_11, k_12, k_13, k_14, k_15, k_16, k_17, k_18, k_19, k_20, k_21, k_22, k_23, k_24, k_25, k_26, k_27, k_28, k_29, k_30, k_31, k_33, k_37, k_38, k_40, k_41, k_42, k_43, k_45, k_47, k_48, k_57, k_59, k_60, k_61, k_62, k_63, k_91, k_93, k_97, k_99, k_100, k_102, k_106, k_107, k_108, k_109, k_110, k_112, k_114, k_115, k_117, k_120, k_121, k_124, k_160, k_200, k_240, k_255, k_256, k_260, k_384, k_720, k_1000, k_1047, k_1439, k_1440, k_2000, k_2047, k_9999, k_10059, k_13849, k_25173, k_65535, k_65536, k_1000000, k_1048576, k_268435456, k_1073741823, k_1073741824, I_add, I_sub, I_mul, I_neg, Option.bind_some, tn, tn_at, Int.add_zero, Int.toNat_zero, bi_e0, bi_e1, bi_z, Int.zero_add, y_in, y_two, I_lt, I_le, I_inj, if_pos, if_neg, I_max, I_min, gR258_11, gR258_3, gR258_4, gR258_5, gR258_0, wA270, wA262, wA263, wA264, wA259, e12]
    · obtain ⟨i1, i2, i3, i4⟩ := h
      have aT : agT V (up (up (up (up (up (up (up (up (up (up (up (up V (5 + 4 + p) 5 1) (5 + 4 + p) 0 s) (5 + 4 + p) 1 t) (5 + 4 + p) 2 z) (5 + 4 + p) 3 0) (5 + 4 + p) 4 0) 270 p 1) 262 p s) 263 p t) 264 p z) 259 p 0) 259 (12 + p) 0) := agT.of (by simp (disch := omega) only [up_s, up_r, up_k, and_true, true_and, or_true, false_or, or_false, true_or]) (by simp (disch := omega) only [up_s, up_r, up_k, and_true, true_and, or_true, false_or, or_false, true_or]) fun o q => by simp (disch := omega) only [up_s, up_r, up_k, and_true, true_and, or_true, false_or, or_false, true_or]
      refine ⟨InvT_c aT i1, InvE_c aT (agE.of (by simp (disch := omega) only [up_s, up_r, up_k, and_true, true_and, or_true, false_or, or_false, true_or]) (by simp (disch := omega) only [up_s, up_r, up_k, and_true, true_and, or_true, false_or, or_false, true_or]) fun o q => by simp (disch := omega) only [up_s, up_r, up_k, and_true, true_and, or_true, false_or, or_false, true_or]) i1 i2, ?_, InvQ_c (by refine ⟨?_, ?_, ?_, ?_, ?_, ?_, ?_, ?_⟩ <;> simp (disch := omega) only [up_s, up_r, up_k, and_true, true_and, or_true, false_or, or_false, true_or]) i4⟩
      obtain ⟨j1, j2⟩ := i3
      refine ⟨fun q hq => ?_, ?_⟩
      · have := j1 q hq
        by_cases e : q = p
        · subst e
          simp (disch := omega) only [up_s, up_r, up_k, and_true, true_and, or_true, false_or, or_false, true_or]
          omega
        · simp (disch := omega) only [up_s, up_r, up_k, and_true, true_and, or_true, false_or, or_false, true_or]
          exact this
      · simp (disch := omega) only [up_s, up_r, up_k, and_true, true_and, or_true, false_or, or_false, true_or]
        exact j2
    · exact agL.of (by simp (disch := omega) only [up_s, up_r, up_k, and_true, true_and, or_true, false_or, or_false, true_or]) fun o q => by simp (disch := omega) only [up_s, up_r, up_k, and_true, true_and, or_true, false_or, or_false, true_or]
  · refine ⟨I 0, Wd b V lw R, V, ?_, ?_, h, agL.id V, cO258⟩
    · by_cases c1 : 0 ≤ p ∧ p < 12
      · by_cases c2 : (0 ≤ s ∧ s < 10) ∧ (0 ≤ t ∧ t < 10) ∧ s ≠ t
        · have c3 : ¬ (0 ≤ z ∧ z < 1440) := fun c3 => g ⟨c1, c2, c3⟩
          simp only [fX0_person, k_0, k_1, k_2, k_3, k_4, k_5, k_6, k_7, k_8, k_9, k_10, k_11, k_12, k_13, k_14, k_15, k_16, k_17, k_18, k_19, k_20, k_21, k_22, k_23, k_24, k_25, k_26, k_27, k_28, k_29, k_30, k_31, k_33, k_37, k_38, k_40, k_41, k_42, k_43, k_45, k_47, k_48, k_57, k_59, k_60, k_61, k_62, k_63, k_91, k_93, k_97, k_99, k_100, k_102, k_106, k_107, k_108, k_109, k_110, k_112, k_114, k_115, k_117, k_120, k_121, k_124, k_160, k_200, k_240, k_255, k_256, k_260, k_384, k_720, k_1000, k_1047, k_1439, k_1440, k_2000, k_2047, k_9999, k_10059, k_13849, k_25173, k_65535, k_65536, k_1000000, k_1048576, k_268435456, k_1073741823, k_1073741824, I_add, I_sub, I_mul, I_neg, Option.bind_some, tn, tn_at, Int.add_zero, Int.toNat_zero, bi_e0, bi_e1, bi_z, x_in hp1 hp2 (show -2147483648 ≤ 12 by decide) (show 12 ≤ 2147483647 by decide), x_in h5 h6 (show -2147483648 ≤ 1440 by decide) (show 1440 ≤ 2147483647 by decide), x_two h1 h2 h3 h4]
          rw [if_neg (fun q => q c1), if_neg (fun q => q c2), if_pos c3]
        · simp only [fX0_person, k_0, k_1, k_2, k_3, k_4, k_5, k_6, k_7, k_8, k_9, k_10, k_11, k_12, k_13, k_14, k_15, k_16, k_17, k_18, k_19, k_20, k_21, k_22, k_23, k_24, k_25, k_26, k_27, k_28, k_29, k_30, k_31, k_33, k_37, k_38, k_40, k_41, k_42, k_43, k_45, k_47, k_48, k_57, k_59, k_60, k_61, k_62, k_63, k_91, k_93, k_97, k_99, k_100, k_102, k_106, k_107, k_108, k_109, k_110, k_112, k_114, k_115, k_117, k_120, k_121, k_124, k_160, k_200, k_240, k_255, k_256, k_260, k_384, k_720, k_1000, k_1047, k_1439, k_1440, k_2000, k_2047, k_9999, k_10059, k_13849, k_25173, k_65535, k_65536, k_1000000, k_1048576, k_268435456, k_1073741823, k_1073741824, I_add, I_sub, I_mul, I_neg, Option.bind_some, tn, tn_at, Int.add_zero, Int.toNat_zero, bi_e0, bi_e1, bi_z, x_in hp1 hp2 (show -2147483648 ≤ 12 by decide) (show 12 ≤ 2147483647 by decide), x_two h1 h2 h3 h4]
          rw [if_neg (fun q => q c1), if_pos c2]
      · simp only [fX0_person, k_0, k_1, k_2, k_3, k_4, k_5, k_6, k_7, k_8, k_9, k_10, k_11, k_12, k_13, k_14, k_15, k_16, k_17, k_18, k_19, k_20, k_21, k_22, k_23, k_24, k_25, k_26, k_27, k_28, k_29, k_30, k_31, k_33, k_37, k_38, k_40, k_41, k_42, k_43, k_45, k_47, k_48, k_57, k_59, k_60, k_61, k_62, k_63, k_91, k_93, k_97, k_99, k_100, k_102, k_106, k_107, k_108, k_109, k_110, k_112, k_114, k_115, k_117, k_120, k_121, k_124, k_160, k_200, k_240, k_255, k_256, k_260, k_384, k_720, k_1000, k_1047, k_1439, k_1440, k_2000, k_2047, k_9999, k_10059, k_13849, k_25173, k_65535, k_65536, k_1000000, k_1048576, k_268435456, k_1073741823, k_1073741824, I_add, I_sub, I_mul, I_neg, Option.bind_some, tn, tn_at, Int.add_zero, Int.toNat_zero, bi_e0, bi_e1, bi_z, x_in hp1 hp2 (show -2147483648 ≤ 12 by decide) (show 12 ≤ 2147483647 by decide)]
        rw [if_pos c1]
    · by_cases c1 : 0 ≤ p ∧ p ≤ 11
      · by_cases c2 : (0 ≤ s ∧ s < 10) ∧ (0 ≤ t ∧ t < 10) ∧ s ≠ t
        · have c3 : ¬ (0 ≤ z ∧ z ≤ 1439) := fun c3 => g ⟨by omega, c2, by omega⟩
          simp only [fX7_person, k_0, k_1, k_2, k_3, k_4, k_5, k_6, k_7, k_8, k_9, k_10, k_11, k_12, k_13, k_14, k_15, k_16, k_17, k_18, k_19, k_20, k_21, k_22, k_23, k_24, k_25, k_26, k_27, k_28, k_29, k_30, k_31, k_33, k_37, k_38, k_40, k_41, k_42, k_43, k_45, k_47, k_48, k_57, k_59, k_60, k_61, k_62, k_63, k_91, k_93, k_97, k_99, k_100, k_102, k_106, k_107, k_108, k_109, k_110, k_112, k_114, k_115, k_117, k_120, k_121, k_124, k_160, k_200, k_240, k_255, k_256, k_260, k_384, k_720, k_1000, k_1047, k_1439, k_1440, k_2000, k_2047, k_9999, k_10059, k_13849, k_25173, k_65535, k_65536, k_1000000, k_1048576, k_268435456, k_1073741823, k_1073741824, I_add, I_sub, I_mul, I_neg, Option.bind_some, tn, tn_at, Int.add_zero, Int.toNat_zero, bi_e0, bi_e1, bi_z, y_in hp1 hp2 (show -2147483648 ≤ 11 by decide) (show 11 ≤ 2147483647 by decide) (show -2147483648 ≤ 0 by decide) (show 0 ≤ 2147483647 by decide), y_in h5 h6 (show -2147483648 ≤ 1439 by decide) (show 1439 ≤ 2147483647 by decide) (show -2147483648 ≤ 0 by decide) (show 0 ≤ 2147483647 by decide), y_two h1 h2 h3 h4]
          rw [if_neg (fun q => q c1), if_neg (fun q => q c2), if_pos c3]
        · simp only [fX7_person, k_0, k_1, k_2, k_3, k_4, k_5, k_6, k_7, k_8, k_9, k_10, k_11, k_12, k_13, k_14, k_15, k_16, k_17, k_18, k_19, k_20, k_21, k_22, k_23, k_24, k_25, k_26, k_27, k_28, k_29, k_30, k_31, k_33, k_37, k_38, k_40, k_41, k_42, k_43, k_45, k_47, k_48, k_57, k_59, k_60, k_61, k_62, k_63, k_91, k_93, k_97, k_99, k_100, k_102, k_106, k_107, k_108, k_109, k_110, k_112, k_114, k_115, k_117, k_120, k_121, k_124, k_160, k_200, k_240, k_255, k_256, k_260, k_384, k_720, k_1000, k_1047, k_1439, k_1440, k_2000, k_2047, k_9999, k_10059, k_13849, k_25173, k_65535, k_65536, k_1000000, k_1048576, k_268435456, k_1073741823, k_1073741824, I_add, I_sub, I_mul, I_neg, Option.bind_some, tn, tn_at, Int.add_zero, Int.toNat_zero, bi_e0, bi_e1, bi_z, y_in hp1 hp2 (show -2147483648 ≤ 11 by decide) (show 11 ≤ 2147483647 by decide) (show -2147483648 ≤ 0 by decide) (show 0 ≤ 2147483647 by decide), y_two h1 h2 h3 h4]
          rw [if_neg (fun q => q c1), if_pos c2]
      · simp only [fX7_person, k_0, k_1, k_2, k_3, k_4, k_5, k_6, k_7, k_8, k_9, k_10, k_11, k_12, k_13, k_14, k_15, k_16, k_17, k_18, k_19, k_20, k_21, k_22, k_23, k_24, k_25, k_26, k_27, k_28, k_29, k_30, k_31, k_33, k_37, k_38, k_40, k_41, k_42, k_43, k_45, k_47, k_48, k_57, k_59, k_60, k_61, k_62, k_63, k_91, k_93, k_97, k_99, k_100, k_102, k_106, k_107, k_108, k_109, k_110, k_112, k_114, k_115, k_117, k_120, k_121, k_124, k_160, k_200, k_240, k_255, k_256, k_260, k_384, k_720, k_1000, k_1047, k_1439, k_1440, k_2000, k_2047, k_9999, k_10059, k_13849, k_25173, k_65535, k_65536, k_1000000, k_1048576, k_268435456, k_1073741823, k_1073741824, I_add, I_sub, I_mul, I_neg, Option.bind_some, tn, tn_at, Int.add_zero, Int.toNat_zero, bi_e0, bi_e1, bi_z, y_in hp1 hp2 (show -2147483648 ≤ 11 by decide) (show 11 ≤ 2147483647 by decide) (show -2147483648 ≤ 0 by decide) (show 0 ≤ 2147483647 by decide)]
        rw [if_pos c1]
end C5
