/-! DAYS, the reference. No JVM here. -/
set_option maxRecDepth 100000
set_option linter.unusedVariables false
abbrev yCell (o k : Nat) : Prop := o = 259 ∨ o = 293 ∨ o = 294 ∨ o = 285 ∨ o = 284 ∨ (o = 258 ∧ 52 ≤ k ∧ k ≤ 54)
def ChY (V V' : Vw) : Prop := ∀ o k, ¬ yCell o k → V' o k = V o k
def YS (V0 V S : Vw) : Prop := (∀ p, p < 12 → V 259 p = S 0 p ∧ V 259 (12 + p) = S 1 p ∧ V 293 p = S 3 p) ∧ (∀ r, r < nT V0 → V 294 r = S 2 r) ∧ V 259 24 = S 4 0 ∧ V 259 25 = S 4 1 ∧ V 258 52 = S 4 2 ∧ V 258 53 = S 4 3 ∧ V 258 54 = S 4 4
section YD
variable {b : Nat} {V0 V V' S : Vw} {lw : Option Nat} {R : Hp} {p k j i r e n nx : Nat} {s t z u v w many : Int} {sy : Int → (Nat → Int) → Bool} {tl : Int → (Nat → Int) → Int}
theorem ChY.tr {V1 V2 V3 : Vw} (h : ChY V1 V2) (g : ChY V2 V3) : ChY V1 V3 := fun o k q => (g o k q).trans (h o k q)
theorem ChY.id : ChY V V := fun _ _ _ => rfl
theorem ChY.up {o i : Nat} (h : yCell o i) : ChY V (up V o i v) := fun o2 k2 q => by
  rw [up_e, if_neg (fun e => q (by rw [e.1, e.2]; exact h))]
theorem Rem.chy (h : Rem V0 V) (c : ChY V V') : Rem V0 V' := ⟨h.1, fun o k q1 q2 => by
  rw [c o k (by
    intro w
    unfold scr at q1
    omega)]
  exact h.2 o k q1 q2⟩
theorem agL_y (a : agL V0 V) (c : ChY V V') : agL V0 V' := by
  refine agL.tr a (agL.of (c _ _ (by omega)) fun o ho => funext fun k => c o k (by omega))
theorem perY (h : Rem V0 V) (hp : p < 12) : V 270 p = V0 (5 + 4 + p) 5 ∧ V 262 p = V0 (5 + 4 + p) 0 ∧ V 263 p = V0 (5 + 4 + p) 1 ∧ V 264 p = V0 (5 + 4 + p) 2 := by
  have i := h.1.2.2.1.1 p hp
  obtain ⟨i1, i2, i3, i4, i5, i6, i7, i8, i9, i10, i11, _⟩ := i
  refine ⟨?_, ?_, ?_, ?_⟩
  · rw [h.2 _ _ (by unfold scr; omega) (by omega), i2]
  · rw [h.2 _ _ (by unfold scr; omega) (by omega), i5]
  · rw [h.2 _ _ (by unfold scr; omega) (by omega), i8]
  · rw [h.2 _ _ (by unfold scr; omega) (by omega), i11]
theorem YS.c (x : YS V0 V S) (h : ∀ o, o ≠ 285 → o ≠ 284 → V' o = V o) : YS V0 V' S := by
  unfold YS at x ⊢
  rw [h 259 (by omega) (by omega), h 293 (by omega) (by omega), h 294 (by omega) (by omega), h 258 (by omega) (by omega)]
  exact x
theorem YS_ri (x : YS V0 V S) (v : Int) : YS V0 (up V 293 p v) (up S 3 p v) := by
  obtain ⟨x1, x2, x3⟩ := x
  refine ⟨fun q hq => ?_, fun r hr => ?_, ?_⟩
  · have := x1 q hq
    rw [up_r (show 259 ≠ 293 by omega), up_r (show 0 ≠ 3 by omega), up_r (show 1 ≠ 3 by omega)]
    by_cases c : q = p
    · rw [c, up_s, up_s]
      rw [c] at this
      exact ⟨this.1, this.2.1, rfl⟩
    · rw [up_k c, up_k c]
      exact this
  · rw [up_r (by omega), up_r (by omega)]
    exact x2 r hr
  · rw [up_r (show 259 ≠ 293 by omega), up_r (show 258 ≠ 293 by omega), up_r (show 4 ≠ 3 by omega)]
    exact x3
theorem YS_ar (x : YS V0 V S) (hp : p < 12) (v : Int) : YS V0 (up V 259 p v) (up S 0 p v) := by
  obtain ⟨x1, x2, x3⟩ := x
  refine ⟨fun q hq => ?_, fun r hr => ?_, ?_⟩
  · have := x1 q hq
    rw [up_r (show 293 ≠ 259 by omega), up_r (show 1 ≠ 0 by omega), up_r (show 3 ≠ 0 by omega), up_k (show 12 + q ≠ p by omega)]
    by_cases c : q = p
    · rw [c, up_s, up_s]
      rw [c] at this
      exact ⟨rfl, this.2⟩
    · rw [up_k c, up_k c]
      exact this
  · rw [up_r (by omega), up_r (by omega)]
    exact x2 r hr
  · rw [up_k (show 24 ≠ p by omega), up_k (show 25 ≠ p by omega), up_r (show 258 ≠ 259 by omega), up_r (show 4 ≠ 0 by omega)]
    exact x3
theorem YS_mi (x : YS V0 V S) (hp : p < 12) (v : Int) : YS V0 (up V 259 (12 + p) v) (up S 1 p v) := by
  obtain ⟨x1, x2, x3⟩ := x
  refine ⟨fun q hq => ?_, fun r hr => ?_, ?_⟩
  · have := x1 q hq
    rw [up_r (show 293 ≠ 259 by omega), up_r (show 0 ≠ 1 by omega), up_r (show 3 ≠ 1 by omega), up_k (show q ≠ 12 + p by omega)]
    by_cases c : q = p
    · rw [c, up_s, up_s]
      rw [c] at this
      exact ⟨this.1, rfl, this.2.2⟩
    · rw [up_k (show 12 + q ≠ 12 + p by omega), up_k c]
      exact this
  · rw [up_r (by omega), up_r (by omega)]
    exact x2 r hr
  · rw [up_k (show 24 ≠ 12 + p by omega), up_k (show 25 ≠ 12 + p by omega), up_r (show 258 ≠ 259 by omega), up_r (show 4 ≠ 1 by omega)]
    exact x3
theorem YS_la (x : YS V0 V S) (v : Int) : YS V0 (up V 294 p v) (up S 2 p v) := by
  obtain ⟨x1, x2, x3⟩ := x
  refine ⟨fun q hq => ?_, fun r hr => ?_, ?_⟩
  · have := x1 q hq
    rw [up_r (show 259 ≠ 294 by omega), up_r (show 293 ≠ 294 by omega), up_r (show 0 ≠ 2 by omega), up_r (show 1 ≠ 2 by omega), up_r (show 3 ≠ 2 by omega)]
    exact this
  · by_cases c : r = p
    · rw [c, up_s, up_s]
    · rw [up_k c, up_k c]
      exact x2 r hr
  · rw [up_r (show 259 ≠ 294 by omega), up_r (show 258 ≠ 294 by omega), up_r (show 4 ≠ 2 by omega)]
    exact x3
theorem YS_n (x : YS V0 V S) {i : Nat} (hi : i < 2) (v : Int) : YS V0 (up V 259 (24 + i) v) (up S 4 i v) := by
  obtain ⟨x1, x2, x3, x4, x5, x6, x7⟩ := x
  refine ⟨fun q hq => ?_, fun r hr => ?_, ?_⟩
  · have := x1 q hq
    rw [up_k (show q ≠ 24 + i by omega), up_k (show 12 + q ≠ 24 + i by omega), up_r (show 293 ≠ 259 by omega), up_r (show 0 ≠ 4 by omega), up_r (show 1 ≠ 4 by omega), up_r (show 3 ≠ 4 by omega)]
    exact this
  · rw [up_r (by omega), up_r (by omega)]
    exact x2 r hr
  · rw [up_r (show 258 ≠ 259 by omega), up_k (show 2 ≠ i by omega), up_k (show 3 ≠ i by omega), up_k (show 4 ≠ i by omega)]
    have : i = 0 ∨ i = 1 := by omega
    rcases this with rfl | rfl
    · rw [up_s, up_s, up_k (by omega), up_k (by omega)]
      exact ⟨rfl, x4, x5, x6, x7⟩
    · rw [up_s, up_s, up_k (by omega), up_k (by omega)]
      exact ⟨x3, rfl, x5, x6, x7⟩
theorem YS_f (x : YS V0 V S) {i : Nat} (hi : 2 ≤ i ∧ i < 5) (v : Int) : YS V0 (up V 258 (50 + i) v) (up S 4 i v) := by
  obtain ⟨x1, x2, x3, x4, x5, x6, x7⟩ := x
  refine ⟨fun q hq => ?_, fun r hr => ?_, ?_⟩
  · have := x1 q hq
    rw [up_r (show 259 ≠ 258 by omega), up_r (show 293 ≠ 258 by omega), up_r (show 0 ≠ 4 by omega), up_r (show 1 ≠ 4 by omega), up_r (show 3 ≠ 4 by omega)]
    exact this
  · rw [up_r (by omega), up_r (by omega)]
    exact x2 r hr
  · rw [up_r (show 259 ≠ 258 by omega), up_k (show 0 ≠ i by omega), up_k (show 1 ≠ i by omega)]
    have : i = 2 ∨ i = 3 ∨ i = 4 := by omega
    rcases this with rfl | rfl | rfl
    · rw [up_s, up_s, up_k (by omega), up_k (by omega), up_k (by omega), up_k (by omega)]
      exact ⟨x3, x4, rfl, x6, x7⟩
    · rw [up_s, up_s, up_k (by omega), up_k (by omega), up_k (by omega), up_k (by omega)]
      exact ⟨x3, x4, x5, rfl, x7⟩
    · rw [up_s, up_s, up_k (by omega), up_k (by omega), up_k (by omega), up_k (by omega)]
      exact ⟨x3, x4, x5, x6, rfl⟩
theorem y_wait (h : Rem V0 V) (x : ∀ p, p < 12 → V 293 p = S 3 p) (g : dzK V0 S) (hs : 0 ≤ s ∧ s ≤ 9) : fX7_waitersAt (Wd b V lw R) (some (b + 258)) (I s) = some (I (dzW V0 S s)) := by
  unfold fX7_waitersAt dzW
  rw [k_0, cnt_loop (fun p => V0 (5 + 4 + p) 5 = 1 ∧ V0 (5 + 4 + p) 0 = s ∧ S 3 p = -1) 12 (by omega) (fun p c hp => by
    have x3 := x p hp
    obtain ⟨y1, y2, y3, y4⟩ := perY h hp
    have pb := perB h.1 hp
    have gb := g.1 p hp
    unfold fX7_waitersAt_L4
    simp (disch := omega) only [k_0, k_1, k_12, I_neg, I_le, if_neg, gR258_11, gR258_3, gR258_50, rA270, rA262, rA293, tn, Option.bind_some, y1, y2, x3, I_inj, I_add, Int.add_zero]
    by_cases c1 : V0 (5 + 4 + p) 5 = 0
    · rw [if_pos c1, bi_f (by omega), Int.add_zero]
    · rw [if_neg c1]
      by_cases c2 : V0 (5 + 4 + p) 0 = s
      · rw [if_pos c2]
        by_cases c3 : S 3 p = -1
        · rw [if_pos c3, bi_t (by omega)]
        · rw [if_neg c3, bi_f (by omega), Int.add_zero]
      · rw [if_neg c2, bi_f (by omega), Int.add_zero]) (fun c => by
    unfold fX7_waitersAt_L4
    simp (disch := omega) only [k_12, I_le, if_pos])]
  rfl
theorem y_feels (h : Rem V0 V) (x : YS V0 V S) (g : dzK V0 S) (hr : r < nT V0) (hk : k < sm V0 r) : ∃ V', fX7_feels (Wd b V lw R) (some (b + 258)) (I (r : Int)) (I (k : Int)) (I u) = some (Wd b V' lw R) ∧ (∀ o, o ≠ 285 → V' o = V o) ∧ ∀ q, q < 9 → V' 285 q = dzF V0 S r k u 0 0 q := by
  have i := h.1
  have h48 := r48 i.rel hr
  have hsm := sm2 i.rel hr
  have hst := st_b i.rel hr hk
  have gr := g.2.1 r hr
  have xl := x.2.1 r hr
  have xd := x.2.2.1
  have gx := g.2.2
  have wb := dzW_b V0 S (st V0 r k)
  refine ⟨up (up (up (up (up (up (up (up (up V 285 0 (r : Int)) 285 1 (st V0 r k)) 285 2 (k : Int)) 285 3 (S 2 r)) 285 4 (dzW V0 S (st V0 r k))) 285 5 0) 285 6 0) 285 7 (S 4 0 % 7)) 285 8 u, ?_, fun o ho => by simp (disch := omega) only [up_r], ?_⟩
  · have c0 : ∀ i w, ChY V (up V 285 i w) := fun i w => ChY.up (by omega)
    have cf : ∀ (V : Vw) i w, ChY V (up V 285 i w) := fun V i w => ChY.up (by omega)
    have r1 := h.chy (cf V 0 (r : Int))
    have r4 := h.chy ((cf V 0 (r : Int)).tr ((cf _ 1 (st V0 r k)).tr ((cf _ 2 (k : Int)).tr (cf _ 3 (S 2 r)))))
    have e1 : ∀ {a c d : Int}, up (up (up (up V 285 0 (r : Int)) 285 1 a) 285 2 c) 285 3 d 285 1 = a := fun {a c d} => by rw [up_k (by omega), up_k (by omega), up_s]
    have l3 : ∀ {a c : Int}, up (up (up V 285 0 (r : Int)) 285 1 a) 285 2 c 294 r = S 2 r := fun {a c} => by rw [up_r (by omega), up_r (by omega), up_r (by omega)]; exact xl
    have d7 : ∀ {a c d e f g : Int}, up (up (up (up (up (up (up V 285 0 (r : Int)) 285 1 a) 285 2 c) 285 3 d) 285 4 e) 285 5 f) 285 6 g 259 24 = S 4 0 := fun {a c d e f g} => by rw [up_r (by omega), up_r (by omega), up_r (by omega), up_r (by omega), up_r (by omega), up_r (by omega), up_r (by omega)]; exact xd
    have wt := y_wait (b := b) (lw := lw) (R := R) r4 (S := S) (fun p hp => by rw [up_r (by omega), up_r (by omega), up_r (by omega), up_r (by omega)]; exact (x.1 p hp).2.2) g (s := st V0 r k) (by omega)
    have t1 : ((0 : Int)).toNat = 0 := rfl
    have t2 : ((1 : Int)).toNat = 1 := rfl
    have t3 : ((2 : Int)).toNat = 2 := rfl
    have t4 : ((3 : Int)).toNat = 3 := rfl
    have t5 : ((4 : Int)).toNat = 4 := rfl
    have t6 : ((5 : Int)).toNat = 5 := rfl
    have t7 : ((6 : Int)).toNat = 6 := rfl
    have t8 : ((7 : Int)).toNat = 7 := rfl
    have t9 : ((8 : Int)).toNat = 8 := rfl
    have t24 : ((24 : Int)).toNat = 24 := rfl
    unfold fX7_feels fX7_at
    simp (disch := omega) only [k_0, k_1, k_2, k_3, k_4, k_5, k_6, k_7, k_8, k_24, I_mul, I_add, gR258_39, gR258_7, gR258_51, gR258_0, wA285, rA285, rA294, rA259, Option.bind_some, tn, t1, t2, t3, t4, t5, t6, t7, t8, t9, t24, l3, e1, on258, wt, d7, I_rem, yStM r1 hr hk]
  · refine dzF_of (F := fun q => up (up (up (up (up (up (up (up (up V 285 0 (r : Int)) 285 1 (st V0 r k)) 285 2 (k : Int)) 285 3 (S 2 r)) 285 4 (dzW V0 S (st V0 r k))) 285 5 0) 285 6 0) 285 7 (S 4 0 % 7)) 285 8 u 285 q) ?_ ?_ ?_ ?_ ?_ ?_ ?_ ?_ ?_ <;> simp (disch := omega) only [up_s, up_k]
end YD
