/-! DAYS, the class. No JVM here. -/
set_option maxRecDepth 100000
set_option linter.unusedVariables false
abbrev xCell (j o k : Nat) : Prop := o = 4 ∨ (o = j ∧ 3 ≤ k) ∨ (j + 4 ≤ o ∧ o < j + 16 ∧ (k = 3 ∨ k = 4)) ∨ o = j + 2 ∨ o = j + 3
def Chg (j : Nat) (V V' : Vw) : Prop := ∀ o k, ¬ xCell j o k → V' o k = V o k
def XS (V0 V : Vw) (j : Nat) (S : Vw) : Prop := (∀ p, p < 12 → V (j + 4 + p) 0 = V0 (5 + 4 + p) 0 ∧ V (j + 4 + p) 1 = V0 (5 + 4 + p) 1 ∧ V (j + 4 + p) 2 = V0 (5 + 4 + p) 2 ∧ V (j + 4 + p) 5 = V0 (5 + 4 + p) 5 ∧ V (j + 4 + p) 3 = S 0 p ∧ V (j + 4 + p) 4 = S 1 p ∧ V (j + 3) p = S 3 p) ∧ (∀ r, r < nT V0 → V (j + 2) r = S 2 r) ∧ ∀ i, i < 5 → V j (3 + i) = S 4 i
section XD
variable {b : Nat} {V0 V V' S : Vw} {lw : Option Nat} {R : Hp} {p k j i r e n nx : Nat} {s t z u v w many : Int} {sy : Int → (Nat → Int) → Bool} {tl : Int → (Nat → Int) → Int}
theorem Chg.tr {V1 V2 V3 : Vw} (h : Chg j V1 V2) (g : Chg j V2 V3) : Chg j V1 V3 := fun o k q => (g o k q).trans (h o k q)
theorem Chg.id : Chg j V V := fun _ _ _ => rfl
theorem Chg.up {o i : Nat} (h : xCell j o i) : Chg j V (up V o i v) := fun o2 k2 q => by
  rw [up_e, if_neg (fun e => q (by rw [e.1, e.2]; exact h))]
theorem Rem.chg (h : Rem V0 V) (hj : j = 5 ∨ j = 21) (c : Chg j V V') : Rem V0 V' := ⟨h.1, fun o k q1 q2 => by
  rw [c o k (by
    intro w
    unfold scr at q1
    rcases hj with rfl | rfl <;> omega)]
  exact h.2 o k q1 q2⟩
theorem j3 (hj : j = 5 ∨ j = 21) : j = 5 ∨ j = 21 ∨ j = 37 := by omega
theorem perB (i : Inv V0) (hp : p < 12) : (V0 (5 + 4 + p) 5 = 0 ∨ V0 (5 + 4 + p) 5 = 1) ∧ 0 ≤ V0 (5 + 4 + p) 0 ∧ V0 (5 + 4 + p) 0 ≤ 9 ∧ 0 ≤ V0 (5 + 4 + p) 1 ∧ V0 (5 + 4 + p) 1 ≤ 9 ∧ 0 ≤ V0 (5 + 4 + p) 2 ∧ V0 (5 + 4 + p) 2 ≤ 1439 := by
  have := i.2.2.1.1 p hp
  omega
theorem XS.c (x : XS V0 V j S) (hj : j = 5 ∨ j = 21) (h : ∀ o, o ≠ 4 → V' o = V o) : XS V0 V' j S := by
  obtain ⟨x1, x2, x3⟩ := x
  refine ⟨fun p hp => ?_, fun r hr => ?_, fun i hi => ?_⟩
  · rw [h (j + 4 + p) (by omega), h (j + 3) (by omega)]
    exact x1 p hp
  · rw [h (j + 2) (by omega)]
    exact x2 r hr
  · rw [h j (by omega)]
    exact x3 i hi
theorem XS_ri (x : XS V0 V j S) (v : Int) : XS V0 (up V (j + 3) p v) j (up S 3 p v) := by
  obtain ⟨x1, x2, x3⟩ := x
  refine ⟨fun q hq => ?_, fun r hr => ?_, fun i hi => ?_⟩
  · have := x1 q hq
    rw [up_r (show j + 4 + q ≠ j + 3 by omega), up_r (show 0 ≠ 3 by omega), up_r (show 1 ≠ 3 by omega)]
    by_cases c : q = p
    · rw [c, up_s, up_s]
      rw [c] at this
      exact ⟨this.1, this.2.1, this.2.2.1, this.2.2.2.1, this.2.2.2.2.1, this.2.2.2.2.2.1, rfl⟩
    · rw [up_k c, up_k c]
      exact this
  · rw [up_r (by omega), up_r (by omega)]
    exact x2 r hr
  · rw [up_r (by omega), up_r (by omega)]
    exact x3 i hi
theorem XS_ar (x : XS V0 V j S) (v : Int) : XS V0 (up V (j + 4 + p) 3 v) j (up S 0 p v) := by
  obtain ⟨x1, x2, x3⟩ := x
  refine ⟨fun q hq => ?_, fun r hr => ?_, fun i hi => ?_⟩
  · have := x1 q hq
    rw [up_r (show j + 3 ≠ j + 4 + p by omega), up_r (show 1 ≠ 0 by omega), up_r (show 3 ≠ 0 by omega)]
    by_cases c : q = p
    · rw [c, up_s, up_s, up_k (by omega), up_k (by omega), up_k (by omega), up_k (by omega), up_k (by omega)]
      rw [c] at this
      exact ⟨this.1, this.2.1, this.2.2.1, this.2.2.2.1, rfl, this.2.2.2.2.2.1, this.2.2.2.2.2.2⟩
    · rw [up_r (by omega), up_k c]
      exact this
  · rw [up_r (by omega), up_r (by omega)]
    exact x2 r hr
  · rw [up_r (by omega), up_r (by omega)]
    exact x3 i hi
theorem XS_mi (x : XS V0 V j S) (v : Int) : XS V0 (up V (j + 4 + p) 4 v) j (up S 1 p v) := by
  obtain ⟨x1, x2, x3⟩ := x
  refine ⟨fun q hq => ?_, fun r hr => ?_, fun i hi => ?_⟩
  · have := x1 q hq
    rw [up_r (show j + 3 ≠ j + 4 + p by omega), up_r (show 0 ≠ 1 by omega), up_r (show 3 ≠ 1 by omega)]
    by_cases c : q = p
    · rw [c, up_s, up_s, up_k (by omega), up_k (by omega), up_k (by omega), up_k (by omega), up_k (by omega)]
      rw [c] at this
      exact ⟨this.1, this.2.1, this.2.2.1, this.2.2.2.1, this.2.2.2.2.1, rfl, this.2.2.2.2.2.2⟩
    · rw [up_r (by omega), up_k c]
      exact this
  · rw [up_r (by omega), up_r (by omega)]
    exact x2 r hr
  · rw [up_r (by omega), up_r (by omega)]
    exact x3 i hi
theorem XS_la (x : XS V0 V j S) (v : Int) : XS V0 (up V (j + 2) p v) j (up S 2 p v) := by
  obtain ⟨x1, x2, x3⟩ := x
  refine ⟨fun q hq => ?_, fun r hr => ?_, fun i hi => ?_⟩
  · have := x1 q hq
    rw [up_r (show j + 4 + q ≠ j + 2 by omega), up_r (show j + 3 ≠ j + 2 by omega), up_r (show 0 ≠ 2 by omega), up_r (show 1 ≠ 2 by omega), up_r (show 3 ≠ 2 by omega)]
    exact this
  · by_cases c : r = p
    · rw [c, up_s, up_s]
    · rw [up_k c, up_k c]
      exact x2 r hr
  · rw [up_r (by omega), up_r (by omega)]
    exact x3 i hi
theorem XS_sc (x : XS V0 V j S) (i : Nat) (v : Int) : XS V0 (up V j (3 + i) v) j (up S 4 i v) := by
  obtain ⟨x1, x2, x3⟩ := x
  refine ⟨fun q hq => ?_, fun r hr => ?_, fun l hl => ?_⟩
  · have := x1 q hq
    rw [up_r (show j + 4 + q ≠ j by omega), up_r (show j + 3 ≠ j by omega), up_r (show 0 ≠ 4 by omega), up_r (show 1 ≠ 4 by omega), up_r (show 3 ≠ 4 by omega)]
    exact this
  · rw [up_r (by omega), up_r (by omega)]
    exact x2 r hr
  · by_cases c : l = i
    · rw [c, up_s, up_s]
    · rw [up_k (by omega), up_k c]
      exact x3 l hl
theorem x_wait (i : Inv V0) (hj : j = 5 ∨ j = 21) (x : XS V0 V j S) (g : dzK V0 S) (hs : 0 ≤ s ∧ s ≤ 9) : fX3_waiting (Wd b V lw R) (some (b + j)) (I s) = some (I (dzW V0 S s)) := by
  have hj3 := j3 hj
  unfold fX3_waiting dzW
  rw [k_0, cnt_loop (fun p => V0 (5 + 4 + p) 5 = 1 ∧ V0 (5 + 4 + p) 0 = s ∧ S 3 p = -1) 12 (by omega) (fun p c hp => by
    obtain ⟨x1, x2, x3, x4, x5, x6, x7⟩ := x.1 p hp
    have pb := perB i hp
    have gb := g.1 p hp
    unfold fX3_waiting_L4
    simp (disch := omega) only [k_0, k_1, k_12, I_neg, I_le, if_neg, gPf0, rPe, tn, gPe, Option.bind_some, x4, x1, I_inj, I_add, gPf2, rRi, x7, Int.add_zero]
    by_cases c1 : V0 (5 + 4 + p) 5 = 0
    · rw [if_pos c1, bi_f (by omega), Int.add_zero]
    · rw [if_neg c1]
      by_cases c2 : V0 (5 + 4 + p) 0 = s
      · rw [if_pos c2]
        by_cases c3 : S 3 p = -1
        · rw [if_pos c3, bi_t (by omega)]
        · rw [if_neg c3, bi_f (by omega), Int.add_zero]
      · rw [if_neg c2, bi_f (by omega), Int.add_zero]) (fun c => by
    unfold fX3_waiting_L4
    simp (disch := omega) only [k_12, I_le, if_pos])]
  rfl
theorem dzW_b (V0 S : Vw) (s : Int) : 0 ≤ dzW V0 S s ∧ dzW V0 S s ≤ 12 := cnt_le _ 12
theorem x_of {a1 a2 a3 a4 a5 a6 a7 : Int} (h : 0 ≤ a6 ∧ a6 ≤ 9999) : ∃ V', fX2_of (Wd b V lw R) (some (b + 4)) (I a1) (I a2) (I a3) (I a4) (I a5) (I a6) (I a7) = some (some (b + 4), Wd b V' lw R) ∧ (∀ o, o ≠ 4 → V' o = V o) ∧ V' 4 1 = a1 ∧ V' 4 2 = a2 ∧ V' 4 3 = a3 ∧ V' 4 4 = a4 ∧ V' 4 5 = a5 ∧ V' 4 6 = 0 ∧ V' 4 7 = 0 ∧ V' 4 8 = a6 % 7 ∧ V' 4 9 = a7 := by
  refine ⟨up (up (up (up (up (up (up (up (up V 4 1 a1) 4 2 a2) 4 3 a3) 4 4 a4) 4 5 a5) 4 6 0) 4 7 0) 4 8 (a6 % 7)) 4 9 a7, ?_, fun o ho => by simp (disch := omega) only [up_r], ?_, ?_, ?_, ?_, ?_, ?_, ?_, ?_, ?_⟩
  · unfold fX2_of
    simp (disch := omega) only [k_0, k_7, I_rem, pI4_1, pI4_2, pI4_3, pI4_4, pI4_5, pI4_6, pI4_7, pI4_8, pI4_9, Option.bind_some]
  all_goals simp (disch := omega) only [up_s, up_k]
theorem dzF_of {F : Nat → Int} (h0 : F 0 = (r : Int)) (h1 : F 1 = st V0 r k) (h2 : F 2 = (k : Int)) (h3 : F 3 = S 2 r) (h4 : F 4 = dzW V0 S (st V0 r k)) (h5 : F 5 = v) (h6 : F 6 = w) (h7 : F 7 = S 4 0 % 7) (h8 : F 8 = u) : ∀ q, q < 9 → F q = dzF V0 S r k u v w q := fun q hq => by
  have : q = 0 ∨ q = 1 ∨ q = 2 ∨ q = 3 ∨ q = 4 ∨ q = 5 ∨ q = 6 ∨ q = 7 ∨ q = 8 := by omega
  rcases this with rfl | rfl | rfl | rfl | rfl | rfl | rfl | rfl | rfl
  · exact h0
  · exact h1
  · exact h2
  · exact h3
  · exact h4
  · exact h5
  · exact h6
  · exact h7
  · exact h8
theorem x_boards (i : Inv V0) (hj : j = 5 ∨ j = 21) (law : LawX b lw R nx sy tl many) (x : XS V0 V j S) (g : dzK V0 S) (hr : r < nT V0) (hk : k < sm V0 r) (hp : p < 12) : ∃ V', fX3_boards (Wd b V lw R) (some (b + j)) (I (p : Int)) (I (r : Int)) (I (st V0 r k)) (I (k : Int)) (I u) = some (Wd b V' lw R) ∧ Chg j V V' ∧ XS V0 V' j (dzB sy V0 S p r k u) := by
  have hj3 := j3 hj
  have h48 := r48 i.rel hr
  have hsm := sm2 i.rel hr
  have hst := st_b i.rel hr hk
  have gb := g.1 p hp
  have gr := g.2.1 r hr
  have wb := dzW_b V0 S (st V0 r k)
  obtain ⟨x1, x2, x3, x4, x5, x6, x7⟩ := x.1 p hp
  have xl := x.2.1 r hr
  have xd := x.2.2 0 (by omega)
  have day := g.2.2
  obtain ⟨V1, e1, e2, e3⟩ := x_of (b := b) (V := V) (lw := lw) (R := R) (a1 := (r : Int)) (a2 := st V0 r k) (a3 := (k : Int)) (a4 := S 2 r) (a5 := dzW V0 S (st V0 r k)) (a6 := S 4 0) (a7 := u) (by omega)
  have p1 : V1 (j + 4 + p) 4 = S 1 p := by rw [e2 _ (by omega)]; exact x6
  have F0 : ∀ q, q < 9 → up (up V1 4 6 (p : Int)) 4 7 (S 1 p) 4 (q + 1) = dzF V0 S r k u (p : Int) (S 1 p) q := dzF_of (F := fun q => up (up V1 4 6 (p : Int)) 4 7 (S 1 p) 4 (q + 1)) (by rw [up_k (by omega), up_k (by omega)]; exact e3.1) (by rw [up_k (by omega), up_k (by omega)]; exact e3.2.1) (by rw [up_k (by omega), up_k (by omega)]; exact e3.2.2.1) (by rw [up_k (by omega), up_k (by omega)]; exact e3.2.2.2.1) (by rw [up_k (by omega), up_k (by omega)]; exact e3.2.2.2.2.1) (by rw [up_k (by omega)]; exact up_s) up_s (by rw [up_k (by omega), up_k (by omega)]; exact e3.2.2.2.2.2.2.2.1) (by rw [up_k (by omega), up_k (by omega)]; exact e3.2.2.2.2.2.2.2.2)
  obtain ⟨l1, l2, l3⟩ := law R (fun _ _ => rfl) (up (up V1 4 6 (p : Int)) 4 7 (S 1 p))
  obtain ⟨⟨y, f1⟩, _⟩ := l3 _ F0
  have c2 : ∀ o, o ≠ 4 → up (up (up V1 4 6 (p : Int)) 4 7 (S 1 p)) 4 0 y o = V o := fun o ho => by rw [up_r ho, up_r ho, up_r ho, e2 o ho]
  have ch : Chg j V (up (up (up V1 4 6 (p : Int)) 4 7 (S 1 p)) 4 0 y) := fun o k q => by rw [c2 o (by omega)]
  have xs := XS.c x hj c2
  obtain ⟨V2, hV2⟩ : ∃ V2, V2 = up (up (up V1 4 6 (p : Int)) 4 7 (S 1 p)) 4 0 y := ⟨_, rfl⟩
  rw [← hV2] at f1 ch xs c2
  have xd3 : V j 3 = S 4 0 := xd
  have pre : fX3_boards (Wd b V lw R) (some (b + j)) (I (p : Int)) (I (r : Int)) (I (st V0 r k)) (I (k : Int)) (I u) = if sy 109 (dzF V0 S r k u (p : Int) (S 1 p)) = true then some (Wd b (up (up V2 (j + 4 + p) 4 (min 9999 (S 1 p + 1))) j 6 (V2 j 6 + 1)) lw R) else some (Wd b (up V2 (j + 3) p (r : Int)) lw R) := by
    have m1 : V2 (j + 4 + p) 4 = S 1 p := (xs.1 p hp).2.2.2.2.2.1
    unfold fX3_boards
    simp (disch := omega) only [gPf0, rPe, tn, gPf8, gR0_6, gPf1, rLa, xl, onPf, x_wait i hj x g, gPf, xd3, Option.bind_some, on4, e1, gPe, p1]
    unfold fX2_with
    simp (disch := omega) only [on4, pI4_6, pI4_7, Option.bind_some, gPf8, rdL, gR0_6]
    rw [k_109]
    unfold hp_on
    rw [if_pos l2, f1, Option.bind_some]
    cases sy 109 (dzF V0 S r k u (p : Int) (S 1 p)) with
    | true =>
      simp only [if_true]
      rw [if_neg (show ¬ I 1 = 0 by decide)]
      simp (disch := omega) only [k_9999, k_1, gPe, m1, Option.bind_some, I_add, I_min, pPe, gPf, pPf]
      rw [up_r (show j ≠ j + 4 + p by omega)]
    | false =>
      simp only [Bool.false_eq_true, if_false]
      rw [if_pos (show I 0 = 0 by decide)]
      simp (disch := omega) only [gPf2, wRi, tn, Option.bind_some]
  rw [pre]
  unfold dzB
  by_cases c : sy 109 (dzF V0 S r k u (p : Int) (S 1 p)) = true
  · rw [if_pos c, if_pos c]
    refine ⟨_, rfl, ch.tr ((Chg.up (by omega)).tr (Chg.up (by omega))), ?_⟩
    have := XS_sc (XS_mi (p := p) xs (min 9999 (S 1 p + 1))) 3 (V2 j 6 + 1)
    have e6 : V2 j 6 = S 4 3 := xs.2.2 3 (by omega)
    rw [e6] at this ⊢
    exact this
  · rw [if_neg c, if_neg c]
    exact ⟨_, rfl, ch.tr (Chg.up (by omega)), XS_ri xs _⟩
end XD
