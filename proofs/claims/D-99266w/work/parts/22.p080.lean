/-! CALL: timetable, the class's trains. No JVM here. -/
set_option maxRecDepth 100000
set_option linter.unusedVariables false
def xGr (V : Vw) (r : Nat) (m : Nat) (A B : Nat → Int) : Prop := V (114 + 3 * r) 2 = (m : Int) ∧ V (114 + 3 * r) 3 = 0 ∧ V (114 + 3 * r) 4 = 1 ∧ ∀ k, k < m → V (115 + 3 * r) k = A k ∧ V (116 + 3 * r) k = B k
def xG (V : Vw) (all : Nat) (G : Vw) : Prop := ∀ r, r < all → V (114 + 3 * r) 2 = G 0 r ∧ V (114 + 3 * r) 3 = 0 ∧ V (114 + 3 * r) 4 = 1 ∧ ∀ k : Nat, (k : Int) < G 0 r → V (115 + 3 * r) k = G 1 (8 * r + k) ∧ V (116 + 3 * r) k = G 2 (8 * r + k)
section CQ
variable {b : Nat} {V0 V V' : Vw} {lw : Option Nat} {R : Hp} {a n p tr many cnt all nx r : Nat} {q x y s m al v e d f : Int} {S G : Vw} {rest : List Vl}
theorem x_takes6 (hr : r < 48) (ht : b + 305 ≤ tr) (h : OT R tr many S) (h8 : many ≤ 8) (k : SvK many S) : ∃ V', fX6_takes (Wd b V lw R) (some (b + (114 + 3 * r))) (some tr) (I d) = some (Wd b V' lw R) ∧ (∀ o q, ¬ (114 + 3 * r ≤ o ∧ o ≤ 116 + 3 * r) → V' o q = V o q) ∧ xGr V' r many (S 0) (fun k => S 1 k + d) := by
  obtain ⟨mm, k1, V', k2, k3, k4, k5⟩ := iter_for (b := fX6_takes_L10 (some (b + (114 + 3 * r))) (some tr) (I d)) (s := (I 0, Wd b (up V (114 + 3 * r) 2 (many : Int)) lw R)) (fun t s => ∃ V', s = (I (t : Int), Wd b V' lw R) ∧ (∀ o q, ¬ (114 + 3 * r ≤ o ∧ o ≤ 116 + 3 * r) → V' o q = V o q) ∧ V' (114 + 3 * r) 2 = (many : Int) ∧ ∀ k, k < t → V' (115 + 3 * r) k = S 0 k ∧ V' (116 + 3 * r) k = S 1 k + d) (fun m => ∃ V', m = Wd b V' lw R ∧ (∀ o q, ¬ (114 + 3 * r ≤ o ∧ o ≤ 116 + 3 * r) → V' o q = V o q) ∧ V' (114 + 3 * r) 2 = (many : Int) ∧ ∀ k, k < many → V' (115 + 3 * r) k = S 0 k ∧ V' (116 + 3 * r) k = S 1 k + d) many (by omega) ⟨_, rfl, fun o q w => by rw [up_r (by omega)], up_s, fun k hk => by omega⟩ (fun t s hS ht2 => by
    obtain ⟨V', rfl, a1, a2, a3⟩ := hS
    refine ⟨(I ((t + 1 : Nat) : Int), Wd b (up (up V' (115 + 3 * r) t (S 0 t)) (116 + 3 * r) t (S 1 t + d)) lw R), ?_, _, rfl, fun o q w => by rw [up_r (by omega), up_r (by omega)]; exact a1 o q w, by rw [up_r (by omega), up_r (by omega)]; exact a2, fun k hk => ?_⟩
    · unfold fX6_takes_L10
      simp (disch := omega) only [gTr2, a2, Option.bind_some, I_le, if_neg, gTr0, gTr1, ot_sa h ht, ot_ma h ht, ot_st h ht ht2 h8, ot_mi h ht ht2 h8, wSt, wMi, tn, I_add, k_1]
      rfl
    · by_cases c : k = t
      · rw [c, up_r (show 115 + 3 * r ≠ 116 + 3 * r by omega), up_s, up_s]
        exact ⟨rfl, rfl⟩
      · rw [up_r (show 115 + 3 * r ≠ 116 + 3 * r by omega), up_k c, up_k c, up_r (show 116 + 3 * r ≠ 115 + 3 * r by omega)]
        exact a3 k (by omega)) (fun s hS => by
    obtain ⟨V', rfl, a1, a2, a3⟩ := hS
    refine ⟨_, ?_, V', rfl, a1, a2, a3⟩
    unfold fX6_takes_L10
    simp (disch := omega) only [gTr2, a2, Option.bind_some, I_le, if_pos])
  refine ⟨up (up V' (114 + 3 * r) 3 0) (114 + 3 * r) 4 1, ?_, fun o q w => by rw [up_r (by omega), up_r (by omega)]; exact k3 o q w, by rw [up_k (by omega), up_k (by omega)]; exact k4, by rw [up_k (by omega), up_s], up_s, fun k hk => by rw [up_r (by omega), up_r (by omega), up_r (by omega), up_r (by omega)]; exact k5 k hk⟩
  unfold fX6_takes
  simp (disch := omega) only [ot_many h ht, Option.bind_some, pTr2, k_0, k1, k2, pTr3, k_1]
  rw [pTr4 hr (Or.inr rfl)]
  rfl
theorem x_ckStands (ha : b + 305 ≤ a) (xc : XC b R a cnt all nx G) (gk : GK all G) (hal : all ≤ 48) (hc : cnt ≤ 16) : ∃ V', fX18_stands (Wd b V lw (hp_set R a (scC 14 b n p f q (ckRest b a al)))) (some a) (I (cnt : Int)) = some (I (all : Int), Wd b V' lw (hp_set R a (scC 14 b n p f q (ckRest b a al)))) ∧ (∀ o q, ¬ (114 ≤ o ∧ o < 258) → V' o q = V o q) ∧ xG V' all G := by
  obtain ⟨F, fo, fe, off, x1, x2, x3, x4, x5, x6, x7⟩ := xc
  have g5 : ∀ {V : Vw}, hp_gR (Wd b V lw (hp_set R a (scC 14 b n p f q (ckRest b a al)))) (some a) 14 5 = some (some (a + 1)) := fun {V} => o_gR ha (s_s a _) rfl
  have g6 : ∀ {V : Vw}, hp_gR (Wd b V lw (hp_set R a (scC 14 b n p f q (ckRest b a al)))) (some a) 14 6 = some (some (a + 2)) := fun {V} => o_gR ha (s_s a _) rfl
  have g7 : ∀ {V : Vw}, hp_gR (Wd b V lw (hp_set R a (scC 14 b n p f q (ckRest b a al)))) (some a) 14 7 = some (some (a + 3)) := fun {V} => o_gR ha (s_s a _) rfl
  have g9 : ∀ {V : Vw}, hp_gR (Wd b V lw (hp_set R a (scC 14 b n p f q (ckRest b a al)))) (some a) 14 9 = some (some b) := fun {V} => o_gR ha (s_s a _) rfl
  obtain ⟨mm, k1, V', k2, k3, k4⟩ := iter_for (b := fX18_stands_L4 (some a) (I (cnt : Int))) (s := (I 0, I 0, Wd b V lw (hp_set R a (scC 14 b n p f q (ckRest b a al))))) (fun i s => ∃ V', s = (I (off i : Int), I (i : Int), Wd b V' lw (hp_set R a (scC 14 b n p f q (ckRest b a al)))) ∧ (∀ o q, ¬ (114 ≤ o ∧ o < 258) → V' o q = V o q) ∧ xG V' (off i) G) (fun m => ∃ V', m = (I (off cnt : Int), Wd b V' lw (hp_set R a (scC 14 b n p f q (ckRest b a al)))) ∧ (∀ o q, ¬ (114 ≤ o ∧ o < 258) → V' o q = V o q) ∧ xG V' (off cnt) G) cnt (by omega) ⟨V, by rw [x5]; rfl, fun _ _ _ => rfl, fun r hr => by omega⟩ (fun i s hS hi => by
    obtain ⟨V', rfl, a1, a2⟩ := hS
    obtain ⟨tr, many, S, v, e, q1, q2, q3, q4, q5, q6, q7, q8, q9, q10, q11, q12, q13, q14, q15, q16⟩ := x7 i hi
    have hO : OT (hp_set R a (scC 14 b n p f q (ckRest b a al))) tr many S := q4.c fun y y1 y2 => s_n (by omega) _
    have rt : ∀ {V : Vw}, hp_aR (Wd b V lw (hp_set R a (scC 14 b n p f q (ckRest b a al)))) (some (a + 1)) 5 (I (i : Int)) = some (some tr) := fun {V} => by
      rw [o_aR (by omega) (by rw [s_n (by omega)]; exact x1) (by omega) (by omega) (by omega), tn, q1]
    have ro : ∀ {V : Vw}, hp_aI (Wd b V lw (hp_set R a (scC 14 b n p f q (ckRest b a al)))) (some (a + 2)) 0 (I (i : Int)) = some (I v) := fun {V} => by
      rw [o_aI (by omega) (by rw [s_n (by omega)]; exact x2) (by omega) (by omega) (by omega), tn, q8]
    have re : ∀ {V : Vw}, hp_aI (Wd b V lw (hp_set R a (scC 14 b n p f q (ckRest b a al)))) (some (a + 3)) 0 (I (i : Int)) = some (I e) := fun {V} => by
      rw [o_aI (by omega) (by rw [s_n (by omega)]; exact x3) (by omega) (by omega) (by omega), tn, q9]
    have ev : v = ((v.toNat : Nat) : Int) := by omega
    obtain ⟨m2, l1, V2, l2, l3, l4⟩ := iter_for (b := fX18_stands_L12 (some a) (I (cnt : Int)) (I (i : Int))) (s := (I (off i : Int), I 0, Wd b V' lw (hp_set R a (scC 14 b n p f q (ckRest b a al))))) (fun t s => ∃ V2, s = (I ((off i + t : Nat) : Int), I (t : Int), Wd b V2 lw (hp_set R a (scC 14 b n p f q (ckRest b a al)))) ∧ (∀ o q, ¬ (114 ≤ o ∧ o < 258) → V2 o q = V o q) ∧ xG V2 (off i + t) G) (fun m => ∃ V2, m = (I ((off i + v.toNat : Nat) : Int), Wd b V2 lw (hp_set R a (scC 14 b n p f q (ckRest b a al)))) ∧ (∀ o q, ¬ (114 ≤ o ∧ o < 258) → V2 o q = V o q) ∧ xG V2 (off i + v.toNat) G) v.toNat (by omega) ⟨V', rfl, a1, a2⟩ (fun t s hS ht => by
      obtain ⟨V2, rfl, b1, b2⟩ := hS
      obtain ⟨V3, c1, c2, c3, c4, c5, c6⟩ := x_takes6 (b := b) (V := V2) (lw := lw) (d := (t : Int) * e) (r := off i + t) (by omega) (show b + 305 ≤ tr by omega) hO q6 q7
      refine ⟨(I ((off i + (t + 1) : Nat) : Int), I ((t + 1 : Nat) : Int), Wd b V3 lw (hp_set R a (scC 14 b n p f q (ckRest b a al)))), ?_, V3, rfl, fun o q w => by rw [c2 o q (by omega)]; exact b1 o q w, fun r hr => ?_⟩
      · unfold fX18_stands_L12
        simp (disch := omega) only [g6, ro, Option.bind_some, I_le, if_neg, g9, gR0_0, rTr, tn, g5, rt, g7, re, I_mul, onTr, c1, k_1, I_add]
        rfl
      · by_cases c : r = off i + t
        · have qq := q16 t ht
          subst c
          rw [qq.1]
          refine ⟨c3, c4, c5, fun k hk => ?_⟩
          rw [(qq.2 k (by omega)).1, (qq.2 k (by omega)).2]
          exact c6 k (by omega)
        · have := b2 r (by omega)
          rw [c2 _ _ (by omega), c2 _ _ (by omega), c2 _ _ (by omega)]
          refine ⟨this.1, this.2.1, this.2.2.1, fun k hk => ?_⟩
          rw [c2 _ _ (by omega), c2 _ _ (by omega)]
          exact this.2.2.2 k hk) (fun s hS => by
      obtain ⟨V2, rfl, b1, b2⟩ := hS
      refine ⟨_, ?_, V2, rfl, b1, b2⟩
      unfold fX18_stands_L12
      simp (disch := omega) only [g6, ro, Option.bind_some, I_le, if_pos])
    refine ⟨(I (off (i + 1) : Int), I ((i + 1 : Nat) : Int), Wd b V2 lw (hp_set R a (scC 14 b n p f q (ckRest b a al)))), ?_, V2, rfl, l3, by rw [q14]; exact l4⟩
    unfold fX18_stands_L4
    simp (disch := omega) only [I_le, if_neg, k_0, k_1, I_add]
    rw [l1, l2, q14]
    rfl) (fun s hS => by
    obtain ⟨V', rfl, a1, a2⟩ := hS
    refine ⟨_, ?_, V', rfl, a1, a2⟩
    unfold fX18_stands_L4
    simp (disch := omega) only [I_le, if_pos])
  rw [x6] at k2 k4
  refine ⟨V', ?_, k3, k4⟩
  unfold fX18_stands
  rw [k_0, k1, k2]
  rfl
end CQ
