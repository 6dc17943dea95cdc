/-! CALLS: direct, longestWait, II. No JVM here. -/
set_option maxRecDepth 100000
set_option linter.unusedVariables false
/-- what a call owes whose class side only reads -/
def Oks (b : Nat) (V : Vw) (lw : Option Nat) (R : Hp) (f : Hp → Option Int32) (g : Hp → Option (Int32 × Hp)) : Prop := ∃ (v : Int32) (V' : Vw), f (Wd b V lw R) = some v ∧ g (Wd b V lw R) = some (v, Wd b V' lw R) ∧ Inv V' ∧ agL V V'
section DX
variable {b : Nat} {V0 V : Vw} {lw : Option Nat} {R : Hp} {p k j i r e : Nat} {s t z y w : Int}
/-- the marks after some trains -/
abbrev mkI (V0 V1 V : Vw) (Q : Nat → Prop) (s : Int) (n : Nat) : Prop := (∀ o, o ≠ 299 → V o = V1 o) ∧ (∀ k, k < 1440 → V 299 k = 0 ∨ V 299 k = 1) ∧ ∀ x : Int, mkS V x ↔ ∃ r, r < n ∧ Q r ∧ minAt V0 r s = x
theorem mkI_0 {V0 V1 V : Vw} {Q : Nat → Prop} (h1 : ∀ o, o ≠ 299 → V o = V1 o) (h2 : ∀ k, k < 1440 → V 299 k = 0) : mkI V0 V1 V Q s 0 :=
  ⟨h1, fun k hk => Or.inl (h2 k hk), fun x => ⟨fun q => by
    have := h2 x.toNat (by omega)
    omega, fun ⟨r, hr, _⟩ => by omega⟩⟩
theorem mkI_n {V0 V1 V : Vw} {Q : Nat → Prop} {n : Nat} (h : mkI V0 V1 V Q s n) (q : ¬ Q n) : mkI V0 V1 V Q s (n + 1) :=
  ⟨h.1, h.2.1, fun x => (h.2.2 x).trans ⟨fun ⟨r, h1, h2, h3⟩ => ⟨r, by omega, h2, h3⟩, fun ⟨r, h1, h2, h3⟩ => by
    by_cases c : r = n
    · subst c
      exact absurd h2 q
    · exact ⟨r, by omega, h2, h3⟩⟩⟩
theorem mkI_y {V0 V1 V : Vw} {Q : Nat → Prop} {n : Nat} (h : mkI V0 V1 V Q s n) (q : Q n) (hb : 0 ≤ minAt V0 n s ∧ minAt V0 n s ≤ 1439) : mkI V0 V1 (up V 299 (minAt V0 n s).toNat 1) Q s (n + 1) := by
  refine ⟨fun o ho => by rw [up_r ho, h.1 o ho], fun k hk => ?_, fun x => ?_⟩
  · by_cases c : k = (minAt V0 n s).toNat
    · subst c
      exact Or.inr up_s
    · rw [up_k c]
      exact h.2.1 k hk
  · have old := h.2.2 x
    constructor
    · intro ⟨a1, a2, a3⟩
      by_cases c : x.toNat = (minAt V0 n s).toNat
      · exact ⟨n, by omega, q, by omega⟩
      · rw [up_k c] at a3
        obtain ⟨r, h1, h2, h3⟩ := old.mp ⟨a1, a2, a3⟩
        exact ⟨r, by omega, h2, h3⟩
    · intro ⟨r, h1, h2, h3⟩
      by_cases c : x.toNat = (minAt V0 n s).toNat
      · refine ⟨?_, ?_, by rw [c]; exact up_s⟩
        · by_cases d : r = n
          · subst d
            omega
          · exact (old.mpr ⟨r, by omega, h2, h3⟩).1
        · by_cases d : r = n
          · subst d
            omega
          · exact (old.mpr ⟨r, by omega, h2, h3⟩).2.1
      · have d : r ≠ n := fun d => c (by rw [← h3, d])
        obtain ⟨a1, a2, a3⟩ := old.mpr ⟨r, by omega, h2, h3⟩
        exact ⟨a1, a2, by rw [up_k c]; exact a3⟩
theorem y_longestL (h : Rel V0 V) (hs : 0 ≤ s ∧ s < 10) (h0 : ∀ k, k < 1440 → V 299 k = 0) : ∃ V', iter (fX7_longestWait_L15 (some (b + 258)) (I s)) FUEL (I 0, Wd b V lw R) = some (Wd b V' lw R) ∧ mkI V0 V V' (fun r => leaves V0 r s) s (nT V0) := by
  have hn := n48 h
  obtain ⟨r, h1, V', h2, h3⟩ := iter_for (b := fX7_longestWait_L15 (some (b + 258)) (I s)) (s := (I 0, Wd b V lw R)) (fun n q => ∃ V', q = (I (n : Int), Wd b V' lw R) ∧ mkI V0 V V' (fun r => leaves V0 r s) s n) (fun r => ∃ V', r = Wd b V' lw R ∧ mkI V0 V V' (fun r => leaves V0 r s) s (nT V0)) (nT V0) (by omega) ⟨V, rfl, mkI_0 (fun _ _ => rfl) h0⟩ (fun n q hS hn2 => by
      obtain ⟨V', rfl, h1⟩ := hS
      have h' : Rel V0 V' := h.sc (sc_isMinute h1.1)
      unfold fX7_longestWait_L15
      by_cases c1 : leaves V0 n s
      · have ha : 0 ≤ sAt V0 n s := c1.2.1
        have hb := minAt_b h hn2 ha
        refine ⟨_, ?_, _, rfl, mkI_y h1 c1 hb⟩
        simp (disch := omega) only [k_1, k_0, I_le, if_neg, gI258_14, w_n h', Option.bind_some, on258, y_leaves h' hn2, bi_if, if_pos, gR258_59, y_minAt h' hn2, wA299, I_add]
        rfl
      · refine ⟨_, ?_, V', rfl, mkI_n h1 c1⟩
        simp (disch := omega) only [k_1, k_0, I_le, if_neg, gI258_14, w_n h', Option.bind_some, on258, y_leaves h' hn2, bi_if, I_add]
        rfl) (fun q hS => by
      obtain ⟨V', rfl, h1⟩ := hS
      have h' : Rel V0 V' := h.sc (sc_isMinute h1.1)
      refine ⟨Wd b V' lw R, ?_, V', rfl, h1⟩
      unfold fX7_longestWait_L15
      simp (disch := omega) only [I_le, if_pos, gI258_14, w_n h', Option.bind_some])
  exact ⟨V', by rw [h1, h2], h3⟩
theorem call_longestWait (h : Inv V) (h1 : -2147483648 ≤ z) (h2 : z ≤ 2147483647) : Oks b V lw R (fun m => fX0_longestWait m (some b) (I z)) (fun m => fX7_longestWait m (some (b + 258)) (I z)) := by
  unfold Oks
  by_cases g : 0 ≤ z ∧ z < 10
  · obtain ⟨la, lo, e1, e2⟩ := x_longestWait (b := b) (lw := lw) (R := R) h.rel g
    obtain ⟨V1, f1, f2, f3⟩ := y_clears (b := b) (V := V) (lw := lw) (R := R)
    have s1 : Sc V V1 := sc_isMinute f2
    have h1' : Rel V V1 := h.rel.sc s1
    obtain ⟨V2, k1, k2⟩ := y_longestL (b := b) (lw := lw) (R := R) h1' g f3
    obtain ⟨g2, la2, m1, m2, m3, m4⟩ := y_between (b := b) (lw := lw) (R := R) (V := V2) k2.2.1
    have s2 : Sc V V2 := s1.tr (sc_isMinute k2.1)
    have eq : lo = g2 := gapS_u (gapS_c (fun x => (ev_tr h.rel (fun r hr q => q.2.1) x).trans (k2.2.2 x).symm) e2) m2
    refine ⟨I lo, V2, ?_, ?_, (h.sc s2).1, (h.sc s2).2⟩
    · show fX0_longestWait _ _ _ = _
      unfold fX0_longestWait
      simp only [x_isSt h1 h2, Option.bind_some, k_0, k_1, I_neg, bi_if]
      rw [if_pos g, e1]
      rfl
    · show fX7_longestWait _ _ _ = _
      unfold fX7_longestWait
      simp only [y_isSt h1 h2, Option.bind_some, k_0, k_1, I_neg, bi_if, on258, f1]
      rw [if_pos g, k1]
      simp only [Option.bind_some, on258, m1, eq]
  · refine ⟨I (-1), V, ?_, ?_, h, agL.id V⟩
    · show fX0_longestWait _ _ _ = _
      unfold fX0_longestWait
      simp only [x_isSt h1 h2, Option.bind_some, k_0, k_1, I_neg, bi_if]
      rw [if_neg g]
    · show fX7_longestWait _ _ _ = _
      unfold fX7_longestWait
      simp only [y_isSt h1 h2, Option.bind_some, k_0, k_1, I_neg, bi_if]
      rw [if_neg g]
theorem y_directL (h : Rel V0 V) (hs : 0 ≤ s ∧ s < 10) (ht : 0 ≤ t ∧ t < 10) (h0 : ∀ k, k < 1440 → V 299 k = 0) : ∃ V', iter (fX7_direct_L29 (some (b + 258)) (I s) (I t) (I y)) FUEL (I 0, I 0, Wd b V lw R) = some (I (cnt (fun r => decide (goes V0 r s t)) (nT V0)), Wd b V' lw R) ∧ mkI V0 V V' (fun r => goes V0 r s t) s (nT V0) := by
  have hn := n48 h
  obtain ⟨r, h1, V', h2, h3⟩ := iter_for (b := fX7_direct_L29 (some (b + 258)) (I s) (I t) (I y)) (s := (I 0, I 0, Wd b V lw R)) (fun n q => ∃ V', q = (I (cnt (fun r => decide (goes V0 r s t)) n), I (n : Int), Wd b V' lw R) ∧ mkI V0 V V' (fun r => goes V0 r s t) s n) (fun r => ∃ V', r = (I (cnt (fun r => decide (goes V0 r s t)) (nT V0)), Wd b V' lw R) ∧ mkI V0 V V' (fun r => goes V0 r s t) s (nT V0)) (nT V0) (by omega) ⟨V, rfl, mkI_0 (fun _ _ => rfl) h0⟩ (fun n q hS hn2 => by
      obtain ⟨V', rfl, h1⟩ := hS
      have h' : Rel V0 V' := h.sc (sc_isMinute h1.1)
      unfold fX7_direct_L29
      by_cases c1 : goes V0 n s t
      · have ha : 0 ≤ sAt V0 n s := c1.2.1
        have hb := minAt_b h hn2 ha
        refine ⟨_, ?_, _, rfl, mkI_y h1 c1 hb⟩
        simp (disch := omega) only [k_1, k_0, I_le, if_neg, gI258_14, w_n h', Option.bind_some, on258, y_goes h' hn2, bi_if, if_pos, gR258_59, y_minAt h' hn2, wA299, I_add]
        rw [cnt, if_pos (decide_eq_true c1)]
        rfl
      · refine ⟨_, ?_, V', rfl, mkI_n h1 c1⟩
        simp (disch := omega) only [k_1, k_0, I_le, if_neg, gI258_14, w_n h', Option.bind_some, on258, y_goes h' hn2, bi_if, I_add]
        rw [cnt, if_neg (by rw [decide_eq_true_iff]; exact c1), Int.add_zero]
        rfl) (fun q hS => by
      obtain ⟨V', rfl, h1⟩ := hS
      have h' : Rel V0 V' := h.sc (sc_isMinute h1.1)
      refine ⟨_, ?_, V', rfl, h1⟩
      unfold fX7_direct_L29
      simp (disch := omega) only [I_le, if_pos, gI258_14, w_n h', Option.bind_some])
  exact ⟨V', by rw [h1, h2], h3⟩
theorem call_direct (h : Inv V) (h1 : -2147483648 ≤ s) (h2 : s ≤ 2147483647) (h3 : -2147483648 ≤ t) (h4 : t ≤ 2147483647) (h5 : -2147483648 ≤ y) (h6 : y ≤ 2147483647) : Oks b V lw R (fun m => fX0_direct m (some b) (I s) (I t) (I y)) (fun m => fX7_direct m (some (b + 258)) (I s) (I t) (I y)) := by
  unfold Oks
  have b2 : (-2147483648 : Int) ≤ 2 ∧ (2 : Int) ≤ 2147483647 := by decide
  have b1 : (-2147483648 : Int) ≤ 1 ∧ (1 : Int) ≤ 2147483647 := by decide
  have b0 : (-2147483648 : Int) ≤ 0 ∧ (0 : Int) ≤ 2147483647 := by decide
  by_cases g : (0 ≤ s ∧ s < 10) ∧ (0 ≤ t ∧ t < 10) ∧ s ≠ t
  · by_cases g2 : 0 ≤ y ∧ y < 2
    · obtain ⟨la, lo, e1, e2⟩ := x_directL (b := b) (lw := lw) (R := R) (y := y) h.rel g.1 g.2.1
      obtain ⟨V1, f1, f2, f3⟩ := y_clears (b := b) (V := V) (lw := lw) (R := R)
      have s1 : Sc V V1 := sc_isMinute f2
      have h1' : Rel V V1 := h.rel.sc s1
      obtain ⟨V2, k1, k2⟩ := y_directL (b := b) (lw := lw) (R := R) (y := y) h1' g.1 g.2.1 f3
      obtain ⟨gg, la2, m1, m2, m3, m4⟩ := y_between (b := b) (lw := lw) (R := R) (V := V2) k2.2.1
      have s2 : Sc V V2 := s1.tr (sc_isMinute k2.1)
      have eq : lo = gg := gapS_u (gapS_c (fun x => (ev_tr h.rel (fun r hr q => q.2.1) x).trans (k2.2.2 x).symm) e2) m2
      have ec : cnt (fun e => decide (evQ V (fun r => goes V r s t) s e)) (nE V) = cnt (fun r => decide (goes V r s t)) (nT V) := ev_cnt h.rel (fun r hr q => q.2.1)
      refine ⟨if y = 0 then I (cnt (fun r => decide (goes V r s t)) (nT V)) else I lo, V2, ?_, ?_, (h.sc s2).1, (h.sc s2).2⟩
      · show fX0_direct _ _ _ _ _ = _
        unfold fX0_direct
        simp only [x_two h1 h2 h3 h4, Option.bind_some, k_0, k_1, k_2, I_neg, bi_if, x_in h5 h6 b2.1 b2.2, I_inj h5 h6 b0.1 b0.2]
        rw [if_pos g, if_pos g2, e1, ec]
        simp only [Option.bind_some]
        split <;> rfl
      · show fX7_direct _ _ _ _ _ = _
        unfold fX7_direct
        simp only [y_two h1 h2 h3 h4, Option.bind_some, k_0, k_1, I_neg, bi_if, y_in h5 h6 b1.1 b1.2 b0.1 b0.2, I_inj h5 h6 b0.1 b0.2, on258, f1]
        rw [if_pos g, if_pos (by omega), k1]
        simp only [Option.bind_some, on258, m1, eq]
        split <;> rfl
    · refine ⟨I (-1), V, ?_, ?_, h, agL.id V⟩
      · show fX0_direct _ _ _ _ _ = _
        unfold fX0_direct
        simp only [x_two h1 h2 h3 h4, Option.bind_some, k_0, k_1, k_2, I_neg, bi_if, x_in h5 h6 b2.1 b2.2]
        rw [if_pos g, if_neg g2]
      · show fX7_direct _ _ _ _ _ = _
        unfold fX7_direct
        simp only [y_two h1 h2 h3 h4, Option.bind_some, k_0, k_1, I_neg, bi_if, y_in h5 h6 b1.1 b1.2 b0.1 b0.2]
        rw [if_pos g, if_neg (by omega)]
  · refine ⟨I (-1), V, ?_, ?_, h, agL.id V⟩
    · show fX0_direct _ _ _ _ _ = _
      unfold fX0_direct
      simp only [x_two h1 h2 h3 h4, Option.bind_some, k_0, k_1, I_neg, bi_if]
      rw [if_neg g]
    · show fX7_direct _ _ _ _ _ = _
      unfold fX7_direct
      simp only [y_two h1 h2 h3 h4, Option.bind_some, k_0, k_1, I_neg, bi_if]
      rw [if_neg g]
end DX
