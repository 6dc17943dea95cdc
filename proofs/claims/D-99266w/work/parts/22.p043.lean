/-! CALL: sets, the class, II. No JVM here. -/
set_option maxRecDepth 100000
set_option linter.unusedVariables false
section SZ
variable {b : Nat} {V0 V : Vw} {lw : Option Nat} {R : Hp} {p k j i r e n d f to q x y : Nat} {s t z w c lo hi m : Int} {u : Int32} {A : Nat → Int}
theorem x_setsL7 (h : Rel V0 V) : ∃ V', iter (fX0_sets_L7 (some b) u) FUEL (I 0, Wd b V lw R) = some (Wd b V' lw R) ∧ (∀ o, o ≠ 62 → V' o = V o) ∧ ∀ x, x < nT V0 → V' 62 x = -1 := by
  have hn := n48 h
  obtain ⟨q, k1, V1, k2, k3, k4⟩ := iter_for (b := fX0_sets_L7 (some b) u) (s := (I 0, Wd b V lw R)) (fun n q => ∃ V', q = (I (n : Int), Wd b V' lw R) ∧ (∀ o, o ≠ 62 → V' o = V o) ∧ ∀ x, x < n → V' 62 x = -1) (fun q => ∃ V', q = Wd b V' lw R ∧ (∀ o, o ≠ 62 → V' o = V o) ∧ ∀ x, x < nT V0 → V' 62 x = -1) (nT V0) (by omega) ⟨V, rfl, fun _ _ => rfl, fun x hx => by omega⟩ (fun n q hS hn => by
    obtain ⟨V', rfl, a1, a2⟩ := hS
    have h' : Rel V0 V' := h.sc (sc_62 fun o o1 _ => a1 o o1)
    refine ⟨(I ((n + 1 : Nat) : Int), Wd b (up V' 62 n (-1)) lw R), ?_, up V' 62 n (-1), rfl, fun o ho => by rw [up_r ho, a1 o ho], fun x hx => ?_⟩
    · unfold fX0_sets_L7
      simp (disch := omega) only [k_0, k_1, I_neg, gI0_3, v_n h', I_le, if_neg, gR0_18, wA62, tn, Option.bind_some, I_add]
      rfl
    · by_cases c : x = n
      · rw [c, up_s]
      · rw [up_k c]
        exact a2 x (by omega)) (fun q hS => by
    obtain ⟨V', rfl, a1, a2⟩ := hS
    have h' : Rel V0 V' := h.sc (sc_62 fun o o1 _ => a1 o o1)
    refine ⟨_, ?_, V', rfl, a1, a2⟩
    unfold fX0_sets_L7
    simp (disch := omega) only [gI0_3, v_n h', Option.bind_some, I_le, if_pos])
  exact ⟨V1, by rw [k1, k2], k3, k4⟩
theorem x_setsL40 (h : Rel V0 V) {u2 : Int32} : ∃ V', iter (fX0_sets_L40 (some b) u u2) FUEL (I 0, Wd b V lw R) = some (Wd b V' lw R) ∧ (∀ o, o ≠ 63 → V' o = V o) ∧ ∀ x, x < nT V0 → V' 63 x = 0 := by
  have hn := n48 h
  obtain ⟨q, k1, V1, k2, k3, k4⟩ := iter_for (b := fX0_sets_L40 (some b) u u2) (s := (I 0, Wd b V lw R)) (fun n q => ∃ V', q = (I (n : Int), Wd b V' lw R) ∧ (∀ o, o ≠ 63 → V' o = V o) ∧ ∀ x, x < n → V' 63 x = 0) (fun q => ∃ V', q = Wd b V' lw R ∧ (∀ o, o ≠ 63 → V' o = V o) ∧ ∀ x, x < nT V0 → V' 63 x = 0) (nT V0) (by omega) ⟨V, rfl, fun _ _ => rfl, fun x hx => by omega⟩ (fun n q hS hn => by
    obtain ⟨V', rfl, a1, a2⟩ := hS
    have h' : Rel V0 V' := h.sc (sc_62 fun o _ o2 => a1 o o2)
    refine ⟨(I ((n + 1 : Nat) : Int), Wd b (up V' 63 n 0) lw R), ?_, up V' 63 n 0, rfl, fun o ho => by rw [up_r ho, a1 o ho], fun x hx => ?_⟩
    · unfold fX0_sets_L40
      simp (disch := omega) only [k_0, k_1, I_neg, gI0_3, v_n h', I_le, if_neg, gR0_19, wA63, tn, Option.bind_some, I_add]
      rfl
    · by_cases c : x = n
      · rw [c, up_s]
      · rw [up_k c]
        exact a2 x (by omega)) (fun q hS => by
    obtain ⟨V', rfl, a1, a2⟩ := hS
    have h' : Rel V0 V' := h.sc (sc_62 fun o _ o2 => a1 o o2)
    refine ⟨_, ?_, V', rfl, a1, a2⟩
    unfold fX0_sets_L40
    simp (disch := omega) only [gI0_3, v_n h', Option.bind_some, I_le, if_pos])
  exact ⟨V1, by rw [k1, k2], k3, k4⟩
theorem mV_0 {M : Nat → Int} (h : ∀ x, x < nT V0 → M x = -1) : mV V0 M ∧ ∀ x, ¬ mC V0 M x := ⟨⟨fun q hq => Or.inl (h q hq), fun q q' hq _ _ _ => h q hq⟩, fun x ⟨q, hq, e⟩ => by
  rw [h q hq] at e
  omega⟩
theorem x_sets (h : Rel V0 V) : ∃ (V' : Vw) (succ : Nat → Bool), fX0_sets (Wd b V lw R) (some b) = some (I (cnt (fun r => decide (ru V0 r)) (nT V0) - cnt succ (nT V0)), Wd b V' lw R) ∧ (∀ o, o ≠ 62 → o ≠ 63 → V' o = V o) ∧ mG V0 (nT V0) succ := by
  have hn := n48 h
  obtain ⟨V1, e1, e2, e3⟩ := x_setsL7 (b := b) (lw := lw) (R := R) (u := I (cnt (fun r => decide (ru V0 r)) (nT V0))) h
  have r1 : Rel V0 V1 := h.sc (sc_62 fun o o1 _ => e2 o o1)
  obtain ⟨q, k1, V2, succ, k2, k3, k4⟩ := iter_for (b := fX0_sets_L30 (some b)) (s := (I (cnt (fun r => decide (ru V0 r)) (nT V0)), I 0, Wd b V1 lw R)) (fun r q => ∃ (V' : Vw) (succ : Nat → Bool), q = (I (cnt (fun r => decide (ru V0 r)) (nT V0) - cnt succ r), I (r : Int), Wd b V' lw R) ∧ (∀ o, o ≠ 62 → o ≠ 63 → V' o = V o) ∧ mG V0 r succ ∧ mV V0 (V' 62) ∧ ∀ x, mC V0 (V' 62) x ↔ x < r ∧ succ x = true) (fun q => ∃ (V' : Vw) (succ : Nat → Bool), q = (I (cnt (fun r => decide (ru V0 r)) (nT V0) - cnt succ (nT V0)), Wd b V' lw R) ∧ (∀ o, o ≠ 62 → o ≠ 63 → V' o = V o) ∧ mG V0 (nT V0) succ) (nT V0) (by omega) ⟨V1, fun _ => false, by rw [cnt, Int.sub_zero]; rfl, fun o o1 _ => e2 o o1, fun r hr => by omega, (mV_0 e3).1, fun x => ⟨fun w => absurd w ((mV_0 e3).2 x), fun w => by omega⟩⟩ (fun r q hS hr => by
    obtain ⟨V', succ, rfl, a1, a2, a3, a4⟩ := hS
    have h' : Rel V0 V' := h.sc (sc_62 a1)
    have h48 := r48 h hr
    obtain ⟨V2, f1, f2, f3⟩ := x_setsL40 (b := b) (lw := lw) (R := R) (u := I (cnt (fun r => decide (ru V0 r)) (nT V0) - cnt succ r)) (u2 := I (r : Int)) h'
    have r2 : Rel V0 V2 := h'.sc (sc_62 fun o _ o2 => f2 o o2)
    have e62 : V2 62 = V' 62 := f2 62 (by omega)
    have g2 : fGood V0 V2 := fun q hq => ⟨by
      rw [e62]
      rcases a3.1 q hq with w | ⟨y, w1, w2, _⟩
      · exact Or.inl w
      · exact Or.inr ⟨y, w1, w2⟩, Or.inl (f3 q hq)⟩
    have cl := cnt_le (fun q => decide (V2 63 q = 0)) (nT V0)
    obtain ⟨v, V3, g3, o1, o2, o3, o4, o5⟩ := x_finds (b := b) (lw := lw) (R := R) 60 V2 r r2 g2 hr (by omega)
    have c0 : ¬ mC V0 (V' 62) r := fun w => by
      have := (a4 r).mp w
      omega
    obtain ⟨s2, s3, s4, s5, s6⟩ := mG_s (M' := V3 62) (v := v) a2 hr a3 a4 (fun w => by
      have q := (o4 w).2 (V2 62) (by rw [e62]; exact a3) (fun q _ _ => rfl) (by rw [e62]; exact c0) (V3 62) (fun q hq w => by
        have := f3 q hq
        omega) (fun q _ _ => rfl)
      rw [e62] at q
      exact q) (fun w => by
      obtain ⟨q1, q2, q3⟩ := o5 w
      rw [e62] at q1 q3
      refine ⟨fun q _ => by rw [q1], fun ⟨M', g', gC⟩ => ?_⟩
      have exp : ∀ q, q < nT V0 → V3 63 q = 1 → ∃ y, V' 62 q = ((y : Nat) : Int) ∧ ∀ q', q' < nT V0 → fE V0 y q' → V3 63 q' = 1 := fun q hq hs => by
        rcases q3 q hq hs with w | w
        · have := f3 q hq
          omega
        · exact w
      have inS : ∀ q y, q < nT V0 → V3 63 q = 1 → V' 62 q = ((y : Nat) : Int) → 0 < cnt (fun q => decide (V3 63 q = 1 ∧ V' 62 q = (y : Int))) (nT V0) := fun q y hq h1 h2 => (cnt_pos _).mpr ⟨q, hq, decide_eq_true ⟨h1, h2⟩⟩
      refine mt_key (S := fun x => decide (x = r ∨ 0 < cnt (fun q => decide (V3 63 q = 1 ∧ V' 62 q = (x : Int))) (nT V0))) a3 hr c0 (decide_eq_true (Or.inl rfl)) (fun x hx => ?_) (fun x q hx hq he => ?_) g' gC
      · rcases of_decide_eq_true hx with w | w
        · exact Or.inl w
        · obtain ⟨q, w1, w2⟩ := (cnt_pos _).mp w
          exact Or.inr ⟨q, w1, (of_decide_eq_true w2).2⟩
      · have seen : V3 63 q = 1 := by
          rcases of_decide_eq_true hx with w | w
          · rw [w] at he
            exact q2 q hq he
          · obtain ⟨q0, w1, w2⟩ := (cnt_pos _).mp w
            obtain ⟨w3, w4⟩ := of_decide_eq_true w2
            obtain ⟨y, y1, y2⟩ := exp q0 w1 w3
            have : y = x := by omega
            rw [this] at y2
            exact y2 q hq he
        obtain ⟨y, y1, y2⟩ := exp q hq seen
        exact ⟨y, y1, decide_eq_true (Or.inr ((cnt_pos _).mpr ⟨q, hq, decide_eq_true ⟨seen, y1⟩⟩))⟩)
    refine ⟨(I (cnt (fun r => decide (ru V0 r)) (nT V0) - cnt s2 (r + 1)), I ((r + 1 : Nat) : Int), Wd b V3 lw R), ?_, V3, s2, rfl, fun o p1 p2 => by rw [o1 o p1 p2, f2 o p2, a1 o p1 p2], s3, s4, s5⟩
    unfold fX0_sets_L30
    simp (disch := omega) only [k_0, k_1, gI0_3, v_n h', I_le, if_neg, f1, on0, g3, Option.bind_some]
    rw [s6]
    cases v with
    | true =>
      simp only [if_true]
      rw [if_neg (show ¬ I 1 = I 0 by decide), I_sub, I_add, show cnt (fun r => decide (ru V0 r)) (nT V0) - (cnt succ r + 1) = cnt (fun r => decide (ru V0 r)) (nT V0) - cnt succ r - 1 by omega]
      rfl
    | false =>
      simp only [Bool.false_eq_true, if_false, if_true, I_sub, I_add, Int.sub_zero, Int.add_zero]
      rfl) (fun q hS => by
    obtain ⟨V', succ, rfl, a1, a2, a3, a4⟩ := hS
    have h' : Rel V0 V' := h.sc (sc_62 a1)
    refine ⟨_, ?_, V', succ, rfl, a1, a2⟩
    unfold fX0_sets_L30
    simp (disch := omega) only [gI0_3, v_n h', Option.bind_some, I_le, if_pos])
  refine ⟨V2, succ, ?_, k3, k4⟩
  unfold fX0_sets
  simp only [k_0, on0, x_running h, Option.bind_some, e1, k1, k2]
end SZ
