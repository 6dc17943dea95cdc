/-! FARES: the class's days. No JVM here. -/
set_option maxRecDepth 100000
set_option linter.unusedVariables false
theorem faF_c {A A' : Nat → Int} {hs : Nat → Prop} {dd pr : Nat → Int} {n d : Nat} (hd : ∀ i, i < n → 1 ≤ dd i) (h30 : d < 30) (e : ∀ k, d ≤ k → A' k = A k) (h : faF A hs dd pr n d) : faF A' hs dd pr n d := by
  refine ⟨fun c => ?_, fun c => ?_⟩
  · rw [e d (Nat.le_refl _), h.1 c]
    exact mn_c n rfl (fun i hi => by
      have := hd i hi
      rw [e _ (by omega)])
  · rw [e d (Nat.le_refl _), e (d + 1) (by omega)]
    exact h.2 c
theorem faG_c {B B' : Nat → Int} {hs : Nat → Prop} {dd pr : Nat → Int} {n d : Nat} (hd : ∀ i, i < n → 1 ≤ dd i) (e : ∀ k, d ≤ k → B' k = B k) (h : faG B hs dd pr n d) : faG B' hs dd pr n d := by
  refine ⟨fun c => ?_, fun c => ?_⟩
  · rw [e d (Nat.le_refl _), h.1 c]
    exact mn_c n rfl (fun i hi => by
      have := hd i hi
      rw [e _ (by omega)])
  · rw [e d (Nat.le_refl _), h.2 c]
    exact mn_c n (by rw [e (d + 1) (by omega)]) (fun i hi => by
      have := hd i hi
      rw [e _ (by omega)])
section FB
variable {b : Nat} {V0 V : Vw} {lw : Option Nat} {R : Hp} {p k j i r e n d : Nat} {s t z y w : Int} {u : Int32}
theorem x_f130no (hn : 0 < n) (hn8 : n ≤ 8) (hd : d ≤ 30) (hh : d < 30 → ¬ hsP u d) : iter (fX0_fares_L130 (some b) (I (n : Int)) u (I (d : Int))) FUEL (I 0, Wd b V lw R) = some (Wd b V lw R) := by
  refine iter_r (n := 1999) ?_
  unfold fX0_fares_L130
  by_cases c : d = 30
  · subst c
    simp (disch := omega) only [k_0, k_30, I_le, if_neg, if_pos]
  · have q := hh (by omega)
    simp (disch := omega) only [k_0, k_30, I_le, if_neg, x_has, Option.bind_some]
    exact if_pos (by rw [bi_f q])
/-- one day of the class -/
theorem x_f86s (h : Rel V0 V) (hn0 : 0 < n) (hn : n ≤ 8) (hd : d ≤ 30) (hb : ∀ i, i < n → 1 ≤ V0 53 (2 * i) ∧ V0 53 (2 * i) ≤ 30) (hA : ∀ k, d < k → k ≤ 30 → 0 ≤ V 113 k ∧ V 113 k ≤ 268435456) : ∃ V', fX0_fares_L86 (some b) (I (n : Int)) u (I (d : Int), Wd b V lw R) = some (.inl (I ((d : Int) - 1), Wd b V' lw R)) ∧ (∀ o, o ≠ 113 → V' o = V o) ∧ (∀ k, k ≠ d → V' 113 k = V 113 k) ∧ (0 ≤ V' 113 d ∧ V' 113 d ≤ 268435456) ∧ (d = 30 → V' 113 d = 0) ∧ (d < 30 → faF (V' 113) (hsP u) (fdd V0) (fpr V0) n d) := by
  by_cases c : d = 30
  · subst c
    refine ⟨up V 113 30 0, ?_, fun o ho => up_r ho, fun k hk => up_k hk, by rw [up_s]; decide, fun _ => up_s, fun q => absurd q (by decide)⟩
    unfold fX0_fares_L86
    have e := x_f130no (b := b) (V := up V 113 30 0) (lw := lw) (R := R) (u := u) hn0 hn (Nat.le_refl 30) (fun q => absurd q (by decide))
    simp (disch := omega) only [k_0, k_1, k_30, I_neg, I_lt, I_inj, if_neg, if_pos, gR0_21, Option.bind_some, wA113, tn, e, I_add]
    rfl
  · have hd2 : d < 30 := by omega
    have e30 : ((d : Int) = 30) = False := eq_false (by omega)
    by_cases hh : hsP u d
    · obtain ⟨V2, e1, e2, e3, e4⟩ := x_f130 (b := b) (lw := lw) (R := R) (V := up V 113 d 268435456) (h.sc (sc_113 (fun o ho => up_r ho))) hn hd2 hh hb (by rw [up_s]; decide) (fun k h1 h2 => by rw [up_k (by omega)]; exact hA k h1 h2)
      rw [up_s] at e4
      refine ⟨V2, ?_, fun o ho => by rw [e2 o ho, up_r ho], fun k hk => by rw [e3 k hk, up_k hk], ?_, fun q => absurd q c, fun _ => ⟨fun _ => ?_, fun q => absurd hh q⟩⟩
      · unfold fX0_fares_L86
        simp (disch := omega) only [k_0, k_1, k_30, k_268435456, I_neg, I_lt, I_inj, if_neg, gR0_21, x_has, bi_if, if_pos hh, Option.bind_some, wA113, tn, e1, I_add]
        rfl
      · rw [e4]
        exact mn_b (by decide) n (fun i hi => by
          have := hb i hi
          rw [up_k (by omega)]
          have := hA (min 30 ((d : Int) + V0 53 (2 * i))).toNat (by omega) (by omega)
          show 0 ≤ V 113 _ + V0 53 (2 * i + 1) % 256
          omega)
      · rw [e4]
        exact mn_c n rfl (fun i hi => by
          have := hb i hi
          show up V 113 d 268435456 113 (min 30 ((d : Int) + V0 53 (2 * i))).toNat + _ = V2 113 (min 30 ((d : Int) + V0 53 (2 * i))).toNat + _
          rw [e3 _ (by omega)])
    · have b1 := hA (d + 1) (by omega) (by omega)
      refine ⟨up V 113 d (V 113 (d + 1)), ?_, fun o ho => up_r ho, fun k hk => up_k hk, by rw [up_s]; exact b1, fun q => absurd q c, fun _ => ⟨fun q => absurd q hh, fun _ => by rw [up_s, up_k (by omega)]⟩⟩
      have e := x_f130no (b := b) (V := up V 113 d (V 113 (d + 1))) (lw := lw) (R := R) (u := u) (d := d) hn0 hn (by omega) (fun _ => hh)
      unfold fX0_fares_L86
      simp (disch := omega) only [k_0, k_1, k_30, k_268435456, I_neg, I_lt, I_inj, if_neg, gR0_21, x_has, bi_if, if_neg hh, Option.bind_some, rA113, tn_s, wA113, tn, e, I_add]
      rfl
theorem x_f86 (h : Rel V0 V) (hn0 : 0 < n) (hn : n ≤ 8) (hb : ∀ i, i < n → 1 ≤ V0 53 (2 * i) ∧ V0 53 (2 * i) ≤ 30) : ∃ V', iter (fX0_fares_L86 (some b) (I (n : Int)) u) FUEL (I 30, Wd b V lw R) = some (Wd b V' lw R) ∧ (∀ o, o ≠ 113 → V' o = V o) ∧ V' 113 30 = 0 ∧ ∀ d, d < 30 → faF (V' 113) (hsP u) (fdd V0) (fpr V0) n d := by
  obtain ⟨r, h1, V', h2, h3, h4, h5⟩ := iter_for (b := fX0_fares_L86 (some b) (I (n : Int)) u) (s := (I 30, Wd b V lw R)) (fun e q => ∃ V', q = (I (30 - (e : Int)), Wd b V' lw R) ∧ (∀ o, o ≠ 113 → V' o = V o) ∧ (∀ k, 30 < k + e → k ≤ 30 → 0 ≤ V' 113 k ∧ V' 113 k ≤ 268435456) ∧ (0 < e → V' 113 30 = 0) ∧ ∀ d, 30 < d + e → d < 30 → faF (V' 113) (hsP u) (fdd V0) (fpr V0) n d) (fun r => ∃ V', r = Wd b V' lw R ∧ (∀ o, o ≠ 113 → V' o = V o) ∧ V' 113 30 = 0 ∧ ∀ d, d < 30 → faF (V' 113) (hsP u) (fdd V0) (fpr V0) n d) 31 (by decide) ⟨V, rfl, fun _ _ => rfl, fun k h1 h2 => by omega, fun q => absurd q (by decide), fun d h1 h2 => by omega⟩ (fun e q hS he => by
      obtain ⟨V', rfl, a1, a2, a3, a4⟩ := hS
      have ed : (30 : Int) - (e : Int) = ((30 - e : Nat) : Int) := by omega
      have ed2 : (30 : Int) - ((e + 1 : Nat) : Int) = ((30 - e : Nat) : Int) - 1 := by omega
      obtain ⟨V2, e1, e2, e3, e4, e5, e6⟩ := x_f86s (b := b) (lw := lw) (R := R) (u := u) (d := 30 - e) (h.sc (sc_113 a1)) hn0 hn (by omega) hb (fun k h1 h2 => a2 k (by omega) h2)
      refine ⟨(I (30 - ((e + 1 : Nat) : Int)), Wd b V2 lw R), by rw [ed, ed2]; exact e1, V2, rfl, fun o ho => by rw [e2 o ho, a1 o ho], fun k h1 h2 => ?_, fun _ => ?_, fun d h1 h2 => ?_⟩
      · by_cases c : k = 30 - e
        · rw [c]
          exact e4
        · rw [e3 k c]
          exact a2 k (by omega) h2
      · by_cases c : e = 0
        · have := e5 (by omega)
          rw [show 30 - e = 30 by omega] at this
          exact this
        · rw [e3 30 (by omega)]
          exact a3 (by omega)
      · by_cases c : d = 30 - e
        · rw [c]
          exact e6 (by omega)
        · exact faF_c (fun i hi => (hb i hi).1) h2 (fun k hk => e3 k (by omega)) (a4 d (by omega) h2)) (fun q hS => by
      obtain ⟨V', rfl, a1, a2, a3, a4⟩ := hS
      refine ⟨Wd b V' lw R, ?_, V', rfl, a1, a3 (by decide), fun d hd => a4 d (by omega) hd⟩
      unfold fX0_fares_L86
      simp (disch := omega) only [k_0, I_lt, if_pos])
  exact ⟨V', by rw [h1, h2], h3, h4, h5⟩
end FB
