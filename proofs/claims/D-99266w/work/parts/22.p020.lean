/-! FARES: the reference's days; the call. No JVM here. -/
set_option maxRecDepth 100000
set_option linter.unusedVariables false
section FC
variable {b : Nat} {V0 V : Vw} {lw : Option Nat} {R : Hp} {p k j i r e n d : Nat} {s t z y w : Int} {u : Int32}
theorem y_f139 (h : Rel V0 V) (hn : n ≤ 8) (hd : d < 30) (hb : ∀ i, i < n → 1 ≤ V0 53 (2 * i) ∧ V0 53 (2 * i) ≤ 30) (hv : 0 ≤ V 304 d ∧ V 304 d ≤ 1000000) (hA : ∀ k, d < k → k ≤ 60 → 0 ≤ V 304 k ∧ V 304 k ≤ 1000000) : ∃ V', iter (fX7_fares_L139 (some (b + 258)) (I (n : Int)) u (I (d : Int))) FUEL (I 0, Wd b V lw R) = some (Wd b V' lw R) ∧ (∀ o, o ≠ 304 → V' o = V o) ∧ (∀ k, k ≠ d → V' 304 k = V 304 k) ∧ V' 304 d = mn (fun i => V0 53 (2 * i + 1) % 256 + V 304 ((d : Int) + V0 53 (2 * i)).toNat) (V 304 d) n := by
  obtain ⟨r, h1, V', h2, h3, h4, h5⟩ := iter_for (b := fX7_fares_L139 (some (b + 258)) (I (n : Int)) u (I (d : Int))) (s := (I 0, Wd b V lw R)) (fun i q => ∃ V', q = (I (i : Int), Wd b V' lw R) ∧ (∀ o, o ≠ 304 → V' o = V o) ∧ (∀ k, k ≠ d → V' 304 k = V 304 k) ∧ V' 304 d = mn (fun i => V0 53 (2 * i + 1) % 256 + V 304 ((d : Int) + V0 53 (2 * i)).toNat) (V 304 d) i) (fun r => ∃ V', r = Wd b V' lw R ∧ (∀ o, o ≠ 304 → V' o = V o) ∧ (∀ k, k ≠ d → V' 304 k = V 304 k) ∧ V' 304 d = mn (fun i => V0 53 (2 * i + 1) % 256 + V 304 ((d : Int) + V0 53 (2 * i)).toNat) (V 304 d) n) n (by omega) ⟨V, rfl, fun _ _ => rfl, fun _ _ => rfl, rfl⟩ (fun i q hS hi => by
      obtain ⟨V', rfl, a1, a2, a3⟩ := hS
      have h' : Rel V0 V' := h.sc (sc_304 a1)
      have q1 := hb i hi
      have qm : V0 53 (2 * i) % 256 = V0 53 (2 * i) := by omega
      have e1 : V' 304 ((d : Int) + V0 53 (2 * i)).toNat = V 304 ((d : Int) + V0 53 (2 * i)).toNat := a2 _ (by omega)
      have b3 := hA ((d : Int) + V0 53 (2 * i)).toNat (by omega) (by omega)
      have b4 : 0 ≤ mn (fun i => V0 53 (2 * i + 1) % 256 + V 304 ((d : Int) + V0 53 (2 * i)).toNat) (V 304 d) i ∧ mn (fun i => V0 53 (2 * i + 1) % 256 + V 304 ((d : Int) + V0 53 (2 * i)).toNat) (V 304 d) i ≤ 1000000 := mn_b hv i (fun j hj => by
        have q2 := hb j (by omega)
        have := hA ((d : Int) + V0 53 (2 * j)).toNat (by omega) (by omega)
        omega)
      refine ⟨(I ((i + 1 : Nat) : Int), Wd b (up V' 304 d (min (mn (fun i => V0 53 (2 * i + 1) % 256 + V 304 ((d : Int) + V0 53 (2 * i)).toNat) (V 304 d) i) (V0 53 (2 * i + 1) % 256 + V 304 ((d : Int) + V0 53 (2 * i)).toNat))) lw R), ?_, _, rfl, fun o ho => by rw [up_r ho, a1 o ho], fun k hk => by rw [up_k hk, a2 k hk], by rw [up_s, mn]⟩
      unfold fX7_fares_L139
      simp (disch := omega) only [k_1, k_2, I_le, if_neg, on258, y_oct2 h', y_oct21 h', Option.bind_some, gR258_64, rA304, I_mul, I_add, tn, qm, y_min, e1, a3, wA304]
      rfl) (fun q hS => by
      obtain ⟨V', rfl, a1, a2, a3⟩ := hS
      refine ⟨_, ?_, V', rfl, a1, a2, a3⟩
      unfold fX7_fares_L139
      simp (disch := omega) only [I_le, if_pos])
  exact ⟨V', by rw [h1, h2], h3, h4, h5⟩
/-- one day of the reference -/
theorem y_f85s (h : Rel V0 V) (hn0 : 0 < n) (hn : n ≤ 8) (hd : d ≤ 60) (hb : ∀ i, i < n → 1 ≤ V0 53 (2 * i) ∧ V0 53 (2 * i) ≤ 30) (hA : ∀ k, d < k → k ≤ 60 → 0 ≤ V 304 k ∧ V 304 k ≤ 1000000) : ∃ V', fX7_fares_L85 (some (b + 258)) (I (n : Int)) u (I (d : Int), Wd b V lw R) = some (.inl (I ((d : Int) - 1), Wd b V' lw R)) ∧ (∀ o, o ≠ 304 → V' o = V o) ∧ (∀ k, k ≠ d → V' 304 k = V 304 k) ∧ (0 ≤ V' 304 d ∧ V' 304 d ≤ 1000000) ∧ (30 ≤ d → V' 304 d = 0) ∧ (d < 30 → faG (V' 304) (hsP u) (fdd V0) (fpr V0) n d) := by
  by_cases c : 30 ≤ d
  · refine ⟨up V 304 d 0, ?_, fun o ho => up_r ho, fun k hk => up_k hk, by rw [up_s]; decide, fun _ => up_s, fun q => absurd q (by omega)⟩
    unfold fX7_fares_L85
    simp (disch := omega) only [k_0, k_1, k_30, I_neg, I_lt, if_neg, gR258_64, Option.bind_some, wA304, tn, I_add]
    rfl
  · have hd2 : d < 30 := by omega
    by_cases hh : hsP u d
    · obtain ⟨V2, e1, e2, e3, e4⟩ := y_f139 (b := b) (lw := lw) (R := R) (u := u) (V := up (up V 304 d 0) 304 d 1000000) (h.sc (sc_304 (fun o ho => by rw [up_r ho, up_r ho]))) hn hd2 hb (by rw [up_s]; decide) (fun k h1 h2 => by rw [up_k (by omega), up_k (by omega)]; exact hA k h1 h2)
      rw [up_s] at e4
      refine ⟨V2, ?_, fun o ho => by rw [e2 o ho, up_r ho, up_r ho], fun k hk => by rw [e3 k hk, up_k hk, up_k hk], ?_, fun q => absurd q c, fun _ => ⟨fun _ => ?_, fun q => absurd hh q⟩⟩
      · unfold fX7_fares_L85
        simp (disch := omega) only [k_0, k_1, k_30, k_1000000, I_neg, I_lt, if_neg, if_pos, gR258_64, y_has, Option.bind_some, wA304, tn, bi_if, if_pos hh]
        rw [e1]
        simp only [Option.bind_some, I_add]
        rfl
      · rw [e4]
        exact mn_b (by decide) n (fun i hi => by
          have := hb i hi
          rw [up_k (by omega), up_k (by omega)]
          have := hA ((d : Int) + V0 53 (2 * i)).toNat (by omega) (by omega)
          omega)
      · rw [e4]
        exact mn_c n rfl (fun i hi => by
          have := hb i hi
          show _ + up (up V 304 d 0) 304 d 1000000 304 ((d : Int) + V0 53 (2 * i)).toNat = _ + V2 304 ((d : Int) + V0 53 (2 * i)).toNat
          rw [e3 _ (by omega)])
    · have b1 := hA (d + 1) (by omega) (by omega)
      have er : up (up V 304 d 0) 304 d 1000000 304 (d + 1) = V 304 (d + 1) := by rw [up_k (by omega), up_k (by omega)]
      obtain ⟨V2, e1, e2, e3, e4⟩ := y_f139 (b := b) (lw := lw) (R := R) (u := u) (V := up (up (up V 304 d 0) 304 d 1000000) 304 d (V 304 (d + 1))) (h.sc (sc_304 (fun o ho => by rw [up_r ho, up_r ho, up_r ho]))) hn hd2 hb (by rw [up_s]; exact b1) (fun k h1 h2 => by rw [up_k (by omega), up_k (by omega), up_k (by omega)]; exact hA k h1 h2)
      rw [up_s] at e4
      refine ⟨V2, ?_, fun o ho => by rw [e2 o ho, up_r ho, up_r ho, up_r ho], fun k hk => by rw [e3 k hk, up_k hk, up_k hk, up_k hk], ?_, fun q => absurd q c, fun _ => ⟨fun q => absurd q hh, fun _ => ?_⟩⟩
      · unfold fX7_fares_L85
        simp (disch := omega) only [k_0, k_1, k_30, k_1000000, I_neg, I_lt, if_neg, if_pos, gR258_64, y_has, Option.bind_some, wA304, rA304, I_add, tn_s, er, tn, bi_if, if_neg hh]
        rw [e1]
        simp only [Option.bind_some]
        rfl
      · rw [e4]
        exact mn_b b1 n (fun i hi => by
          have := hb i hi
          rw [up_k (by omega), up_k (by omega), up_k (by omega)]
          have := hA ((d : Int) + V0 53 (2 * i)).toNat (by omega) (by omega)
          omega)
      · rw [e4]
        exact mn_c n (by rw [e3 (d + 1) (by omega), up_k (by omega), er]) (fun i hi => by
          have := hb i hi
          show _ + up (up (up V 304 d 0) 304 d 1000000) 304 d (V 304 (d + 1)) 304 ((d : Int) + V0 53 (2 * i)).toNat = _ + V2 304 ((d : Int) + V0 53 (2 * i)).toNat
          rw [e3 _ (by omega)])
theorem y_f85 (h : Rel V0 V) (hn0 : 0 < n) (hn : n ≤ 8) (hb : ∀ i, i < n → 1 ≤ V0 53 (2 * i) ∧ V0 53 (2 * i) ≤ 30) : ∃ V', iter (fX7_fares_L85 (some (b + 258)) (I (n : Int)) u) FUEL (I 60, Wd b V lw R) = some (Wd b V' lw R) ∧ (∀ o, o ≠ 304 → V' o = V o) ∧ (∀ d, 30 ≤ d → d ≤ 60 → V' 304 d = 0) ∧ ∀ d, d < 30 → faG (V' 304) (hsP u) (fdd V0) (fpr V0) n d := by
  obtain ⟨r, h1, V', h2, h3, h4, h5⟩ := iter_for (b := fX7_fares_L85 (some (b + 258)) (I (n : Int)) u) (s := (I 60, Wd b V lw R)) (fun e q => ∃ V', q = (I (60 - (e : Int)), Wd b V' lw R) ∧ (∀ o, o ≠ 304 → V' o = V o) ∧ (∀ k, 60 < k + e → k ≤ 60 → 0 ≤ V' 304 k ∧ V' 304 k ≤ 1000000) ∧ (∀ d, 60 < d + e → 30 ≤ d → d ≤ 60 → V' 304 d = 0) ∧ ∀ d, 60 < d + e → d < 30 → faG (V' 304) (hsP u) (fdd V0) (fpr V0) n d) (fun r => ∃ V', r = Wd b V' lw R ∧ (∀ o, o ≠ 304 → V' o = V o) ∧ (∀ d, 30 ≤ d → d ≤ 60 → V' 304 d = 0) ∧ ∀ d, d < 30 → faG (V' 304) (hsP u) (fdd V0) (fpr V0) n d) 61 (by decide) ⟨V, rfl, fun _ _ => rfl, fun k h1 h2 => by omega, fun d h1 h2 h3 => by omega, fun d h1 h2 => by omega⟩ (fun e q hS he => by
      obtain ⟨V', rfl, a1, a2, a3, a4⟩ := hS
      have ed : (60 : Int) - (e : Int) = ((60 - e : Nat) : Int) := by omega
      have ed2 : (60 : Int) - ((e + 1 : Nat) : Int) = ((60 - e : Nat) : Int) - 1 := by omega
      obtain ⟨V2, e1, e2, e3, e4, e5, e6⟩ := y_f85s (b := b) (lw := lw) (R := R) (u := u) (d := 60 - e) (h.sc (sc_304 a1)) hn0 hn (by omega) hb (fun k h1 h2 => a2 k (by omega) h2)
      refine ⟨(I (60 - ((e + 1 : Nat) : Int)), Wd b V2 lw R), by rw [ed, ed2]; exact e1, V2, rfl, fun o ho => by rw [e2 o ho, a1 o ho], fun k h1 h2 => ?_, fun d h1 h2 h3 => ?_, fun d h1 h2 => ?_⟩
      · by_cases c : k = 60 - e
        · rw [c]
          exact e4
        · rw [e3 k c]
          exact a2 k (by omega) h2
      · by_cases c : d = 60 - e
        · rw [c]
          exact e5 (by omega)
        · rw [e3 d c]
          exact a3 d (by omega) h2 h3
      · by_cases c : d = 60 - e
        · rw [c]
          exact e6 (by omega)
        · exact faG_c (fun i hi => (hb i hi).1) (fun k hk => e3 k (by omega)) (a4 d (by omega) h2)) (fun q hS => by
      obtain ⟨V', rfl, a1, a2, a3, a4⟩ := hS
      refine ⟨Wd b V' lw R, ?_, V', rfl, a1, fun d h1 h2 => a3 d (by omega) h1 h2, fun d hd => a4 d (by omega) hd⟩
      unfold fX7_fares_L85
      simp (disch := omega) only [k_0, I_lt, if_pos])
  exact ⟨V', by rw [h1, h2], h3, h4, h5⟩
end FC
