/-! CALL: inspector. No JVM here. -/
set_option maxRecDepth 100000
set_option linter.unusedVariables false
section IZ
variable {b : Nat} {V0 V : Vw} {lw : Option Nat} {R : Hp} {p k j i r e n d f to : Nat} {s t z y w c lo hi m v : Int} {u : Int32} {A : Nat → Int}
theorem y_clr303 : ∃ V', iter (fX7_inspector_L11 (some (b + 258)) u) FUEL (I 0, Wd b V lw R) = some (Wd b V' lw R) ∧ (∀ o, o ≠ 303 → V' o = V o) ∧ ∀ x, x < 384 → V' 303 x = 0 := by
  obtain ⟨q, k1, V1, k2, k3, k4⟩ := iter_for (b := fX7_inspector_L11 (some (b + 258)) u) (s := (I 0, Wd b V lw R)) (fun n q => ∃ V', q = (I (n : Int), Wd b V' lw R) ∧ (∀ o, o ≠ 303 → V' o = V o) ∧ ∀ x, x < n → V' 303 x = 0) (fun q => ∃ V', q = Wd b V' lw R ∧ (∀ o, o ≠ 303 → V' o = V o) ∧ ∀ x, x < 384 → V' 303 x = 0) 384 (by omega) ⟨V, rfl, fun _ _ => rfl, fun x hx => by omega⟩ (fun n q hS hn => by
    obtain ⟨V', rfl, a1, a2⟩ := hS
    refine ⟨(I ((n + 1 : Nat) : Int), Wd b (up V' 303 n 0) lw R), ?_, up V' 303 n 0, rfl, fun o ho => by rw [up_r ho, a1 o ho], fun x hx => ?_⟩
    · unfold fX7_inspector_L11
      simp (disch := omega) only [k_0, k_1, k_384, I_le, if_neg, gR258_63, wA303, tn, Option.bind_some, I_add]
      rfl
    · by_cases c : x = n
      · rw [c, up_s]
      · rw [up_k c]
        exact a2 x (by omega)) (fun q hS => by
    obtain ⟨V', rfl, a1, a2⟩ := hS
    refine ⟨_, ?_, V', rfl, a1, a2⟩
    unfold fX7_inspector_L11
    simp (disch := omega) only [k_384, I_le, if_pos])
  exact ⟨V1, by rw [k1, k2], k3, k4⟩
theorem y_inspK (h : Rel V0 V) (hr : r < nT V0) (hj : j < sm V0 r) (hm : 0 ≤ m ∧ m ≤ 1440) (hv : 0 ≤ v ∧ v ≤ 1439) {u2 : Int32} (hW : ∀ i, i < sm V0 r → 0 ≤ V 303 (8 * r + i) ∧ V 303 (8 * r + i) ≤ 1440) (hl : j + 1 < sm V0 r) : ∃ V', iter (fX7_inspector_L105 (some (b + 258)) u u2 (I (r : Int)) (I v)) FUEL (I m, I ((j : Int) + 1), Wd b V lw R) = some (I (max m (v + 1)), Wd b V' lw R) ∧ (∀ o, o ≠ 303 → V' o = V o) ∧ (∀ i, j < i → i < sm V0 r → V' 303 (8 * r + i) = max (V 303 (8 * r + i)) (v + 1)) ∧ ∀ x, ¬ (8 * r + j < x ∧ x < 8 * r + sm V0 r) → V' 303 x = V 303 x := by
  have h48 := r48 h hr
  have hsm := sm2 h hr
  obtain ⟨q, k1, V1, k2, k3, k4, k5⟩ := iter_for (b := fX7_inspector_L105 (some (b + 258)) u u2 (I (r : Int)) (I v)) (s := (I m, I ((j : Int) + 1), Wd b V lw R)) (fun n q => ∃ V', q = (I (if n = 0 then m else max m (v + 1)), I ((j + 1 + n : Nat) : Int), Wd b V' lw R) ∧ (∀ o, o ≠ 303 → V' o = V o) ∧ (∀ i, j < i → i < j + 1 + n → V' 303 (8 * r + i) = max (V 303 (8 * r + i)) (v + 1)) ∧ ∀ x, ¬ (8 * r + j < x ∧ x < 8 * r + (j + 1 + n)) → V' 303 x = V 303 x) (fun q => ∃ V', q = (I (max m (v + 1)), Wd b V' lw R) ∧ (∀ o, o ≠ 303 → V' o = V o) ∧ (∀ i, j < i → i < sm V0 r → V' 303 (8 * r + i) = max (V 303 (8 * r + i)) (v + 1)) ∧ ∀ x, ¬ (8 * r + j < x ∧ x < 8 * r + sm V0 r) → V' 303 x = V 303 x) (sm V0 r - (j + 1)) (by omega) ⟨V, rfl, fun _ _ => rfl, fun i h1 h2 => by omega, fun _ _ => rfl⟩ (fun n q hS hn => by
    obtain ⟨V', rfl, a1, a2, a3⟩ := hS
    have h' : Rel V0 V' := h.sc (sc_303 a1)
    have hw := hW (j + 1 + n) (by omega)
    have e0 : V' 303 (8 * r + (j + 1 + n)) = V 303 (8 * r + (j + 1 + n)) := a3 _ (by omega)
    have ea : ((8 : Int) * (r : Int) + ((j + 1 + n : Nat) : Int)).toNat = 8 * r + (j + 1 + n) := by omega
    have em : 0 ≤ (if n = 0 then m else max m (v + 1)) ∧ (if n = 0 then m else max m (v + 1)) ≤ 1440 ∧ max (if n = 0 then m else max m (v + 1)) (v + 1) = max m (v + 1) := by
      split <;> omega
    refine ⟨(I (max m (v + 1)), I ((j + 1 + (n + 1) : Nat) : Int), Wd b (up V' 303 (8 * r + (j + 1 + n)) (max (V 303 (8 * r + (j + 1 + n))) (v + 1))) lw R), ?_, up V' 303 (8 * r + (j + 1 + n)) (max (V 303 (8 * r + (j + 1 + n))) (v + 1)), ?_, fun o ho => by rw [up_r ho, a1 o ho], fun i h1 h2 => ?_, fun x hx => ?_⟩
    · unfold fX7_inspector_L105
      simp (disch := omega) only [k_0, k_1, k_8, I_neg, I_le, if_neg, gR258_6, ySm h' hr, Option.bind_some, I_inj, gR258_63, fX7_at, I_mul, I_add, rA303, ea, e0, y_max, wA303, em.2.2]
      rfl
    · rw [if_neg (by omega)]
    · by_cases c : i = j + 1 + n
      · rw [c, up_s]
      · rw [up_k (by omega)]
        exact a2 i h1 (by omega)
    · rw [up_k (by omega)]
      exact a3 x (by omega)) (fun q hS => by
    obtain ⟨V', rfl, a1, a2, a3⟩ := hS
    have h' : Rel V0 V' := h.sc (sc_303 a1)
    rw [show j + 1 + (sm V0 r - (j + 1)) = sm V0 r by omega] at a2 a3 ⊢
    refine ⟨_, ?_, V', rfl, a1, a2, a3⟩
    unfold fX7_inspector_L105
    rw [if_neg (by omega)]
    simp (disch := omega) only [gR258_6, ySm h' hr, Option.bind_some, I_le, if_pos])
  exact ⟨V1, by rw [k1, k2], k3, k4, k5⟩
theorem y_inspector (h : Rel V0 V) (hs : 0 ≤ s ∧ s < 10) : ∃ V' v, fX7_inspector (Wd b V lw R) (some (b + 258)) (I s) = some (I v, Wd b V' lw R) ∧ (∀ o, o ≠ 303 → V' o = V o) ∧ 0 ≤ v ∧ v ≤ 1440 ∧ ∀ n : Nat, ((n : Int) + 1 ≤ v ↔ iAns V0 s n) := by
  have hne := ne_b h
  obtain ⟨V1, e1, e2, e3⟩ := y_clr303 (b := b) (V := V) (lw := lw) (R := R) (u := I s)
  have r1 : Rel V0 V1 := h.sc (sc_303 e2)
  obtain ⟨q, k1, V2, v, k2, k3, k4, k5, k6⟩ := iter_for (b := fX7_inspector_L35 (some (b + 258)) (I s)) (s := (I 0, I 0, Wd b V1 lw R)) (fun t q => ∃ V' m, q = (I m, I (t : Int), Wd b V' lw R) ∧ (∀ o, o ≠ 303 → V' o = V o) ∧ (∀ r i, r < nT V0 → i < sm V0 r → 0 ≤ V' 303 (8 * r + i) ∧ V' 303 (8 * r + i) ≤ 1440 ∧ ∀ n : Nat, ((n : Int) + 1 ≤ V' 303 (8 * r + i) ↔ iZ V0 s t n r i)) ∧ 0 ≤ m ∧ m ≤ 1440 ∧ ∀ n : Nat, ((n : Int) + 1 ≤ m ↔ ∃ r i, r < nT V0 ∧ i < sm V0 r ∧ iZ V0 s t n r i)) (fun q => ∃ V' m, q = (I m, Wd b V' lw R) ∧ (∀ o, o ≠ 303 → V' o = V o) ∧ 0 ≤ m ∧ m ≤ 1440 ∧ ∀ n : Nat, ((n : Int) + 1 ≤ m ↔ ∃ r i, r < nT V0 ∧ i < sm V0 r ∧ iZ V0 s (nE V0) n r i)) (nE V0) (by omega) ⟨V1, 0, rfl, e2, fun r i hr hi => by
      have h1 := r48 h hr
      have h2 := sm2 h hr
      rw [e3 _ (by omega)]
      exact ⟨by omega, by omega, fun n => ⟨fun q => by omega, fun ⟨_, j, _, ⟨e, q, _⟩, _⟩ => by omega⟩⟩, by omega, by omega, fun n => ⟨fun q => by omega, fun ⟨r, i, _, _, _, j, _, ⟨e, q, _⟩, _⟩ => by omega⟩⟩ (fun t q hS ht => by
    obtain ⟨V', m, rfl, a1, a2, a3, a4, a5⟩ := hS
    have h' : Rel V0 V' := h.sc (sc_303 a1)
    have hr := et_b h ht
    have hj := es_b h ht
    have h48 := r48 h hr
    have hsm := sm2 h hr
    have hm := evM_b h ht
    -- nothing new: the invariant stays
    have skip : (∀ r i n, r < nT V0 → i < sm V0 r → (iZ V0 s (t + 1) n r i ↔ iZ V0 s t n r i)) → ∃ s', some (Sum.inl (I m, I ((t : Int) + 1), Wd b V' lw R)) = (some (Sum.inl s') : Option ((Int32 × Int32 × Hp) ⊕ (Int32 × Hp))) ∧ ∃ V' m, s' = (I m, I ((t + 1 : Nat) : Int), Wd b V' lw R) ∧ (∀ o, o ≠ 303 → V' o = V o) ∧ (∀ r i, r < nT V0 → i < sm V0 r → 0 ≤ V' 303 (8 * r + i) ∧ V' 303 (8 * r + i) ≤ 1440 ∧ ∀ n : Nat, ((n : Int) + 1 ≤ V' 303 (8 * r + i) ↔ iZ V0 s (t + 1) n r i)) ∧ 0 ≤ m ∧ m ≤ 1440 ∧ ∀ n : Nat, ((n : Int) + 1 ≤ m ↔ ∃ r i, r < nT V0 ∧ i < sm V0 r ∧ iZ V0 s (t + 1) n r i) := fun q => by
      refine ⟨_, rfl, V', m, rfl, a1, fun r i hr hi => ⟨(a2 r i hr hi).1, (a2 r i hr hi).2.1, fun n => by rw [q r i n hr hi]; exact (a2 r i hr hi).2.2 n⟩, a3, a4, fun n => ?_⟩
      rw [a5 n]
      exact ⟨fun ⟨r, i, h1, h2, h3⟩ => ⟨r, i, h1, h2, (q r i n h1 h2).mpr h3⟩, fun ⟨r, i, h1, h2, h3⟩ => ⟨r, i, h1, h2, (q r i n h1 h2).mp h3⟩⟩
    have grow : ∀ r i n, r < nT V0 → i < sm V0 r → (iZ V0 s (t + 1) n r i ↔ (iZ V0 s t n r i ∨ (ru V0 r ∧ r = evT V0 t ∧ evS V0 t < i ∧ iHt V0 s n (evT V0 t) (evS V0 t)))) := fun r i n hr hi => by
      constructor
      · rintro ⟨w1, j, w2, ⟨e, w3, w4, w5⟩, w6⟩
        by_cases c : e = t
        · rw [c] at w4 w5
          rw [← w4, ← w5] at w6
          exact Or.inr ⟨w1, w4.symm, by omega, w6⟩
        · exact Or.inl ⟨w1, j, w2, ⟨e, by omega, w4, w5⟩, w6⟩
      · rintro (⟨w1, j, w2, ⟨e, w3, w4, w5⟩, w6⟩ | ⟨w1, w2, w3, w4⟩)
        · exact ⟨w1, j, w2, ⟨e, by omega, w4, w5⟩, w6⟩
        · exact ⟨w1, evS V0 t, w3, ⟨t, by omega, w2.symm, rfl⟩, by rw [w2]; exact w4⟩
    unfold fX7_inspector_L35
    simp (disch := omega) only [k_0, k_1, k_8, I_neg, I_le, if_neg, gI258_15, w_ne h', gR258_10, Option.bind_some, yEv h' ht, yE8 h' ht, on258, y_runs h' hr, bi_if]
    by_cases c1 : ru V0 (evT V0 t)
    · rw [if_pos c1]
      simp (disch := omega) only [gR258_6, ySm h' hr, Option.bind_some, yE8r h' ht, I_sub, I_inj]
      by_cases c2 : (evS V0 t : Int) = (sm V0 (evT V0 t) : Int) - 1
      · rw [if_pos c2, I_add]
        exact skip fun r i n hr hi => by
          rw [grow r i n hr hi]
          refine ⟨?_, Or.inl⟩
          rintro (w | ⟨_, w2, w3, _⟩)
          · exact w
          · rw [w2] at hi
            omega
      · rw [if_neg c2]
        obtain ⟨v, f1, f2, f3, f4⟩ := y_mostAt (b := b) (lw := lw) (R := R) h' hs ht (fun e he ok => by
          have hr2 := et_b h he
          have hi2 := es_b h he
          obtain ⟨x1, x2, x3⟩ := a2 _ _ hr2 hi2
          have mle : mi V0 (evT V0 e) (evS V0 e) ≤ evM V0 t := by
            have q1 : evM V0 e + ch V0 ≤ evM V0 t := ok.2.2
            have q2 := ch_b h
            have q3 : evM V0 e = mi V0 (evT V0 e) (evS V0 e) := rfl
            omega
          have key : ∀ n : Nat, (n : Int) + 1 ≤ V' 303 (8 * evT V0 e + evS V0 e) ↔ ∃ n', n ≤ n' ∧ iPt V0 s (n' + 1) (evT V0 e) (evS V0 e) := fun n => by
            rw [x3 n]
            exact iZ_Pt h hr2 hi2 ht mle
          refine ⟨x1, ?_, key⟩
          by_cases q : V' 303 (8 * evT V0 e + evS V0 e) = 0
          · omega
          · obtain ⟨n', y1, y2⟩ := (key (V' 303 (8 * evT V0 e + evS V0 e) - 1).toNat).mp (by omega)
            have y3 := iPt_b h hr2 hi2 y2
            have y4 := mi_b h hr2 hi2
            omega)
        simp (disch := omega) only [f1, Option.bind_some, I_add]
        by_cases c3 : v = -1
        · have : iter (fX7_inspector_L105 (some (b + 258)) (I s) (I (t : Int)) (I (evT V0 t : Int)) (I v)) FUEL (I m, I ((evS V0 t : Int) + 1), Wd b V' lw R) = some (I m, Wd b V' lw R) := by
            show iter _ (1999 + 1) _ = _
            refine iter_r ?_
            unfold fX7_inspector_L105
            rw [c3]
            simp (disch := omega) only [k_0, k_1, I_neg, gR258_6, ySm h' hr, Option.bind_some, I_le, if_neg, I_inj]
            rfl
          rw [this, Option.bind_some]
          exact skip fun r i n hr hi => by
            rw [grow r i n hr hi]
            refine ⟨?_, Or.inl⟩
            rintro (w | ⟨_, w2, w3, w4⟩)
            · exact w
            · have := (f4 n).mpr w4
              omega
        · obtain ⟨V2, g1, g2, g3, g4⟩ := y_inspK (b := b) (lw := lw) (R := R) (u := I s) (u2 := I (t : Int)) (m := m) (v := v) h' hr hj ⟨a3, a4⟩ (by omega) (fun i hi => ⟨(a2 _ i hr hi).1, (a2 _ i hr hi).2.1⟩) (by omega)
          rw [g1, Option.bind_some]
          have W2 : ∀ r i, r < nT V0 → i < sm V0 r → 0 ≤ V2 303 (8 * r + i) ∧ V2 303 (8 * r + i) ≤ 1440 ∧ ∀ n : Nat, ((n : Int) + 1 ≤ V2 303 (8 * r + i) ↔ iZ V0 s (t + 1) n r i) := fun r i hr2 hi2 => by
            have hsm3 := sm2 h hr2
            obtain ⟨x1, x2, x3⟩ := a2 r i hr2 hi2
            by_cases c : r = evT V0 t ∧ evS V0 t < i
            · obtain ⟨c4, c5⟩ := c
              subst c4
              rw [g3 i c5 hi2]
              refine ⟨by omega, by omega, fun n => ?_⟩
              have e0 : (n : Int) + 1 ≤ max (V' 303 (8 * evT V0 t + i)) (v + 1) ↔ (n : Int) + 1 ≤ V' 303 (8 * evT V0 t + i) ∨ (n : Int) ≤ v := by omega
              rw [e0, x3 n, f4 n, grow _ i n hr2 hi2]
              exact ⟨fun w => w.elim Or.inl fun w => Or.inr ⟨c1, rfl, c5, w⟩, fun w => w.elim Or.inl fun w => Or.inr w.2.2.2⟩
            · rw [g4 _ (by omega)]
              refine ⟨x1, x2, fun n => ?_⟩
              rw [x3 n, grow r i n hr2 hi2]
              exact ⟨Or.inl, fun w => w.elim id fun w => absurd ⟨w.2.1, w.2.2.1⟩ c⟩
          refine ⟨_, rfl, V2, max m (v + 1), rfl, fun o ho => by rw [g2 o ho, a1 o ho], W2, by omega, by omega, fun n => ?_⟩
          have e0 : (n : Int) + 1 ≤ max m (v + 1) ↔ (n : Int) + 1 ≤ m ∨ (n : Int) ≤ v := by omega
          rw [e0, a5 n, f4 n]
          constructor
          · rintro (⟨r, i, w1, w2, w3⟩ | w)
            · exact ⟨r, i, w1, w2, (grow r i n w1 w2).mpr (Or.inl w3)⟩
            · exact ⟨evT V0 t, evS V0 t + 1, hr, by omega, (grow _ _ n hr (by omega)).mpr (Or.inr ⟨c1, rfl, by omega, w⟩)⟩
          · rintro ⟨r, i, w1, w2, w3⟩
            rcases (grow r i n w1 w2).mp w3 with w | w
            · exact Or.inl ⟨r, i, w1, w2, w⟩
            · exact Or.inr w.2.2.2
    · rw [if_neg c1, I_add]
      exact skip fun r i n hr hi => by
        rw [grow r i n hr hi]
        refine ⟨?_, Or.inl⟩
        rintro (w | ⟨w1, w2, _⟩)
        · exact w
        · rw [w2] at w1
          exact absurd w1 c1) (fun q hS => by
    obtain ⟨V', m, rfl, a1, a2, a3, a4, a5⟩ := hS
    have h' : Rel V0 V' := h.sc (sc_303 a1)
    refine ⟨_, ?_, V', m, rfl, a1, a3, a4, a5⟩
    unfold fX7_inspector_L35
    simp (disch := omega) only [I_le, if_pos, gI258_15, w_ne h', Option.bind_some])
  refine ⟨V2, v, ?_, k3, k4, k5, fun n => ?_⟩
  · unfold fX7_inspector
    simp (disch := omega) only [k_1, k_0, I_neg, y_isSt, Option.bind_some, bi_if, if_pos, e1, k1, k2]
  · rw [k6 n, iAns_iff h]
    constructor
    · rintro ⟨r, i, w1, w2, w3, j, w4, _, w5⟩
      exact ⟨r, i, w1, w2, w3, j, w4, w5⟩
    · rintro ⟨r, i, w1, w2, w3, j, w4, w5⟩
      obtain ⟨e, x1, x2, x3⟩ := ev_of h w1 (show j < sm V0 r by omega)
      exact ⟨r, i, w1, w2, w3, j, w4, ⟨e, x1, x2, x3⟩, w5⟩
theorem call_inspector (h : Inv V) (h1 : -2147483648 ≤ s) (h2 : s ≤ 2147483647) : Okc b V lw R (fun m => fX0_inspector m (some b) (I s)) (fun m => fX7_inspector m (some (b + 258)) (I s)) := by
  unfold Okc
  by_cases g : 0 ≤ s ∧ s < 10
  · obtain ⟨V1, v, e1, e2, e3, e4, e5⟩ := x_inspector (b := b) (lw := lw) (R := R) h.rel g
    have s1 : Sc V V1 := sc_65 e2
    have r1 : Rel V V1 := h.rel.sc s1
    obtain ⟨V2, w, f1, f2, f3, f4, f5⟩ := y_inspector (b := b) (lw := lw) (R := R) r1 g
    have s2 : Sc V V2 := s1.tr (sc_303 f2)
    have : v = w := by
      have a1 : ∀ n : Nat, (n : Int) + 1 ≤ v ↔ (n : Int) + 1 ≤ w := fun n => by rw [e5 n, f5 n]
      have a2 := a1 (v - 1).toNat
      have a3 := a1 (w - 1).toNat
      omega
    rw [← this] at f1
    exact ⟨_, _, V2, e1, f1, (h.sc s2).1, (h.sc s2).2, cO258⟩
  · refine ⟨I (-1), Wd b V lw R, V, ?_, ?_, h, agL.id V, cO258⟩
    · show fX0_inspector _ _ _ = _
      unfold fX0_inspector
      simp only [k_0, k_1, I_neg, x_isSt h1 h2, Option.bind_some, bi_if]
      rw [if_neg g]
    · show fX7_inspector _ _ _ = _
      unfold fX7_inspector
      simp only [k_0, k_1, I_neg, y_isSt h1 h2, Option.bind_some, bi_if]
      rw [if_neg g]
end IZ
