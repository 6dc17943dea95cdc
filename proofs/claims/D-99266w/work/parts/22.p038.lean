/-! CALL: inspector, the class, II. No JVM here. -/
set_option maxRecDepth 100000
set_option linter.unusedVariables false
section ID
variable {b : Nat} {V0 V : Vw} {lw : Option Nat} {R : Hp} {p k j i r e n d f to : Nat} {s t z y w c lo hi m v : Int} {u : Int32} {A : Nat → Int}
theorem iRel_of (h : Rel V0 V) (hr : r < nT V0) {P : Nat → Prop} : (iRel V0 s z y r ∧ ∃ i, sAn V0 r s < i ∧ i < sm V0 r ∧ P i) ↔ (ru V0 r ∧ (r : Int) ≠ y ∧ ∃ j, st V0 r j = s ∧ z ≤ mi V0 r j ∧ ∃ i, j < i ∧ i < sm V0 r ∧ P i) := by
  constructor
  · rintro ⟨⟨⟨h1, h2, h3⟩, h4, h5⟩, i, h6, h7, h8⟩
    obtain ⟨p1, p2, p3⟩ := sAt_of h2
    exact ⟨h1, h4, sAn V0 r s, p3, h5, i, h6, h7, h8⟩
  · rintro ⟨h1, h2, j, h3, h4, i, h5, h6, h7⟩
    obtain ⟨a1, a2⟩ := sAt_k h hr (show j < sm V0 r by omega)
    rw [h3] at a1 a2
    refine ⟨⟨⟨h1, by omega, by omega⟩, h2, ?_⟩, i, by omega, h6, h7⟩
    unfold minAt
    rw [a2]
    exact h4
theorem sc_65 {V V' : Vw} (h : ∀ o, ¬ (65 ≤ o ∧ o ≤ 112) → V' o = V o) : Sc V V' := fun o k q => by rw [h o (fun e => q (by unfold scr; omega))]
theorem x_inspL (h : Rel V0 V) : ∃ V', iter (fX0_inspector_L16 (some b) u) FUEL (I ((nE V0 : Int) - 1), Wd b V lw R) = some (Wd b V' lw R) ∧ (∀ o, ¬ (65 ≤ o ∧ o ≤ 112) → V' o = V o) ∧ ∀ r i, r < nT V0 → i < sm V0 r → 0 ≤ V' (65 + r) i ∧ V' (65 + r) i ≤ 1439 ∧ ∀ n : Nat, (n : Int) ≤ V' (65 + r) i ↔ iPf V0 n r i := by
  have hn := n48 h
  have hne := ne_b h
  have hch := ch_b h
  obtain ⟨q, k1, V1, k2, k3, k4⟩ := iter_for (b := fX0_inspector_L16 (some b) u) (s := (I ((nE V0 : Int) - 1), Wd b V lw R)) (fun k q => ∃ V', q = (I ((nE V0 : Int) - 1 - (k : Int)), Wd b V' lw R) ∧ (∀ o, ¬ (65 ≤ o ∧ o ≤ 112) → V' o = V o) ∧ ∀ e, nE V0 ≤ e + k → e < nE V0 → 0 ≤ V' (65 + evT V0 e) (evS V0 e) ∧ V' (65 + evT V0 e) (evS V0 e) ≤ 1439 ∧ ∀ n : Nat, (n : Int) ≤ V' (65 + evT V0 e) (evS V0 e) ↔ iPf V0 n (evT V0 e) (evS V0 e)) (fun q => ∃ V', q = Wd b V' lw R ∧ (∀ o, ¬ (65 ≤ o ∧ o ≤ 112) → V' o = V o) ∧ ∀ e, e < nE V0 → 0 ≤ V' (65 + evT V0 e) (evS V0 e) ∧ V' (65 + evT V0 e) (evS V0 e) ≤ 1439 ∧ ∀ n : Nat, (n : Int) ≤ V' (65 + evT V0 e) (evS V0 e) ↔ iPf V0 n (evT V0 e) (evS V0 e)) (nE V0) (by omega) ⟨V, by rw [show (nE V0 : Int) - 1 - ((0 : Nat) : Int) = (nE V0 : Int) - 1 by omega], fun _ _ => rfl, fun e h1 h2 => by omega⟩ (fun k q hS hk => by
    obtain ⟨V', rfl, a1, a2⟩ := hS
    have h' : Rel V0 V' := h.sc (sc_65 a1)
    have e1 : (nE V0 : Int) - 1 - (k : Int) + -1 = (nE V0 : Int) - 1 - ((k + 1 : Nat) : Int) := by omega
    obtain ⟨e, he⟩ : ∃ e, e = nE V0 - 1 - k := ⟨_, rfl⟩
    have he2 : e < nE V0 := by omega
    have ee : (nE V0 : Int) - 1 - (k : Int) = (e : Int) := by omega
    rw [ee] at e1
    rw [ee]
    have ht := et_b h he2
    have hi := es_b h he2
    have h48 := r48 h ht
    have hsm := sm2 h ht
    have hst := st_b h ht hi
    have hm := evM_b h he2
    have later : ∀ r i, r < nT V0 → iRel V0 (st V0 (evT V0 e) (evS V0 e)) (evM V0 e + ch V0) (evT V0 e : Int) r → sAn V0 r (st V0 (evT V0 e) (evS V0 e)) < i → i < sm V0 r → 0 ≤ V' (65 + r) i ∧ V' (65 + r) i ≤ 1439 ∧ ∀ n : Nat, (n : Int) ≤ V' (65 + r) i ↔ iPf V0 n r i := fun r i hr q h1 h2 => by
      obtain ⟨e', w1, w2, w3⟩ := ev_of h hr h2
      have w4 : evM V0 e' = mi V0 r i := by
        unfold evM
        rw [w2, w3]
      have w5 : minAt V0 r (st V0 (evT V0 e) (evS V0 e)) < mi V0 r i := mi_lt h hr h1 h2
      have w6 := q.2.2
      have : e < e' := by
        by_cases c : e' ≤ e
        · have := ev_le2 h c he2
          omega
        · omega
      have := a2 e' (by omega) w1
      rw [w2, w3] at this
      exact this
    obtain ⟨v, f1, f2, f3, f4⟩ := x_ridesFrom (b := b) (lw := lw) (R := R) h' (s := st V0 (evT V0 e) (evS V0 e)) (z := evM V0 e + ch V0) (y := (evT V0 e : Int)) (by omega) (by omega) (by omega) (fun r i hr q h1 h2 => ⟨(later r i hr q h1 h2).1, (later r i hr q h1 h2).2.1⟩)
    have key : ∀ n : Nat, (n : Int) ≤ v ↔ iPf V0 n (evT V0 e) (evS V0 e) := fun n => by
      rw [f4 n]
      cases n with
      | zero => exact ⟨fun _ => True.intro, fun _ => Or.inl rfl⟩
      | succ n =>
        constructor
        · rintro (w | ⟨r, w1, w2, i, w3, w4, w5⟩)
          · omega
          · obtain ⟨x1, x2, j, x3, x4, i', x5, x6, x7⟩ := (iRel_of h w1 (P := fun i => iPf V0 n r i)).mp ⟨w2, i, w3, w4, ((later r i w1 w2 w3 w4).2.2 n).mp (by omega)⟩
            exact ⟨r, w1, by omega, x1, j, x3, x4, i', x5, x6, x7⟩
        · rintro ⟨r, w1, w2, w3, j, w4, w5, i', w6, w7, w8⟩
          obtain ⟨x1, i, x2, x3, x4⟩ := (iRel_of h w1 (y := (evT V0 e : Int)) (z := evM V0 e + ch V0) (P := fun i => iPf V0 n r i)).mpr ⟨w3, by omega, j, w4, w5, i', w6, w7, w8⟩
          have := ((later r i w1 x1 x2 x3).2.2 n).mpr x4
          exact Or.inr ⟨r, w1, x1, i, x2, x3, by omega⟩
    have vb : v ≤ 1439 := by
      have h0 : ((v.toNat : Nat) : Int) = v := by omega
      have := iPf_b h ht hi ((key v.toNat).mp (by omega))
      have := mi_b h ht hi
      omega
    refine ⟨_, ?_, up V' (65 + evT V0 e) (evS V0 e) v, rfl, ?_, ?_⟩
    · unfold fX0_inspector_L16
      simp (disch := omega) only [k_1, k_0, I_neg, I_lt, if_neg, gR0_20, gR0_1, gR0_2, gR0_0, gI0_5, rA2, rA3, tn, v_et h' he2, v_es h' he2, rFr, rTr, gTr0, rSt, v_st h' ht, on0, x_minuteOf h' he2, v_ch h', I_add, f1, wFu, Option.bind_some, e1]
    · intro o ho
      rw [up_r (by omega)]
      exact a1 o ho
    · intro e' q1 q2
      by_cases c : e' = e
      · rw [c, up_s]
        exact ⟨f2, vb, key⟩
      · have ne : ¬ (evT V0 e' = evT V0 e ∧ evS V0 e' = evS V0 e) := by
          have := ev_ne h (show e < e' by omega) q2
          omega
        have : up V' (65 + evT V0 e) (evS V0 e) v (65 + evT V0 e') (evS V0 e') = V' (65 + evT V0 e') (evS V0 e') := by
          unfold up
          rw [if_neg (by omega)]
        rw [this]
        exact a2 e' (by omega) q2) (fun q hS => by
    obtain ⟨V', rfl, a1, a2⟩ := hS
    refine ⟨_, ?_, V', rfl, a1, fun e he => a2 e (by omega) he⟩
    unfold fX0_inspector_L16
    simp (disch := omega) only [k_0, I_lt, if_pos])
  refine ⟨V1, by rw [k1, k2], k3, fun r i hr hi => ?_⟩
  obtain ⟨e, w1, w2, w3⟩ := ev_of h hr hi
  have := k4 e w1
  rw [w2, w3] at this
  exact this
theorem x_inspector (h : Rel V0 V) (hs : 0 ≤ s ∧ s < 10) : ∃ V' v, fX0_inspector (Wd b V lw R) (some b) (I s) = some (I v, Wd b V' lw R) ∧ (∀ o, ¬ (65 ≤ o ∧ o ≤ 112) → V' o = V o) ∧ 0 ≤ v ∧ v ≤ 1440 ∧ ∀ n : Nat, ((n : Int) + 1 ≤ v ↔ iAns V0 s n) := by
  have hne := ne_b h
  obtain ⟨V', e1, e2, e3⟩ := x_inspL (b := b) (lw := lw) (R := R) (u := I s) h
  have h' : Rel V0 V' := h.sc (sc_65 e2)
  obtain ⟨v, f1, f2, f3, f4⟩ := x_ridesFrom (b := b) (lw := lw) (R := R) h' (s := s) (z := 0) (y := -1) hs (by omega) (by omega) (fun r i hr q h1 h2 => ⟨(e3 r i hr h2).1, (e3 r i hr h2).2.1⟩)
  refine ⟨V', v, ?_, e2, f2, f3, fun n => ?_⟩
  · unfold fX0_inspector
    simp (disch := omega) only [k_1, k_0, I_neg, x_isSt, Option.bind_some, bi_if, if_pos, gI0_4, v_ne h, I_sub, e1, on0, f1]
  · rw [show (n : Int) + 1 = ((n + 1 : Nat) : Int) by omega, f4 (n + 1)]
    constructor
    · rintro (w | ⟨r, w1, w2, i, w3, w4, w5⟩)
      · omega
      · obtain ⟨x1, x2, j, x3, x4, i', x5, x6, x7⟩ := (iRel_of h w1 (P := fun i => iPf V0 n r i)).mp ⟨w2, i, w3, w4, ((e3 r i w1 w4).2.2 n).mp (by omega)⟩
        exact ⟨r, w1, x1, j, x3, i', x5, x6, x7⟩
    · rintro ⟨r, w1, w3, j, w4, i', w6, w7, w8⟩
      obtain ⟨x1, i, x2, x3, x4⟩ := (iRel_of h w1 (y := -1) (z := 0) (P := fun i => iPf V0 n r i)).mpr ⟨w3, by omega, j, w4, (mi_b h w1 (by omega)).1, i', w6, w7, w8⟩
      have := ((e3 r i w1 x3).2.2 n).mpr x4
      exact Or.inr ⟨r, w1, x1, i, x2, x3, by omega⟩
end ID
