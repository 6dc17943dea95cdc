/-! CALL: latest, III. No JVM here. -/
set_option maxRecDepth 100000
set_option linter.unusedVariables false
section LV
variable {b : Nat} {V0 V : Vw} {lw : Option Nat} {R : Hp} {p k j i r e n d f to : Nat} {s t z y w c lo hi m v : Int} {u : Int32} {A : Nat → Int}
/-- what the reference reads of an event -/
theorem yEv (h : Rel V0 V) (he : e < nE V0) : hp_aI (Wd b V lw R) (some (b + 269)) 0 (I (e : Int)) = some (I ((8 * evT V0 e + evS V0 e : Nat) : Int)) := by
  have := ne_b h
  rw [rA269 (by omega) (by omega), tn, w_ev h he]
theorem yEs (h : Rel V0 V) (he : e < nE V0) : hp_aI (Wd b V lw R) (some (b + 266)) 0 (I ((8 * evT V0 e + evS V0 e : Nat) : Int)) = some (I (st V0 (evT V0 e) (evS V0 e))) := by
  have h1 := et_b h he
  have h2 := es_b h he
  have h3 := r48 h h1
  have h4 := sm2 h h1
  rw [rA266 (by omega) (by omega), tn, w_st h h1 h2]
theorem yEm (h : Rel V0 V) (he : e < nE V0) : hp_aI (Wd b V lw R) (some (b + 267)) 0 (I ((8 * evT V0 e + evS V0 e : Nat) : Int)) = some (I (evM V0 e)) := by
  have h1 := et_b h he
  have h2 := es_b h he
  have h3 := r48 h h1
  have h4 := sm2 h h1
  rw [rA267 (by omega) (by omega), tn, w_mi h h1 h2]
  rfl
theorem yE8 (h : Rel V0 V) (he : e < nE V0) : I ((8 * evT V0 e + evS V0 e : Nat) : Int) / I 8 = I (evT V0 e : Int) := by
  have h1 := et_b h he
  have h2 := es_b h he
  have h3 := r48 h h1
  have h4 := sm2 h h1
  rw [I_div (by omega) (by omega) (by omega) (by omega)]
  congr 1
  omega
theorem yE8r (h : Rel V0 V) (he : e < nE V0) : jrem (I ((8 * evT V0 e + evS V0 e : Nat) : Int)) (I 8) = I (evS V0 e : Int) := by
  have h1 := et_b h he
  have h2 := es_b h he
  have h3 := r48 h h1
  have h4 := sm2 h h1
  rw [I_rem (by omega) (by omega) (by omega) (by omega)]
  congr 1
  omega
abbrev lyG (V : Vw) (f to : Nat) (z : Int) (e : Nat) : Prop := evQ V (fun r => leaves V r (f : Int)) (f : Int) e ∧ yT V f (evM V e) 9 to ≤ z
theorem y_latestL (h : Rel V0 V) (hf : f < 10) (hto : to < 10) (hz : 0 ≤ z ∧ z ≤ 1439) : ∃ V', (∀ o, o ≠ 295 → o ≠ 296 → V' o = V o) ∧ ((iter (fX7_latest_L29 (some (b + 258)) (I (f : Int)) (I (to : Int)) (I z)) FUEL (I ((nE V0 : Int) - 1), Wd b V lw R) = some (.inl (Wd b V' lw R)) ∧ ∀ e, e < nE V0 → ¬ lyG V0 f to z e) ∨ ∃ e, e < nE V0 ∧ lyG V0 f to z e ∧ iter (fX7_latest_L29 (some (b + 258)) (I (f : Int)) (I (to : Int)) (I z)) FUEL (I ((nE V0 : Int) - 1), Wd b V lw R) = some (.inr (I (evM V0 e), Wd b V' lw R)) ∧ ∀ e', e < e' → e' < nE V0 → ¬ lyG V0 f to z e') := by
  have hne := ne_b h
  obtain ⟨q, k1, V1, k2, k3⟩ := iter_inv0 (b := fX7_latest_L29 (some (b + 258)) (I (f : Int)) (I (to : Int)) (I z)) (s := (I ((nE V0 : Int) - 1), Wd b V lw R)) (fun i q => ∃ V', q = (I ((nE V0 : Int) - 1 - (i : Int)), Wd b V' lw R) ∧ i ≤ nE V0 ∧ (∀ o, o ≠ 295 → o ≠ 296 → V' o = V o) ∧ ∀ e, nE V0 ≤ e + i → e < nE V0 → ¬ lyG V0 f to z e) (fun q => ∃ V', (∀ o, o ≠ 295 → o ≠ 296 → V' o = V o) ∧ ((q = .inl (Wd b V' lw R) ∧ ∀ e, e < nE V0 → ¬ lyG V0 f to z e) ∨ ∃ e, e < nE V0 ∧ lyG V0 f to z e ∧ q = .inr (I (evM V0 e), Wd b V' lw R) ∧ ∀ e', e < e' → e' < nE V0 → ¬ lyG V0 f to z e')) (nE V0) (by omega) ⟨V, by rw [show (nE V0 : Int) - 1 - ((0 : Nat) : Int) = (nE V0 : Int) - 1 by omega], Nat.zero_le _, fun _ _ _ => rfl, fun e h1 h2 => by omega⟩ (fun i q hS => by
    obtain ⟨V', rfl, a0, a1, a2⟩ := hS
    have h' : Rel V0 V' := h.sc (sc_29x a1)
    by_cases hi : i = nE V0
    · refine Or.inr ⟨.inl (Wd b V' lw R), ?_, V', a1, Or.inl ⟨rfl, fun e he => a2 e (by omega) he⟩⟩
      unfold fX7_latest_L29
      simp (disch := omega) only [k_0, I_lt, if_pos]
    · obtain ⟨e, he⟩ : ∃ e, e = nE V0 - 1 - i := ⟨_, rfl⟩
      have he2 : e < nE V0 := by omega
      have ee : (nE V0 : Int) - 1 - (i : Int) = (e : Int) := by omega
      have ee2 : (e : Int) + -1 = (nE V0 : Int) - 1 - ((i + 1 : Nat) : Int) := by omega
      have ht := et_b h he2
      have hst := st_b h ht (es_b h he2)
      have hm := evM_b h he2
      have more : ¬ lyG V0 f to z e → ∀ e', nE V0 ≤ e' + (i + 1) → e' < nE V0 → ¬ lyG V0 f to z e' := fun q e' h1 h2 => by
        by_cases c : e' = e
        · rw [c]
          exact q
        · exact a2 e' (by omega) h2
      rw [ee]
      by_cases c1 : st V0 (evT V0 e) (evS V0 e) = (f : Int)
      · by_cases c2 : leaves V0 (evT V0 e) (f : Int)
        · obtain ⟨V2, f1, f2, f3⟩ := y_soonest (b := b) (lw := lw) (R := R) h' hf hto (m := evM V0 e) hm
          have h2' : Rel V0 V2 := h'.sc (sc_29x f2)
          have by9 := yT_b h (f := f) hm 9 to hto
          by_cases c3 : z < yT V0 f (evM V0 e) 9 to
          · refine Or.inl ⟨(I ((nE V0 : Int) - 1 - ((i + 1 : Nat) : Int)), Wd b V2 lw R), ?_, ⟨V2, rfl, by omega, fun o h1 h2 => by rw [f2 o h1 h2, a1 o h1 h2], more (fun q => by have := q.2; omega)⟩, by omega⟩
            unfold fX7_latest_L29
            simp (disch := omega) only [k_0, k_1, k_8, I_neg, I_lt, if_neg, gR258_10, gR258_7, gR258_8, Option.bind_some, yEv h' he2, yEs h' he2, yEm h' he2, yE8 h' he2, I_inj, if_pos c1, on258, y_leaves h' ht, bi_if, if_pos c2, f1, if_pos c3, I_add, ee2]
          · refine Or.inr ⟨.inr (I (evM V0 e), Wd b V2 lw R), ?_, V2, fun o h1 h2 => by rw [f2 o h1 h2, a1 o h1 h2], Or.inr ⟨e, he2, ⟨⟨c2, c1⟩, by omega⟩, rfl, fun e' h1 h2 => a2 e' (by omega) h2⟩⟩
            unfold fX7_latest_L29
            simp (disch := omega) only [k_0, k_1, k_8, I_neg, I_lt, if_neg, gR258_10, gR258_7, gR258_8, Option.bind_some, yEv h' he2, yEs h' he2, yEm h' he2, yEm h2' he2, yE8 h' he2, I_inj, if_pos c1, on258, y_leaves h' ht, bi_if, if_pos c2, f1, if_neg c3, I_add, ee2]
        · refine Or.inl ⟨(I ((nE V0 : Int) - 1 - ((i + 1 : Nat) : Int)), Wd b V' lw R), ?_, ⟨V', rfl, by omega, a1, more (fun q => c2 q.1.1)⟩, by omega⟩
          unfold fX7_latest_L29
          simp (disch := omega) only [k_0, k_1, k_8, I_neg, I_lt, if_neg, gR258_10, gR258_7, gR258_8, Option.bind_some, yEv h' he2, yEs h' he2, yE8 h' he2, I_inj, if_pos c1, on258, y_leaves h' ht, bi_if, if_neg c2, I_add, ee2]
      · refine Or.inl ⟨(I ((nE V0 : Int) - 1 - ((i + 1 : Nat) : Int)), Wd b V' lw R), ?_, ⟨V', rfl, by omega, a1, more (fun q => c1 q.1.2)⟩, by omega⟩
        unfold fX7_latest_L29
        simp (disch := omega) only [k_0, k_1, k_8, I_neg, I_lt, if_neg, gR258_10, gR258_7, Option.bind_some, yEv h' he2, yEs h' he2, I_inj, if_neg c1, I_add, ee2])
  refine ⟨V1, k2, ?_⟩
  rcases k3 with ⟨k3, k4⟩ | ⟨e, e1, e2, e3, e4⟩
  · exact Or.inl ⟨by rw [k1, k3], k4⟩
  · exact Or.inr ⟨e, e1, e2, by rw [k1, e3], e4⟩
theorem call_latest (h : Inv V) (h1 : -2147483648 ≤ s) (h2 : s ≤ 2147483647) (h3 : -2147483648 ≤ t) (h4 : t ≤ 2147483647) (h5 : -2147483648 ≤ z) (h6 : z ≤ 2147483647) : Okc b V lw R (fun m => fX0_latest m (some b) (I s) (I t) (I z)) (fun m => fX7_latest m (some (b + 258)) (I s) (I t) (I z)) := by
  unfold Okc
  have b0 : (-2147483648 : Int) ≤ 0 ∧ (0 : Int) ≤ 2147483647 := by decide
  have b1440 : (-2147483648 : Int) ≤ 1440 ∧ (1440 : Int) ≤ 2147483647 := by decide
  have b1439 : (-2147483648 : Int) ≤ 1439 ∧ (1439 : Int) ≤ 2147483647 := by decide
  by_cases g : ((0 ≤ s ∧ s < 10) ∧ (0 ≤ t ∧ t < 10) ∧ s ≠ t) ∧ (0 ≤ z ∧ z < 1440)
  · obtain ⟨g1, g2⟩ := g
    obtain ⟨f, rfl⟩ : ∃ q : Nat, s = q := ⟨s.toNat, by omega⟩
    obtain ⟨to, rfl⟩ : ∃ q : Nat, t = q := ⟨t.toNat, by omega⟩
    have hf : f < 10 := by omega
    have hto : to < 10 := by omega
    have hne : to ≠ f := by omega
    have hz : 0 ≤ z ∧ z ≤ 1439 := by omega
    obtain ⟨V1, e1, e2⟩ := x_latestL (b := b) (lw := lw) (R := R) h.rel hf hto hz
    have s1 : Sc V V1 := sc_58 e2
    have r1 : Rel V V1 := h.rel.sc s1
    obtain ⟨V2, f2, f3⟩ := y_latestL (b := b) (lw := lw) (R := R) r1 hf hto hz
    have s2 : Sc V V2 := s1.tr (sc_29x f2)
    have X0 : fX0_latest (Wd b V lw R) (some b) (I (f : Int)) (I (to : Int)) (I z) = some (I (laC V f to z (nT V)), Wd b V1 lw R) := by
      unfold fX0_latest
      simp (disch := omega) only [k_0, k_1, k_2, k_1440, I_neg, x_two, x_in, Option.bind_some, bi_if, if_pos, e1]
    have X7 : fX7_latest (Wd b V1 lw R) (some (b + 258)) (I (f : Int)) (I (to : Int)) (I z) = (iter (fX7_latest_L29 (some (b + 258)) (I (f : Int)) (I (to : Int)) (I z)) FUEL (I ((nE V : Int) - 1), Wd b V1 lw R)).bind fun r6 => (match r6 with | .inl m22 => some (I (-2), m22) | .inr o => some o) := by
      unfold fX7_latest
      simp (disch := omega) only [k_0, k_1, k_2, k_1439, I_neg, y_two, y_in, Option.bind_some, bi_if, if_pos, gI258_15, w_ne r1, I_sub]
      rfl
    have cy : ∀ r, r < nT V → leaves V r (f : Int) → (cT V f (minAt V r (f : Int)) 10 to ≤ z ↔ yT V f (minAt V r (f : Int)) 9 to ≤ z) := fun r hr hl => cT_yT h.rel (minAt_b h.rel hr hl.2.1) hf 9 to hto hne z hz.2
    have evm : ∀ e, e < nE V → evQ V (fun r => leaves V r (f : Int)) (f : Int) e → evM V e = minAt V (evT V e) (f : Int) := fun e he q => by
      have := (sAt_k h.rel (et_b h.rel he) (es_b h.rel he)).2
      unfold minAt
      rw [← q.2, this]
      rfl
    have toEv : ∀ r, r < nT V → leaves V r (f : Int) → ∃ e, e < nE V ∧ evQ V (fun r => leaves V r (f : Int)) (f : Int) e ∧ evM V e = minAt V r (f : Int) := fun r hr hl => (ev_tr h.rel (Q := fun r => leaves V r (f : Int)) (fun r hr q => q.2.1) (minAt V r (f : Int))).mpr ⟨r, hr, hl, rfl⟩
    refine ⟨I (laC V f to z (nT V)), Wd b V1 lw R, V2, X0, ?_, (h.sc s2).1, (h.sc s2).2, cO258⟩
    show fX7_latest _ _ _ _ _ = _
    rw [X7]
    rcases f3 with ⟨f3, f4⟩ | ⟨e, p1, p2, p3, p4⟩
    · rw [f3]
      rcases laC_fin h.rel hf hto hne hz.2 with ⟨q1, q2⟩ | ⟨r, q1, q2, q3, q4, q5⟩
      · rw [q1]
        rfl
      · obtain ⟨e, w1, w2, w3⟩ := toEv r q1 q2
        exact absurd ⟨w2, by rw [w3]; exact (cy r q1 q2).mp q3⟩ (f4 e w1)
    · rw [p3]
      have em := evm e p1 p2.1
      have pe := (cy (evT V e) (et_b h.rel p1) p2.1.1).mpr (by rw [← em]; exact p2.2)
      rcases laC_fin h.rel hf hto hne hz.2 with ⟨q1, q2⟩ | ⟨r, q1, q2, q3, q4, q5⟩
      · exact absurd pe (q2 (evT V e) (et_b h.rel p1) p2.1.1)
      · have big := q5 (evT V e) (et_b h.rel p1) p2.1.1 pe
        obtain ⟨e', w1, w2, w3⟩ := toEv r q1 q2
        have small : evM V e' ≤ evM V e := by
          by_cases c : e < e'
          · exact absurd ⟨w2, by rw [w3]; exact (cy r q1 q2).mp q3⟩ (p4 e' c w1)
          · exact ev_le2 h.rel (by omega) p1
        have : laC V f to z (nT V) = evM V e := by omega
        rw [this]
        rfl
  · refine ⟨I (-1), Wd b V lw R, V, ?_, ?_, h, agL.id V, cO258⟩
    · show fX0_latest _ _ _ _ _ = _
      unfold fX0_latest
      simp only [k_0, k_1, k_1440, I_neg, x_two h1 h2 h3 h4, x_in h5 h6 b1440.1 b1440.2, Option.bind_some, bi_if]
      by_cases c : (0 ≤ s ∧ s < 10) ∧ (0 ≤ t ∧ t < 10) ∧ s ≠ t
      · rw [if_pos c, if_neg (fun q => g ⟨c, q⟩)]
      · rw [if_neg c]
    · show fX7_latest _ _ _ _ _ = _
      unfold fX7_latest
      simp only [k_0, k_1, k_1439, I_neg, y_two h1 h2 h3 h4, y_in h5 h6 b1439.1 b1439.2 b0.1 b0.2, Option.bind_some, bi_if]
      by_cases c : (0 ≤ s ∧ s < 10) ∧ (0 ≤ t ∧ t < 10) ∧ s ≠ t
      · rw [if_pos c, if_neg (fun q => g ⟨c, by omega⟩)]
      · rw [if_neg c]
end LV
