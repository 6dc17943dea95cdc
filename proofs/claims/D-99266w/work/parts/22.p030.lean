/-! CALL: latest, II. No JVM here. -/
set_option maxRecDepth 100000
set_option linter.unusedVariables false
section LU
variable {b : Nat} {V0 V : Vw} {lw : Option Nat} {R : Hp} {p k j i r e n d f to : Nat} {s t z y w c lo hi m v : Int} {u : Int32} {A : Nat → Int}
theorem laC_b (h : Rel V0 V) : ∀ r, r ≤ nT V0 → -2 ≤ laC V0 f to z r ∧ laC V0 f to z r ≤ 1439
  | 0, _ => ⟨show (-2 : Int) ≤ -2 by decide, show (-2 : Int) ≤ 1439 by decide⟩
  | r + 1, hr => by
    have ih := laC_b h r (by omega)
    have hl : -1 ≤ lvM V0 f r ∧ lvM V0 f r ≤ 1439 := by
      unfold lvM
      by_cases c : leaves V0 r (f : Int)
      · rw [if_pos c]
        have := minAt_b h (show r < nT V0 by omega) c.2.1
        omega
      · rw [if_neg c]
        omega
    rw [laC]
    split
    · exact ih
    · split
      · exact ih
      · omega
theorem x_latestL (h : Rel V0 V) (hf : f < 10) (hto : to < 10) (hz : 0 ≤ z ∧ z ≤ 1439) : ∃ V', iter (fX0_latest_L27 (some b) (I (f : Int)) (I (to : Int)) (I z)) FUEL (I (-2), I 0, Wd b V lw R) = some (I (laC V0 f to z (nT V0)), Wd b V' lw R) ∧ ∀ o, o ≠ 58 → o ≠ 59 → V' o = V o := by
  have hn := n48 h
  obtain ⟨q, k1, V1, k2, k3⟩ := iter_for (b := fX0_latest_L27 (some b) (I (f : Int)) (I (to : Int)) (I z)) (s := (I (-2), I 0, Wd b V lw R)) (fun r q => ∃ V', q = (I (laC V0 f to z r), I (r : Int), Wd b V' lw R) ∧ ∀ o, o ≠ 58 → o ≠ 59 → V' o = V o) (fun q => ∃ V', q = (I (laC V0 f to z (nT V0)), Wd b V' lw R) ∧ ∀ o, o ≠ 58 → o ≠ 59 → V' o = V o) (nT V0) (by omega) ⟨V, rfl, fun _ _ _ => rfl⟩ (fun r q hS hr => by
    obtain ⟨V', rfl, a1⟩ := hS
    have h' : Rel V0 V' := h.sc (sc_58 a1)
    have h48 := r48 h' hr
    have bl := laC_b h (f := f) (to := to) (z := z) r (by omega)
    have step : ∀ lv : Int, -1 ≤ lv → lv ≤ 1439 → lvM V0 f r = lv → ∃ s', (if I lv ≤ I (laC V0 f to z r) then some (Sum.inl (I (laC V0 f to z r), I (r : Int) + I 1, Wd b V' lw R)) else (fX0_arrivalFrom (Wd b V' lw R) (some b) (I (f : Int)) (I (to : Int)) (I lv)).bind fun (v14, m15) => if I z < v14 then some (Sum.inl (I (laC V0 f to z r), I (r : Int) + I 1, m15)) else some (Sum.inl (I lv, I (r : Int) + I 1, m15)) : Option ((Int32 × Int32 × Hp) ⊕ (Int32 × Hp))) = some (Sum.inl s') ∧ ∃ V2, s' = (I (laC V0 f to z (r + 1)), I ((r + 1 : Nat) : Int), Wd b V2 lw R) ∧ ∀ o, o ≠ 58 → o ≠ 59 → V2 o = V o := fun lv l1 l2 e => by
      rw [laC, e]
      by_cases c1 : lv ≤ laC V0 f to z r
      · refine ⟨_, if_pos (by rw [I_le (by omega) (by omega) (by omega) (by omega)]; exact c1), V', ?_, a1⟩
        rw [if_pos c1, I_add]
        rfl
      · obtain ⟨V2, f1, f2⟩ := x_arrival (b := b) (lw := lw) (R := R) h' hf hto (m := lv) ⟨l1, l2⟩
        have bc := cT_b h (f := f) (m := lv) ⟨l1, l2⟩ 10 to hto
        rw [if_neg (by rw [I_le (by omega) (by omega) (by omega) (by omega)]; exact c1), f1, if_neg c1]
        by_cases c2 : z < cT V0 f lv 10 to
        · refine ⟨(I (laC V0 f to z r), I (r : Int) + I 1, Wd b V2 lw R), ?_, V2, ?_, fun o h1 h2 => by rw [f2 o h1 h2, a1 o h1 h2]⟩
          · exact if_pos (by rw [I_lt (by omega) (by omega) (by omega) (by omega)]; exact c2)
          · rw [if_pos c2, I_add]
            rfl
        · refine ⟨(I lv, I (r : Int) + I 1, Wd b V2 lw R), ?_, V2, ?_, fun o h1 h2 => by rw [f2 o h1 h2, a1 o h1 h2]⟩
          · exact if_neg (by rw [I_lt (by omega) (by omega) (by omega) (by omega)]; exact c2)
          · rw [if_neg c2, I_add]
            rfl
    by_cases c : leaves V0 r (f : Int)
    · have hm := minAt_b h hr c.2.1
      obtain ⟨s', e1, e2⟩ := step (minAt V0 r (f : Int)) (by omega) hm.2 (if_pos c)
      refine ⟨s', ?_, e2⟩
      rw [← e1]
      unfold fX0_latest_L27
      simp (disch := omega) only [k_1, k_0, I_neg, I_le, if_neg, gI0_3, v_n h', Option.bind_some, gR0_0, rTr, tn, onTr, x_leaves h' hr, bi_if, if_pos c, x_minAt h' hr, on0]
    · obtain ⟨s', e1, e2⟩ := step (-1) (by omega) (by omega) (if_neg c)
      refine ⟨s', ?_, e2⟩
      rw [← e1]
      unfold fX0_latest_L27
      simp (disch := omega) only [k_1, k_0, I_neg, I_le, if_neg, gI0_3, v_n h', Option.bind_some, gR0_0, rTr, tn, onTr, x_leaves h' hr, bi_if, if_neg c, on0]) (fun q hS => by
    obtain ⟨V', rfl, a1⟩ := hS
    have h' : Rel V0 V' := h.sc (sc_58 a1)
    refine ⟨_, ?_, V', rfl, a1⟩
    unfold fX0_latest_L27
    simp (disch := omega) only [I_le, if_pos, gI0_3, v_n h', Option.bind_some])
  exact ⟨V1, by rw [k1, k2], k3⟩
end LU
