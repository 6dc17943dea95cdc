/-! CALL: best, the reference. No JVM here. -/
set_option maxRecDepth 100000
set_option linter.unusedVariables false
def bY (V : Vw) (f to : Nat) : Nat → List (Int × Int)
  | 0 => []
  | k + 1 => if evQ V (fun r => leaves V r (f : Int)) (f : Int) (nE V - 1 - k) then bSt 1000000 (evM V (nE V - 1 - k)) (yT V f (evM V (nE V - 1 - k)) 9 to) (bY V f to k) else bY V f to k
section BF
variable {b : Nat} {V0 V : Vw} {lw : Option Nat} {R : Hp} {p k j i r e n d f to : Nat} {s t z y w c lo hi m v : Int} {u : Int32} {A : Nat → Int}
abbrev bYS (V : Vw) (f k : Nat) (m : Int) : Prop := ∃ e, nE V ≤ e + k ∧ e < nE V ∧ evQ V (fun r => leaves V r (f : Int)) (f : Int) e ∧ evM V e = m
theorem evm (h : Rel V0 V) (he : e < nE V0) (q : evQ V0 (fun r => leaves V0 r (f : Int)) (f : Int) e) : evM V0 e = minAt V0 (evT V0 e) (f : Int) := by
  have := (sAt_k h (et_b h he) (es_b h he)).2
  unfold minAt
  rw [← q.2, this]
  rfl
theorem bY_J (h : Rel V0 V) : ∀ k : Nat, k ≤ nE V0 → bJ 1000000 (fun m => yT V0 f m 9 to) (bYS V0 f k) (bY V0 f to k)
  | 0, _ => bJ_0 _ _ fun m ⟨e, h1, h2, _⟩ => by omega
  | k + 1, hk => by
    have ih := bY_J h k (by omega)
    rw [bY]
    obtain ⟨e, he⟩ : ∃ e, e = nE V0 - 1 - k := ⟨_, rfl⟩
    rw [← he]
    have he2 : e < nE V0 := by omega
    by_cases c : evQ V0 (fun r => leaves V0 r (f : Int)) (f : Int) e
    · rw [if_pos c]
      refine bJ_c (bJ_s (m := evM V0 e) ih fun x ⟨e', q1, q2, q3, q4⟩ => ?_) fun m => ?_
      · rw [← q4]
        exact ev_le2 h (by omega) q2
      · constructor
        · rintro ⟨e', q1, q2, q3, q4⟩
          by_cases w : e' = e
          · rw [w] at q4
            exact Or.inr q4.symm
          · exact Or.inl ⟨e', by omega, q2, q3, q4⟩
        · rintro (⟨e', q1, q2, q3, q4⟩ | q)
          · exact ⟨e', by omega, q2, q3, q4⟩
          · exact ⟨e, by omega, he2, c, q.symm⟩
    · rw [if_neg c]
      refine bJ_c ih fun m => ?_
      constructor
      · rintro ⟨e', q1, q2, q3, q4⟩
        by_cases w : e' = e
        · rw [w] at q3
          exact absurd q3 c
        · exact ⟨e', by omega, q2, q3, q4⟩
      · rintro ⟨e', q1, q2, q3, q4⟩
        exact ⟨e', by omega, q2, q3, q4⟩
theorem bY_len (h : Rel V0 V) (hk : k ≤ nE V0) : (bY V0 f to k).length ≤ nT V0 := bJ_len (bY_J h k hk) (fun r => minAt V0 r (f : Int)) (nT V0) fun m ⟨e, q1, q2, q3, q4⟩ => ⟨evT V0 e, et_b h q2, by rw [← q4]; exact (evm h q2 q3).symm⟩
theorem bY_ar (h : Rel V0 V) (hto : to < 10) (hk : k ≤ nE V0) : -60 ≤ bAr 1000000 (bY V0 f to k) ∧ bAr 1000000 (bY V0 f to k) ≤ 1000000 := by
  refine ⟨?_, bAr_le (bY_J h k hk)⟩
  have := (bY_J (f := f) (to := to) h k hk).2.1
  cases e : bY V0 f to k with
  | nil => decide
  | cons x l =>
    obtain ⟨⟨e', q1, q2, q3, q4⟩, a2, a3, a4⟩ := (this x).mp (by rw [e]; exact List.mem_cons_self)
    have b1 := evM_b h q2
    have b2 := yT_b h (f := f) (m := x.1) (by omega) 9 to hto
    show -60 ≤ x.2
    rw [a2]
    exact b2.1
theorem bC_bY (h : Rel V0 V) (hf : f < 10) (hto : to < 10) (hne : to ≠ f) : bC V0 f to 1440 = bY V0 f to (nE V0) := by
  have tev : ∀ m, isL V0 f m ↔ bYS V0 f (nE V0) m := fun m => by
    rw [isL_iff]
    have := ev_tr h (Q := fun r => leaves V0 r (f : Int)) (s := (f : Int)) (fun r hr q => q.2.1) m
    rw [← this]
    exact ⟨fun ⟨e, q1, q2, q3⟩ => ⟨e, by omega, q1, q2, q3⟩, fun ⟨e, q0, q1, q2, q3⟩ => ⟨e, q1, q2, q3⟩⟩
  refine bJ_u (bJ_c (S' := bYS V0 f (nE V0)) (bC_J h 1440) fun m => ?_) (bY_J h (nE V0) (Nat.le_refl _)) (by decide) (by decide) fun m q => ?_
  · rw [← tev]
    exact ⟨fun q => ⟨q, by have := isL_b h q; omega⟩, fun q => q.1⟩
  · have q := isL_b h ((tev m).mpr q)
    rcases cy10 h q hf hto hne with ⟨w1, w2, w3⟩ | ⟨w1, w2⟩
    · exact Or.inl ⟨w1, w3⟩
    · exact Or.inr ⟨w1, w2⟩
theorem sc_297 {V V' : Vw} (h : ∀ o, o ≠ 295 → o ≠ 296 → o ≠ 297 → o ≠ 298 → V' o = V o) : Sc V V' := fun o k q => by rw [h o (fun e => q (by unfold scr; omega)) (fun e => q (by unfold scr; omega)) (fun e => q (by unfold scr; omega)) (fun e => q (by unfold scr; omega))]
theorem y_laysBest (h : Rel V0 V) (hf : f < 10) (hto : to < 10) : ∃ V', fX7_laysBest (Wd b V lw R) (some (b + 258)) (I (f : Int)) (I (to : Int)) = some (I ((bY V0 f to (nE V0)).length : Int), Wd b V' lw R) ∧ (∀ o, o ≠ 295 → o ≠ 296 → o ≠ 297 → o ≠ 298 → V' o = V o) ∧ bAt (V' 297) (V' 298) (bY V0 f to (nE V0)) := by
  have hn := n48 h
  have hne := ne_b h
  obtain ⟨q, k1, V1, k2, k3, k4⟩ := iter_for (b := fX7_laysBest_L15 (some (b + 258)) (I (f : Int)) (I (to : Int))) (s := (I 0, I 1000000, I ((nE V0 : Int) - 1), Wd b V lw R)) (fun k q => ∃ V', q = (I ((bY V0 f to k).length : Int), I (bAr 1000000 (bY V0 f to k)), I ((nE V0 : Int) - 1 - (k : Int)), Wd b V' lw R) ∧ (∀ o, o ≠ 295 → o ≠ 296 → o ≠ 297 → o ≠ 298 → V' o = V o) ∧ bAt (V' 297) (V' 298) (bY V0 f to k)) (fun q => ∃ V', q = (I ((bY V0 f to (nE V0)).length : Int), Wd b V' lw R) ∧ (∀ o, o ≠ 295 → o ≠ 296 → o ≠ 297 → o ≠ 298 → V' o = V o) ∧ bAt (V' 297) (V' 298) (bY V0 f to (nE V0))) (nE V0) (by omega) ⟨V, by rw [show (nE V0 : Int) - 1 - ((0 : Nat) : Int) = (nE V0 : Int) - 1 by omega]; rfl, fun _ _ _ _ _ => rfl, True.intro⟩ (fun k q hS hk => by
    obtain ⟨V', rfl, a1, a2⟩ := hS
    have h' : Rel V0 V' := h.sc (sc_297 a1)
    have hl := bY_len (f := f) (to := to) (k := k + 1) h (by omega)
    have ha := bY_ar (f := f) (k := k) h hto (by omega)
    have e1 : (nE V0 : Int) - 1 - (k : Int) + -1 = (nE V0 : Int) - 1 - ((k + 1 : Nat) : Int) := by omega
    rw [bY] at hl ⊢
    obtain ⟨e, he⟩ : ∃ e, e = nE V0 - 1 - k := ⟨_, rfl⟩
    rw [← he] at hl ⊢
    have he2 : e < nE V0 := by omega
    have ee : (nE V0 : Int) - 1 - (k : Int) = (e : Int) := by omega
    rw [ee] at e1
    rw [ee]
    have ht := et_b h he2
    have hst := st_b h ht (es_b h he2)
    have hm := evM_b h he2
    unfold fX7_laysBest_L15
    simp (disch := omega) only [k_0, k_1, k_8, I_neg, I_lt, if_neg, gR258_10, gR258_7, Option.bind_some, yEv h' he2, yEs h' he2, I_inj]
    by_cases c1 : st V0 (evT V0 e) (evS V0 e) = (f : Int)
    · rw [if_pos c1]
      simp (disch := omega) only [on258, yE8 h' he2, y_leaves h' ht, Option.bind_some, bi_if]
      by_cases c2 : leaves V0 (evT V0 e) (f : Int)
      · have c : evQ V0 (fun r => leaves V0 r (f : Int)) (f : Int) e := ⟨c2, c1⟩
        rw [if_pos c] at hl
        rw [if_pos c2, if_pos c]
        obtain ⟨V2, f1, f2, f3⟩ := y_soonest (b := b) (lw := lw) (R := R) h' hf hto (m := evM V0 e) hm
        have h2' : Rel V0 V2 := h'.sc (sc_29x f2)
        have bc := yT_b h (f := f) hm 9 to hto
        simp (disch := omega) only [gR258_8, yEm h' he2, f1, Option.bind_some, I_lt]
        unfold bSt at hl ⊢
        by_cases c3 : yT V0 f (evM V0 e) 9 to < bAr 1000000 (bY V0 f to k)
        · rw [if_pos c3] at hl
          rw [if_pos c3, if_pos c3]
          rw [List.length_cons] at hl
          refine ⟨_, ?_, up (up V2 297 (bY V0 f to k).length (evM V0 e)) 298 (bY V0 f to k).length (yT V0 f (evM V0 e) 9 to), rfl, ?_, ?_⟩
          · simp (disch := omega) only [gR258_8, yEm h2' he2, gR258_57, gR258_58, wA297, wA298, Option.bind_some, tn, I_add, e1]
            rfl
          · intro o o1 o2 o3 o4
            rw [up_r o4, up_r o3, f2 o o1 o2, a1 o o1 o2 o3 o4]
          · refine ⟨?_, ?_, bAt_c _ (fun i hi => ?_) a2⟩
            · rw [up_r (by omega), up_s]
            · rw [up_s]
            · rw [up_r (by omega), up_k (by omega), up_k (by omega), up_r (by omega), f2 297 (by omega) (by omega), f2 298 (by omega) (by omega)]
              exact ⟨rfl, rfl⟩
        · rw [if_neg c3, if_neg c3]
          refine ⟨_, rfl, V2, ?_, fun o o1 o2 o3 o4 => by rw [f2 o o1 o2, a1 o o1 o2 o3 o4], ?_⟩
          · rw [I_add, e1]
          · rw [f2 297 (by omega) (by omega), f2 298 (by omega) (by omega)]
            exact a2
      · rw [if_neg c2, if_neg (fun q => c2 q.1)]
        refine ⟨_, rfl, V', ?_, a1, a2⟩
        rw [I_add, e1]
    · rw [if_neg c1, if_neg (fun q => c1 q.2)]
      refine ⟨_, rfl, V', ?_, a1, a2⟩
      rw [I_add, e1]) (fun q hS => by
    obtain ⟨V', rfl, a1, a2⟩ := hS
    refine ⟨_, ?_, V', rfl, a1, a2⟩
    unfold fX7_laysBest_L15
    simp (disch := omega) only [k_0, I_lt, if_pos])
  refine ⟨V1, ?_, k3, k4⟩
  unfold fX7_laysBest
  simp only [k_0, k_1, k_1000000, gI258_15, w_ne h, I_sub, k1, k2, Option.bind_some]
end BF
