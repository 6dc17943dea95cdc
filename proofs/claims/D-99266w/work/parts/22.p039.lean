/-! CALL: inspector, the reference. No JVM here. -/
set_option maxRecDepth 100000
set_option linter.unusedVariables false
section IY
variable {b : Nat} {V0 V : Vw} {lw : Option Nat} {R : Hp} {p k j i r e n d f to : Nat} {s t z y w c lo hi m v : Int} {u : Int32} {A : Nat → Int}
theorem sc_303 {V V' : Vw} (h : ∀ o, o ≠ 303 → V' o = V o) : Sc V V' := fun o k q => by rw [h o (fun e => q (by unfold scr; omega))]
abbrev iOk (V : Vw) (r j e : Nat) : Prop := evT V e ≠ r ∧ st V (evT V e) (evS V e) = st V r j ∧ evM V e + ch V ≤ mi V r j
theorem y_mostAt {t : Nat} (h : Rel V0 V) (hs : 0 ≤ s ∧ s < 10) (ht : t < nE V0) (hW : ∀ e, e < nE V0 → iOk V0 (evT V0 t) (evS V0 t) e → 0 ≤ V 303 (8 * evT V0 e + evS V0 e) ∧ V 303 (8 * evT V0 e + evS V0 e) ≤ 1439 ∧ ∀ n : Nat, (n : Int) + 1 ≤ V 303 (8 * evT V0 e + evS V0 e) ↔ ∃ n', n ≤ n' ∧ iPt V0 s (n' + 1) (evT V0 e) (evS V0 e)) : ∃ v, fX7_mostAt (Wd b V lw R) (some (b + 258)) (I ((8 * evT V0 t + evS V0 t : Nat) : Int)) (I s) = some (I v) ∧ -1 ≤ v ∧ v ≤ 1439 ∧ ∀ n : Nat, (n : Int) ≤ v ↔ iHt V0 s n (evT V0 t) (evS V0 t) := by
  have hne := ne_b h
  have hr := et_b h ht
  have hj := es_b h ht
  have h48 := r48 h hr
  have hsm := sm2 h hr
  have hst := st_b h hr hj
  have hm := evM_b h ht
  have hch := ch_b h
  obtain ⟨q, k1, v, k2, k3, k4, k5⟩ := iter_for (b := fX7_mostAt_L19 (Wd b V lw R) (some (b + 258)) (I ((8 * evT V0 t + evS V0 t : Nat) : Int))) (s := (I (if st V0 (evT V0 t) (evS V0 t) = s then 0 else -1), I 0)) (fun e q => ∃ v, q = (I v, I (e : Int)) ∧ -1 ≤ v ∧ v ≤ 1439 ∧ ∀ n : Nat, (n : Int) ≤ v ↔ (st V0 (evT V0 t) (evS V0 t) = s ∧ n = 0) ∨ ∃ e', e' < e ∧ iOk V0 (evT V0 t) (evS V0 t) e' ∧ ∃ n', n ≤ n' ∧ iPt V0 s n' (evT V0 e') (evS V0 e')) (fun q => ∃ v, q = I v ∧ -1 ≤ v ∧ v ≤ 1439 ∧ ∀ n : Nat, (n : Int) ≤ v ↔ (st V0 (evT V0 t) (evS V0 t) = s ∧ n = 0) ∨ ∃ e', e' < nE V0 ∧ iOk V0 (evT V0 t) (evS V0 t) e' ∧ ∃ n', n ≤ n' ∧ iPt V0 s n' (evT V0 e') (evS V0 e')) (nE V0) (by omega) ⟨_, rfl, by split <;> omega, by split <;> omega, fun n => by
      by_cases c : st V0 (evT V0 t) (evS V0 t) = s
      · rw [if_pos c]
        constructor
        · intro w
          exact Or.inl ⟨c, by omega⟩
        · rintro (w | ⟨e', w, _⟩) <;> omega
      · rw [if_neg c]
        constructor
        · intro w
          omega
        · rintro (w | ⟨e', w, _⟩)
          · exact absurd w.1 c
          · omega⟩ (fun e q hS he => by
    obtain ⟨v, rfl, a1, a2, a3⟩ := hS
    have ht2 := et_b h he
    have hi2 := es_b h he
    have h482 := r48 h ht2
    have hsm2 := sm2 h ht2
    have hst2 := st_b h ht2 hi2
    have hm2 := evM_b h he
    have skip : ¬ iOk V0 (evT V0 t) (evS V0 t) e → ∀ n : Nat, (n : Int) ≤ v ↔ (st V0 (evT V0 t) (evS V0 t) = s ∧ n = 0) ∨ ∃ e', e' < e + 1 ∧ iOk V0 (evT V0 t) (evS V0 t) e' ∧ ∃ n', n ≤ n' ∧ iPt V0 s n' (evT V0 e') (evS V0 e') := fun q n => by
      rw [a3 n]
      constructor
      · rintro (w | ⟨e', w1, w2⟩)
        · exact Or.inl w
        · exact Or.inr ⟨e', by omega, w2⟩
      · rintro (w | ⟨e', w1, w2, w3⟩)
        · exact Or.inl w
        · refine Or.inr ⟨e', ?_, w2, w3⟩
          by_cases c : e' = e
          · rw [c] at w2
            exact absurd w2 q
          · omega
    unfold fX7_mostAt_L19
    simp (disch := omega) only [k_0, k_1, k_8, I_neg, I_le, if_neg, gI258_15, w_ne h, gR258_10, Option.bind_some, yEv h he, yE8 h he, yE8 h ht, I_inj]
    by_cases c1 : (evT V0 e : Int) = (evT V0 t : Int)
    · rw [if_pos c1]
      exact ⟨_, rfl, v, by rw [I_add]; rfl, a1, a2, skip fun q => q.1 (by omega)⟩
    · rw [if_neg c1]
      simp (disch := omega) only [gR258_7, Option.bind_some, yEs h he, yEs h ht, I_inj]
      by_cases c2 : st V0 (evT V0 e) (evS V0 e) = st V0 (evT V0 t) (evS V0 t)
      · rw [if_pos c2]
        simp (disch := omega) only [gR258_8, gI258_13, w_ch h, Option.bind_some, yEm h he, yEm h ht, I_add, I_le]
        by_cases c3 : evM V0 e + ch V0 ≤ evM V0 t
        · have ok : iOk V0 (evT V0 t) (evS V0 t) e := ⟨by omega, c2, c3⟩
          obtain ⟨w1, w2, w3⟩ := hW e he ok
          rw [if_pos c3]
          have ext : ∀ v2 : Int, (∀ n : Nat, (n : Int) ≤ v2 ↔ (n : Int) ≤ v ∨ ∃ n', n ≤ n' ∧ iPt V0 s n' (evT V0 e) (evS V0 e)) → ∀ n : Nat, (n : Int) ≤ v2 ↔ (st V0 (evT V0 t) (evS V0 t) = s ∧ n = 0) ∨ ∃ e', e' < e + 1 ∧ iOk V0 (evT V0 t) (evS V0 t) e' ∧ ∃ n', n ≤ n' ∧ iPt V0 s n' (evT V0 e') (evS V0 e') := fun v2 q n => by
            rw [q n, a3 n]
            constructor
            · rintro ((w | ⟨e', x1, x2⟩) | w)
              · exact Or.inl w
              · exact Or.inr ⟨e', by omega, x2⟩
              · exact Or.inr ⟨e, by omega, ok, w⟩
            · rintro (w | ⟨e', x1, x2, x3⟩)
              · exact Or.inl (Or.inl w)
              · by_cases c : e' = e
                · rw [c] at x3
                  exact Or.inr x3
                · exact Or.inl (Or.inr ⟨e', by omega, x2, x3⟩)
          have rd : hp_aI (Wd b V lw R) (some (b + 303)) 0 (I ((8 * evT V0 e + evS V0 e : Nat) : Int)) = some (I (V 303 (8 * evT V0 e + evS V0 e))) := by
            rw [rA303 (by omega) (by omega), tn]
          simp (disch := omega) only [gR258_63, rd, Option.bind_some, I_inj]
          by_cases c4 : V 303 (8 * evT V0 e + evS V0 e) = 0
          · rw [if_pos c4]
            simp (disch := omega) only [y_max, Option.bind_some]
            refine ⟨_, rfl, max v (-1), rfl, by omega, by omega, ext _ fun n => ?_⟩
            have : (n : Int) ≤ max v (-1) ↔ (n : Int) ≤ v := by omega
            rw [this]
            refine ⟨Or.inl, ?_⟩
            rintro (w | ⟨n', x1, x2⟩)
            · exact w
            · cases n' with
              | zero => exact x2.elim
              | succ n' =>
                have := (w3 n').mpr ⟨n', Nat.le_refl _, x2⟩
                omega
          · rw [if_neg c4]
            simp (disch := omega) only [y_max, Option.bind_some]
            refine ⟨_, rfl, max v (V 303 (8 * evT V0 e + evS V0 e)), rfl, by omega, by omega, ext _ fun n => ?_⟩
            have : (n : Int) ≤ max v (V 303 (8 * evT V0 e + evS V0 e)) ↔ (n : Int) ≤ v ∨ (n : Int) ≤ V 303 (8 * evT V0 e + evS V0 e) := by omega
            rw [this]
            constructor
            · rintro (w | w)
              · exact Or.inl w
              · cases n with
                | zero =>
                  obtain ⟨n', x1, x2⟩ := (w3 0).mp (by omega)
                  exact Or.inr ⟨n' + 1, by omega, x2⟩
                | succ n =>
                  obtain ⟨n', x1, x2⟩ := (w3 n).mp (by omega)
                  exact Or.inr ⟨n' + 1, by omega, x2⟩
            · rintro (w | ⟨n', x1, x2⟩)
              · exact Or.inl w
              · cases n' with
                | zero => exact x2.elim
                | succ n' =>
                  have := (w3 n').mpr ⟨n', Nat.le_refl _, x2⟩
                  exact Or.inr (by omega)
        · rw [if_neg c3]
          exact ⟨_, rfl, v, rfl, a1, a2, skip fun q => c3 q.2.2⟩
      · rw [if_neg c2]
        exact ⟨_, rfl, v, by rw [I_add]; rfl, a1, a2, skip fun q => c2 q.2.1⟩) (fun q hS => by
    obtain ⟨v, rfl, a1, a2, a3⟩ := hS
    refine ⟨_, ?_, v, rfl, a1, a2, a3⟩
    unfold fX7_mostAt_L19
    simp (disch := omega) only [I_le, if_pos, gI258_15, w_ne h, Option.bind_some])
  refine ⟨v, ?_, k3, k4, fun n => ?_⟩
  · unfold fX7_mostAt
    simp (disch := omega) only [k_0, k_1, I_neg, gR258_7, Option.bind_some, yEs h ht, I_inj]
    by_cases c : st V0 (evT V0 t) (evS V0 t) = s
    · rw [if_pos c] at k1 ⊢
      rw [Option.bind_some, k1, k2]
      rfl
    · rw [if_neg c] at k1 ⊢
      rw [Option.bind_some, k1, k2]
      rfl
  · rw [k5 n]
    unfold iHt
    constructor
    · rintro (w | ⟨e', w1, ⟨w2, w3, w4⟩, w5⟩)
      · exact Or.inl w
      · exact Or.inr ⟨evT V0 e', evS V0 e', et_b h w1, w2, es_b h w1, w3, w4, w5⟩
    · rintro (w | ⟨r', k, w1, w2, w3, w4, w5, w6⟩)
      · exact Or.inl w
      · obtain ⟨e', x1, x2, x3⟩ := ev_of h w1 w3
        refine Or.inr ⟨e', x1, ⟨by omega, by rw [x2, x3]; exact w4, ?_⟩, by rw [x2, x3]; exact w6⟩
        unfold evM
        rw [x2, x3]
        exact w5
end IY
