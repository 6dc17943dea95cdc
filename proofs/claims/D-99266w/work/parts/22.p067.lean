/-! CALL: timetable, the reference reads. No JVM here. -/
set_option maxRecDepth 100000
set_option linter.unusedVariables false
abbrev ySc (o k : Nat) : Prop := (o = 258 ∧ 18 ≤ k ∧ k ≤ 25) ∨ o = 289 ∨ o = 290
def ySf (V V' : Vw) : Prop := ∀ o k, ¬ ySc o k → V' o k = V o k
def yRow (V : Vw) (many : Nat) (S : Vw) : Prop := ∀ k, k < many → V 289 k = S 0 k ∧ V 290 k = S 1 k
section TY
variable {b : Nat} {V0 V V' : Vw} {lw : Option Nat} {R : Hp} {n p N cnt many all : Nat} {x y s m v e : Int} {S G : Vw}
theorem ySf.tr {V1 V2 V3 : Vw} (h : ySf V1 V2) (g : ySf V2 V3) : ySf V1 V3 := fun o k q => (g o k q).trans (h o k q)
theorem ySf.id : ySf V V := fun _ _ _ => rfl
theorem ySf.up {o k : Nat} (hk : ySc o k) : ySf V (up V o k x) := fun o2 i q => by
  rw [up_e, if_neg (fun e => q (by rw [e.1, e.2]; exact hk))]
theorem ySf.fr (h : yFr V V') : ySf V V' := fun o k q => h o k (by omega)
theorem ySf.yk (h : ySf V V') (n : Nat) : yk V' n = yk V n := funext fun p => yk_of (fun k => h _ _ (by omega)) n p
theorem y_isLt (h : yPl V n p) : fX7_isLetter (Wd b V lw R) (some (b + 258)) = some (I (bi (isLt (yk V n) p))) := by
  have tb := yk_b V n p
  unfold fX7_isLetter
  simp (disch := omega) only [on258, y_here h, Option.bind_some, k_97, k_0, k_9, I_sub, y_in, bi_z]
  rw [bi_c (show 0 ≤ yk V n p - 97 ∧ yk V n p - 97 ≤ 9 ↔ isLt (yk V n) p from ⟨fun w => ⟨by omega, by omega⟩, fun w => ⟨by have := w.1; omega, by have := w.2; omega⟩⟩)]
theorem y_stop (h : yPl V n p) (hp : p ≤ 400) (h8 : many ≤ 8) (k : SvK many S) (row : yRow V many S) : ∃ V', ySf V V' ∧ V' 258 19 = V 258 19 ∧ match stopR (yk V n) S many p with
    | .inl (w, q) => fX7_readsStop (Wd b V lw R) (some (b + 258)) (I (many : Int)) = some (I 0, Wd b V' lw R) ∧ V' 258 20 = -1000 * w - (q : Int)
    | .inr (p', s, m) => fX7_readsStop (Wd b V lw R) (some (b + 258)) (I (many : Int)) = some (I 1, Wd b V' lw R) ∧ V' 258 18 = (p' : Int) ∧ yRow V' (many + 1) (stpS S many s m) := by
  have h1 := h.1
  have tb := yk_b V n p
  unfold stopR
  by_cases d : isLt (yk V n) p
  · rw [if_neg (not_not_intro d)]
    have d1 := d.1
    have d2 := d.2
    have find : iter (fX7_readsStop_L27 (some (b + 258)) (I (many : Int)) (I (yk V n p - 97))) FUEL (I 0, Wd b V lw R) = some (if has1 (S 0) (yk V n p - 97) many < many then (.inr (I 0, Wd b (up V 258 20 (-1000 * 6 - (p : Int))) lw R) : Hp ⊕ (Int32 × Hp)) else .inl (Wd b V lw R)) := by
      refine iter_find (fun k => (I (k : Int), Wd b V lw R)) (fun k => decide (S 0 k = yk V n p - 97)) many (fun _ => (.inr (I 0, Wd b (up V 258 20 (-1000 * 6 - (p : Int))) lw R) : Hp ⊕ (Int32 × Hp))) (.inl (Wd b V lw R)) (by omega) (fun i hi hp => ?_) (fun i hi hp => ?_) ?_
      · have hp : ¬ S 0 i = yk V n p - 97 := by simpa using hp
        have ki := k.1 i hi
        unfold fX7_readsStop_L27
        simp (disch := omega) only [I_le, if_neg, gR258_45, rA289, tn, Option.bind_some, (row i hi).1, I_inj, k_1, I_add]
        rfl
      · have hp : S 0 i = yk V n p - 97 := by simpa using hp
        have ki := k.1 i hi
        unfold fX7_readsStop_L27
        simp (disch := omega) only [I_le, if_neg, gR258_45, rA289, tn, Option.bind_some, (row i hi).1, hp, if_true, k_6, gI258_18, h1, on258, y_wrong, z_0]
      · unfold fX7_readsStop_L27
        simp (disch := omega) only [I_le, if_pos]
    by_cases c1 : has1 (S 0) (yk V n p - 97) many < many
    · rw [if_pos c1]
      rw [if_pos c1] at find
      refine ⟨up V 258 20 (-1000 * 6 - (p : Int)), ySf.up (by omega), up_k (by omega), ?_, up_s⟩
      unfold fX7_readsStop
      simp (disch := omega) only [on258, y_isLt h, Option.bind_some, k_0, bi_if, if_pos d, y_here h, k_97, I_sub, find]
    · rw [if_neg c1]
      rw [if_neg c1] at find
      by_cases c2 : many = 8
      · rw [if_pos c2]
        refine ⟨up V 258 20 (-1000 * 5 - (p : Int)), ySf.up (by omega), up_k (by omega), ?_, up_s⟩
        unfold fX7_readsStop
        simp (disch := omega) only [on258, y_isLt h, Option.bind_some, k_0, k_5, k_8, bi_if, if_pos d, y_here h, k_97, I_sub, find, I_inj, if_pos, gI258_18, h1, y_wrong, z_0]
      · rw [if_neg c2]
        obtain ⟨lo, hlo⟩ : ∃ lo : Int, lo = if many = 0 then 0 else S 1 (many - 1) + 1 := ⟨_, rfl⟩
        have lob : 0 ≤ lo ∧ lo ≤ 1440 := by
          rw [hlo]
          by_cases c3 : many = 0
          · rw [if_pos c3]
            omega
          · rw [if_neg c3]
            have := k.1 (many - 1) (by omega)
            omega
        rw [← hlo]
        have PA : yPl (up V 258 18 ((p : Int) + 1)) n (p + 1) := h.to up_s (up_k (by omega)) (by omega)
        obtain ⟨V1, a1, a2, a3⟩ := y_readsW (b := b) (lw := lw) (R := R) (dg := 4) (lo := lo) (hi := 1439) PA (by omega) (by omega) (by omega) (by omega) (by omega)
        have ekA : yk (up V 258 18 ((p : Int) + 1)) n = yk V n := (ySf.up (by omega) : ySf V _).yk n
        have e4 : I ((4 : Nat) : Int) = I 4 := rfl
        rw [ekA, e4] at a2
        have f1 : ySf V V1 := (ySf.up (o := 258) (k := 18) (x := (p : Int) + 1) (by omega)).tr (ySf.fr a1)
        have l1 : V1 258 19 = V 258 19 := by rw [a3 _ (by omega) (by omega) (by omega), up_k (by omega)]
        have rl : ∀ q, V1 289 q = V 289 q ∧ V1 290 q = V 290 q := fun q => by
          rw [a1 _ _ (by omega), a1 _ _ (by omega), up_r (by omega), up_r (by omega)]
          exact ⟨rfl, rfl⟩
        have low : ((if I (many : Int) = I 0 then some (I 0) else (hp_gR (Wd b (up V 258 18 ((p : Int) + 1)) lw R) (some (b + 258)) 6 46).bind fun v28 => (hp_aI (Wd b (up V 258 18 ((p : Int) + 1)) lw R) v28 0 (I (many : Int) - I 1)).bind fun v29 => some (v29 + I 1) : Option Int32)) = some (I lo) := by
          rw [hlo]
          by_cases c3 : many = 0
          · rw [c3, if_pos (show I ((0 : Nat) : Int) = I 0 from rfl), if_pos rfl]
          · have ki := k.1 (many - 1) (by omega)
            have em : ((many : Int) - 1).toNat = many - 1 := by omega
            rw [if_neg c3, if_neg (by rw [I_inj (by omega) (by omega) (by omega) (by omega)]; omega)]
            simp (disch := omega) only [I_sub, gR258_46, rA290, em, up_r, Option.bind_some, (row (many - 1) (by omega)).2, I_add]
        have m8 : ¬ I (many : Int) = I 8 := by
          rw [I_inj (by omega) (by omega) (by omega) (by omega)]
          omega
        cases e1 : numR (yk V n) 4 lo 1439 (p + 1) with
        | inl ee =>
          obtain ⟨w, q⟩ := ee
          rw [e1] at a2
          obtain ⟨b1, b2⟩ := a2
          refine ⟨V1, f1, l1, ?_, b2⟩
          unfold fX7_readsStop
          simp (disch := omega) only [on258, y_isLt h, Option.bind_some, k_0, k_8, k_1, k_4, k_1439, bi_if, if_pos d, y_here h, k_97, I_sub, find, if_neg m8, gI258_18, h1]
          rw [I_add, pI258_18, Option.bind_some]
          rw [show I (many : Int) - I 1 = I ((many : Int) - 1) from I_sub _ _] at low
          have low' := low
          simp only [gR258_46, Option.bind_some] at low'
          simp (disch := omega) only [gR258_46, Option.bind_some, low', on258, b1, if_true]
        | inr q =>
          obtain ⟨m, p'⟩ := q
          rw [e1] at a2
          obtain ⟨b1, b2, b3⟩ := a2
          refine ⟨up (up V1 289 many (yk V n p - 97)) 290 many m, f1.tr ((ySf.up (by omega)).tr (ySf.up (by omega))), by rw [up_r (by omega), up_r (by omega)]; exact l1, ?_, by rw [up_r (by omega), up_r (by omega)]; exact b3, fun q hq => ?_⟩
          · unfold fX7_readsStop
            simp (disch := omega) only [on258, y_isLt h, Option.bind_some, k_0, k_8, k_1, k_4, k_1439, bi_if, if_pos d, y_here h, k_97, I_sub, find, if_neg m8, gI258_18, h1]
            rw [I_add, pI258_18, Option.bind_some]
            rw [show I (many : Int) - I 1 = I ((many : Int) - 1) from I_sub _ _] at low
            have low' := low
            have b2' : up V1 289 many (yk V n p - 97) 258 21 = m := by rw [up_r (by omega)]; exact b2
            simp only [gR258_46, Option.bind_some] at low'
            simp (disch := omega) only [gR258_46, Option.bind_some, low', on258, b1, if_neg (show ¬ I 1 = I 0 by decide), gR258_45, wA289, tn, gI258_21, b2', wA290]
          · unfold stpS
            rw [up_r (show 289 ≠ 290 by omega), up_r (show 0 ≠ 1 by omega)]
            by_cases c3 : q = many
            · rw [c3, up_s, up_s, up_s, up_s]
              exact ⟨rfl, rfl⟩
            · simp (disch := first | exact c3 | omega) only [up_k, up_r, (rl q).1, (rl q).2]
              exact row q (by omega)
  · rw [if_pos d]
    refine ⟨up V 258 20 (-1000 * 1 - (p : Int)), ySf.up (by omega), up_k (by omega), ?_, up_s⟩
    unfold fX7_readsStop
    simp (disch := omega) only [on258, y_isLt h, Option.bind_some, k_0, k_1, bi_if, if_neg d, gI258_18, h1, y_wrong, z_0]
end TY
