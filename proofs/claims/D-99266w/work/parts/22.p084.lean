/-! LAW: the reference reckons codes. No JVM here. -/
set_option maxRecDepth 100000
set_option linter.unusedVariables false
theorem k_UN : (1048576 : Int32) = I 1048576 := rfl
theorem enc_op {c : Cd} (h1 : c.1 ≤ 14) (h2 : c.2 < 1048576) : I (enc c) / I 1048576 = I (c.1 : Int) := by
  unfold enc
  rw [I_div (by omega) (by omega) (by omega) (by omega), show (1048576 * (c.1 : Int) + (c.2 : Int)) / 1048576 = (c.1 : Int) by omega]
theorem enc_v {c : Cd} (h1 : c.1 ≤ 14) (h2 : c.2 < 1048576) : jrem (I (enc c)) (I 1048576) = I (c.2 : Int) := by
  unfold enc
  rw [I_rem (by omega) (by omega) (by omega) (by omega), show (1048576 * (c.1 : Int) + (c.2 : Int)) % 1048576 = (c.2 : Int) by omega]
theorem y_rk {op : Nat} {x y : Int32} (ho : op ≤ 14) (h : ¬ (isDv op ∧ y = 0)) : fX7_reckon (I (op : Int)) x y = some (rk op x y) := by
  unfold fX7_reckon rk
  simp (disch := omega) only [k_2, k_3, k_4, k_5, k_6, k_7, k_8, I_inj]
  by_cases c2 : op = 2
  · rw [if_pos (by omega), if_pos c2]
  rw [if_neg (by omega), if_neg c2]
  by_cases c3 : op = 3
  · rw [if_pos (by omega), if_pos c3]
  rw [if_neg (by omega), if_neg c3]
  by_cases c4 : op = 4
  · rw [if_pos (by omega), if_pos c4]
  rw [if_neg (by omega), if_neg c4]
  by_cases c5 : op = 5
  · rw [if_pos (by omega), if_pos c5, if_neg (fun q => h ⟨Or.inl c5, q⟩)]
  rw [if_neg (by omega), if_neg c5]
  by_cases c6 : op = 6
  · rw [if_pos (by omega), if_pos c6, if_neg (fun q => h ⟨Or.inr c6, q⟩)]
  rw [if_neg (by omega), if_neg c6]
  by_cases c7 : op = 7
  · rw [if_pos (by omega), if_pos c7]
    split <;> rfl
  rw [if_neg (by omega), if_neg c7]
  by_cases c8 : op = 8
  · rw [if_pos (by omega), if_pos c8]
    split <;> rfl
  rw [if_neg (by omega), if_neg c8]
  split <;> rfl
def StM (V : Vw) : List Int32 → Prop
  | [] => True
  | x :: s => I (V 284 s.length) = x ∧ StM V s
section YR
variable {b : Nat} {V V0 : Vw} {lw : Option Nat} {R : Hp} {len to : Nat} {cd : Nat → Cd} {F : Nat → Int32}
theorem StM_c {V' : Vw} : ∀ (st : List Int32), (∀ i, i < st.length → V' 284 i = V 284 i) → StM V st → StM V' st
  | [], _, _ => trivial
  | x :: s, h, g => ⟨by rw [h s.length (by simp)]; exact g.1, StM_c s (fun i hi => h i (by simp only [List.length_cons]; omega)) g.2⟩
theorem StM_up {x : Int} {st : List Int32} (h : StM V st) : StM (up V 284 st.length x) (I x :: st) := ⟨by rw [up_s], StM_c st (fun i hi => up_k (by omega)) h⟩
def CdOK (V : Vw) (len : Nat) (cd : Nat → Cd) : Prop := len ≤ 260 ∧ ∀ k, k < len → V 279 k = enc (cd k) ∧ (cd k).1 ≤ 14 ∧ (cd k).2 < 1048576
def reckEnd (b : Nat) : (Hp ⊕ (Int32 × Hp)) → Option (Int32 × Hp) := fun r1 => match r1 with
  | .inl m53 =>
    (hp_gR m53 (some (b + 258)) 6 38).bind fun v54 =>
    (hp_aI m53 v54 0 (0 : Int32)).bind fun v55 =>
    some (v55, m53)
  | .inr o => some o
theorem y_reckL (hc : CdOK V0 len cd) (hto : to ≤ len) (hF : ∀ j, j < 9 → I (V0 285 j) = F j) : ∀ (fu k : Nat) (st : List Int32) (V : Vw) (r : Int32), (∀ o, o ≠ 284 → V o = V0 o) → StM V st → st.length ≤ 260 → k ≤ 2000000 → iter (stp cd F to) fu (k, st) = some r → ∃ V', (∀ o, o ≠ 284 → V' o = V0 o) ∧ (iter (fX7_reckonsTo_L16 (some (b + 258)) (I (to : Int)) (I 0)) fu (I (st.length : Int), I (k : Int), Wd b V lw R)).bind (reckEnd b) = some (r, Wd b V' lw R)
  | 0, k, st, V, r, hV, hS, hl, hk, h => by cases h
  | fu + 1, k, st, V, r, hV, hS, hl, hk, h => by
    obtain ⟨hlen, hc'⟩ := hc
    rw [iter] at h
    by_cases c0 : to ≤ k
    · have e : fX7_reckonsTo_L16 (some (b + 258)) (I (to : Int)) (I 0) (I (st.length : Int), I (k : Int), Wd b V lw R) = some (.inr (.inl (Wd b V lw R))) := by
        unfold fX7_reckonsTo_L16
        simp (disch := omega) only [I_le, if_pos]
      rw [iter_r e]
      unfold stp at h
      simp only [if_pos c0] at h
      match st, h, hS with
      | [x], h, hS =>
        have hx : x = r := by
          simpa using h
        refine ⟨V, hV, ?_⟩
        rw [← hx, ← hS.1]
        unfold reckEnd
        simp (disch := omega) only [Option.bind_some, gR258_38, k_0, rA284]
        rfl
    · obtain ⟨q1, q2, q3⟩ := hc' k (by omega)
      have rd : hp_aI (Wd b V lw R) (some (b + 279)) 0 (I (k : Int)) = some (I (enc (cd k))) := by
        rw [rA279 (by omega) (by omega), tn, hV _ (by omega), q1]
      have eo := enc_op q2 q3
      have ev := enc_v q2 q3
      obtain ⟨op, v⟩ : Cd := cd k
      generalize ec : cd k = c at *
      obtain ⟨op, v⟩ := c
      simp only at q2 q3 eo ev
      unfold stp at h
      simp only [if_neg c0, ec] at h
      have oT : ∀ j : Int, (op : Int) = j → (I (op : Int) = I j) = True := fun j h => by rw [h]; exact eq_true rfl
      have oF : ∀ j : Int, 0 ≤ j ∧ j ≤ 14 → (op : Int) ≠ j → (I (op : Int) = I j) = False := fun j hj h => eq_false (by rw [I_inj (by omega) (by omega) (by omega) (by omega)]; exact h)
      have adv : I (k : Int) + I 1 = I ((k + 1 : Nat) : Int) := by rw [I_add]; rfl
      have un : ∀ (st2 : List Int32) (k2 : Nat) (V2 : Vw), (∀ o, o ≠ 284 → V2 o = V0 o) → StM V2 st2 → st2.length ≤ 260 → k2 ≤ 2000000 → iter (stp cd F to) fu (k2, st2) = some r → fX7_reckonsTo_L16 (some (b + 258)) (I (to : Int)) (I 0) (I (st.length : Int), I (k : Int), Wd b V lw R) = some (.inl (I (st2.length : Int), I (k2 : Int), Wd b V2 lw R)) → ∃ V', (∀ o, o ≠ 284 → V' o = V0 o) ∧ (iter (fX7_reckonsTo_L16 (some (b + 258)) (I (to : Int)) (I 0)) (fu + 1) (I (st.length : Int), I (k : Int), Wd b V lw R)).bind (reckEnd b) = some (r, Wd b V' lw R) := fun st2 k2 V2 a1 a2 a3 a4 a5 a6 => by
        rw [iter_s a6]
        exact y_reckL ⟨hlen, hc'⟩ hto hF fu k2 st2 V2 r a1 a2 a3 a4 a5
      have hle : ¬ I (to : Int) ≤ I (k : Int) := by
        rw [I_le (by omega) (by omega) (by omega) (by omega)]
        omega
      by_cases o0 : op = 0
      · rw [if_pos o0] at h
        by_cases l : st.length < 260
        · rw [if_pos l] at h
          refine un (I (v : Int) :: st) (k + 1) (up V 284 st.length (v : Int)) (fun o ho => by rw [up_r ho]; exact hV o ho) (StM_up hS) (by simp only [List.length_cons]; omega) (by omega) h ?_
          have z0 := oT 0 (by omega)
          unfold fX7_reckonsTo_L16
          dsimp only
          rw [if_neg hle, gR258_33, Option.bind_some, rd, Option.bind_some, Option.bind_some, rd, Option.bind_some, k_UN, eo, ev]
          simp (disch := omega) only [↓reduceIte, gR258_38, Option.bind_some, k_0, z0, wA284, tn, k_1, I_add]
          rfl
        · rw [if_neg l] at h
          cases h
      rw [if_neg o0] at h
      have z0 := oF 0 (by omega) (by omega)
      by_cases o1 : op = 1
      · rw [if_pos o1] at h
        by_cases l : st.length < 260 ∧ v < 9
        · rw [if_pos l] at h
          have ef : I (V 285 v) = F v := by
            rw [hV _ (by omega)]
            exact hF v l.2
          have z1 := oT 1 (by omega)
          refine un (F v :: st) (k + 1) (up V 284 st.length (V 285 v)) (fun o ho => by rw [up_r ho]; exact hV o ho) (by rw [← ef]; exact StM_up hS) (by simp only [List.length_cons]; omega) (by omega) h ?_
          unfold fX7_reckonsTo_L16
          dsimp only
          rw [if_neg hle, gR258_33, Option.bind_some, rd, Option.bind_some, Option.bind_some, rd, Option.bind_some, k_UN, eo, ev]
          simp (disch := omega) only [↓reduceIte, gR258_38, gR258_39, Option.bind_some, k_0, k_1, z0, z1, wA284, rA285, tn, I_add]
          rfl
        · rw [if_neg l] at h
          cases h
      rw [if_neg o1] at h
      have z1 := oF 1 (by omega) (by omega)
      match st, h, hS, hl, un with
      | x :: s, h, hS, hl, un =>
        have sl : s.length + 1 ≤ 260 := hl
        have lc : (((x :: s).length : Nat) : Int) = (s.length : Int) + 1 := by simp
        have lm : I (((x :: s).length : Nat) : Int) - I 1 = I (s.length : Int) := by rw [lc, I_sub, show (s.length : Int) + 1 - 1 = (s.length : Int) by omega]
        have rx : hp_aI (Wd b V lw R) (some (b + 284)) 0 (I (s.length : Int)) = some x := by
          rw [rA284 (by omega) (by omega), tn, hS.1]
        have wx : ∀ (s : List Int32) (V : Vw) (y : Int32), s.length < 260 → hp_sI (Wd b V lw R) (some (b + 284)) 0 (I (s.length : Int)) y = some (Wd b (up V 284 s.length y.toInt) lw R) := fun s V y hs => by
          conv => lhs; rw [← I_ot y]
          rw [wA284 (by omega) (by omega), tn]
        have sx : ∀ (s : List Int32) (V : Vw) (y : Int32), StM V s → StM (up V 284 s.length y.toInt) (y :: s) := fun s V y g => by
          have := StM_up (x := y.toInt) g
          rw [I_ot] at this
          exact this
        simp only at h
        by_cases o10 : op = 10
        · rw [if_pos o10] at h
          have z10 := oT 10 (by omega)
          refine un ((1 - x) :: s) (k + 1) (up V 284 s.length (1 - x).toInt) (fun o ho => by rw [up_r ho]; exact hV o ho) (sx s V _ hS.2) (by simp only [List.length_cons]; omega) (by omega) h ?_
          unfold fX7_reckonsTo_L16
          dsimp only
          rw [if_neg hle, gR258_33, Option.bind_some, rd, Option.bind_some, Option.bind_some, rd, Option.bind_some, k_UN, eo, ev]
          simp (disch := omega) only [↓reduceIte, gR258_38, Option.bind_some, k_0, k_1, k_10, z0, z1, z10, lm, rx]
          rw [show I 1 - x = (1 : Int32) - x from rfl, wx s V _ (by omega), adv]
          rfl
        rw [if_neg o10] at h
        have z10 := oF 10 (by omega) (by omega)
        have nx : fX7_reckonsTo_L16 (some (b + 258)) (I (to : Int)) (I 0) (I (((x :: s).length : Nat) : Int), I (k : Int), Wd b V lw R) = some (.inl (I (s.length : Int), I ((k + 1 : Nat) : Int), Wd b V lw R)) → iter (stp cd F to) fu (k + 1, s) = some r → ∃ V', (∀ o, o ≠ 284 → V' o = V0 o) ∧ (iter (fX7_reckonsTo_L16 (some (b + 258)) (I (to : Int)) (I 0)) (fu + 1) (I (((x :: s).length : Nat) : Int), I (k : Int), Wd b V lw R)).bind (reckEnd b) = some (r, Wd b V' lw R) := fun a1 a2 => un s (k + 1) V hV hS.2 (by omega) (by omega) a2 a1
        have ju : fX7_reckonsTo_L16 (some (b + 258)) (I (to : Int)) (I 0) (I (((x :: s).length : Nat) : Int), I (k : Int), Wd b V lw R) = some (.inl (I (((x :: s).length : Nat) : Int), I (v : Int), Wd b V lw R)) → iter (stp cd F to) fu (v, x :: s) = some r → ∃ V', (∀ o, o ≠ 284 → V' o = V0 o) ∧ (iter (fX7_reckonsTo_L16 (some (b + 258)) (I (to : Int)) (I 0)) (fu + 1) (I (((x :: s).length : Nat) : Int), I (k : Int), Wd b V lw R)).bind (reckEnd b) = some (r, Wd b V' lw R) := fun a1 a2 => un (x :: s) v V hV hS hl (by omega) a2 a1
        by_cases o11 : op = 11
        · rw [if_pos o11] at h
          have z11 := oT 11 (by omega)
          have z12 := oF 12 (by omega) (by omega)
          by_cases cx : x = 0
          · rw [if_pos cx] at h
            refine ju ?_ h
            have cx : (x = I 0) = True := eq_true cx
            unfold fX7_reckonsTo_L16
            dsimp only
            rw [if_neg hle, gR258_33, Option.bind_some, rd, Option.bind_some, Option.bind_some, rd, Option.bind_some, k_UN, eo, ev]
            simp (disch := omega) only [↓reduceIte, gR258_38, Option.bind_some, k_0, k_1, k_10, k_11, k_12, z0, z1, z10, z11, z12, lm, rx, cx, I_add, Int.zero_add]
          · rw [if_neg cx] at h
            refine nx ?_ h
            have cx : (x = I 0) = False := eq_false cx
            unfold fX7_reckonsTo_L16
            dsimp only
            rw [if_neg hle, gR258_33, Option.bind_some, rd, Option.bind_some, Option.bind_some, rd, Option.bind_some, k_UN, eo, ev]
            simp (disch := omega) only [↓reduceIte, gR258_38, Option.bind_some, k_0, k_1, k_10, k_11, k_12, z0, z1, z10, z11, z12, lm, rx, cx, adv]
        rw [if_neg o11] at h
        have z11 := oF 11 (by omega) (by omega)
        by_cases o12 : op = 12
        · rw [if_pos o12] at h
          have z12 := oT 12 (by omega)
          by_cases cx : x = 1
          · rw [if_pos cx] at h
            refine ju ?_ h
            have cx : (x = I 1) = True := eq_true cx
            unfold fX7_reckonsTo_L16
            dsimp only
            rw [if_neg hle, gR258_33, Option.bind_some, rd, Option.bind_some, Option.bind_some, rd, Option.bind_some, k_UN, eo, ev]
            simp (disch := omega) only [↓reduceIte, gR258_38, Option.bind_some, k_0, k_1, k_10, k_11, k_12, z0, z1, z10, z11, z12, lm, rx, cx, I_add, Int.zero_add]
          · rw [if_neg cx] at h
            refine nx ?_ h
            have cx : (x = I 1) = False := eq_false cx
            unfold fX7_reckonsTo_L16
            dsimp only
            rw [if_neg hle, gR258_33, Option.bind_some, rd, Option.bind_some, Option.bind_some, rd, Option.bind_some, k_UN, eo, ev]
            simp (disch := omega) only [↓reduceIte, gR258_38, Option.bind_some, k_0, k_1, k_10, k_11, k_12, z0, z1, z10, z11, z12, lm, rx, cx, adv]
        rw [if_neg o12] at h
        have z12 := oF 12 (by omega) (by omega)
        match s, h, hS, sl, lm, rx, un with
        | y :: s, h, hS, sl, lm, rx, un =>
          have sl : s.length + 2 ≤ 260 := sl
          have lc2 : (((y :: s).length : Nat) : Int) = (s.length : Int) + 1 := by simp
          have lm2 : I (((y :: s).length : Nat) : Int) - I 1 = I (s.length : Int) := by rw [lc2, I_sub, show (s.length : Int) + 1 - 1 = (s.length : Int) by omega]
          have ry : hp_aI (Wd b V lw R) (some (b + 284)) 0 (I (s.length : Int)) = some y := by
            rw [rA284 (by omega) (by omega), tn, hS.2.1]
          simp only at h
          by_cases cd0 : isDv op ∧ x = 0
          · rw [if_pos cd0] at h
            have hr : r = I 0 := (Option.some.inj h).symm
            have cx : (x = I 0) = True := eq_true cd0.2
            refine ⟨V, hV, ?_⟩
            rw [iter_r (r := .inr (I 0, Wd b V lw R))]
            · rw [hr]
              rfl
            · rcases cd0.1 with d | d
              · have z5 := oT 5 (by omega)
                unfold fX7_reckonsTo_L16
                dsimp only
                rw [if_neg hle, gR258_33, Option.bind_some, rd, Option.bind_some, Option.bind_some, rd, Option.bind_some, k_UN, eo, ev]
                simp (disch := omega) only [↓reduceIte, gR258_38, Option.bind_some, k_0, k_1, k_10, k_11, k_12, k_5, z0, z1, z10, z11, z12, z5, lm, rx, cx]
              · have z5 := oF 5 (by omega) (by omega)
                have z6 := oT 6 (by omega)
                unfold fX7_reckonsTo_L16
                dsimp only
                rw [if_neg hle, gR258_33, Option.bind_some, rd, Option.bind_some, Option.bind_some, rd, Option.bind_some, k_UN, eo, ev]
                simp (disch := omega) only [↓reduceIte, gR258_38, Option.bind_some, k_0, k_1, k_10, k_11, k_12, k_5, k_6, z0, z1, z10, z11, z12, z5, z6, lm, rx, cx]
          · rw [if_neg cd0] at h
            have hrk := y_rk (op := op) (x := y) (y := x) (by omega) cd0
            refine un (rk op y x :: s) (k + 1) (up V 284 s.length (rk op y x).toInt) (fun o ho => by rw [up_r ho]; exact hV o ho) (sx s V _ hS.2.2) (by simp only [List.length_cons]; omega) (by omega) h ?_
            by_cases d5 : op = 5
            · have z5 := oT 5 (by omega)
              have cx : (x = I 0) = False := eq_false (fun q => cd0 ⟨Or.inl d5, q⟩)
              unfold fX7_reckonsTo_L16
              dsimp only
              rw [if_neg hle, gR258_33, Option.bind_some, rd, Option.bind_some, Option.bind_some, rd, Option.bind_some, k_UN, eo, ev]
              simp (disch := omega) only [↓reduceIte, gR258_38, Option.bind_some, k_0, k_1, k_10, k_11, k_12, k_5, z0, z1, z10, z11, z12, z5, lm, lm2, rx, ry, cx, hrk]
              rw [wx s V _ (by omega), adv]
              rfl
            · have z5 := oF 5 (by omega) (by omega)
              by_cases d6 : op = 6
              · have z6 := oT 6 (by omega)
                have cx : (x = I 0) = False := eq_false (fun q => cd0 ⟨Or.inr d6, q⟩)
                unfold fX7_reckonsTo_L16
                dsimp only
                rw [if_neg hle, gR258_33, Option.bind_some, rd, Option.bind_some, Option.bind_some, rd, Option.bind_some, k_UN, eo, ev]
                simp (disch := omega) only [↓reduceIte, gR258_38, Option.bind_some, k_0, k_1, k_10, k_11, k_12, k_5, k_6, z0, z1, z10, z11, z12, z5, z6, lm, lm2, rx, ry, cx, hrk]
                rw [wx s V _ (by omega), adv]
                rfl
              · have z6 := oF 6 (by omega) (by omega)
                unfold fX7_reckonsTo_L16
                dsimp only
                rw [if_neg hle, gR258_33, Option.bind_some, rd, Option.bind_some, Option.bind_some, rd, Option.bind_some, k_UN, eo, ev]
                simp (disch := omega) only [↓reduceIte, gR258_38, Option.bind_some, k_0, k_1, k_10, k_11, k_12, k_5, k_6, z0, z1, z10, z11, z12, z5, z6, lm, lm2, rx, ry, hrk]
                rw [wx s V _ (by omega), adv]
                rfl
/-- what codes from .. to come to -/
theorem y_reck {k : Nat} {r : Int32} (hc : CdOK V len cd) (hto : to ≤ len) (hk : k < 260) (hF : ∀ j, j < 9 → I (V 285 j) = F j) (h : iter (stp cd F to) FUEL (k, []) = some r) : ∃ V', (∀ o, o ≠ 284 → V' o = V o) ∧ fX7_reckonsTo (Wd b V lw R) (some (b + 258)) (I (k : Int)) (I (to : Int)) = some (r, Wd b V' lw R) := by
  obtain ⟨V', w1, w2⟩ := y_reckL (b := b) (lw := lw) (R := R) hc hto hF FUEL k [] V r (fun _ _ => rfl) trivial (by simp) (by omega) h
  refine ⟨V', w1, ?_⟩
  have e : (260 : Int32) * (I (k : Int) / (260 : Int32)) = I 0 := by
    rw [k_260, I_div (by omega) (by omega) (by omega) (by omega), show (k : Int) / 260 = 0 by omega, I_mul]
    rfl
  unfold fX7_reckonsTo
  rw [e]
  exact w2
end YR
