/-! CALL: best, the class. No JVM here. -/
set_option maxRecDepth 100000
set_option linter.unusedVariables false
abbrev isL (V : Vw) (f : Nat) (m : Int) : Prop := 0 < cnt (fun r => decide (leaves V r (f : Int) ∧ minAt V r (f : Int) = m)) (nT V)
def bC (V : Vw) (f to : Nat) : Nat → List (Int × Int)
  | 0 => []
  | k + 1 => if isL V f (1439 - (k : Int)) then bSt 268435456 (1439 - (k : Int)) (cT V f (1439 - (k : Int)) 10 to) (bC V f to k) else bC V f to k
section BE
variable {b : Nat} {V0 V : Vw} {lw : Option Nat} {R : Hp} {p k j i r e n d f to : Nat} {s t z y w c lo hi m v : Int} {u : Int32} {A : Nat → Int}
theorem isL_iff {f : Nat} {m : Int} : isL V0 f m ↔ ∃ r, r < nT V0 ∧ leaves V0 r (f : Int) ∧ minAt V0 r (f : Int) = m := by
  unfold isL
  rw [cnt_pos]
  simp only [decide_eq_true_eq]
theorem isL_b (h : Rel V0 V) (q : isL V0 f m) : 0 ≤ m ∧ m ≤ 1439 := by
  obtain ⟨r, r1, r2, r3⟩ := isL_iff.mp q
  have := minAt_b h r1 r2.2.1
  omega
theorem bC_J (h : Rel V0 V) : ∀ k : Nat, bJ 268435456 (fun m => cT V0 f m 10 to) (fun m => isL V0 f m ∧ 1440 - (k : Int) ≤ m) (bC V0 f to k)
  | 0 => bJ_0 _ _ fun m q => by
    have := isL_b h q.1
    omega
  | k + 1 => by
    have ih := bC_J h k
    rw [bC]
    by_cases c : isL V0 f (1439 - (k : Int))
    · rw [if_pos c]
      refine bJ_c (bJ_s (m := 1439 - (k : Int)) ih fun x q => by omega) fun m => ?_
      constructor
      · rintro ⟨q1, q2⟩
        by_cases e : m = 1439 - (k : Int)
        · exact Or.inr e
        · exact Or.inl ⟨q1, by omega⟩
      · rintro (⟨q1, q2⟩ | q)
        · exact ⟨q1, by omega⟩
        · rw [q]
          exact ⟨c, by omega⟩
    · rw [if_neg c]
      refine bJ_c ih fun m => ?_
      constructor
      · rintro ⟨q1, q2⟩
        refine ⟨q1, ?_⟩
        by_cases e : m = 1439 - (k : Int)
        · rw [e] at q1
          exact absurd q1 c
        · omega
      · rintro ⟨q1, q2⟩
        exact ⟨q1, by omega⟩
theorem bC_len (h : Rel V0 V) (k : Nat) : (bC V0 f to k).length ≤ nT V0 := bJ_len (bC_J h k) (fun r => minAt V0 r (f : Int)) (nT V0) fun m q => by
  obtain ⟨r, r1, r2, r3⟩ := isL_iff.mp q.1
  exact ⟨r, r1, r3⟩
theorem bC_ar (h : Rel V0 V) (hto : to < 10) (k : Nat) : -1 ≤ bAr 268435456 (bC V0 f to k) ∧ bAr 268435456 (bC V0 f to k) ≤ 268435456 := by
  refine ⟨?_, bAr_le (bC_J h k)⟩
  have := (bC_J (f := f) (to := to) h k).2.1
  cases e : bC V0 f to k with
  | nil => decide
  | cons x l =>
    obtain ⟨a1, a2, a3, a4⟩ := (this x).mp (by rw [e]; exact List.mem_cons_self)
    have b1 := isL_b h a1.1
    have b2 := cT_b h (f := f) (m := x.1) (by omega) 10 to hto
    show -1 ≤ x.2
    rw [a2]
    exact b2.1
theorem x_arrival2 (h : Rel V0 V) (hf : f < 10) (hto : to < 10) (hm : -1 ≤ m ∧ m ≤ 1439) : ∃ V', fX0_arrivalFrom (Wd b V lw R) (some b) (I (f : Int)) (I (to : Int)) (I m) = some (I (cT V0 f m 10 to), Wd b V' lw R) ∧ (∀ o, o ≠ 58 → o ≠ 59 → V' o = V o) ∧ V' 58 to = cT V0 f m 10 to := by
  obtain ⟨V1, e1, e2, e3⟩ := x_laysThere (b := b) (lw := lw) (R := R) h hf hto hm
  refine ⟨V1, ?_, e2, e3 to hto⟩
  unfold fX0_arrivalFrom
  simp (disch := omega) only [on0, e1, Option.bind_some, gR0_14, rA58, tn, e3 to hto]
theorem sc_60 {V V' : Vw} (h : ∀ o, o ≠ 58 → o ≠ 59 → o ≠ 60 → o ≠ 61 → V' o = V o) : Sc V V' := fun o k q => by rw [h o (fun e => q (by unfold scr; omega)) (fun e => q (by unfold scr; omega)) (fun e => q (by unfold scr; omega)) (fun e => q (by unfold scr; omega))]
theorem x_isLeft (h : Rel V0 V) (hf : f < 10) (hm : 0 ≤ m ∧ m ≤ 1439) {u1 u2 : Int32} : iter (fX0_laysBest_L22 (Wd b V lw R) (some b) (I (f : Int)) (I (to : Int)) u1 u2 (I m)) FUEL (I 0, I 0) = some (I (bi (isL V0 f m))) := by
  have hn := n48 h
  have key := iter_det (b := fX0_laysBest_L22 (Wd b V lw R) (some b) (I (f : Int)) (I (to : Int)) u1 u2 (I m)) (fun r => (I (bi (0 < cnt (fun r => decide (leaves V0 r (f : Int) ∧ minAt V0 r (f : Int) = m)) r)), I (r : Int))) (nT V0) (I (bi (isL V0 f m))) (by omega) (fun r hr => by
    have h48 := r48 h hr
    have hc := cnt_le (fun r => decide (leaves V0 r (f : Int) ∧ minAt V0 r (f : Int) = m)) r
    have e0 : bi (0 < cnt (fun r => decide (leaves V0 r (f : Int) ∧ minAt V0 r (f : Int) = m)) (r + 1)) = if 0 < cnt (fun r => decide (leaves V0 r (f : Int) ∧ minAt V0 r (f : Int) = m)) r then 1 else bi (leaves V0 r (f : Int) ∧ minAt V0 r (f : Int) = m) := by
      rw [cnt]
      by_cases c : 0 < cnt (fun r => decide (leaves V0 r (f : Int) ∧ minAt V0 r (f : Int) = m)) r
      · rw [if_pos c, bi_t (by split <;> omega)]
      · rw [if_neg c]
        refine bi_c ?_
        by_cases q : leaves V0 r (f : Int) ∧ minAt V0 r (f : Int) = m
        · rw [if_pos (decide_eq_true q)]
          exact ⟨fun _ => q, fun _ => by omega⟩
        · rw [if_neg (fun w => q (of_decide_eq_true w))]
          exact ⟨fun w => by omega, fun w => absurd w q⟩
    rw [e0]
    unfold fX0_laysBest_L22
    simp (disch := omega) only [k_1, k_0, I_le, if_neg, gI0_3, v_n h, Option.bind_some, bi_e0, I_add]
    by_cases c : 0 < cnt (fun r => decide (leaves V0 r (f : Int) ∧ minAt V0 r (f : Int) = m)) r
    · rw [if_neg (fun w => w c), if_pos c]
      rfl
    · rw [if_pos c, if_neg c]
      by_cases c2 : leaves V0 r (f : Int)
      · have hb := minAt_b h hr c2.2.1
        simp (disch := omega) only [gR0_0, rTr, tn, onTr, x_leaves h hr, bi_if, if_pos c2, x_minAt h hr, Option.bind_some, I_inj]
        by_cases c3 : minAt V0 r (f : Int) = m
        · rw [if_pos c3, bi_t ⟨c2, c3⟩]
          rfl
        · rw [if_neg c3, bi_f (fun w => c3 w.2)]
          rfl
      · simp (disch := omega) only [gR0_0, rTr, tn, onTr, x_leaves h hr, bi_if, if_neg c2, Option.bind_some]
        rw [bi_f (fun w => c2 w.1)]
        rfl) (by
    unfold fX0_laysBest_L22
    simp (disch := omega) only [I_le, if_pos, gI0_3, v_n h, Option.bind_some])
  exact key
theorem x_laysBest (h : Rel V0 V) (hf : f < 10) (hto : to < 10) : ∃ V', fX0_laysBest (Wd b V lw R) (some b) (I (f : Int)) (I (to : Int)) = some (I ((bC V0 f to 1440).length : Int), Wd b V' lw R) ∧ (∀ o, o ≠ 58 → o ≠ 59 → o ≠ 60 → o ≠ 61 → V' o = V o) ∧ bAt (V' 60) (V' 61) (bC V0 f to 1440) := by
  have hn := n48 h
  obtain ⟨q, k1, V1, k2, k3, k4⟩ := iter_for (b := fX0_laysBest_L11 (some b) (I (f : Int)) (I (to : Int))) (s := (I 0, I 268435456, I 1439, Wd b V lw R)) (fun k q => ∃ V', q = (I ((bC V0 f to k).length : Int), I (bAr 268435456 (bC V0 f to k)), I (1439 - (k : Int)), Wd b V' lw R) ∧ (∀ o, o ≠ 58 → o ≠ 59 → o ≠ 60 → o ≠ 61 → V' o = V o) ∧ bAt (V' 60) (V' 61) (bC V0 f to k)) (fun q => ∃ V', q = (I ((bC V0 f to 1440).length : Int), Wd b V' lw R) ∧ (∀ o, o ≠ 58 → o ≠ 59 → o ≠ 60 → o ≠ 61 → V' o = V o) ∧ bAt (V' 60) (V' 61) (bC V0 f to 1440)) 1440 (by omega) ⟨V, rfl, fun _ _ _ _ _ => rfl, True.intro⟩ (fun k q hS hk => by
    obtain ⟨V', rfl, a1, a2⟩ := hS
    have h' : Rel V0 V' := h.sc (sc_60 a1)
    have hl := bC_len (f := f) (to := to) h (k + 1)
    have ha := bC_ar (f := f) h hto k
    have e1 : (1439 : Int) - (k : Int) + -1 = 1439 - ((k + 1 : Nat) : Int) := by omega
    rw [bC] at hl ⊢
    unfold fX0_laysBest_L11
    simp (disch := omega) only [k_1, k_0, I_neg, I_lt, if_neg, x_isLeft h' hf, Option.bind_some, bi_if]
    by_cases c : isL V0 f (1439 - (k : Int))
    · rw [if_pos c] at hl
      rw [if_pos c, if_pos c]
      obtain ⟨V2, f1, f2, f3⟩ := x_arrival2 (b := b) (lw := lw) (R := R) h' hf hto (m := 1439 - (k : Int)) (by omega)
      have bc := cT_b h (f := f) (m := 1439 - (k : Int)) (by omega) 10 to hto
      simp (disch := omega) only [on0, f1, Option.bind_some, I_lt]
      unfold bSt at hl ⊢
      by_cases c2 : cT V0 f (1439 - (k : Int)) 10 to < bAr 268435456 (bC V0 f to k)
      · rw [if_pos c2] at hl
        rw [if_pos c2, if_pos c2]
        rw [List.length_cons] at hl
        refine ⟨_, ?_, up (up V2 60 (bC V0 f to k).length (1439 - (k : Int))) 61 (bC V0 f to k).length (cT V0 f (1439 - (k : Int)) 10 to), rfl, ?_, ?_⟩
        · simp (disch := omega) only [gR0_14, rA58, gR0_16, gR0_17, wA60, wA61, Option.bind_some, tn, f3, I_add, e1]
          rfl
        · intro o o1 o2 o3 o4
          rw [up_r o4, up_r o3, f2 o o1 o2, a1 o o1 o2 o3 o4]
        · refine ⟨?_, ?_, bAt_c _ (fun i hi => ?_) a2⟩
          · rw [up_r (by omega), up_s]
          · rw [up_s]
          · rw [up_r (by omega), up_k (by omega), up_k (by omega), up_r (by omega), f2 60 (by omega) (by omega), f2 61 (by omega) (by omega)]
            exact ⟨rfl, rfl⟩
      · rw [if_neg c2, if_neg c2]
        refine ⟨_, rfl, V2, ?_, fun o o1 o2 o3 o4 => by rw [f2 o o1 o2, a1 o o1 o2 o3 o4], ?_⟩
        · rw [I_add, e1]
        · rw [f2 60 (by omega) (by omega), f2 61 (by omega) (by omega)]
          exact a2
    · rw [if_neg c, if_neg c]
      refine ⟨_, rfl, V', ?_, a1, a2⟩
      rw [I_add, e1]) (fun q hS => by
    obtain ⟨V', rfl, a1, a2⟩ := hS
    refine ⟨_, ?_, V', rfl, a1, a2⟩
    unfold fX0_laysBest_L11
    simp (disch := omega) only [k_0, I_lt, if_pos])
  refine ⟨V1, ?_, k3, k4⟩
  unfold fX0_laysBest
  simp only [k_0, k_268435456, k_1439, k1, k2, Option.bind_some]
end BE
