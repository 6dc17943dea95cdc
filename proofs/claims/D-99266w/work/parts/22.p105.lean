/-! LAW: what the reference reckons by its codes. No JVM here. -/
set_option maxRecDepth 100000
set_option linter.unusedVariables false
set_option linter.unusedSimpArgs false
def YD (V : Vw) (cls : List Cls) (c : List Cd) : Prop := V 258 26 = (cls.length : Int) ∧ cls.length ≤ 16 ∧ c.length ≤ 240 ∧ (∀ k, k < c.length → V 279 k = enc (c.getD k (0, 0)) ∧ okC (c.getD k (0, 0))) ∧ (∀ j q, cls[j]? = some q → V 280 j = q.l ∧ V 281 j = (q.fr : Int) ∧ V 282 j = (q.ha : Int) ∧ V 283 j = (q.to : Int)) ∧ ∀ q ∈ cls, CK c q
section YL
variable {b : Nat} {V V' : Vw} {lw : Option Nat} {R : Hp} {j : Nat} {c : List Cd} {l : Int} {FF : Nat → Int32} {cls : List Cls} {q : Cls}
theorem YD.ag (h : YD V cls c) (g : agL V V') : YD V' cls c := by
  obtain ⟨h1, h2, h3, h4, h5, h6⟩ := h
  obtain ⟨g1, g2, g3, g4, g5, g6⟩ := g
  refine ⟨g1.trans h1, h2, h3, fun k hk => ?_, fun j q hj => ?_, h6⟩
  · rw [g2]
    exact h4 k hk
  · rw [g3, g4, g5, g6]
    exact h5 j q hj
theorem agL.st (h : ∀ o, o ≠ 284 → V' o = V o) : agL V V' := agL.of (by rw [h _ (by omega)]) fun o ho => h o (by omega)
theorem YD.cd (h : YD V cls c) : CdOK V c.length (fun k => c.getD k (0, 0)) := ⟨by have := h.2.2.1; omega, fun k hk => ⟨(h.2.2.2.1 k hk).1, (h.2.2.2.1 k hk).2.1, (h.2.2.2.1 k hk).2.2⟩⟩
theorem y_holdsQ (h : YD V cls c) (hq : q ∈ cls) (hF : ∀ j, j < 9 → I (V 285 j) = FF j) : ∃ V', (∀ o, o ≠ 284 → V' o = V o) ∧ fX7_reckonsTo (Wd b V lw R) (some (b + 258)) (I (q.ha : Int)) (I (q.to : Int)) = some (if q.g FF = 2 then 0 else q.g FF, Wd b V' lw R) := by
  obtain ⟨k1, k2, k3, k4, k5⟩ := h.2.2.2.2.2 q hq
  have c240 := h.2.2.1
  exact y_reck h.cd k3 (by omega) hF ((k5 _ fun k _ => rfl).2 FF)
theorem y_tellQ (h : YD V cls c) (hq : q ∈ cls) (h9 : q.l ≠ 109) (hF : ∀ j, j < 9 → I (V 285 j) = FF j) : ∃ V', (∀ o, o ≠ 284 → V' o = V o) ∧ fX7_reckonsTo (Wd b V lw R) (some (b + 258)) (I (q.fr : Int)) (I (q.ha : Int)) = some (tvQ q FF, Wd b V' lw R) := by
  obtain ⟨k1, k2, k3, k4, k5⟩ := h.2.2.2.2.2 q hq
  have c240 := h.2.2.1
  exact y_reck h.cd (by omega) (by omega) hF ((k5 _ fun k _ => rfl).1 h9 FF)
theorem y_g1 (h : YD V cls c) (hq : q ∈ cls) : ((if q.g FF = 2 then 0 else q.g FF : Int32) = 1) = (q.g FF = 1) := by
  obtain ⟨k1, k2, k3, k4, k5⟩ := h.2.2.2.2.2 q hq
  rcases k4 FF with w | w | w <;> rw [w] <;> exact propext (by decide)
theorem y_saysL (h16 : cls.length ≤ 16) : ∀ (n j fu : Nat) (V : Vw), j + n = cls.length → n < fu → YD V cls c → (∀ j, j < 9 → I (V 285 j) = FF j) → ∃ V', (∀ o, o ≠ 284 → V' o = V o) ∧ iter (fX7_holdsAny_L2 (some (b + 258)) (I l)) fu (I (j : Int), Wd b V lw R) = some (if ((cls.drop j).any fun q => decide (okQ l FF q)) = true then .inr (1, Wd b V' lw R) else .inl (Wd b V' lw R))
  | 0, j, fu, V, e1, e2, e3, e4 => by
    obtain ⟨f, rfl⟩ : ∃ f, fu = f + 1 := ⟨fu - 1, by omega⟩
    refine ⟨V, fun _ _ => rfl, ?_⟩
    rw [List.drop_of_length_le (by omega)]
    refine iter_r ?_
    unfold fX7_holdsAny_L2
    dsimp only
    rw [gI258_26, e3.1, Option.bind_some, if_pos (by rw [I_le (by omega) (by omega) (by omega) (by omega)]; omega)]
    rfl
  | n + 1, j, fu, V, e1, e2, e3, e4 => by
    obtain ⟨f, rfl⟩ : ∃ f, fu = f + 1 := ⟨fu - 1, by omega⟩
    have jl : j < cls.length := by omega
    have hq : cls[j] ∈ cls := List.getElem_mem jl
    obtain ⟨a1, a2, a3, a4⟩ := e3.2.2.2.2.1 j cls[j] (List.getElem?_eq_getElem jl)
    rw [List.drop_eq_getElem_cons jl, List.any_cons]
    have r1 : hp_aI (Wd b V lw R) (some (b + 280)) 0 (I (j : Int)) = some (I (cls[j]).l) := by rw [rA280 (by omega) (by omega), tn, a1]
    by_cases c1 : I (cls[j]).l = I l
    · have r3 : hp_aI (Wd b V lw R) (some (b + 282)) 0 (I (j : Int)) = some (I ((cls[j]).ha : Int)) := by rw [rA282 (by omega) (by omega), tn, a3]
      have r4 : hp_aI (Wd b V lw R) (some (b + 283)) 0 (I (j : Int)) = some (I ((cls[j]).to : Int)) := by rw [rA283 (by omega) (by omega), tn, a4]
      obtain ⟨V1, w1, w2⟩ := y_holdsQ (b := b) (lw := lw) (R := R) e3 hq e4
      have e1' := y_g1 (FF := FF) e3 hq
      by_cases c2 : (cls[j]).g FF = 1
      · refine ⟨V1, w1, ?_⟩
        rw [decide_eq_true (show okQ l FF cls[j] from ⟨c1, c2⟩), Bool.true_or, if_pos rfl]
        refine iter_r ?_
        unfold fX7_holdsAny_L2
        dsimp only
        rw [gI258_26, e3.1, Option.bind_some, if_neg (by rw [I_le (by omega) (by omega) (by omega) (by omega)]; omega), gR258_34, Option.bind_some, r1, Option.bind_some, if_pos c1, gR258_36, Option.bind_some, r3, Option.bind_some, gR258_37, Option.bind_some, r4, Option.bind_some, on258, w2, Option.bind_some]
        dsimp only
        rw [if_pos (by rw [e1']; exact c2)]
      · have st : fX7_holdsAny_L2 (some (b + 258)) (I l) (I (j : Int), Wd b V lw R) = some (.inl (I ((j + 1 : Nat) : Int), Wd b V1 lw R)) := by
          unfold fX7_holdsAny_L2
          dsimp only
          rw [gI258_26, e3.1, Option.bind_some, if_neg (by rw [I_le (by omega) (by omega) (by omega) (by omega)]; omega), gR258_34, Option.bind_some, r1, Option.bind_some, if_pos c1, gR258_36, Option.bind_some, r3, Option.bind_some, gR258_37, Option.bind_some, r4, Option.bind_some, on258, w2, Option.bind_some]
          dsimp only
          rw [if_neg (by rw [e1']; exact c2), k_1, I_add]
          rfl
        obtain ⟨V2, g1, g2⟩ := y_saysL h16 n (j + 1) f V1 (by omega) (by omega) (e3.ag (agL.st w1)) (fun i hi => by rw [w1 _ (by omega)]; exact e4 i hi)
        refine ⟨V2, fun o ho => (g1 o ho).trans (w1 o ho), ?_⟩
        rw [iter_s st, g2, decide_eq_false (show ¬ okQ l FF cls[j] from fun q => c2 q.2), Bool.false_or]
    · have st : fX7_holdsAny_L2 (some (b + 258)) (I l) (I (j : Int), Wd b V lw R) = some (.inl (I ((j + 1 : Nat) : Int), Wd b V lw R)) := by
        unfold fX7_holdsAny_L2
        dsimp only
        rw [gI258_26, e3.1, Option.bind_some, if_neg (by rw [I_le (by omega) (by omega) (by omega) (by omega)]; omega), gR258_34, Option.bind_some, r1, Option.bind_some, if_neg c1, k_1, I_add]
        rfl
      obtain ⟨V2, g1, g2⟩ := y_saysL h16 n (j + 1) f V (by omega) (by omega) e3 e4
      refine ⟨V2, g1, ?_⟩
      rw [iter_s st, g2, decide_eq_false (show ¬ okQ l FF cls[j] from fun q => c1 q.1), Bool.false_or]
theorem y_clamp (v : Int32) (m : Hp) : ((if 0 ≤ v then if v ≤ I 60 then some (.inr (.inr (v, m))) else some (.inr (.inr (I 60, m))) else some (.inr (.inr ((0 : Int32), m)))) : Option ((Int32 × Hp) ⊕ (Hp ⊕ (Int32 × Hp)))) = some (.inr (.inr (I (max 0 (min 60 v.toInt)), m))) := by
  have b1 := Int32.le_toInt v
  have b2 := Int32.toInt_lt v
  obtain ⟨z, hz⟩ : ∃ z, z = v.toInt := ⟨_, rfl⟩
  have ev : v = I z := by rw [hz, I_ot]
  rw [← hz] at b1 b2 ⊢
  rw [ev, k_0]
  simp (disch := omega) only [I_le]
  by_cases c1 : 0 ≤ z
  · rw [if_pos c1]
    by_cases c2 : z ≤ 60
    · rw [if_pos c2, show max 0 (min 60 z) = z by omega]
    · rw [if_neg c2, show max 0 (min 60 z) = 60 by omega]
  · rw [if_neg c1, show max 0 (min 60 z) = 0 by omega]
theorem y_tellsL (h16 : cls.length ≤ 16) (hl : I l ≠ I 109) : ∀ (n j fu : Nat) (V : Vw), j + n = cls.length → n < fu → YD V cls c → (∀ j, j < 9 → I (V 285 j) = FF j) → ∃ V', (∀ o, o ≠ 284 → V' o = V o) ∧ iter (fX7_byLaw_L2 (some (b + 258)) (I l) (I 60)) fu (I (j : Int), Wd b V lw R) = some (match (cls.drop j).find? fun q => decide (okQ l FF q) with
    | none => .inl (Wd b V' lw R)
    | some q => .inr (I (max 0 (min 60 (tvQ q FF).toInt)), Wd b V' lw R))
  | 0, j, fu, V, e1, e2, e3, e4 => by
    obtain ⟨f, rfl⟩ : ∃ f, fu = f + 1 := ⟨fu - 1, by omega⟩
    refine ⟨V, fun _ _ => rfl, ?_⟩
    rw [List.drop_of_length_le (by omega)]
    refine iter_r ?_
    unfold fX7_byLaw_L2
    dsimp only
    rw [gI258_26, e3.1, Option.bind_some, if_pos (by rw [I_le (by omega) (by omega) (by omega) (by omega)]; omega)]
    rfl
  | n + 1, j, fu, V, e1, e2, e3, e4 => by
    obtain ⟨f, rfl⟩ : ∃ f, fu = f + 1 := ⟨fu - 1, by omega⟩
    have jl : j < cls.length := by omega
    have hq : cls[j] ∈ cls := List.getElem_mem jl
    obtain ⟨a1, a2, a3, a4⟩ := e3.2.2.2.2.1 j cls[j] (List.getElem?_eq_getElem jl)
    rw [List.drop_eq_getElem_cons jl, List.find?_cons]
    have r1 : hp_aI (Wd b V lw R) (some (b + 280)) 0 (I (j : Int)) = some (I (cls[j]).l) := by rw [rA280 (by omega) (by omega), tn, a1]
    by_cases c1 : I (cls[j]).l = I l
    · have r3 : hp_aI (Wd b V lw R) (some (b + 282)) 0 (I (j : Int)) = some (I ((cls[j]).ha : Int)) := by rw [rA282 (by omega) (by omega), tn, a3]
      have r4 : hp_aI (Wd b V lw R) (some (b + 283)) 0 (I (j : Int)) = some (I ((cls[j]).to : Int)) := by rw [rA283 (by omega) (by omega), tn, a4]
      obtain ⟨V1, w1, w2⟩ := y_holdsQ (b := b) (lw := lw) (R := R) e3 hq e4
      have e1' := y_g1 (FF := FF) e3 hq
      have YD1 := e3.ag (agL.st w1)
      have F1 : ∀ j, j < 9 → I (V1 285 j) = FF j := fun i hi => by rw [w1 _ (by omega)]; exact e4 i hi
      by_cases c2 : (cls[j]).g FF = 1
      · obtain ⟨V2, w3, w4⟩ := y_tellQ (b := b) (lw := lw) (R := R) YD1 hq (fun q => hl (by rw [← c1, q])) F1
        obtain ⟨b1, b2, b3, b4⟩ := YD1.2.2.2.2.1 j cls[j] (List.getElem?_eq_getElem jl)
        have s2 : hp_aI (Wd b V1 lw R) (some (b + 281)) 0 (I (j : Int)) = some (I ((cls[j]).fr : Int)) := by rw [rA281 (by omega) (by omega), tn, b2]
        have s3 : hp_aI (Wd b V1 lw R) (some (b + 282)) 0 (I (j : Int)) = some (I ((cls[j]).ha : Int)) := by rw [rA282 (by omega) (by omega), tn, b3]
        refine ⟨V2, fun o ho => (w3 o ho).trans (w1 o ho), ?_⟩
        rw [decide_eq_true (show okQ l FF cls[j] from ⟨c1, c2⟩)]
        refine iter_r ?_
        unfold fX7_byLaw_L2
        dsimp only
        rw [gI258_26, e3.1, Option.bind_some, if_neg (by rw [I_le (by omega) (by omega) (by omega) (by omega)]; omega), gR258_34, Option.bind_some, r1, Option.bind_some, if_pos c1, gR258_36, Option.bind_some, r3, Option.bind_some, gR258_37, Option.bind_some, r4, Option.bind_some, on258, w2, Option.bind_some]
        dsimp only
        rw [if_pos (by rw [e1']; exact c2), gR258_35, Option.bind_some, s2, Option.bind_some, gR258_36, Option.bind_some, s3, Option.bind_some, on258, w4, Option.bind_some]
        exact y_clamp _ _
      · have st : fX7_byLaw_L2 (some (b + 258)) (I l) (I 60) (I (j : Int), Wd b V lw R) = some (.inl (I ((j + 1 : Nat) : Int), Wd b V1 lw R)) := by
          unfold fX7_byLaw_L2
          dsimp only
          rw [gI258_26, e3.1, Option.bind_some, if_neg (by rw [I_le (by omega) (by omega) (by omega) (by omega)]; omega), gR258_34, Option.bind_some, r1, Option.bind_some, if_pos c1, gR258_36, Option.bind_some, r3, Option.bind_some, gR258_37, Option.bind_some, r4, Option.bind_some, on258, w2, Option.bind_some]
          dsimp only
          rw [if_neg (by rw [e1']; exact c2), k_1, I_add]
          rfl
        obtain ⟨V2, g1, g2⟩ := y_tellsL h16 hl n (j + 1) f V1 (by omega) (by omega) YD1 F1
        refine ⟨V2, fun o ho => (g1 o ho).trans (w1 o ho), ?_⟩
        rw [iter_s st, g2, decide_eq_false (show ¬ okQ l FF cls[j] from fun q => c2 q.2)]
    · have st : fX7_byLaw_L2 (some (b + 258)) (I l) (I 60) (I (j : Int), Wd b V lw R) = some (.inl (I ((j + 1 : Nat) : Int), Wd b V lw R)) := by
        unfold fX7_byLaw_L2
        dsimp only
        rw [gI258_26, e3.1, Option.bind_some, if_neg (by rw [I_le (by omega) (by omega) (by omega) (by omega)]; omega), gR258_34, Option.bind_some, r1, Option.bind_some, if_neg c1, k_1, I_add]
        rfl
      obtain ⟨V2, g1, g2⟩ := y_tellsL h16 hl n (j + 1) f V (by omega) (by omega) e3 e4
      refine ⟨V2, g1, ?_⟩
      rw [iter_s st, g2, decide_eq_false (show ¬ okQ l FF cls[j] from fun q => c1 q.1)]
theorem law_Y (h : YD V cls c) : LawY b V (syL cls) (tlL cls) := by
  intro V' lw R hV F hF
  have h' := h.ag hV
  have h16 := h.2.1
  have mF : ∀ j, j < 9 → I (V' 285 j) = FI F j := fun k hk => by
    rw [hF k hk]
    rfl
  refine ⟨?_, fun l hl => ?_⟩
  · obtain ⟨V2, g1, g2⟩ := y_saysL (b := b) (lw := lw) (R := R) (l := 109) h16 cls.length 0 FUEL V' (by omega) (by unfold FUEL; omega) h' mF
    refine ⟨V2, ?_, g1⟩
    unfold fX7_holdsAny
    rw [k_0, show (I 0 : Int32) = I ((0 : Nat) : Int) from rfl, g2, List.drop_zero]
    unfold syL
    by_cases q : (cls.any fun q => decide (okQ 109 (FI F) q)) = true
    · rw [if_pos q, if_pos q]
      rfl
    · rw [if_neg q, if_neg q]
      rfl
  · obtain ⟨V2, g1, g2⟩ := y_tellsL (b := b) (lw := lw) (R := R) (l := l) h16 (by rcases hl with rfl | rfl <;> decide) cls.length 0 FUEL V' (by omega) (by unfold FUEL; omega) h' mF
    refine ⟨V2, ?_, g1⟩
    rw [List.drop_zero] at g2
    unfold fX7_byLaw
    rw [k_0, show (I 0 : Int32) = I ((0 : Nat) : Int) from rfl, g2, Option.bind_some]
    unfold tlL
    cases cls.find? fun q => decide (okQ l (FI F) q) with
    | none => rfl
    | some q => rfl
end YL
