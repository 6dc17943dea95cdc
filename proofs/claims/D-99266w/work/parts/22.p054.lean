/-! CALL: days. No JVM here. -/
set_option maxRecDepth 100000
set_option linter.unusedVariables false
section YG
variable {b : Nat} {V0 V V' S : Vw} {lw : Option Nat} {R : Hp} {p k j i r e n nx : Nat} {s t z u v w many : Int} {sy : Int → (Nat → Int) → Bool} {tl : Int → (Nat → Int) → Int}
theorem YSs {S S' : Vw} (x : YS V0 V S) (h0 : ∀ p, p < 12 → S' 0 p = S 0 p ∧ S' 1 p = S 1 p ∧ S' 3 p = S 3 p) (h2 : ∀ r, r < nT V0 → S' 2 r = S 2 r) (h4 : ∀ i, i < 5 → S' 4 i = S 4 i) : YS V0 V S' := by
  obtain ⟨x1, x2, x3⟩ := x
  refine ⟨fun q hq => ?_, fun r hr => by rw [h2 r hr]; exact x2 r hr, ?_⟩
  · rw [(h0 q hq).1, (h0 q hq).2.1, (h0 q hq).2.2]
    exact x1 q hq
  · rw [h4 0 (by omega), h4 1 (by omega), h4 2 (by omega), h4 3 (by omega), h4 4 (by omega)]
    exact x3
theorem y_day (h : Rem V0 V) (law : LawY b V0 sy tl) (a : agL V0 V) (tb : ∀ c F, c = 100 ∨ c = 99 → 0 ≤ tl c F ∧ tl c F ≤ 60) (x : YS V0 V S) (g : dzQ S) (hd : ¬ 9999 ≤ S 4 0) : ∃ V', fX7_dayGoes (Wd b V lw R) (some (b + 258)) = some (Wd b V' lw R) ∧ ChY V V' ∧ YS V0 V' (dzDay sy tl V0 S) := by
  have i := h.1
  have hn48 := n48 i.rel
  have hne := ne_b i.rel
  obtain ⟨q, k1, V1, k2, k3, k4⟩ := iter_for (b := fX7_dayGoes_L2 (some (b + 258))) (s := (I 0, Wd b V lw R)) (fun n q => ∃ V', q = (I (n : Int), Wd b V' lw R) ∧ ChY V V' ∧ YS V0 V' (fun o k => if o = 3 ∧ k < n then -1 else S o k)) (fun q => ∃ V', q = Wd b V' lw R ∧ ChY V V' ∧ YS V0 V' (fun o k => if o = 3 ∧ k < 12 then -1 else S o k)) 12 (by omega) ⟨V, rfl, ChY.id, YSs x (fun p hp => ⟨if_neg (by omega), if_neg (by omega), if_neg (by omega)⟩) (fun r hr => if_neg (by omega)) (fun i hi => if_neg (by omega))⟩ (fun n q hS hn => by
    obtain ⟨V', rfl, a1, a2⟩ := hS
    refine ⟨(I ((n + 1 : Nat) : Int), Wd b (up V' 293 n (-1)) lw R), ?_, _, rfl, a1.tr (ChY.up (by omega)), YSs (YS_ri (p := n) a2 (-1)) (fun p hp => ⟨?_, ?_, ?_⟩) (fun r hr => ?_) (fun i hi => ?_)⟩
    · unfold fX7_dayGoes_L2
      simp (disch := omega) only [k_12, k_1, I_neg, I_le, if_neg, gR258_50, wA293, tn, Option.bind_some, I_add]
      rfl
    · rw [up_r (by omega), if_neg (by omega), if_neg (by omega)]
    · rw [up_r (by omega), if_neg (by omega), if_neg (by omega)]
    · by_cases c : p = n
      · rw [c, up_s, if_pos (by omega)]
      · rw [up_k c]
        by_cases c2 : p < n
        · rw [if_pos (by omega), if_pos (by omega)]
        · rw [if_neg (by omega), if_neg (by omega)]
    · rw [up_r (by omega), if_neg (by omega), if_neg (by omega)]
    · rw [up_r (by omega), if_neg (by omega), if_neg (by omega)]) (fun q hS => by
    obtain ⟨V', rfl, a1, a2⟩ := hS
    refine ⟨_, ?_, V', rfl, a1, a2⟩
    unfold fX7_dayGoes_L2
    simp (disch := omega) only [k_12, I_le, if_pos])
  obtain ⟨q2, l1, V2, l2, l3, l4⟩ := iter_for (b := fX7_dayGoes_L23 (some (b + 258))) (s := (I 0, Wd b V1 lw R)) (fun n q => ∃ V', q = (I (n : Int), Wd b V' lw R) ∧ ChY V V' ∧ YS V0 V' (fun o k => if o = 3 ∧ k < 12 then -1 else if o = 2 ∧ k < n then pl V0 k else S o k)) (fun q => ∃ V', q = Wd b V' lw R ∧ ChY V V' ∧ YS V0 V' (dz0 V0 S)) (nT V0) (by omega) ⟨V1, rfl, k3, YSs k4 (fun p hp => ⟨by rw [if_neg (by omega), if_neg (by omega), if_neg (by omega)], by rw [if_neg (by omega), if_neg (by omega), if_neg (by omega)], by rw [if_pos (by omega), if_pos (by omega)]⟩) (fun r hr => by rw [if_neg (by omega), if_neg (by omega), if_neg (by omega)]) (fun i hi => by rw [if_neg (by omega), if_neg (by omega), if_neg (by omega)])⟩ (fun n q hS hn => by
    obtain ⟨V', rfl, a1, a2⟩ := hS
    have h' := h.chy a1
    have h48 := r48 i.rel hn
    refine ⟨(I ((n + 1 : Nat) : Int), Wd b (up V' 294 n (pl V0 n)) lw R), ?_, _, rfl, a1.tr (ChY.up (by omega)), YSs (YS_la (p := n) a2 (pl V0 n)) (fun p hp => ⟨?_, ?_, ?_⟩) (fun r hr => ?_) (fun i hi => ?_)⟩
    · unfold fX7_dayGoes_L23
      simp (disch := omega) only [k_1, gI258_14, w_nM h', Option.bind_some, I_le, if_neg, gR258_51, gR258_9, rA268, tn, w_plM h' hn, wA294, I_add]
      rfl
    · rw [up_r (by omega), if_neg (by omega), if_neg (by omega), if_neg (by omega), if_neg (by omega)]
    · rw [up_r (by omega), if_neg (by omega), if_neg (by omega), if_neg (by omega), if_neg (by omega)]
    · rw [up_r (by omega), if_pos (by omega), if_pos (by omega)]
    · by_cases c : r = n
      · rw [c, up_s, if_neg (by omega), if_pos (by omega)]
      · rw [up_k c]
        by_cases c2 : r < n
        · simp [c2, show r < n + 1 by omega]
        · simp [c2, show ¬ r < n + 1 by omega]
    · rw [up_r (by omega), if_neg (by omega), if_neg (by omega), if_neg (by omega), if_neg (by omega)]) (fun q hS => by
    obtain ⟨V', rfl, a1, a2⟩ := hS
    have h' := h.chy a1
    refine ⟨_, ?_, V', rfl, a1, YSs a2 (fun p hp => ⟨?_, ?_, ?_⟩) (fun r hr => ?_) (fun i hi => ?_)⟩
    · unfold fX7_dayGoes_L23
      simp (disch := omega) only [gI258_14, w_nM h', Option.bind_some, I_le, if_pos]
    · show S 0 p = _
      rw [if_neg (by omega), if_neg (by omega)]
    · show S 1 p = _
      rw [if_neg (by omega), if_neg (by omega)]
    · show (-1 : Int) = _
      rw [if_pos ⟨rfl, hp⟩]
    · show pl V0 r = _
      rw [if_neg (by omega), if_pos ⟨rfl, hr⟩]
    · show S 4 i = _
      rw [if_neg (by omega), if_neg (by omega)])
  have g0 := dzQ_0 i g
  obtain ⟨q3, m1, V3, m2, m3, m4⟩ := iter_for (b := fX7_dayGoes_L51 (some (b + 258))) (s := (I 0, Wd b V2 lw R)) (fun n q => ∃ V', q = (I (n : Int), Wd b V' lw R) ∧ ChY V V' ∧ YS V0 V' (dzEv sy tl V0 (dz0 V0 S) n)) (fun q => ∃ V', q = Wd b V' lw R ∧ ChY V V' ∧ YS V0 V' (dzEv sy tl V0 (dz0 V0 S) (nE V0))) (nE V0) (by omega) ⟨V2, rfl, l3, l4⟩ (fun n q hS hn => by
    obtain ⟨V', rfl, a1, a2⟩ := hS
    have h' := h.chy a1
    have ht := et_b i.rel hn
    have hs := es_b i.rel hn
    have h48 := r48 i.rel ht
    have hsm := sm2 i.rel ht
    rw [dzEv]
    unfold fX7_dayGoes_L51
    simp (disch := omega) only [k_0, k_1, k_8, gI258_15, w_neM h', Option.bind_some, I_le, if_neg, gR258_10, yEvM h' hn, yE8M h' hn, on258, y_runsM h' ht, bi_if, I_add]
    by_cases c : ru V0 (evT V0 n)
    · rw [if_pos c, if_pos c]
      obtain ⟨V4, f1, f2, f3⟩ := y_stops (b := b) (lw := lw) (R := R) h' law (agL_y a a1) tb a2 (dzK_ev i g0 n (by omega)) ht hs
      refine ⟨(I ((n + 1 : Nat) : Int), Wd b V4 lw R), ?_, V4, rfl, a1.tr f2, f3⟩
      simp (disch := omega) only [gR258_10, yEvM h' hn, yE8M h' hn, yE8rM h' hn, Option.bind_some, on258, f1]
      rfl
    · rw [if_neg c, if_neg c]
      exact ⟨_, rfl, V', rfl, a1, a2⟩) (fun q hS => by
    obtain ⟨V', rfl, a1, a2⟩ := hS
    have h' := h.chy a1
    refine ⟨_, ?_, V', rfl, a1, a2⟩
    unfold fX7_dayGoes_L51
    simp (disch := omega) only [gI258_15, w_neM h', Option.bind_some, I_le, if_pos])
  have d3 : V3 259 24 = dzEv sy tl V0 (dz0 V0 S) (nE V0) 4 0 := m4.2.2.1
  have t24 : ((24 : Int)).toNat = 24 := rfl
  refine ⟨up V3 259 24 (dzEv sy tl V0 (dz0 V0 S) (nE V0) 4 0 + 1), ?_, m3.tr (ChY.up (by omega)), YS_n m4 (i := 0) (by omega) _⟩
  unfold fX7_dayGoes
  simp (disch := omega) only [k_0, k1, k2, Option.bind_some, l1, l2, m1, m2, k_1, k_24, gR258_0, rA259, t24, d3, I_add, wA259]
theorem y_daysGo (h : Rem V0 V) (law : LawY b V0 sy tl) (a : agL V0 V) (tb : ∀ c F, c = 100 ∨ c = 99 → 0 ≤ tl c F ∧ tl c F ≤ 60) (x : YS V0 V S) (gS : dzQ (dzS S)) (hn : n ≤ 30) : ∃ V', fX7_daysGo (Wd b V lw R) (some (b + 258)) (I (n : Int)) = some (Wd b V' lw R) ∧ ChY V V' ∧ YS V0 V' (dzGo sy tl V0 (dzS S) n) := by
  have i := h.1
  have c0 : ChY V (up (up (up V 258 52 0) 258 53 0) 258 54 0) := (ChY.up (by omega)).tr ((ChY.up (by omega)).tr (ChY.up (by omega)))
  have x0 : YS V0 (up (up (up V 258 52 0) 258 53 0) 258 54 0) (dzS S) := YS_f (YS_f (YS_f x (i := 2) (by omega) 0) (i := 3) (by omega) 0) (i := 4) (by omega) 0
  have t24 : ((24 : Int)).toNat = 24 := rfl
  obtain ⟨q, k1, V1, k2, k3, k4⟩ := iter_inv0 (b := fX7_daysGo_L17 (some (b + 258)) (I (n : Int))) (s := (I 0, Wd b (up (up (up V 258 52 0) 258 53 0) 258 54 0) lw R)) (fun t q => ∃ V', q = (I (t : Int), Wd b V' lw R) ∧ t ≤ n ∧ ChY V V' ∧ YS V0 V' (dzGo sy tl V0 (dzS S) t)) (fun q => ∃ V', q = Wd b V' lw R ∧ ChY V V' ∧ YS V0 V' (dzGo sy tl V0 (dzS S) n)) n (by omega) ⟨_, rfl, Nat.zero_le _, c0, x0⟩ (fun t q hS => by
    obtain ⟨V', rfl, a0, a1, a2⟩ := hS
    have h' := h.chy a1
    have gt := dzQ_go (sy := sy) (tl := tl) i gS t
    have d3 : V' 259 24 = dzGo sy tl V0 (dzS S) t 4 0 := a2.2.2.1
    have gd := gt.2
    by_cases c : t = n
    · rw [c] at a2 ⊢
      refine Or.inr ⟨_, ?_, V', rfl, a1, a2⟩
      unfold fX7_daysGo_L17
      simp (disch := omega) only [I_le, if_pos]
    · by_cases c2 : 9999 ≤ dzGo sy tl V0 (dzS S) t 4 0
      · refine Or.inr ⟨Wd b V' lw R, ?_, V', rfl, a1, ?_⟩
        · unfold fX7_daysGo_L17
          simp (disch := omega) only [k_24, k_9999, I_le, if_neg, gR258_0, rA259, t24, d3, Option.bind_some, if_pos]
        · have := dzGo_end c2 (n - t)
          rw [show t + (n - t) = n by omega] at this
          rw [this]
          exact a2
      · obtain ⟨V2, f1, f2, f3⟩ := y_day (b := b) (lw := lw) (R := R) h' law (agL_y a a1) tb a2 gt c2
        refine Or.inl ⟨(I ((t + 1 : Nat) : Int), Wd b V2 lw R), ?_, ⟨V2, rfl, by omega, a1.tr f2, by rw [dzGo, if_neg c2]; exact f3⟩, by omega⟩
        unfold fX7_daysGo_L17
        simp (disch := omega) only [k_1, k_24, k_9999, I_le, if_neg, gR258_0, rA259, t24, d3, Option.bind_some, on258, f1, I_add]
        rfl)
  refine ⟨V1, ?_, k3, k4⟩
  unfold fX7_daysGo
  simp (disch := omega) only [k_0, pI258_52, pI258_53, pI258_54, Option.bind_some, k1, k2]
theorem law_tb (law : LawX b lw R nx sy tl many) : ∀ c F, c = 100 ∨ c = 99 → 0 ≤ tl c F ∧ tl c F ≤ 60 := fun c F hc => by
  obtain ⟨x, _, h⟩ := ((law R (fun _ _ => rfl) (fun o k => F (k - 1))).2.2 F (fun k hk => by
    show F (k + 1 - 1) = F k
    rfl)).2 c hc
  exact h
/-- what the class's platform begins with; the reference's -/
def xS0 (V : Vw) (j : Nat) : Vw := fun o k => if o = 0 then V (j + 4 + k) 3 else if o = 1 then V (j + 4 + k) 4 else if o = 2 then V (j + 2) k else if o = 3 then V (j + 3) k else V j (3 + k)
def yS0 (V : Vw) (j : Nat) (W : Vw) : Vw := fun o k => if o = 2 then W 294 k else if o = 3 then W 293 k else if o = 4 ∧ 2 ≤ k ∧ k ≤ 4 then W 258 (50 + k) else xS0 V j o k
end YG
