/-! DAYS, the class, III. No JVM here. -/
set_option maxRecDepth 100000
set_option linter.unusedVariables false
section XF
variable {b : Nat} {V0 V V' S : Vw} {lw : Option Nat} {R : Hp} {p k j i r e n nx : Nat} {s t z u v w many : Int} {sy : Int → (Nat → Int) → Bool} {tl : Int → (Nat → Int) → Int}
theorem XSs {S S' : Vw} (x : XS V0 V j S) (h0 : ∀ p, p < 12 → S' 0 p = S 0 p ∧ S' 1 p = S 1 p ∧ S' 3 p = S 3 p) (h2 : ∀ r, r < nT V0 → S' 2 r = S 2 r) (h4 : ∀ i, i < 5 → S' 4 i = S 4 i) : XS V0 V j S' := by
  obtain ⟨x1, x2, x3⟩ := x
  refine ⟨fun q hq => ?_, fun r hr => by rw [h2 r hr]; exact x2 r hr, fun i hi => by rw [h4 i hi]; exact x3 i hi⟩
  rw [(h0 q hq).1, (h0 q hq).2.1, (h0 q hq).2.2]
  exact x1 q hq
theorem x_day (h : Rem V0 V) (hj : j = 5 ∨ j = 21) (law : LawX b lw R nx sy tl many) (x : XS V0 V j S) (g : dzQ S) (hd : ¬ 9999 ≤ S 4 0) : ∃ V', fX3_dayGoes (Wd b V lw R) (some (b + j)) = some (Wd b V' lw R) ∧ Chg j V V' ∧ XS V0 V' j (dzDay sy tl V0 S) := by
  have hj3 := j3 hj
  have i := h.1
  have hn48 := n48 i.rel
  have hne := ne_b i.rel
  -- who waits
  obtain ⟨q, k1, V1, k2, k3, k4⟩ := iter_for (b := fX3_dayGoes_L2 (some (b + j))) (s := (I 0, Wd b V lw R)) (fun n q => ∃ V', q = (I (n : Int), Wd b V' lw R) ∧ Chg j V V' ∧ XS V0 V' j (fun o k => if o = 3 ∧ k < n then -1 else S o k)) (fun q => ∃ V', q = Wd b V' lw R ∧ Chg j V V' ∧ XS V0 V' j (fun o k => if o = 3 ∧ k < 12 then -1 else S o k)) 12 (by omega) ⟨V, rfl, Chg.id, XSs x (fun p hp => ⟨if_neg (by omega), if_neg (by omega), if_neg (by omega)⟩) (fun r hr => if_neg (by omega)) (fun i hi => if_neg (by omega))⟩ (fun n q hS hn => by
    obtain ⟨V', rfl, a1, a2⟩ := hS
    refine ⟨(I ((n + 1 : Nat) : Int), Wd b (up V' (j + 3) n (-1)) lw R), ?_, _, rfl, a1.tr (Chg.up (by omega)), XSs (XS_ri (p := n) a2 (-1)) (fun p hp => ⟨?_, ?_, ?_⟩) (fun r hr => ?_) (fun i hi => ?_)⟩
    · unfold fX3_dayGoes_L2
      simp (disch := omega) only [k_12, k_1, I_neg, I_le, if_neg, gPf2, wRi, tn, Option.bind_some, I_add]
      rfl
    · rw [up_r (by omega), if_neg (by omega), if_neg (by omega)]
    · rw [up_r (by omega), if_neg (by omega), if_neg (by omega)]
    · by_cases c : p = n
      · rw [c, up_s, if_pos (by omega)]
      · rw [up_k c]
        by_cases c2 : p < n
        · rw [if_pos (by omega), if_pos (by omega)]
        · rw [if_neg (by omega), if_neg (by omega)]
    · rw [up_r (by omega), if_neg (by omega), if_neg (by omega)]
    · rw [up_r (by omega), if_neg (by omega), if_neg (by omega)]) (fun q hS => by
    obtain ⟨V', rfl, a1, a2⟩ := hS
    refine ⟨_, ?_, V', rfl, a1, a2⟩
    unfold fX3_dayGoes_L2
    simp (disch := omega) only [k_12, I_le, if_pos])
  -- how late they are put
  obtain ⟨q2, l1, V2, l2, l3, l4⟩ := iter_for (b := fX3_dayGoes_L23 (some (b + j))) (s := (I 0, Wd b V1 lw R)) (fun n q => ∃ V', q = (I (n : Int), Wd b V' lw R) ∧ Chg j V V' ∧ XS V0 V' j (fun o k => if o = 3 ∧ k < 12 then -1 else if o = 2 ∧ k < n then pl V0 k else S o k)) (fun q => ∃ V', q = Wd b V' lw R ∧ Chg j V V' ∧ XS V0 V' j (dz0 V0 S)) (nT V0) (by omega) ⟨V1, rfl, k3, XSs k4 (fun p hp => ⟨by rw [if_neg (by omega), if_neg (by omega), if_neg (by omega)], by rw [if_neg (by omega), if_neg (by omega), if_neg (by omega)], by rw [if_pos (by omega), if_pos (by omega)]⟩) (fun r hr => by rw [if_neg (by omega), if_neg (by omega), if_neg (by omega)]) (fun i hi => by rw [if_neg (by omega), if_neg (by omega), if_neg (by omega)])⟩ (fun n q hS hn => by
    obtain ⟨V', rfl, a1, a2⟩ := hS
    have h' := h.chg hj a1
    have h48 := r48 i.rel hn
    refine ⟨(I ((n + 1 : Nat) : Int), Wd b (up V' (j + 2) n (pl V0 n)) lw R), ?_, _, rfl, a1.tr (Chg.up (by omega)), XSs (XS_la (p := n) a2 (pl V0 n)) (fun p hp => ⟨?_, ?_, ?_⟩) (fun r hr => ?_) (fun i hi => ?_)⟩
    · unfold fX3_dayGoes_L23
      simp (disch := omega) only [k_1, gPf8, gI0_3, v_nM h', Option.bind_some, I_le, if_neg, gPf1, gR0_0, rTr, tn, gTr3, v_plM h' hn, wLa, I_add]
      rfl
    · rw [up_r (by omega), if_neg (by omega), if_neg (by omega), if_neg (by omega), if_neg (by omega)]
    · rw [up_r (by omega), if_neg (by omega), if_neg (by omega), if_neg (by omega), if_neg (by omega)]
    · rw [up_r (by omega), if_pos (by omega), if_pos (by omega)]
    · by_cases c : r = n
      · rw [c, up_s, if_neg (by omega), if_pos (by omega)]
      · rw [up_k c]
        by_cases c2 : r < n
        · simp [c2, show r < n + 1 by omega]
        · simp [c2, show ¬ r < n + 1 by omega]
    · rw [up_r (by omega), if_neg (by omega), if_neg (by omega), if_neg (by omega), if_neg (by omega)]) (fun q hS => by
    obtain ⟨V', rfl, a1, a2⟩ := hS
    have h' := h.chg hj a1
    refine ⟨_, ?_, V', rfl, a1, XSs a2 (fun p hp => ⟨?_, ?_, ?_⟩) (fun r hr => ?_) (fun i hi => ?_)⟩
    · unfold fX3_dayGoes_L23
      simp (disch := omega) only [gPf8, gI0_3, v_nM h', Option.bind_some, I_le, if_pos]
    · show S 0 p = _
      rw [if_neg (by omega), if_neg (by omega)]
    · show S 1 p = _
      rw [if_neg (by omega), if_neg (by omega)]
    · show (-1 : Int) = _
      rw [if_pos ⟨rfl, hp⟩]
    · show pl V0 r = _
      rw [if_neg (by omega), if_pos ⟨rfl, hr⟩]
    · show S 4 i = _
      rw [if_neg (by omega), if_neg (by omega)])
  have g0 := dzQ_0 i g
  -- the events
  obtain ⟨q3, m1, V3, m2, m3, m4⟩ := iter_for (b := fX3_dayGoes_L60 (some (b + j))) (s := (I 0, Wd b V2 lw R)) (fun n q => ∃ V', q = (I (n : Int), Wd b V' lw R) ∧ Chg j V V' ∧ XS V0 V' j (dzEv sy tl V0 (dz0 V0 S) n)) (fun q => ∃ V', q = Wd b V' lw R ∧ Chg j V V' ∧ XS V0 V' j (dzEv sy tl V0 (dz0 V0 S) (nE V0))) (nE V0) (by omega) ⟨V2, rfl, l3, l4⟩ (fun n q hS hn => by
    obtain ⟨V', rfl, a1, a2⟩ := hS
    have h' := h.chg hj a1
    have ht := et_b i.rel hn
    have hs := es_b i.rel hn
    have h48 := r48 i.rel ht
    have hsm := sm2 i.rel ht
    rw [dzEv]
    unfold fX3_dayGoes_L60
    simp (disch := omega) only [k_0, k_1, gPf8, gI0_4, v_neM h', Option.bind_some, I_le, if_neg, gR0_0, gR0_1, rA2, tn, v_etM h' hn, rTr, gTr4, v_ruM h' ht, bi_if, I_add]
    by_cases c : ru V0 (evT V0 n)
    · rw [if_pos c, if_pos c]
      obtain ⟨V4, f1, f2, f3⟩ := x_stops h' hj law a2 (dzK_ev i g0 n (by omega)) ht hs
      refine ⟨(I ((n + 1 : Nat) : Int), Wd b V4 lw R), ?_, V4, rfl, a1.tr f2, f3⟩
      simp (disch := omega) only [gPf8, gR0_1, gR0_2, rA2, rA3, tn, v_etM h' hn, v_esM h' hn, Option.bind_some, onPf, f1]
      rfl
    · rw [if_neg c, if_neg c]
      exact ⟨_, rfl, V', rfl, a1, a2⟩) (fun q hS => by
    obtain ⟨V', rfl, a1, a2⟩ := hS
    have h' := h.chg hj a1
    refine ⟨_, ?_, V', rfl, a1, a2⟩
    unfold fX3_dayGoes_L60
    simp (disch := omega) only [gPf8, gI0_4, v_neM h', Option.bind_some, I_le, if_pos])
  have d3 : V3 j 3 = dzEv sy tl V0 (dz0 V0 S) (nE V0) 4 0 := m4.2.2 0 (by omega)
  refine ⟨up V3 j 3 (dzEv sy tl V0 (dz0 V0 S) (nE V0) 4 0 + 1), ?_, m3.tr (Chg.up (by omega)), XS_sc m4 0 _⟩
  unfold fX3_dayGoes
  simp (disch := omega) only [k_0, k1, k2, Option.bind_some, l1, l2, m1, m2, k_1, gPf, d3, Option.bind_some, I_add, pPf]
theorem x_pgoes (h : Rem V0 V) (hj : j = 5 ∨ j = 21) (law : LawX b lw R nx sy tl many) (x : XS V0 V j S) (gS : dzQ (dzS S)) (hn : n ≤ 30) : ∃ V', fX3_goes (Wd b V lw R) (some (b + j)) (I (n : Int)) = some (some (b + j), Wd b V' lw R) ∧ Chg j V V' ∧ XS V0 V' j (dzGo sy tl V0 (dzS S) n) := by
  have hj3 := j3 hj
  have i := h.1
  have c0 : Chg j V (up (up (up V j 5 0) j 6 0) j 7 0) := (Chg.up (by omega)).tr ((Chg.up (by omega)).tr (Chg.up (by omega)))
  have x0 : XS V0 (up (up (up V j 5 0) j 6 0) j 7 0) j (dzS S) := XS_sc (XS_sc (XS_sc x 2 0) 3 0) 4 0
  obtain ⟨q, k1, V1, k2, k3, k4⟩ := iter_inv0 (b := fX3_goes_L17 (some (b + j)) (I (n : Int))) (s := (I 0, Wd b (up (up (up V j 5 0) j 6 0) j 7 0) lw R)) (fun t q => ∃ V', q = (I (t : Int), Wd b V' lw R) ∧ t ≤ n ∧ Chg j V V' ∧ XS V0 V' j (dzGo sy tl V0 (dzS S) t)) (fun q => ∃ V', q = Wd b V' lw R ∧ Chg j V V' ∧ XS V0 V' j (dzGo sy tl V0 (dzS S) n)) n (by omega) ⟨_, rfl, Nat.zero_le _, c0, x0⟩ (fun t q hS => by
    obtain ⟨V', rfl, a0, a1, a2⟩ := hS
    have h' := h.chg hj a1
    have gt := dzQ_go (sy := sy) (tl := tl) i gS t
    have d3 : V' j 3 = dzGo sy tl V0 (dzS S) t 4 0 := a2.2.2 0 (by omega)
    have gd := gt.2
    by_cases c : t = n
    · rw [c] at a2 ⊢
      refine Or.inr ⟨_, ?_, V', rfl, a1, a2⟩
      unfold fX3_goes_L17
      simp (disch := omega) only [I_le, if_pos]
    · by_cases c2 : 9999 ≤ dzGo sy tl V0 (dzS S) t 4 0
      · refine Or.inr ⟨Wd b V' lw R, ?_, V', rfl, a1, ?_⟩
        · unfold fX3_goes_L17
          simp (disch := omega) only [k_9999, I_le, if_neg, gPf, d3, Option.bind_some, if_pos]
        · have := dzGo_end c2 (n - t)
          rw [show t + (n - t) = n by omega] at this
          rw [this]
          exact a2
      · obtain ⟨V2, f1, f2, f3⟩ := x_day h' hj law a2 gt c2
        refine Or.inl ⟨(I ((t + 1 : Nat) : Int), Wd b V2 lw R), ?_, ⟨V2, rfl, by omega, a1.tr f2, by rw [dzGo, if_neg c2]; exact f3⟩, by omega⟩
        unfold fX3_goes_L17
        simp (disch := omega) only [k_1, k_9999, I_le, if_neg, gPf, d3, Option.bind_some, onPf, f1, I_add]
        rfl)
  refine ⟨V1, ?_, k3, k4⟩
  unfold fX3_goes
  simp (disch := omega) only [k_0, pPf, Option.bind_some, k1, k2]
end XF
