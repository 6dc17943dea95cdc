/-! CALL: orders, the class. No JVM here. -/
set_option maxRecDepth 100000
set_option linter.unusedVariables false
def oRest (b pa ra : Nat) : List Vl := [.inr (some pa), .inr (some ra), .inr (some b)]
def XO (R : Hp) (pa ra N : Nat) (O : Vw) : Prop := ∃ f g : Nat → Int32, R pa = some (.inl (0, 48, .inl f)) ∧ R ra = some (.inl (2, 48, .inl g)) ∧ ∀ r, r < N → f r = I (O 0 r) ∧ g r = I (O 1 r)
theorem s_cm {R : Hp} {a a' : Nat} {c c' : Cel} (h : a ≠ a') : hp_set (hp_set R a c) a' c' = hp_set (hp_set R a' c') a c := by
  funext q
  unfold hp_set
  by_cases h1 : q = a
  · rw [if_pos h1, if_neg (fun w => h (h1.symm.trans w)), if_pos h1]
  · rw [if_neg h1, if_neg h1]
theorem numD_0 {T : Nat → Int} {p dg : Nat} : numD T p dg = 0 ↔ ¬ isDg T p := by
  constructor
  · intro h
    have := numD_no (T := T) (p := p) (dg := dg) (by omega)
    rw [h] at this
    exact this
  · intro h
    by_cases c : numD T p dg = 0
    · exact c
    · exact absurd (numD_dg (T := T) (p := p) (dg := dg) (i := 0) (by omega)) h
section OL
variable {b : Nat} {V0 V : Vw} {lw : Option Nat} {R : Hp} {a ci n p pa ra cnt : Nat} {f q x y lo hi : Int} {rest : List Vl} {O : Vw}
theorem sc_goes (h : b + 305 ≤ a) : fX17_goes ci (Wd b V lw (hp_set R a (scC ci b n p f q rest))) (some a) = some (Wd b V lw (hp_set R a (scC ci b n (p + 1) f q rest))) := by
  unfold fX17_goes
  rw [sc_p h, Option.bind_some, k_1, sc_wp h, Option.bind_some]
theorem sc_place (h : b + 305 ≤ a) : fX17_place ci (Wd b V lw (hp_set R a (scC ci b n p f q rest))) (some a) = some (I (p : Int)) := by
  unfold fX17_place
  rw [sc_p h, Option.bind_some]
theorem sc_numF (h : b + 305 ≤ a) (hf : 0 < f ∧ f ≤ 100) {u1 u2 u3 : Int32} : fX17_number ci (Wd b V lw (hp_set R a (scC ci b n p f q rest))) (some a) u1 u2 u3 = some (I 0, Wd b V lw (hp_set R a (scC ci b n p f q rest))) := by
  have stop : iter (fX17_number_L34 ci (some a) u1 u2 u3 (I (p : Int))) FUEL (I 0, Wd b V lw (hp_set R a (scC ci b n p f q rest))) = some (I 0, Wd b V lw (hp_set R a (scC ci b n p f q rest))) := by
    show iter _ (1999 + 1) _ = _
    refine iter_r ?_
    unfold fX17_number_L34
    simp (disch := omega) only [sc_on h, sc_good h, Option.bind_some, k_0, bi_if, if_neg]
  unfold fX17_number
  simp (disch := omega) only [sc_p h, sc_on h, sc_good h, k_0, Option.bind_some, bi_if, if_neg, stop]
theorem x_ordLine (h : Rel V0 V) (ha : b + 305 ≤ a) (hpa : b + 305 ≤ pa) (hra : b + 305 ≤ ra) (n1 : a ≠ pa) (n2 : a ≠ ra) (n3 : pa ≠ ra) (hn : n ≤ 260) (hp : p ≤ 400) (hc : cnt ≤ 20) (xo : XO R pa ra (nT V0) O) : match ordR (tk V n) (nT V0) cnt p with
    | .inl (w, q') => ∃ p', p' ≤ p + 10 ∧ fX19_line (Wd b V lw (hp_set R a (scC 15 b n p 0 q (oRest b pa ra)))) (some a) (I (cnt : Int)) = some (Wd b V lw (hp_set R a (scC 15 b n p' w (q' : Int) (oRest b pa ra))))
    | .inr (p', r, sg, v) => ∃ R', fX19_line (Wd b V lw (hp_set R a (scC 15 b n p 0 q (oRest b pa ra)))) (some a) (I (cnt : Int)) = some (Wd b V lw (hp_set R' a (scC 15 b n p' 0 q (oRest b pa ra)))) ∧ XO R' pa ra (nT V0) (ordS O r.toNat sg v) ∧ ∀ x, x ≠ pa → x ≠ ra → R' x = R x := by
  have hn48 := n48 h
  have N1 := sc_number (b := b) (V := V) (lw := lw) (R := R) (ci := 15) (q := q) (rest := oRest b pa ra) (p := p) (dg := 2) (lo := 0) (hi := 10059) ha hn (by omega) (by omega) (by omega) (by omega) (by omega)
  rw [numR2 (by decide)] at N1
  have B1 := numR_b (T := tk V n) (dg := 2) (p := p) (lo := 0) (hi := 99) (by decide)
  have e2 : I ((2 : Nat) : Int) = I 2 := rfl
  rw [e2] at N1
  have g5 : ∀ {R p f q}, hp_gR (Wd b V lw (hp_set R a (scC 15 b n p f q (oRest b pa ra)))) (some a) 15 5 = some (some pa) := fun {R p f q} => o_gR ha (s_s a _) rfl
  have g6 : ∀ {R p f q}, hp_gR (Wd b V lw (hp_set R a (scC 15 b n p f q (oRest b pa ra)))) (some a) 15 6 = some (some ra) := fun {R p f q} => o_gR ha (s_s a _) rfl
  have g7 : ∀ {R p f q}, hp_gR (Wd b V lw (hp_set R a (scC 15 b n p f q (oRest b pa ra)))) (some a) 15 7 = some (some b) := fun {R p f q} => o_gR ha (s_s a _) rfl
  unfold ordR
  by_cases d : isDg (tk V n) p
  · rw [if_neg (not_not_intro d)]
    by_cases c : cnt = 20
    · rw [if_pos c]
      refine ⟨p + 1, by omega, ?_⟩
      unfold fX19_line
      simp (disch := omega) only [sc_place ha, sc_on ha, sc_sees ha hn, k_48, k_57, k_0, k_20, k_2, k_4, k_10059, Option.bind_some, bi_if, if_pos d, I_inj, if_pos, sc_bad0 ha, sc_numF ha, sc_good ha, if_neg, sc_here ha hn, sc_goes ha]
    · rw [if_neg c]
      cases e1 : numR (tk V n) 2 0 99 p with
      | inl e =>
        obtain ⟨w, q'⟩ := e
        rw [e1] at N1 B1
        obtain ⟨v, p', w1, w2⟩ := N1
        have B1 : 1 ≤ w ∧ w ≤ 3 ∧ p ≤ q' ∧ q' ≤ p + 2 := B1
        refine ⟨p' + 1, by omega, ?_⟩
        unfold fX19_line
        simp (disch := omega) only [sc_place ha, sc_on ha, sc_sees ha hn, k_48, k_57, k_0, k_20, k_2, k_4, k_10059, Option.bind_some, bi_if, if_pos d, I_inj, if_neg, w2, sc_good ha, sc_here ha hn, sc_goes ha]
      | inr qq =>
        obtain ⟨r, p1⟩ := qq
        rw [e1] at N1 B1
        have B1 : 0 ≤ r ∧ r ≤ 99 ∧ p < p1 ∧ p1 ≤ p + 2 := B1
        have N1 : fX17_number 15 _ _ (I 2) (I 0) (I 10059) = _ := N1
        have tb := tk_b V n p1
        show match (if ((nT V0 : Nat) : Int) ≤ r then _ else _ : (Int × Nat) ⊕ (Nat × Int × Int × Int)) with | .inl (w, q') => _ | .inr (p', r, sg, v) => _
        by_cases c1 : (nT V0 : Int) ≤ r
        · rw [if_pos c1]
          refine ⟨p1 + 1, by omega, ?_⟩
          unfold fX19_line
          simp (disch := omega) only [sc_place ha, sc_on ha, sc_sees ha hn, k_48, k_57, k_0, k_20, k_2, k_4, k_7, k_10059, Option.bind_some, bi_if, if_pos d, I_inj, if_neg, N1, sc_good ha, if_true, g7, on0, x_isTrain h, sc_bad0 ha, sc_here ha hn, sc_goes ha]
        · rw [if_neg c1]
          have tr : 0 ≤ r ∧ r < (nT V0 : Int) := by omega
          obtain ⟨f0, g0, xf, xg, xv⟩ := xo
          by_cases c2 : tk V n p1 = 33 ∨ tk V n p1 = 63
          · rw [if_pos c2]
            have wr : ∀ x : Int, x = 0 ∨ x = 1 → ∃ R', hp_sI (Wd b V lw (hp_set R a (scC 15 b n (p1 + 1) 0 q (oRest b pa ra)))) (some ra) 2 (I r) (I x) = some (Wd b V lw (hp_set R' a (scC 15 b n (p1 + 1) 0 q (oRest b pa ra)))) ∧ XO R' pa ra (nT V0) (up O 1 r.toNat x) ∧ ∀ x, x ≠ pa → x ≠ ra → R' x = R x := fun x hx => by
              refine ⟨hp_set R ra (.inl (2, 48, .inl (hp_upI g0 r.toNat (I x)))), ?_, ⟨f0, hp_upI g0 r.toNat (I x), by rw [s_n n3]; exact xf, s_s _ _, fun r' hr' => ⟨?_, ?_⟩⟩, fun x _ h2 => s_n h2 _⟩
              · rw [o_sI hra (by rw [s_n (fun w => n2 w.symm)]; exact xg) (by omega) (by omega) (by omega), nar2 hx, s_cm n2]
              · rw [up_r (by omega)]
                exact (xv r' hr').1
              · unfold hp_upI
                by_cases e : r' = r.toNat
                · rw [if_pos e, e, up_s]
                · rw [if_neg e, up_k e]
                  exact (xv r' hr').2
            rcases c2 with c2 | c2
            · obtain ⟨R', w1, w2, w3⟩ := wr 0 (Or.inl rfl)
              refine ⟨R', ?_, ?_, w3⟩
              · unfold fX19_line
                simp (disch := omega) only [sc_place ha, sc_on ha, sc_sees ha hn, k_48, k_57, k_0, k_1, k_20, k_2, k_4, k_7, k_33, k_63, k_43, k_10059, Option.bind_some, bi_if, if_pos d, I_inj, if_neg, N1, sc_good ha, if_true, g7, on0, x_isTrain h, if_pos tr, sc_here ha hn, c2, sc_goes ha, g6, w1]
              · rw [c2]
                exact w2
            · obtain ⟨R', w1, w2, w3⟩ := wr 1 (Or.inr rfl)
              refine ⟨R', ?_, ?_, w3⟩
              · unfold fX19_line
                simp (disch := omega) only [sc_place ha, sc_on ha, sc_sees ha hn, k_48, k_57, k_0, k_1, k_20, k_2, k_4, k_7, k_33, k_63, k_43, k_10059, Option.bind_some, bi_if, if_pos d, I_inj, if_neg, N1, sc_good ha, if_true, g7, on0, x_isTrain h, if_pos tr, sc_here ha hn, c2, sc_goes ha, g6, w1]
              · rw [c2]
                exact w2
          · rw [if_neg c2]
            by_cases c3 : tk V n p1 = 43
            · rw [if_pos c3]
              have N2 := sc_number (b := b) (V := V) (lw := lw) (R := R) (ci := 15) (q := q) (rest := oRest b pa ra) (p := p1 + 1) (dg := 2) (lo := 0) (hi := 9999) ha hn (by omega) (by omega) (by omega) (by omega) (by omega)
              rw [numR2 (by decide), e2] at N2
              have B2 := numR_b (T := tk V n) (dg := 2) (p := p1 + 1) (lo := 0) (hi := 99) (by decide)
              cases e3 : numR (tk V n) 2 0 99 (p1 + 1) with
              | inl e =>
                obtain ⟨w, q'⟩ := e
                rw [e3] at N2 B2
                obtain ⟨v, p', w1, w2⟩ := N2
                have B2 : 1 ≤ w ∧ w ≤ 3 ∧ p1 + 1 ≤ q' ∧ q' ≤ p1 + 1 + 2 := B2
                refine ⟨p', by omega, ?_⟩
                unfold fX19_line
                simp (disch := omega) only [sc_place ha, sc_on ha, sc_sees ha hn, k_48, k_57, k_0, k_1, k_20, k_2, k_4, k_7, k_33, k_63, k_43, k_10059, k_9999, Option.bind_some, bi_if, if_pos d, I_inj, if_neg, N1, sc_good ha, if_true, g7, on0, x_isTrain h, if_pos tr, sc_here ha hn, c3, sc_goes ha, w2]
              | inr qq =>
                obtain ⟨v, p2⟩ := qq
                rw [e3] at N2 B2
                have B2 : 0 ≤ v ∧ v ≤ 99 ∧ p1 + 1 < p2 ∧ p2 ≤ p1 + 1 + 2 := B2
                have N2 : fX17_number 15 _ _ (I 2) (I 0) (I 9999) = _ := N2
                refine ⟨hp_set R pa (.inl (0, 48, .inl (hp_upI f0 r.toNat (I v)))), ?_, ⟨hp_upI f0 r.toNat (I v), g0, s_s _ _, by rw [s_n (fun w => n3 w.symm)]; exact xg, fun r' hr' => ⟨?_, ?_⟩⟩, fun x h1 _ => s_n h1 _⟩
                · have w1 : hp_sI (Wd b V lw (hp_set R a (scC 15 b n p2 0 q (oRest b pa ra)))) (some pa) 0 (I r) (I v) = some (Wd b V lw (hp_set (hp_set R pa (.inl (0, 48, .inl (hp_upI f0 r.toNat (I v))))) a (scC 15 b n p2 0 q (oRest b pa ra)))) := by
                    rw [o_sI hpa (by rw [s_n (fun w => n1 w.symm)]; exact xf) (by omega) (by omega) (by omega), s_cm n1]
                    rfl
                  unfold fX19_line
                  simp (disch := omega) only [sc_place ha, sc_on ha, sc_sees ha hn, k_48, k_57, k_0, k_1, k_20, k_2, k_4, k_7, k_33, k_63, k_43, k_10059, k_9999, Option.bind_some, bi_if, if_pos d, I_inj, if_neg, N1, sc_good ha, if_true, g7, on0, x_isTrain h, if_pos tr, sc_here ha hn, c3, sc_goes ha, N2, g5, w1]
                · unfold hp_upI ordS
                  rw [if_pos rfl]
                  by_cases e : r' = r.toNat
                  · rw [if_pos e, e, up_s]
                  · rw [if_neg e, up_k e]
                    exact (xv r' hr').1
                · unfold ordS
                  rw [if_pos rfl, up_r (by omega)]
                  exact (xv r' hr').2
            · rw [if_neg c3]
              have c4 : ¬ tk V n p1 = 33 := fun w => c2 (Or.inl w)
              have c5 : ¬ tk V n p1 = 63 := fun w => c2 (Or.inr w)
              refine ⟨p1 + 1, by omega, ?_⟩
              unfold fX19_line
              simp (disch := omega) only [sc_place ha, sc_on ha, sc_sees ha hn, k_48, k_57, k_0, k_1, k_20, k_2, k_4, k_7, k_33, k_63, k_43, k_10059, Option.bind_some, bi_if, if_pos d, I_inj, if_neg, N1, sc_good ha, if_true, g7, on0, x_isTrain h, if_pos tr, sc_here ha hn, sc_bad0 ha, sc_goes ha]
  · rw [if_pos d]
    have z : numD (tk V n) p 2 = 0 := numD_0.mpr d
    have e1 : numR (tk V n) 2 0 99 p = .inl (1, p) := by
      unfold numR
      rw [if_pos z]
    rw [e1] at N1
    obtain ⟨v, p', w1, w2⟩ := N1
    refine ⟨p' + 1, by omega, ?_⟩
    unfold fX19_line
    simp (disch := omega) only [sc_place ha, sc_on ha, sc_sees ha hn, k_48, k_57, k_0, k_20, k_2, k_4, k_10059, Option.bind_some, bi_if, if_neg d, I_inj, if_neg, w2, sc_good ha, sc_here ha hn, sc_goes ha]
end OL
