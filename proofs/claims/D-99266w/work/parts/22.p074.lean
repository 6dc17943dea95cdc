/-! CALL: timetable, the class reads stops. No JVM here. -/
set_option maxRecDepth 100000
set_option linter.unusedVariables false
def trC (sa ma : Nat) (many : Nat) : Cel := .inr (5, [.inr (some sa), .inr (some ma), .inl (I (many : Int)), .inl (I 0), .inl (I 1)])
def OT (R : Hp) (tr many : Nat) (S : Vw) : Prop := ∃ f g : Nat → Int32, R tr = some (trC (tr + 1) (tr + 2) many) ∧ R (tr + 1) = some (.inl (0, 8, .inl f)) ∧ R (tr + 2) = some (.inl (0, 8, .inl g)) ∧ ∀ k, k < many → f k = I (S 0 k) ∧ g k = I (S 1 k)
section OX
variable {b : Nat} {V0 V V' : Vw} {lw : Option Nat} {R : Hp} {a n p tr many : Nat} {q x y s m : Int} {S : Vw} {rest : List Vl}
theorem OT.c {R' : Hp} (h : OT R tr many S) (e : ∀ y, tr ≤ y → y ≤ tr + 2 → R' y = R y) : OT R' tr many S := by
  obtain ⟨f, g, h1, h2, h3, h4⟩ := h
  exact ⟨f, g, by rw [e _ (by omega) (by omega)]; exact h1, by rw [e _ (by omega) (by omega)]; exact h2, by rw [e _ (by omega) (by omega)]; exact h3, h4⟩
theorem ot_many (h : OT R tr many S) (ht : b + 305 ≤ tr) : hp_gI (Wd b V lw R) (some tr) 5 2 = some (I (many : Int)) := by
  obtain ⟨f, g, h1, h2, h3, h4⟩ := h
  exact o_gI ht h1 rfl
theorem ot_on {α : Type} {w : Option α} (h : OT R tr many S) (ht : b + 305 ≤ tr) : hp_on (Wd b V lw R) (some tr) 5 w = w := by
  obtain ⟨f, g, h1, h2, h3, h4⟩ := h
  exact o_on ht h1
theorem ot_sa (h : OT R tr many S) (ht : b + 305 ≤ tr) : hp_gR (Wd b V lw R) (some tr) 5 0 = some (some (tr + 1)) := by
  obtain ⟨f, g, h1, h2, h3, h4⟩ := h
  exact o_gR ht h1 rfl
theorem ot_ma (h : OT R tr many S) (ht : b + 305 ≤ tr) : hp_gR (Wd b V lw R) (some tr) 5 1 = some (some (tr + 2)) := by
  obtain ⟨f, g, h1, h2, h3, h4⟩ := h
  exact o_gR ht h1 rfl
theorem ot_st (h : OT R tr many S) (ht : b + 305 ≤ tr) {k : Nat} (hk : k < many) (h8 : many ≤ 8) : hp_aI (Wd b V lw R) (some (tr + 1)) 0 (I (k : Int)) = some (I (S 0 k)) := by
  obtain ⟨f, g, h1, h2, h3, h4⟩ := h
  rw [o_aI (by omega) h2 (by omega) (by omega) (by omega), tn, (h4 k hk).1]
theorem ot_mi (h : OT R tr many S) (ht : b + 305 ≤ tr) {k : Nat} (hk : k < many) (h8 : many ≤ 8) : hp_aI (Wd b V lw R) (some (tr + 2)) 0 (I (k : Int)) = some (I (S 1 k)) := by
  obtain ⟨f, g, h1, h2, h3, h4⟩ := h
  rw [o_aI (by omega) h3 (by omega) (by omega) (by omega), tn, (h4 k hk).2]
theorem o_stopAt (h : OT R tr many S) (ht : b + 305 ≤ tr) (h8 : many ≤ 8) (k : SvK many S) (hs : 0 ≤ s ∧ s ≤ 9) : fX6_stopAt (Wd b V lw R) (some tr) (I s) = some (I (if has1 (S 0) s many < many then (has1 (S 0) s many : Int) else -1)) := by
  have key := iter_find (b := fX6_stopAt_L2 (Wd b V lw R) (some tr) (I s)) (fun i => I (i : Int)) (fun k => decide (S 0 k = s)) many (fun i => .inr (I i)) (.inl ()) (by omega)
    (fun i hi hp => by
      have hb := k.1 i hi
      have hp : S 0 i ≠ s := by simpa using hp
      unfold fX6_stopAt_L2
      simp (disch := omega) only [ot_many h ht, Option.bind_some, I_le, if_neg, ot_sa h ht, ot_st h ht hi h8, I_inj, k_1, I_add]
      rfl)
    (fun i hi hp => by
      have hb := k.1 i hi
      have hp : S 0 i = s := by simpa using hp
      unfold fX6_stopAt_L2
      simp (disch := omega) only [ot_many h ht, Option.bind_some, I_le, if_neg, ot_sa h ht, ot_st h ht hi h8, hp, if_true])
    (by
      unfold fX6_stopAt_L2
      simp (disch := omega) only [ot_many h ht, Option.bind_some, I_le, if_pos])
  unfold fX6_stopAt
  rw [show (0 : Int32) = I ((0 : Nat) : Int) from rfl, key]
  unfold has1
  split
  · rfl
  · rfl
theorem sc_letter {f : Int} (h : b + 305 ≤ a) (hn : n ≤ 260) (hp : p ≤ 2000) : fX18_seesStation (Wd b V lw (hp_set R a (scC 14 b n p f q rest))) (some a) = some (I (bi (isLt (tk V n) p))) := by
  unfold fX18_seesStation
  rw [k_97, k_106, sc_sees h hn hp (by omega) (by omega), sc_on h, Option.bind_some, bi_z, Option.bind_some]
/-- the class reads a stop -/
theorem x_stop (ha : b + 305 ≤ a) (ht : b + 305 ≤ tr) (d : a < tr) (hn : n ≤ 260) (hp : p ≤ 400) (h8 : many ≤ 8) (k : SvK many S) (h : OT R tr many S) : match stopR (tk V n) S many p with
    | .inl (w, q') => ∃ p', p' ≤ p + 10 ∧ fX18_stop (Wd b V lw (hp_set R a (scC 14 b n p 0 q rest))) (some a) (some tr) = some (Wd b V lw (hp_set R a (scC 14 b n p' w (q' : Int) rest)))
    | .inr (p', s, m) => ∃ R', fX18_stop (Wd b V lw (hp_set R a (scC 14 b n p 0 q rest))) (some a) (some tr) = some (Wd b V lw (hp_set R' a (scC 14 b n p' 0 q rest))) ∧ OT R' tr (many + 1) (stpS S many s m) ∧ ∀ y, ¬ (tr ≤ y ∧ y ≤ tr + 2) → R' y = R y := by
  have tb := tk_b V n p
  have hO : ∀ {p f q}, OT (hp_set R a (scC 14 b n p f q rest)) tr many S := fun {p f q} => h.c fun y h1 h2 => s_n (by omega) _
  obtain ⟨lo, hlo⟩ : ∃ lo : Int, lo = if many = 0 then 0 else S 1 (many - 1) + 1 := ⟨_, rfl⟩
  have lob : 0 ≤ lo ∧ lo ≤ 1440 := by
    rw [hlo]
    by_cases c3 : many = 0
    · rw [if_pos c3]
      omega
    · rw [if_neg c3]
      have := k.1 (many - 1) (by omega)
      omega
  have low : ∀ {p : Nat} {f q : Int}, ((if I (many : Int) = I 0 then some (I 0) else (hp_aI (Wd b V lw (hp_set R a (scC 14 b n p f q rest))) (some (tr + 2)) 0 (I ((many : Int) - 1))).bind fun v25 => some (v25 + I 1) : Option Int32)) = some (I lo) := fun {p f q} => by
    rw [hlo]
    by_cases c3 : many = 0
    · rw [c3, if_pos (show I ((0 : Nat) : Int) = I 0 from rfl), if_pos rfl]
    · have ki := k.1 (many - 1) (by omega)
      have em : (many : Int) - 1 = ((many - 1 : Nat) : Int) := by omega
      rw [if_neg c3, if_neg (by rw [I_inj (by omega) (by omega) (by omega) (by omega)]; omega), em, ot_mi hO ht (by omega) h8, Option.bind_some, I_add]
  have m8 : I (many : Int) = I 8 ↔ many = 8 := by
    rw [I_inj (by omega) (by omega) (by omega) (by omega)]
    omega
  unfold stopR
  by_cases d1 : isLt (tk V n) p
  · rw [if_neg (not_not_intro d1)]
    have l1 := d1.1
    have l2 := d1.2
    by_cases c1 : has1 (S 0) (tk V n p - 97) many < many
    · rw [if_pos c1]
      refine ⟨p + 1, by omega, ?_⟩
      unfold fX18_stop
      simp (disch := omega) only [sc_place ha, sc_here ha hn, sc_on ha, sc_letter ha hn, Option.bind_some, k_0, k_1, k_97, k_4, k_6, k_1439, bi_if, if_pos d1, I_sub, ot_on hO ht, o_stopAt hO ht h8 k, if_pos c1, I_neg, I_inj, if_neg, sc_bad0 ha, sc_goes ha, ot_many hO ht, ot_ma hO ht]
      have low' := low (p := p + 1) (f := 6) (q := (p : Int))
      rw [if_neg (by rw [I_inj (by omega) (by omega) (by omega) (by omega)]; omega)] at low'
      rw [low']
      simp (disch := omega) only [Option.bind_some, sc_on ha, sc_numF ha, sc_good ha, bi_if, if_neg]
    · rw [if_neg c1]
      by_cases c2 : many = 8
      · rw [if_pos c2]
        refine ⟨p + 1, by omega, ?_⟩
        unfold fX18_stop
        simp (disch := omega) only [sc_place ha, sc_here ha hn, sc_on ha, sc_letter ha hn, Option.bind_some, k_0, k_1, k_97, k_4, k_5, k_8, k_1439, bi_if, if_pos d1, I_sub, ot_on hO ht, o_stopAt hO ht h8 k, if_neg c1, I_neg, if_true, ot_many hO ht, if_pos (m8.mpr c2), sc_bad0 ha, sc_goes ha, ot_ma hO ht]
        rw [low (p := p + 1) (f := 5) (q := (p : Int))]
        simp (disch := omega) only [Option.bind_some, sc_on ha, sc_numF ha, sc_good ha, bi_if, if_neg]
      · rw [if_neg c2]
        rw [← hlo]
        have N1 := sc_number (b := b) (V := V) (lw := lw) (R := R) (ci := 14) (q := q) (rest := rest) (p := p + 1) (dg := 4) (lo := lo) (hi := 1439) ha hn (by omega) (by omega) (by omega) (by omega) (by omega)
        have e4 : I ((4 : Nat) : Int) = I 4 := rfl
        rw [e4] at N1
        have B1 := numR_b (T := tk V n) (dg := 4) (p := p + 1) (lo := lo) (hi := 1439) (by decide)
        cases e1 : numR (tk V n) 4 lo 1439 (p + 1) with
        | inl ee =>
          obtain ⟨w, q'⟩ := ee
          rw [e1] at N1 B1
          obtain ⟨v, p', w1, w2⟩ := N1
          have B1 : 1 ≤ w ∧ w ≤ 3 ∧ p + 1 ≤ q' ∧ q' ≤ p + 1 + 4 := B1
          refine ⟨p', by omega, ?_⟩
          unfold fX18_stop
          simp (disch := omega) only [sc_place ha, sc_here ha hn, sc_on ha, sc_letter ha hn, Option.bind_some, k_0, k_1, k_97, k_4, k_5, k_8, k_1439, bi_if, if_pos d1, I_sub, ot_on hO ht, o_stopAt hO ht h8 k, if_neg c1, I_neg, if_true, ot_many hO ht, if_neg (fun w => c2 (m8.mp w)), sc_goes ha, ot_ma hO ht]
          rw [low (p := p + 1) (f := 0) (q := q)]
          simp (disch := omega) only [Option.bind_some, sc_on ha, w2, sc_good ha, bi_if, if_neg]
        | inr qq =>
          obtain ⟨m, p'⟩ := qq
          rw [e1] at N1 B1
          have N1 : fX17_number 14 _ _ (I 4) (I lo) (I 1439) = _ := N1
          have B1 : lo ≤ m ∧ m ≤ 1439 ∧ p + 1 < p' ∧ p' ≤ p + 1 + 4 := B1
          obtain ⟨f0, g0, h1, h2, h3, h4⟩ := h
          refine ⟨hp_set (hp_set (hp_set R (tr + 1) (.inl (0, 8, .inl (hp_upI f0 many (I (tk V n p - 97)))))) (tr + 2) (.inl (0, 8, .inl (hp_upI g0 many (I m))))) tr (trC (tr + 1) (tr + 2) (many + 1)), ?_, ⟨hp_upI f0 many (I (tk V n p - 97)), hp_upI g0 many (I m), s_s _ _, by rw [s_n (by omega), s_n (by omega), s_s], by rw [s_n (by omega), s_s], fun q hq => ?_⟩, fun y hy => by rw [s_n (by omega), s_n (by omega), s_n (by omega)]⟩
          · have w1 : hp_sI (Wd b V lw (hp_set R a (scC 14 b n p' 0 q rest))) (some (tr + 1)) 0 (I (many : Int)) (I (tk V n p - 97)) = some (Wd b V lw (hp_set (hp_set R (tr + 1) (.inl (0, 8, .inl (hp_upI f0 many (I (tk V n p - 97)))))) a (scC 14 b n p' 0 q rest))) := by
              rw [o_sI (by omega) (by rw [s_n (by omega)]; exact h2) (by omega) (by omega) (by omega), s_cm (by omega), tn]
              rfl
            have w2 : hp_sI (Wd b V lw (hp_set (hp_set R (tr + 1) (.inl (0, 8, .inl (hp_upI f0 many (I (tk V n p - 97)))))) a (scC 14 b n p' 0 q rest))) (some (tr + 2)) 0 (I (many : Int)) (I m) = some (Wd b V lw (hp_set (hp_set (hp_set R (tr + 1) (.inl (0, 8, .inl (hp_upI f0 many (I (tk V n p - 97)))))) (tr + 2) (.inl (0, 8, .inl (hp_upI g0 many (I m))))) a (scC 14 b n p' 0 q rest))) := by
              rw [o_sI (by omega) (by rw [s_n (by omega), s_n (by omega)]; exact h3) (by omega) (by omega) (by omega), s_cm (by omega), tn]
              rfl
            have t1 : ∀ {α : Type} (kk : Hp → Option α), (hp_gR (Wd b V lw (hp_set (hp_set R (tr + 1) (.inl (0, 8, .inl (hp_upI f0 many (I (tk V n p - 97)))))) a (scC 14 b n p' 0 q rest))) (some tr) 5 1) = some (some (tr + 2)) := fun kk => o_gR ht (by rw [s_n (by omega), s_n (by omega)]; exact h1) rfl
            have t2 : hp_gI (Wd b V lw (hp_set (hp_set R (tr + 1) (.inl (0, 8, .inl (hp_upI f0 many (I (tk V n p - 97)))))) a (scC 14 b n p' 0 q rest))) (some tr) 5 2 = some (I (many : Int)) := o_gI ht (by rw [s_n (by omega), s_n (by omega)]; exact h1) rfl
            have t3 : hp_gI (Wd b V lw (hp_set (hp_set (hp_set R (tr + 1) (.inl (0, 8, .inl (hp_upI f0 many (I (tk V n p - 97)))))) (tr + 2) (.inl (0, 8, .inl (hp_upI g0 many (I m))))) a (scC 14 b n p' 0 q rest))) (some tr) 5 2 = some (I (many : Int)) := o_gI ht (by rw [s_n (by omega), s_n (by omega), s_n (by omega)]; exact h1) rfl
            have t4 : hp_pI (Wd b V lw (hp_set (hp_set (hp_set R (tr + 1) (.inl (0, 8, .inl (hp_upI f0 many (I (tk V n p - 97)))))) (tr + 2) (.inl (0, 8, .inl (hp_upI g0 many (I m))))) a (scC 14 b n p' 0 q rest))) (some tr) 5 2 (I ((many : Int) + 1)) = some (Wd b V lw (hp_set (hp_set (hp_set (hp_set R (tr + 1) (.inl (0, 8, .inl (hp_upI f0 many (I (tk V n p - 97)))))) (tr + 2) (.inl (0, 8, .inl (hp_upI g0 many (I m))))) tr (trC (tr + 1) (tr + 2) (many + 1))) a (scC 14 b n p' 0 q rest))) := by
              unfold hp_pI
              rw [o_pV ht (c := 5) (by rw [s_n (by omega), s_n (by omega), s_n (by omega)]; exact h1) (by simp), s_cm (by omega)]
              rfl
            unfold fX18_stop
            simp (disch := omega) only [sc_place ha, sc_here ha hn, sc_on ha, sc_letter ha hn, Option.bind_some, k_0, k_1, k_97, k_4, k_5, k_8, k_1439, bi_if, if_pos d1, I_sub, ot_on hO ht, o_stopAt hO ht h8 k, if_neg c1, I_neg, if_true, ot_many hO ht, if_neg (fun w => c2 (m8.mp w)), sc_goes ha, ot_ma hO ht]
            rw [low (p := p + 1) (f := 0) (q := q)]
            simp (disch := omega) only [Option.bind_some, sc_on ha, N1, sc_good ha, bi_if, if_true, ot_sa hO ht, ot_many hO ht, w1, t1 (α := Unit) (fun _ => none), t2, w2, t3, I_add, t4]
          · unfold stpS hp_upI
            rw [up_r (show 0 ≠ 1 by omega)]
            by_cases c3 : q = many
            · rw [if_pos c3, if_pos c3, c3, up_s, up_s]
              exact ⟨rfl, rfl⟩
            · rw [if_neg c3, if_neg c3]
              simp (disch := first | exact c3 | omega) only [up_k, up_r]
              exact h4 q (by omega)
  · rw [if_pos d1]
    refine ⟨p + 1, by omega, ?_⟩
    unfold fX18_stop
    simp (disch := omega) only [sc_place ha, sc_here ha hn, sc_on ha, sc_letter ha hn, Option.bind_some, k_0, k_1, k_97, k_4, k_5, k_8, k_1439, bi_if, if_neg d1, sc_bad0 ha, sc_goes ha, ot_many hO ht, ot_ma hO ht, I_sub]
    rw [low (p := p + 1) (f := 1) (q := (p : Int))]
    simp (disch := omega) only [Option.bind_some, sc_on ha, sc_numF ha, sc_good ha, bi_if, if_neg]
end OX
