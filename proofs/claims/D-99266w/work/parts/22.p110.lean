/-! THE START: the class's constructor, whole. No JVM here. -/
set_option maxRecDepth 100000
set_option linter.unusedVariables false
set_option linter.unusedSimpArgs false
section SZ
variable {b k j t n : Nat} {m : Hp} {fs : List Vl} {v : Option Nat} {c : Cel}
theorem stC_d {o : Nat} (h : o < 54 ∨ 58 ≤ o) : stC b o = dC b stV none o := by
  unfold stC
  rw [if_neg (by omega), if_neg (by omega), if_neg (by omega), if_neg (by omega)]
theorem tr_C {o : Nat} (h1 : 114 ≤ o) (h2 : o < 258) : TRp m (b + 114) (b + 1) 48 (b + o) = stC b o := by
  rw [stC_d (by omega)]
  unfold TRp
  rw [if_neg (by omega), if_pos (by omega)]
  by_cases c : (o - 114) % 3 = 0
  · rw [if_pos (by omega)]
    obtain ⟨r, rfl⟩ : ∃ r, o = 114 + 3 * r := ⟨(o - 114) / 3, by omega⟩
    have v4 : ∀ k, stV (114 + 3 * r) k = if k = 4 then 1 else 0 := fun k => by
      unfold stV
      rw [if_neg (by omega), if_neg (by omega), if_neg (by omega), if_neg (by omega), if_pos (by omega)]
    have f : ∀ i, dF b stV none (114 + 3 * r) i = match dR (114 + 3 * r) i with
      | some x => .inr (some (b + x))
      | none => .inl (I (if i = 4 then 1 else 0)) := fun i => by
      unfold dF
      rw [if_neg (by omega), v4]
      cases dR (114 + 3 * r) i <;> rfl
    unfold dC
    rw [dK_tr (by omega)]
    show some (trO (b + (114 + 3 * r))) = some (Sum.inr (5, (List.range 5).map fun i => dF b stV none (114 + 3 * r) i))
    rw [show (fun i => dF b stV none (114 + 3 * r) i) = _ from funext f]
    have d : ∀ i, dR (114 + 3 * r) i = ([some (115 + 3 * r), some (116 + 3 * r)] : List (Option Nat)).getD i none := fun i => dR_tr (by omega)
    simp only [d]
    show some (trO (b + (114 + 3 * r))) = some (Sum.inr (5, [.inr (some (b + (115 + 3 * r))), .inr (some (b + (116 + 3 * r))), .inl 0, .inl 0, .inl 1]))
    unfold trO
    rw [show b + (114 + 3 * r) + 1 = b + (115 + 3 * r) by omega, show b + (114 + 3 * r) + 2 = b + (116 + 3 * r) by omega]
  · rw [if_neg (by omega)]
    have e : dK o = (1, 0, 8) := by
      unfold dK
      rw [if_neg (by omega), if_pos (by omega), if_neg c]
    unfold dC
    rw [e]
    refine congrArg some (congrArg Sum.inl (Prod.ext rfl (Prod.ext rfl (congrArg Sum.inl (funext fun i => ?_)))))
    have : stV o i = 0 := by
      unfold stV
      rw [if_neg (by omega), if_neg (by omega), if_neg (by omega), if_neg (by omega), if_neg (by omega)]
    rw [this]
    rfl
/-- the object's fields, in the end -/
def stF (b : Nat) : List Vl := (List.range 22).map fun k => dF b stV (some (b + 54)) 0 k
set_option maxHeartbeats 4000000 in
theorem x_init : ∃ (m' : Hp) (c : Nat), fX0_init (hp_set (fun _ => none) b (.inr (0, dfX0))) (b + 1) b = some (m', 257, c) ∧ c ≤ 20000 ∧ m' b = some (.inr (0, stF b)) ∧ m' (b + 1) = dC b stV none 1 ∧ (∀ o, 2 ≤ o → o < 258 → m' (b + o) = stC b o) ∧ ∀ q, (q < b ∨ b + 258 ≤ q) → m' q = none := by
  have s0 := SB_1 (b := b)
  unfold fX0_init
  rw [Option.bind_some]
  generalize hp_newr (hp_set (fun _ => none) b (.inr (0, dfX0))) (b + 1) 5 48 = m0 at s0 ⊢
  obtain ⟨m1, e1, s1⟩ := SB_p (v := some (b + 1)) s0 (show 0 < 22 by omega) (by omega)
  rw [e1, Option.bind_some]
  obtain ⟨m2, e2, s2⟩ := SB_a (t := 0) (n := 384) s1 (by decide) (by omega) (by omega) (by omega) (by omega)
  rw [e2, Option.bind_some]
  obtain ⟨m3, e3, s3⟩ := SB_p (v := some (b + 2)) s2 (show 1 < 22 by omega) (by omega)
  rw [e3, Option.bind_some]
  obtain ⟨m4, e4, s4⟩ := SB_a (t := 0) (n := 384) s3 (by decide) (by omega) (by omega) (by omega) (by omega)
  rw [e4, Option.bind_some]
  obtain ⟨m5, e5, s5⟩ := SB_p (v := some (b + 3)) s4 (show 2 < 22 by omega) (by omega)
  rw [e5, Option.bind_some]
  obtain ⟨m6, e6, s6⟩ := SB_i (x := 5) s5 (show 5 < 22 by omega) (by omega)
  rw [e6, Option.bind_some]
  obtain ⟨m7, e7, s7⟩ := SB_c (c := .inr (1, dfX2)) s6 (by omega) (by omega) rfl
  rw [e7, Option.bind_some, show fX2_init (b + 4) = some () from rfl, Option.bind_some]
  obtain ⟨m8, e8, s8⟩ := SB_p (v := some (b + 4)) s7 (show 6 < 22 by omega) (by omega)
  rw [e8, Option.bind_some]
  obtain ⟨m9, e9, s9⟩ := SB_pl (k := 5) s8 (by omega)
  rw [Option.bind_some, e9, Option.bind_some]
  dsimp only
  obtain ⟨m10, e10, s10⟩ := SB_p (v := some (b + 5)) s9 (show 7 < 22 by omega) (by omega)
  rw [e10, Option.bind_some]
  obtain ⟨m11, e11, s11⟩ := SB_pl (k := 21) s10 (by omega)
  rw [Option.bind_some, e11, Option.bind_some]
  dsimp only
  obtain ⟨m12, e12, s12⟩ := SB_p (v := some (b + 21)) s11 (show 8 < 22 by omega) (by omega)
  rw [e12, Option.bind_some]
  obtain ⟨m13, e13, s13⟩ := SB_pl (k := 37) s12 (by omega)
  rw [Option.bind_some, e13, Option.bind_some]
  dsimp only
  obtain ⟨m14, e14, s14⟩ := SB_p (v := some (b + 37)) s13 (show 9 < 22 by omega) (by omega)
  rw [e14, Option.bind_some]
  obtain ⟨m15, e15, s15⟩ := SB_a (t := 1) (n := 260) s14 (by decide) (by omega) (by omega) (by omega) (by omega)
  rw [e15, Option.bind_some]
  obtain ⟨m16, e16, s16⟩ := SB_p (v := some (b + 53)) s15 (show 10 < 22 by omega) (by omega)
  rw [e16, Option.bind_some]
  obtain ⟨m17, e17, s17⟩ := SB_tx s16
  rw [Option.bind_some, e17, Option.bind_some]
  dsimp only
  obtain ⟨m18, e18, s18⟩ := SB_p (v := some (b + 54)) s17 (show 11 < 22 by omega) (by omega)
  rw [e18, Option.bind_some]
  obtain ⟨m19, e19, s19⟩ := SB_a (t := 0) (n := 10) s18 (by decide) (by omega) (by omega) (by omega) (by omega)
  rw [e19, Option.bind_some]
  obtain ⟨m20, e20, s20⟩ := SB_p (v := some (b + 58)) s19 (show 14 < 22 by omega) (by omega)
  rw [e20, Option.bind_some]
  obtain ⟨m21, e21, s21⟩ := SB_a (t := 0) (n := 10) s20 (by decide) (by omega) (by omega) (by omega) (by omega)
  rw [e21, Option.bind_some]
  obtain ⟨m22, e22, s22⟩ := SB_p (v := some (b + 59)) s21 (show 15 < 22 by omega) (by omega)
  rw [e22, Option.bind_some]
  obtain ⟨m23, e23, s23⟩ := SB_a (t := 0) (n := 48) s22 (by decide) (by omega) (by omega) (by omega) (by omega)
  rw [e23, Option.bind_some]
  obtain ⟨m24, e24, s24⟩ := SB_p (v := some (b + 60)) s23 (show 16 < 22 by omega) (by omega)
  rw [e24, Option.bind_some]
  obtain ⟨m25, e25, s25⟩ := SB_a (t := 0) (n := 48) s24 (by decide) (by omega) (by omega) (by omega) (by omega)
  rw [e25, Option.bind_some]
  obtain ⟨m26, e26, s26⟩ := SB_p (v := some (b + 61)) s25 (show 17 < 22 by omega) (by omega)
  rw [e26, Option.bind_some]
  obtain ⟨m27, e27, s27⟩ := SB_a (t := 0) (n := 48) s26 (by decide) (by omega) (by omega) (by omega) (by omega)
  rw [e27, Option.bind_some]
  obtain ⟨m28, e28, s28⟩ := SB_p (v := some (b + 62)) s27 (show 18 < 22 by omega) (by omega)
  rw [e28, Option.bind_some]
  obtain ⟨m29, e29, s29⟩ := SB_a (t := 2) (n := 48) s28 (by decide) (by omega) (by omega) (by omega) (by omega)
  rw [e29, Option.bind_some]
  obtain ⟨m30, e30, s30⟩ := SB_p (v := some (b + 63)) s29 (show 19 < 22 by omega) (by omega)
  rw [e30, Option.bind_some]
  obtain ⟨m31, e31, s31⟩ := SB_g s30
  rw [e31, Option.bind_some]
  obtain ⟨m32, e32, s32⟩ := SB_p (v := some (b + 64)) s31 (show 20 < 22 by omega) (by omega)
  rw [e32, Option.bind_some]
  obtain ⟨m33, e33, s33⟩ := SB_a (t := 0) (n := 31) s32 (by decide) (by omega) (by omega) (by omega) (by omega)
  rw [e33, Option.bind_some]
  obtain ⟨m34, e34, s34⟩ := SB_p (v := some (b + 113)) s33 (show 21 < 22 by omega) (by omega)
  rw [e34, Option.bind_some]
  obtain ⟨h1, h2, h3, h4, h5, h6⟩ := id s34
  have lp := train_loop (m := m34) (a := b + 1) (nx := b + 114) (b := b) (by omega) (by omega) (by omega) h1 rfl 48 0 FUEL (by omega) (by unfold FUEL; omega)
  rw [TRp_0 h3] at lp
  have lp : iterA (fX0_init_L173 (some b)) FUEL ((0 : Int32), m34) (b + 114) = some (TRp m34 (b + 114) (b + 1) 48, 3 * 48, 21 * 48) := lp
  rw [lp, Option.bind_some]
  dsimp only
  have old : ∀ q, q ≠ b + 1 → q < b + 114 ∨ b + 258 ≤ q → TRp m34 (b + 114) (b + 1) 48 q = m34 q := fun q hq hq2 => by
    unfold TRp
    rw [if_neg hq, if_neg (by omega)]
  have g7 : hp_gR (TRp m34 (b + 114) (b + 1) 48) (some b) 0 7 = some (some (b + 5)) := g_gR (by rw [old _ (by omega) (by omega)]; exact h1) rfl
  have p1 : hp_pI (TRp m34 (b + 114) (b + 1) 48) (some (b + 5)) 2 4 (1 : Int32) = some (hp_set (TRp m34 (b + 114) (b + 1) 48) (b + 5) (platC (b + 6) b 1)) := by
    unfold hp_pI
    rw [g_pV (c := 2) (fs := [.inr (some (b + 6)), .inr (some (b + 6 + 1)), .inr (some (b + 6 + 2)), .inl 0, .inl 0, .inl 0, .inl 0, .inl 0, .inr (some b)]) (by rw [old _ (by omega) (by omega)]; exact h5 (by omega)) (by simp)]
    rfl
  rw [g7, Option.bind_some, p1, Option.bind_some]
  simp only [andA_s]
  refine ⟨_, _, rfl, by decide, ?_, ?_, fun o o1 o2 => ?_, fun q hq => ?_⟩
  · rw [s_n (by omega), old _ (by omega) (by omega)]
    exact h1
  · rw [s_n (by omega), TRp_a]
    unfold dC
    rw [show dK 1 = (2, 5, 48) by decide]
    refine congrArg some (congrArg Sum.inl (Prod.ext rfl (Prod.ext rfl (congrArg Sum.inr (funext fun i => ?_)))))
    by_cases c : i < 48
    · rw [if_pos c, if_pos c, show dR 1 i = some (114 + 3 * i) from rfl, Option.map_some]
      congr 1
      omega
    · rw [if_neg c, if_neg c]
  · by_cases c5 : o = 5
    · subst c5
      rw [s_s]
      rfl
    · rw [s_n (by omega)]
      by_cases c : o < 114
      · rw [old _ (by omega) (by omega)]
        exact h4 o o1 c c5
      · exact tr_C (by omega) o2
  · rw [s_n (by omega), old _ (by omega) (by omega)]
    exact h6 q (by omega)
end SZ
