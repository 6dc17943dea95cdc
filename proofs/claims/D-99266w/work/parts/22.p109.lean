/-! THE START: the class's constructor. No JVM here. -/
set_option maxRecDepth 100000
set_option linter.unusedVariables false
set_option linter.unusedSimpArgs false
def stV : Vw := fun o k => if o = 0 then (if k = 5 then 5 else 0) else if o = 5 then (if k = 4 then 1 else 0) else if o = 258 then (if k = 13 then 5 else 0) else if o = 259 then (if k = 25 then 1 else 0) else if 114 ≤ o ∧ o < 258 ∧ (o - 114) % 3 = 0 then (if k = 4 then 1 else 0) else 0
def stC (b o : Nat) : Option Cel := if o = 54 then some (.inr (4, [.inr (some (b + 55)), .inr (some (b + 56)), .inr (some (b + 57)), .inl 0])) else if o = 55 then some (cel0 0 16) else if o = 56 then some (.inl (3, 16, .inr fun _ => none)) else if o = 57 then some (.inl (4, 16, .inr fun _ => none)) else dC b stV none o
def SB (b k : Nat) (m : Hp) (fs : List Vl) : Prop := m b = some (.inr (0, fs)) ∧ fs.length = 22 ∧ m (b + 1) = some (.inl (5, 48, .inr fun _ => none)) ∧ (∀ o, 2 ≤ o → o < k → o ≠ 5 → m (b + o) = stC b o) ∧ (5 < k → m (b + 5) = some (platC (b + 6) b 0)) ∧ ∀ q, (q < b ∨ b + k ≤ q) → m q = none
theorem stV_z {o k : Nat} (h : o < 114 ∨ 260 ≤ o) (h0 : o ≠ 0) (h5 : o ≠ 5) : stV o k = 0 := by
  unfold stV
  rw [if_neg h0, if_neg h5, if_neg (by omega), if_neg (by omega), if_neg (by omega)]
section SY
variable {b k j t n : Nat} {m : Hp} {fs : List Vl} {v : Option Nat} {c : Cel}
theorem SB_c (h : SB b k m fs) (hk : 2 ≤ k) (h5 : k ≠ 5) (hc : some c = stC b k) : ∃ m', hp_set m (b + k) c = m' ∧ SB b (k + 1) m' fs := by
  obtain ⟨h1, h2, h3, h4, h5', h6⟩ := h
  refine ⟨_, rfl, by rw [s_n (by omega)]; exact h1, h2, by rw [s_n (by omega)]; exact h3, fun o o1 o2 o3 => ?_, fun q => ?_, fun q hq => by rw [s_n (by omega)]; exact h6 q (by omega)⟩
  · by_cases e : o = k
    · rw [e, s_s]
      exact hc
    · rw [s_n (by omega)]
      exact h4 o o1 (by omega) o3
  · rw [s_n (by omega)]
    exact h5' (by omega)
theorem stC_a (hd : dK k = (1, t, n)) (hk : 58 ≤ k ∨ k < 54) (h0 : k ≠ 0) (h5 : k ≠ 5) (h1 : k < 114 ∨ 260 ≤ k) : some (.inl (t, n, .inl fun _ => 0)) = stC b k := by
  unfold stC
  rw [if_neg (by omega), if_neg (by omega), if_neg (by omega), if_neg (by omega)]
  unfold dC
  rw [hd]
  refine congrArg some (congrArg Sum.inl (Prod.ext rfl (Prod.ext rfl (congrArg Sum.inl (funext fun i => ?_)))))
  rw [stV_z h1 h0 h5]
  rfl
theorem SB_a (h : SB b k m fs) (hd : dK k = (1, t, n)) (hk2 : 2 ≤ k) (hk : 58 ≤ k ∨ k < 54) (h5 : k ≠ 5) (h1 : k < 114) : ∃ m', hp_newa m (b + k) t n = m' ∧ SB b (k + 1) m' fs := SB_c h hk2 h5 (stC_a hd hk (by omega) h5 (Or.inl h1))
theorem SB_p (h : SB b k m fs) (hj : j < 22) (hk : 2 ≤ k) : ∃ m', hp_pR m (some b) 0 j v = some m' ∧ SB b k m' (fs.set j (.inr v)) := by
  obtain ⟨h1, h2, h3, h4, h5, h6⟩ := h
  refine ⟨_, g_pV h1 (by omega), s_s _ _, by rw [List.length_set]; exact h2, by rw [s_n (by omega)]; exact h3, fun o o1 o2 o3 => by rw [s_n (by omega)]; exact h4 o o1 o2 o3, fun q => by rw [s_n (by omega)]; exact h5 q, fun q hq => by rw [s_n (by omega)]; exact h6 q hq⟩
theorem SB_i {x : Int32} (h : SB b k m fs) (hj : j < 22) (hk : 2 ≤ k) : ∃ m', hp_pI m (some b) 0 j x = some m' ∧ SB b k m' (fs.set j (.inl x)) := by
  obtain ⟨h1, h2, h3, h4, h5, h6⟩ := h
  refine ⟨_, g_pV h1 (by omega), s_s _ _, by rw [List.length_set]; exact h2, by rw [s_n (by omega)]; exact h3, fun o o1 o2 o3 => by rw [s_n (by omega)]; exact h4 o o1 o2 o3, fun q => by rw [s_n (by omega)]; exact h5 q, fun q hq => by rw [s_n (by omega)]; exact h6 q hq⟩
theorem plat_C {o : Nat} (hk : k = 5 ∨ k = 21 ∨ k = 37) (h1 : k ≤ o) (h2 : o < k + 16) (h5 : o ≠ 5) : PLp m (b + k + 1) (b + k) b 12 (b + o) = stC b o := by
  unfold stC
  rw [if_neg (by omega), if_neg (by omega), if_neg (by omega), if_neg (by omega)]
  by_cases c0 : o = k
  · subst c0
    rw [PLp_a]
    rcases hk with rfl | rfl | rfl
    · omega
    · rfl
    · rfl
  · by_cases c1 : o = k + 1
    · subst c1
      rw [show b + (k + 1) = b + k + 1 by omega, PLp_n (by omega)]
      have ed : dK (k + 1) = (2, 6, 12) := dK_pp hk
      unfold dC
      rw [ed]
      refine congrArg some (congrArg Sum.inl (Prod.ext rfl (Prod.ext rfl (congrArg Sum.inr (funext fun i => ?_)))))
      by_cases c : i < 12
      · rw [if_pos c, if_pos c, dR_pp hk, Option.map_some]
        congr 1
        omega
      · rw [if_neg c, if_neg c]
    · unfold PLp
      rw [if_neg (by omega), if_neg (by omega)]
      by_cases c2 : o = k + 2
      · subst c2
        rw [if_pos (by omega)]
        have ed : dK (k + 2) = (1, 0, 48) := dK_la hk
        unfold dC
        rw [ed]
        refine congrArg some (congrArg Sum.inl (Prod.ext rfl (Prod.ext rfl (congrArg Sum.inl (funext fun i => ?_)))))
        rw [stV_z (by omega) (by omega) (by omega)]
        rfl
      · rw [if_neg (by omega)]
        by_cases c3 : o = k + 3
        · subst c3
          rw [if_pos (by omega)]
          have ed : dK (k + 3) = (1, 0, 12) := dK_ri hk
          unfold dC
          rw [ed]
          refine congrArg some (congrArg Sum.inl (Prod.ext rfl (Prod.ext rfl (congrArg Sum.inl (funext fun i => ?_)))))
          rw [stV_z (by omega) (by omega) (by omega)]
          rfl
        · rw [if_neg (by omega), if_pos (by omega)]
          obtain ⟨p, rfl⟩ : ∃ p, o = k + 4 + p := ⟨o - k - 4, by omega⟩
          have ed : dK (k + 4 + p) = (3, 3, 6) := dK_pe hk (by omega)
          have f0 : ∀ i, dF b stV none (k + 4 + p) i = .inl 0 := fun i => by
            unfold dF
            rw [if_neg (by omega), dR_pe hk (by omega)]
            dsimp only
            rw [stV_z (by omega) (by omega) (by omega)]
            rfl
          unfold dC
          rw [ed]
          show some celP = some (Sum.inr (3, (List.range 6).map fun i => dF b stV none (k + 4 + p) i))
          rw [show (fun i => dF b stV none (k + 4 + p) i) = fun _ => (.inl 0 : Vl) from funext f0]
          rfl
theorem SB_pl (h : SB b k m fs) (hk : k = 5 ∨ k = 21 ∨ k = 37) : ∃ m', fX3_init (hp_set m (b + k) (.inr (2, dfX3))) (b + k + 1) (b + k) (some b) = some (m', 15, 144) ∧ SB b (k + 16) m' fs := by
  obtain ⟨h1, h2, h3, h4, h5, h6⟩ := h
  have old : ∀ q, q < b + k ∨ b + k + 16 ≤ q → PLp m (b + k + 1) (b + k) b 12 q = m q := fun q hq => by
    unfold PLp
    rw [if_neg (by omega), if_neg (by omega), if_neg (by omega), if_neg (by omega), if_neg (by omega)]
  refine ⟨_, x_plat (by omega), by rw [old _ (by omega)]; exact h1, h2, by rw [old _ (by omega)]; exact h3, fun o o1 o2 o3 => ?_, fun q => ?_, fun q hq => by rw [old _ (by omega)]; exact h6 q (by omega)⟩
  · by_cases c : o < k
    · rw [old _ (by omega)]
      exact h4 o o1 c o3
    · exact plat_C hk (by omega) (by omega) o3
  · by_cases c : 5 < k
    · rw [old _ (by omega)]
      exact h5 c
    · have : k = 5 := by omega
      subst this
      exact PLp_a
theorem SB_tx (h : SB b 54 m fs) : ∃ m', fX5_init (hp_set m (b + 54) (.inr (4, dfX5))) (b + 54 + 1) (b + 54) = some (m', 3, 48) ∧ SB b 58 m' fs := by
  have L5 : dfX5.length = 4 := rfl
  obtain ⟨h1, h2, h3, h4, h5, h6⟩ := h
  refine ⟨?w, ?h1, ?h2⟩
  case h1 =>
    unfold fX5_init hp_newa hp_newr hp_pR
    rw [Option.bind_some]
    rw [g_pV (c := 4) (fs := dfX5) (by rw [s_n (by omega), s_s]) (by rw [L5]; omega), Option.bind_some, Option.bind_some]
    rw [g_pV (c := 4) (fs := dfX5.set 0 (.inr (some (b + 54 + 1)))) (by rw [s_n (by omega), s_s]) (by rw [List.length_set, L5]; omega), Option.bind_some, Option.bind_some]
    rw [g_pV (c := 4) (fs := (dfX5.set 0 (.inr (some (b + 54 + 1)))).set 1 (.inr (some (b + 54 + 1 + 1)))) (by rw [s_n (by omega), s_s]) (by rw [List.length_set, List.length_set, L5]; omega), Option.bind_some, andA_s, andA_s, andA_s]
  case h2 =>
    refine ⟨?_, h2, ?_, fun o o1 o2 o3 => ?_, fun q => ?_, fun q hq => ?_⟩
    · rw [s_n (by omega), s_n (by omega), s_n (by omega), s_n (by omega), s_n (by omega), s_n (by omega), s_n (by omega)]
      exact h1
    · rw [s_n (by omega), s_n (by omega), s_n (by omega), s_n (by omega), s_n (by omega), s_n (by omega), s_n (by omega)]
      exact h3
    · by_cases c0 : o < 54
      · rw [s_n (by omega), s_n (by omega), s_n (by omega), s_n (by omega), s_n (by omega), s_n (by omega), s_n (by omega)]
        exact h4 o o1 c0 o3
      · rcases (show o = 54 ∨ o = 55 ∨ o = 56 ∨ o = 57 by omega) with rfl | rfl | rfl | rfl
        · rw [s_s]
          rfl
        · rw [s_n (by omega), s_n (by omega), s_n (by omega), s_n (by omega), s_n (by omega), s_s]
          rfl
        · rw [s_n (by omega), s_n (by omega), s_n (by omega), s_s]
          rfl
        · rw [s_n (by omega), s_s]
          rfl
    · rw [s_n (by omega), s_n (by omega), s_n (by omega), s_n (by omega), s_n (by omega), s_n (by omega), s_n (by omega)]
      exact h5 (by omega)
    · rw [s_n (by omega), s_n (by omega), s_n (by omega), s_n (by omega), s_n (by omega), s_n (by omega), s_n (by omega)]
      exact h6 q (by omega)
theorem SB_g (h : SB b 64 m fs) : ∃ m', hp_newg m (b + 64) 48 8 = m' ∧ SB b 113 m' fs := by
  obtain ⟨h1, h2, h3, h4, h5, h6⟩ := h
  have old : ∀ q, q < b + 64 ∨ b + 113 ≤ q → hp_newg m (b + 64) 48 8 q = m q := fun q hq => by
    unfold hp_newg
    rw [if_neg (by omega), if_neg (by omega)]
  refine ⟨_, rfl, by rw [old _ (by omega)]; exact h1, h2, by rw [old _ (by omega)]; exact h3, fun o o1 o2 o3 => ?_, fun q => by rw [old _ (by omega)]; exact h5 (by omega), fun q hq => by rw [old _ (by omega)]; exact h6 q (by omega)⟩
  by_cases c : o < 64
  · rw [old _ (by omega)]
    exact h4 o o1 c o3
  · unfold stC
    rw [if_neg (by omega), if_neg (by omega), if_neg (by omega), if_neg (by omega)]
    by_cases c1 : o = 64
    · subst c1
      unfold hp_newg
      rw [if_pos rfl]
      unfold dC
      rw [show dK 64 = (2, 7, 48) by decide]
      refine congrArg some (congrArg Sum.inl (Prod.ext rfl (Prod.ext rfl (congrArg Sum.inr (funext fun i => ?_)))))
      by_cases c : i < 48
      · rw [if_pos c, if_pos c, show dR 64 i = some (65 + i) from rfl, Option.map_some]
        congr 1
        omega
      · rw [if_neg c, if_neg c]
    · unfold hp_newg
      rw [if_neg (by omega), if_pos (by omega)]
      obtain ⟨p, rfl⟩ : ∃ p, o = 65 + p := ⟨o - 65, by omega⟩
      unfold dC
      rw [dK_fr (by omega)]
      refine congrArg some (congrArg Sum.inl (Prod.ext rfl (Prod.ext rfl (congrArg Sum.inl (funext fun i => ?_)))))
      rw [stV_z (by omega) (by omega) (by omega)]
      rfl
theorem SB_1 : SB b 2 (hp_newr (hp_set (fun _ => none) b (.inr (0, dfX0))) (b + 1) 5 48) dfX0 := by
  refine ⟨?_, rfl, s_s _ _, fun o o1 o2 o3 => by omega, fun q => by omega, fun q hq => ?_⟩
  · unfold hp_newr
    rw [s_n (by omega), s_s]
  · unfold hp_newr
    rw [s_n (by omega), s_n (by omega)]
end SY
