/-! CALL: law, the parts. No JVM here. -/
set_option maxRecDepth 100000
set_option linter.unusedVariables false
set_option linter.unusedSimpArgs false
theorem Inv.lw {V0 V : Vw} (h : Inv V0) (s : ∀ o k, ¬ scr o k → ¬ (o = 258 ∧ k = 26) → ¬ (279 ≤ o ∧ o ≤ 283) → V o k = V0 o k) : Inv V := by
  obtain ⟨i1, i2, i3, i4⟩ := h
  have row : ∀ o, o ≠ 258 → ¬ (279 ≤ o ∧ o ≤ 283) → (∀ k, ¬ scr o k) → V o = V0 o := fun o q1 q2 q => funext fun k => s o k (q k) (by omega) q2
  have aT : agT V0 V := agT.of (s _ _ (by unfold scr; omega) (by omega) (by omega)) (s _ _ (by unfold scr; omega) (by omega) (by omega)) fun o q => row o (by omega) (by omega) fun k => by unfold scr; omega
  exact ⟨InvT_c aT i1, InvE_c aT (agE.of (s _ _ (by unfold scr; omega) (by omega) (by omega)) (s _ _ (by unfold scr; omega) (by omega) (by omega)) fun o q => row o (by omega) (by omega) fun k => by unfold scr; omega) i1 i2, InvP_c (fun o q => row o (by unfold pRow at q; omega) (by unfold pRow at q; omega) fun k => by unfold scr; unfold pRow at q; omega) (s _ _ (by unfold scr; omega) (by omega) (by omega)) (s _ _ (by unfold scr; omega) (by omega) (by omega)) (s _ _ (by unfold scr; omega) (by omega) (by omega)) (s _ _ (by unfold scr; omega) (by omega) (by omega)) i3, InvQ_c ⟨s _ _ (by unfold scr; omega) (by omega) (by omega), s _ _ (by unfold scr; omega) (by omega) (by omega), s _ _ (by unfold scr; omega) (by omega) (by omega), s _ _ (by unfold scr; omega) (by omega) (by omega), s _ _ (by unfold scr; omega) (by omega) (by omega), s _ _ (by unfold scr; omega) (by omega) (by omega), row _ (by omega) (by omega) fun k => by unfold scr; omega, row _ (by omega) (by omega) fun k => by unfold scr; omega⟩ i4⟩
theorem LawOK.keep {b nx nx' : Nat} {V V' : Vw} {lw : Option Nat} {R R' : Hp} (h : LawOK b V lw R nx) (g : agL V V') (hR : ∀ q, q < nx → R' q = R q) (hn : nx ≤ nx') : LawOK b V' lw R' nx' := by
  obtain ⟨sy, tl, h1, h2⟩ := h
  refine ⟨sy, tl, fun R2 h3 W => ?_, fun W lw2 R2 h3 F hF => h2 W lw2 R2 (g.tr h3) F hF⟩
  rw [g.1]
  exact h1 R2 (fun q hq => (h3 q (by omega)).trans (hR q hq)) W
section LC
variable {b : Nat} {V V' VC : Vw} {lw : Option Nat} {R Rr : Hp} {n nx s : Nat} {c : List Cd} {cls : List Cls}
/-- the reader is made -/
theorem x_lawInit (hnx : b + 305 ≤ nx) : ∃ R1, fX8_init (Wd b V lw (hp_set R nx (.inr (7, dfX8)))) (nx + 1) nx (some b) (I (n : Int)) = some (RW b V lw nx n (nx + 1) R1 0 0 0 0, 4, 52) ∧ (∀ y, y < nx → R1 y = R y) ∧ TxI b R1 (nx + 1) (nx + 5) (nx + 5) [] := by
  have L8 : dfX8.length = 7 := rfl
  have L5 : dfX5.length = 4 := rfl
  refine ⟨?w, ?h1, ?h2, ?h3⟩
  case h1 =>
    unfold fX8_init fX5_init hp_newa hp_newr hp_pR hp_pI
    rw [o_pV hnx (s_s nx _) (by rw [L8]; omega), s_ss, Option.bind_some, Option.bind_some, o_set (by omega), Option.bind_some, o_set (by omega)]
    rw [o_pV (a := nx + 1) (c := 4) (fs := dfX5) (by omega) (by rw [s_n (by omega), s_s]) (by rw [L5]; omega), Option.bind_some, Option.bind_some, o_set (by omega)]
    rw [o_pV (a := nx + 1) (c := 4) (fs := dfX5.set 0 (.inr (some (nx + 1 + 1)))) (by omega) (by rw [s_n (by omega), s_s]) (by rw [List.length_set, L5]; omega), Option.bind_some, Option.bind_some, o_set (by omega)]
    rw [o_pV (a := nx + 1) (c := 4) (fs := (dfX5.set 0 (.inr (some (nx + 1 + 1)))).set 1 (.inr (some (nx + 1 + 1 + 1)))) (by omega) (by rw [s_n (by omega), s_s]) (by rw [List.length_set, List.length_set, L5]; omega), Option.bind_some, andA_s, andA_s, andA_s, Option.bind_some]
    dsimp only
    rw [o_pV (a := nx) (c := 7) (fs := dfX8.set 6 (.inr (some b))) (by omega) (by rw [s_n (by omega), s_n (by omega), s_n (by omega), s_n (by omega), s_n (by omega), s_n (by omega), s_n (by omega), s_s]) (by rw [List.length_set, L8]; omega), Option.bind_some]
    rw [o_pV (a := nx) (c := 7) (fs := (dfX8.set 6 (.inr (some b))).set 1 (.inr (some (nx + 1)))) (by omega) (s_s _ _) (by rw [List.length_set, List.length_set, L8]; omega), s_ss]
    rfl
  case h2 =>
    intro y hy
    rw [s_n (by omega), s_n (by omega), s_n (by omega), s_n (by omega), s_n (by omega), s_n (by omega), s_n (by omega), s_n (by omega)]
  case h3 =>
    refine ⟨fun _ => 0, fun _ => none, fun _ => none, ⟨s_s _ _, ?_, ?_, ?_⟩, fun j q hj => by cases hj⟩
    · rw [s_n (by omega), s_n (by omega), s_n (by omega), s_n (by omega), s_n (by omega), s_s]
    · rw [s_n (by omega), s_n (by omega), s_n (by omega), s_s]
    · rw [s_n (by omega), s_s]
theorem tx_ok (q : ∀ k, k < 260 → V 272 k = V 53 k ∧ -128 ≤ V 53 k ∧ V 53 k ≤ 127) (hn : n ≤ 240) (hC : ∀ k, VC 53 k = V 53 k) {V0 : Vw} (h0 : ∀ k, V0 272 k = V 272 k) : TxOK VC n (yk V0 n) := by
  refine ⟨fun p => yk_b V0 n p, fun p => ?_, fun p hp => ?_, hn⟩
  · unfold tk yk cz
    by_cases c : p < n
    · rw [if_pos c, if_pos c, hC, h0, (q p (by omega)).1, if_neg (by omega)]
    · rw [if_neg c, if_neg c, if_pos rfl]
  · unfold yk at hp
    split at hp
    · assumption
    · exact absurd rfl hp
/-- the codes are taken over -/
theorem y_copy1 (hm : V 258 23 = (c.length : Int)) (hl : c.length ≤ 240) (hc : CAt (V 273) c) : ∃ V', iter (fX7_law_L95 (some (b + 258))) FUEL (I 0, Wd b V lw R) = some (Wd b V' lw R) ∧ (∀ o, o ≠ 279 → V' o = V o) ∧ CAt (V' 279) c := by
  obtain ⟨q, k1, V1, k2, k3, k4⟩ := iter_for (b := fX7_law_L95 (some (b + 258))) (s := (I 0, Wd b V lw R)) (fun t s => ∃ V', s = (I (t : Int), Wd b V' lw R) ∧ (∀ o, o ≠ 279 → V' o = V o) ∧ ∀ k, k < t → V' 279 k = V 273 k) (fun m => ∃ V', m = Wd b V' lw R ∧ (∀ o, o ≠ 279 → V' o = V o) ∧ ∀ k, k < c.length → V' 279 k = V 273 k) c.length (by omega) ⟨V, rfl, fun _ _ => rfl, fun k hk => by omega⟩ (fun t s hS ht => by
    obtain ⟨V', rfl, a1, a2⟩ := hS
    refine ⟨(I ((t + 1 : Nat) : Int), Wd b (up V' 279 t (V 273 t)) lw R), ?_, _, rfl, fun o ho => by rw [up_r ho]; exact a1 o ho, fun k hk => ?_⟩
    · have e0 : V' 258 23 = (c.length : Int) := by rw [a1 _ (by omega)]; exact hm
      have e1 : V' 273 t = V 273 t := by rw [a1 _ (by omega)]
      unfold fX7_law_L95
      simp (disch := omega) only [gI258_23, e0, Option.bind_some, I_le, if_neg, gR258_33, gR258_27, rA273, tn, e1, wA279, k_1, I_add]
      rfl
    · by_cases q : k = t
      · rw [q, up_s]
      · rw [up_k q]
        exact a2 k (by omega)) (fun s hS => by
    obtain ⟨V', rfl, a1, a2⟩ := hS
    have e0 : V' 258 23 = (c.length : Int) := by rw [a1 _ (by omega)]; exact hm
    refine ⟨_, ?_, V', rfl, a1, a2⟩
    unfold fX7_law_L95
    simp (disch := omega) only [gI258_23, e0, Option.bind_some, I_le, if_pos])
  exact ⟨V1, by rw [k1, k2], k3, fun i hi => by rw [k4 i hi]; exact hc i hi⟩
/-- the clauses are taken over -/
theorem y_copy2 (hm : V 258 25 = (s : Int)) (hl : s ≤ 16) : ∃ V', iter (fX7_law_L123 (some (b + 258))) FUEL (I 0, Wd b V lw R) = some (Wd b V' lw R) ∧ (∀ o, ¬ (280 ≤ o ∧ o ≤ 283) → V' o = V o) ∧ ∀ k, k < s → V' 280 k = V 275 k ∧ V' 281 k = V 276 k ∧ V' 282 k = V 277 k ∧ V' 283 k = V 278 k := by
  obtain ⟨q, k1, V1, k2, k3, k4⟩ := iter_for (b := fX7_law_L123 (some (b + 258))) (s := (I 0, Wd b V lw R)) (fun t st => ∃ V', st = (I (t : Int), Wd b V' lw R) ∧ (∀ o, ¬ (280 ≤ o ∧ o ≤ 283) → V' o = V o) ∧ ∀ k, k < t → V' 280 k = V 275 k ∧ V' 281 k = V 276 k ∧ V' 282 k = V 277 k ∧ V' 283 k = V 278 k) (fun m => ∃ V', m = Wd b V' lw R ∧ (∀ o, ¬ (280 ≤ o ∧ o ≤ 283) → V' o = V o) ∧ ∀ k, k < s → V' 280 k = V 275 k ∧ V' 281 k = V 276 k ∧ V' 282 k = V 277 k ∧ V' 283 k = V 278 k) s (by omega) ⟨V, rfl, fun _ _ => rfl, fun k hk => by omega⟩ (fun t st hS ht => by
    obtain ⟨V', rfl, a1, a2⟩ := hS
    refine ⟨(I ((t + 1 : Nat) : Int), Wd b (up (up (up (up V' 280 t (V 275 t)) 281 t (V 276 t)) 282 t (V 277 t)) 283 t (V 278 t)) lw R), ?_, _, rfl, fun o ho => by rw [up_r (by omega), up_r (by omega), up_r (by omega), up_r (by omega)]; exact a1 o ho, fun k hk => ?_⟩
    · have e0 : V' 258 25 = (s : Int) := by rw [a1 _ (by omega)]; exact hm
      have e1 : V' 275 t = V 275 t := by rw [a1 _ (by omega)]
      have e2 : V' 276 t = V 276 t := by rw [a1 _ (by omega)]
      have e3 : V' 277 t = V 277 t := by rw [a1 _ (by omega)]
      have e4 : V' 278 t = V 278 t := by rw [a1 _ (by omega)]
      unfold fX7_law_L123
      simp (disch := omega) only [gI258_25, e0, Option.bind_some, I_le, if_neg, gR258_34, gR258_29, rA275, tn, e1, wA280, gR258_35, gR258_30, rA276, up_r, e2, wA281, gR258_36, gR258_31, rA277, e3, wA282, gR258_37, gR258_32, rA278, e4, wA283, k_1, I_add]
      rfl
    · by_cases q : k = t
      · rw [q]
        refine ⟨?_, ?_, ?_, ?_⟩
        · rw [up_r (by omega), up_r (by omega), up_r (by omega), up_s]
        · rw [up_r (by omega), up_r (by omega), up_s]
        · rw [up_r (by omega), up_s]
        · rw [up_s]
      · have := a2 k (by omega)
        refine ⟨?_, ?_, ?_, ?_⟩
        · rw [up_r (by omega), up_r (by omega), up_r (by omega), up_k q]
          exact this.1
        · rw [up_r (by omega), up_r (by omega), up_k q, up_r (by omega)]
          exact this.2.1
        · rw [up_r (by omega), up_k q, up_r (by omega), up_r (by omega)]
          exact this.2.2.1
        · rw [up_k q, up_r (by omega), up_r (by omega), up_r (by omega)]
          exact this.2.2.2) (fun st hS => by
    obtain ⟨V', rfl, a1, a2⟩ := hS
    have e0 : V' 258 25 = (s : Int) := by rw [a1 _ (by omega)]; exact hm
    refine ⟨_, ?_, V', rfl, a1, a2⟩
    unfold fX7_law_L123
    simp (disch := omega) only [gI258_25, e0, Option.bind_some, I_le, if_pos])
  exact ⟨V1, by rw [k1, k2], k3, k4⟩
end LC
