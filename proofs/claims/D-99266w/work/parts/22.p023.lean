/-! JOURNEYS: the class's table. No JVM here. -/
set_option maxRecDepth 100000
set_option linter.unusedVariables false
section JC
variable {b : Nat} {V0 V : Vw} {lw : Option Nat} {R : Hp} {p k j i r e n d : Nat} {s t z y w c lo hi : Int} {u : Int32} {N A N' A' : Nat → Int}
theorem onB_c (h : Rel V0 V) (hr : r < nT V0) (hN : ∀ s, s < 10 → N s = N' s) : ∀ k, k ≤ sm V0 r → onB V0 N c r k = onB V0 N' c r k
  | 0, _ => rfl
  | k + 1, hk => by
    have := st_b h hr (show k < sm V0 r by omega)
    rw [onB, onB, onB_c h hr hN k (by omega), hN _ (by omega)]
theorem tU_c (h : Rel V0 V) (hr : r < nT V0) (hN : ∀ s, s < 10 → N s = N' s) (hA : ∀ s, s < 10 → A s = A' s) : ∀ k, k ≤ sm V0 r → ∀ s, s < 10 → tU V0 N c r A k s = tU V0 N' c r A' k s
  | 0, _, s, hs => hA s hs
  | k + 1, hk, s, hs => by
    have ih := tU_c h hr hN hA k (by omega) s hs
    rw [tU, tU, onB_c h hr hN k (by omega)]
    split
    · show (if s = _ then _ else _) = (if s = _ then _ else _)
      rw [ih]
    · exact ih
theorem tA_c (h : Rel V0 V) (hN : ∀ s, s < 10 → N s = N' s) (hA : ∀ s, s < 10 → A s = A' s) : ∀ r, r ≤ nT V0 → ∀ s, s < 10 → tA V0 N c A r s = tA V0 N' c A' r s
  | 0, _, s, hs => hA s hs
  | r + 1, hr, s, hs => by
    have ih := tA_c h hN hA r (by omega)
    rw [tA, tA]
    split
    · exact tU_c h (by omega) hN ih _ (Nat.le_refl _) s hs
    · exact ih s hs
/-- the class's table after k rides -/
def cT (V : Vw) (f : Nat) (m : Int) : Nat → Nat → Int
  | 0 => fun s => if s = f then m else 268435456
  | k + 1 => tA V (cT V f m k) (if k = 0 then 0 else ch V) (cT V f m k) (nT V)
def cF (V : Vw) (f : Nat) (m : Int) (to : Nat) : Nat → Nat
  | 0 => 0
  | k + 1 => if cT V f m (k + 1) to < cT V f m k to then k + 1 else cF V f m to k
theorem cT_b (h : Rel V0 V) {f : Nat} {m : Int} (hm : -1 ≤ m ∧ m ≤ 1439) : ∀ k, tbB (cT V0 f m k) (-1) 268435456
  | 0 => fun s hs => by
    show -1 ≤ (if s = f then m else 268435456) ∧ (if s = f then m else 268435456) ≤ 268435456
    split <;> omega
  | k + 1 => tA_b h (cT_b h hm k) (by decide) _ (Nat.le_refl _)
theorem cF_le (V : Vw) (f : Nat) (m : Int) (to : Nat) : ∀ k, cF V f m to k ≤ k
  | 0 => Nat.le_refl _
  | k + 1 => by
    have := cF_le V f m to k
    rw [cF]
    split <;> omega
theorem sc_58 {V V' : Vw} (h : ∀ o, o ≠ 58 → o ≠ 59 → V' o = V o) : Sc V V' := fun o k q => by rw [h o (fun e => q (by unfold scr; omega)) (fun e => q (by unfold scr; omega))]
theorem x_lay3 {f : Nat} (hf : f < 10) {m : Int} (hm : -1 ≤ m ∧ m ≤ 1439) : ∃ V', iter (fX0_laysThere_L3 (some b) (I (f : Int)) (I m) (I t)) FUEL (I 0, Wd b V lw R) = some (Wd b V' lw R) ∧ (∀ o, o ≠ 58 → V' o = V o) ∧ ∀ s, s < 10 → V' 58 s = if s = f then m else 268435456 := by
  obtain ⟨q, h1, V', h2, h3, h4⟩ := iter_for (b := fX0_laysThere_L3 (some b) (I (f : Int)) (I m) (I t)) (s := (I 0, Wd b V lw R)) (fun n q => ∃ V', q = (I (n : Int), Wd b V' lw R) ∧ (∀ o, o ≠ 58 → V' o = V o) ∧ ∀ s, s < n → V' 58 s = if s = f then m else 268435456) (fun q => ∃ V', q = Wd b V' lw R ∧ (∀ o, o ≠ 58 → V' o = V o) ∧ ∀ s, s < 10 → V' 58 s = if s = f then m else 268435456) 10 (by decide) ⟨V, rfl, fun _ _ => rfl, fun s h => absurd h (Nat.not_lt_zero _)⟩ (fun n q hS hn => by
      obtain ⟨V', rfl, a1, a2⟩ := hS
      refine ⟨(I ((n + 1 : Nat) : Int), Wd b (up V' 58 n (if n = f then m else 268435456)) lw R), ?_, _, rfl, fun o ho => by rw [up_r ho, a1 o ho], fun s hs => ?_⟩
      · unfold fX0_laysThere_L3
        simp (disch := omega) only [k_10, k_1, k_268435456, I_le, I_inj, if_neg, gR0_14, Option.bind_some, wA58, tn, I_add]
        by_cases c : n = f
        · rw [if_pos (show (n : Int) = (f : Int) by omega), if_pos c]
          rfl
        · rw [if_neg (show ¬ (n : Int) = (f : Int) by omega), if_neg c]
          rfl
      · by_cases e : s = n
        · subst e
          rw [up_s]
        · rw [up_k e, a2 s (by omega)]) (fun q hS => by
      obtain ⟨V', rfl, a1, a2⟩ := hS
      refine ⟨_, ?_, V', rfl, a1, a2⟩
      unfold fX0_laysThere_L3
      simp (disch := omega) only [k_10, I_le, if_pos])
  exact ⟨V', by rw [h1, h2], h3, h4⟩
theorem x_lay51 : ∃ V', iter (fX0_laysThere_L51 (some b) (I t) (I z) (I y)) FUEL (I 0, Wd b V lw R) = some (Wd b V' lw R) ∧ (∀ o, o ≠ 59 → V' o = V o) ∧ ∀ s, s < 10 → V' 59 s = V 58 s := by
  obtain ⟨q, h1, V', h2, h3, h4⟩ := iter_for (b := fX0_laysThere_L51 (some b) (I t) (I z) (I y)) (s := (I 0, Wd b V lw R)) (fun n q => ∃ V', q = (I (n : Int), Wd b V' lw R) ∧ (∀ o, o ≠ 59 → V' o = V o) ∧ ∀ s, s < n → V' 59 s = V 58 s) (fun q => ∃ V', q = Wd b V' lw R ∧ (∀ o, o ≠ 59 → V' o = V o) ∧ ∀ s, s < 10 → V' 59 s = V 58 s) 10 (by decide) ⟨V, rfl, fun _ _ => rfl, fun s h => absurd h (Nat.not_lt_zero _)⟩ (fun n q hS hn => by
      obtain ⟨V', rfl, a1, a2⟩ := hS
      refine ⟨(I ((n + 1 : Nat) : Int), Wd b (up V' 59 n (V 58 n)) lw R), ?_, _, rfl, fun o ho => by rw [up_r ho, a1 o ho], fun s hs => ?_⟩
      · unfold fX0_laysThere_L51
        have e := a1 58 (by decide)
        simp (disch := omega) only [k_10, k_1, I_le, if_neg, gR0_14, gR0_15, Option.bind_some, rA58, wA59, tn, I_add, e]
        rfl
      · by_cases e : s = n
        · subst e
          rw [up_s]
        · rw [up_k e, a2 s (by omega)]) (fun q hS => by
      obtain ⟨V', rfl, a1, a2⟩ := hS
      refine ⟨_, ?_, V', rfl, a1, a2⟩
      unfold fX0_laysThere_L51
      simp (disch := omega) only [k_10, I_le, if_pos])
  exact ⟨V', by rw [h1, h2], h3, h4⟩
theorem x_lay81 (h : Rel V0 V) (hk : 1 ≤ k ∧ k ≤ 10) (hA : tbB (V 58) (-1) 268435456) (hN : tbB (V 59) (-1) 268435456) : ∃ V', iter (fX0_laysThere_L81 (some b) (I t) (I z) (I (k : Int))) FUEL (I 0, Wd b V lw R) = some (Wd b V' lw R) ∧ (∀ o, o ≠ 58 → V' o = V o) ∧ V' 58 = tA V0 (V 59) (if k = 1 then 0 else ch V0) (V 58) (nT V0) := by
  have hn := n48 h
  have hch := ch_b h
  obtain ⟨q, h1, V', h2, h3, h4⟩ := iter_for (b := fX0_laysThere_L81 (some b) (I t) (I z) (I (k : Int))) (s := (I 0, Wd b V lw R)) (fun r q => ∃ V', q = (I (r : Int), Wd b V' lw R) ∧ (∀ o, o ≠ 58 → V' o = V o) ∧ V' 58 = tA V0 (V 59) (if k = 1 then 0 else ch V0) (V 58) r) (fun q => ∃ V', q = Wd b V' lw R ∧ (∀ o, o ≠ 58 → V' o = V o) ∧ V' 58 = tA V0 (V 59) (if k = 1 then 0 else ch V0) (V 58) (nT V0)) (nT V0) (by omega) ⟨V, rfl, fun _ _ => rfl, rfl⟩ (fun r q hS hr => by
      obtain ⟨V', rfl, a1, a2⟩ := hS
      have h' : Rel V0 V' := h.sc (sc_58 (fun o h1 h2 => a1 o h1))
      have e59 : V' 59 = V 59 := a1 59 (by decide)
      have bA := tA_b (N := V 59) (c := if k = 1 then 0 else ch V0) h hA (by decide) r (by omega)
      obtain ⟨V2, f1, f2, f3⟩ := x_ridesIn (b := b) (lw := lw) (R := R) (c := if k = 1 then 0 else ch V0) h' hr (by split <;> omega) (by rw [a2]; exact bA) (by rw [e59]; exact hN)
      refine ⟨(I ((r + 1 : Nat) : Int), Wd b V2 lw R), ?_, V2, rfl, fun o ho => by rw [f2 o ho, a1 o ho], by rw [f3, tA, a2, e59]⟩
      unfold fX0_laysThere_L81
      simp (disch := omega) only [k_0, k_1, I_le, I_inj, if_neg, gI0_3, v_n h', Option.bind_some, gR0_0, rTr, tn, on0, gI0_5, v_ch h', I_add]
      by_cases c : k = 1
      · rw [if_pos c] at f1
        rw [if_pos (show (k : Int) = 1 by omega), f1]
        rfl
      · rw [if_neg c] at f1
        rw [if_neg (show ¬ (k : Int) = 1 by omega), f1]
        rfl) (fun q hS => by
      obtain ⟨V', rfl, a1, a2⟩ := hS
      have h' : Rel V0 V' := h.sc (sc_58 (fun o h1 h2 => a1 o h1))
      refine ⟨_, ?_, V', rfl, a1, a2⟩
      unfold fX0_laysThere_L81
      simp (disch := omega) only [I_le, if_pos, gI0_3, v_n h', Option.bind_some])
  exact ⟨V', by rw [h1, h2], h3, h4⟩
theorem x_laysThere (h : Rel V0 V) {f to : Nat} (hf : f < 10) (hto : to < 10) {m : Int} (hm : -1 ≤ m ∧ m ≤ 1439) : ∃ V', fX0_laysThere (Wd b V lw R) (some b) (I (f : Int)) (I m) (I (to : Int)) = some (I (cF V0 f m to 10 : Nat), Wd b V' lw R) ∧ (∀ o, o ≠ 58 → o ≠ 59 → V' o = V o) ∧ ∀ s, s < 10 → V' 58 s = cT V0 f m 10 s := by
  obtain ⟨V1, e1, e2, e3⟩ := x_lay3 (b := b) (V := V) (lw := lw) (R := R) (t := (to : Int)) hf hm
  obtain ⟨q, h1, V', h2, h3, h4⟩ := iter_for (b := fX0_laysThere_L41 (some b) (I (to : Int))) (s := (I 0, I 1, Wd b V1 lw R)) (fun k q => ∃ V', q = (I (cF V0 f m to k : Nat), I ((k : Int) + 1), Wd b V' lw R) ∧ (∀ o, o ≠ 58 → o ≠ 59 → V' o = V o) ∧ ∀ s, s < 10 → V' 58 s = cT V0 f m k s) (fun q => ∃ V', q = (I (cF V0 f m to 10 : Nat), Wd b V' lw R) ∧ (∀ o, o ≠ 58 → o ≠ 59 → V' o = V o) ∧ ∀ s, s < 10 → V' 58 s = cT V0 f m 10 s) 10 (by decide) ⟨V1, rfl, fun o h1 h2 => e2 o h1, e3⟩ (fun k q hS hk => by
      obtain ⟨V', rfl, a1, a2⟩ := hS
      have bk := cT_b h (f := f) hm k
      have bk1 := cT_b h (f := f) hm (k + 1)
      obtain ⟨V2, f1, f2, f3⟩ := x_lay51 (b := b) (V := V') (lw := lw) (R := R) (t := (to : Int)) (z := (cF V0 f m to k : Nat)) (y := (k : Int) + 1)
      have e58 : V2 58 = V' 58 := f2 58 (by decide)
      have r2 : Rel V0 V2 := h.sc (sc_58 (fun o h1 h2 => by rw [f2 o h2, a1 o h1 h2]))
      obtain ⟨V3, g1, g2, g3⟩ := x_lay81 (b := b) (lw := lw) (R := R) (k := k + 1) (t := (to : Int)) (z := (cF V0 f m to k : Nat)) r2 (by omega) (fun s hs => by rw [e58, a2 s hs]; exact bk s hs) (fun s hs => by rw [f3 s hs, a2 s hs]; exact bk s hs)
      have t58 : ∀ s, s < 10 → V3 58 s = cT V0 f m (k + 1) s := fun s hs => by
        rw [g3, cT]
        have ec : (if k + 1 = 1 then (0 : Int) else ch V0) = if k = 0 then 0 else ch V0 := by
          by_cases c : k = 0
          · rw [if_pos c, if_pos (by omega)]
          · rw [if_neg c, if_neg (by omega)]
        rw [ec]
        exact tA_c h (fun s hs => by rw [f3 s hs, a2 s hs]) (fun s hs => by rw [e58, a2 s hs]) _ (Nat.le_refl _) s hs
      have t59 : ∀ s, s < 10 → V3 59 s = cT V0 f m k s := fun s hs => by rw [g2 59 (by decide), f3 s hs, a2 s hs]
      have b1 := bk to hto
      have b2 := bk1 to hto
      refine ⟨(I (cF V0 f m to (k + 1) : Nat), I (((k + 1 : Nat) : Int) + 1), Wd b V3 lw R), ?_, V3, rfl, fun o h1 h2 => by rw [g2 o h1, f2 o h2, a1 o h1 h2], t58⟩
      have g1' : iter (fX0_laysThere_L81 (some b) (I (to : Int)) (I (cF V0 f m to k : Nat)) (I ((k : Int) + 1))) FUEL (I 0, Wd b V2 lw R) = some (Wd b V3 lw R) := g1
      unfold fX0_laysThere_L41
      simp (disch := omega) only [k_0, k_1, k_10, I_lt, if_neg, f1, Option.bind_some, g1', gR0_14, gR0_15, rA58, rA59, tn, t58 to hto, t59 to hto, I_le, I_add]
      rw [cF]
      by_cases c : cT V0 f m (k + 1) to < cT V0 f m k to
      · rw [if_pos c, if_neg (by omega)]
        rfl
      · rw [if_neg c, if_pos (by omega)]
        rfl) (fun q hS => by
      obtain ⟨V', rfl, a1, a2⟩ := hS
      refine ⟨_, ?_, V', rfl, a1, a2⟩
      unfold fX0_laysThere_L41
      simp (disch := omega) only [k_10, I_lt, if_pos])
  refine ⟨V', ?_, h3, h4⟩
  unfold fX0_laysThere
  rw [k_0, e1, Option.bind_some]
  show (iter (fX0_laysThere_L41 (some b) (I (to : Int))) FUEL (I 0, I 1, Wd b V1 lw R)).bind _ = _
  rw [h1, h2]
  rfl
end JC
