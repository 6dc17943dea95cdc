/-! FARES: the loops of both sides. No JVM here. -/
set_option maxRecDepth 100000
set_option linter.unusedVariables false
abbrev hsP (u : Int32) (d : Nat) : Prop := (jshr u (I (d : Int)) &&& (1 : Int32)) = (1 : Int32)
abbrev fdd (V : Vw) (i : Nat) : Int := V 53 (2 * i)
abbrev fpr (V : Vw) (i : Nat) : Int := V 53 (2 * i + 1) % 256
def faB (V : Vw) (i : Nat) : Bool := decide (¬ (1 ≤ V 53 (2 * i) ∧ V 53 (2 * i) ≤ 30) ∨ V 53 (2 * i + 1) = 0)
section FA
variable {b : Nat} {V0 V : Vw} {lw : Option Nat} {R : Hp} {p k j i r e n d : Nat} {s t z y w : Int} {u : Int32}
theorem x_has : fX0_has u (I (d : Int)) = some (I (bi (hsP u d))) := by
  show (if hsP u d then some (1 : Int32) else some (0 : Int32)) = _
  by_cases c : hsP u d
  · rw [if_pos c, bi_t c]
    rfl
  · rw [if_neg c, bi_f c]
    rfl
theorem y_has : fX7_has u (I (d : Int)) = some (I (bi (hsP u d))) := by
  show (if hsP u d then some (1 : Int32) else some (0 : Int32)) = _
  by_cases c : hsP u d
  · rw [if_pos c, bi_t c]
    rfl
  · rw [if_neg c, bi_f c]
    rfl
theorem t2 (i : Nat) : ((2 : Int) * (i : Int)).toNat = 2 * i := by omega
theorem t21 (i : Nat) : ((2 : Int) * (i : Int) + 1).toNat = 2 * i + 1 := by omega
theorem y_oct2 (h : Rel V0 V) (hi : i < 8) : fX7_octet (Wd b V lw R) (some (b + 258)) (I (2 * (i : Int))) = some (I (V0 53 (2 * i) % 256)) := y_octet (k := 2 * i) h (by omega)
theorem y_oct21 (h : Rel V0 V) (hi : i < 8) : fX7_octet (Wd b V lw R) (some (b + 258)) (I (2 * (i : Int) + 1)) = some (I (V0 53 (2 * i + 1) % 256)) := y_octet (k := 2 * i + 1) h (by omega)
theorem x_f39 (h : Rel V0 V) (hn : n ≤ 8) : iter (fX0_fares_L39 (Wd b V lw R) (some b) (I (n : Int)) u) FUEL (I 0) = some (if fnd (faB V0) n < n then .inr (I (-2), Wd b V lw R) else .inl ()) := by
  have key := iter_find (b := fX0_fares_L39 (Wd b V lw R) (some b) (I (n : Int)) u) (fun i => I (i : Int)) (faB V0) n (fun _ => .inr (I (-2), Wd b V lw R)) (.inl ()) (by omega) (fun i hi hp => by
      have hp : ¬ (¬ (1 ≤ V0 53 (2 * i) ∧ V0 53 (2 * i) ≤ 30) ∨ V0 53 (2 * i + 1) = 0) := of_decide_eq_false hp
      have b1 := tp_b h (show 2 * i < 260 by omega)
      have b2 := tp_b h (show 2 * i + 1 < 260 by omega)
      unfold fX0_fares_L39
      simp (disch := omega) only [k_0, k_1, k_2, k_30, I_neg, I_le, if_neg, gR0_10, Option.bind_some, I_mul, I_add, rA53, t2, t21, v_tp h, x_within, bi_if, I_inj]
      rw [if_pos (by omega)]
      rfl) (fun i hi hp => by
      have hp : (¬ (1 ≤ V0 53 (2 * i) ∧ V0 53 (2 * i) ≤ 30) ∨ V0 53 (2 * i + 1) = 0) := of_decide_eq_true hp
      have b1 := tp_b h (show 2 * i < 260 by omega)
      have b2 := tp_b h (show 2 * i + 1 < 260 by omega)
      unfold fX0_fares_L39
      simp (disch := omega) only [k_0, k_1, k_2, k_30, I_neg, I_le, if_neg, gR0_10, Option.bind_some, I_mul, I_add, rA53, t2, t21, v_tp h, x_within, bi_if, I_inj]
      by_cases c : 1 ≤ V0 53 (2 * i) ∧ V0 53 (2 * i) ≤ 30
      · rw [if_pos c, if_pos (by omega)]
      · rw [if_neg c]) (by
      unfold fX0_fares_L39
      simp (disch := omega) only [I_le, if_pos])
  exact key
theorem y_f40 (h : Rel V0 V) (hn : n ≤ 8) : iter (fX7_fares_L40 (Wd b V lw R) (some (b + 258)) (I (n : Int)) u) FUEL (I 0) = some (if fnd (faB V0) n < n then .inr (I (-2), Wd b V lw R) else .inl ()) := by
  have key := iter_find (b := fX7_fares_L40 (Wd b V lw R) (some (b + 258)) (I (n : Int)) u) (fun i => I (i : Int)) (faB V0) n (fun _ => .inr (I (-2), Wd b V lw R)) (.inl ()) (by omega) (fun i hi hp => by
      have hp : ¬ (¬ (1 ≤ V0 53 (2 * i) ∧ V0 53 (2 * i) ≤ 30) ∨ V0 53 (2 * i + 1) = 0) := of_decide_eq_false hp
      have b1 := tp_b h (show 2 * i < 260 by omega)
      have b2 := tp_b h (show 2 * i + 1 < 260 by omega)
      unfold fX7_fares_L40
      simp (disch := omega) only [k_0, k_1, k_2, k_30, I_neg, I_le, if_neg, on258, Option.bind_some, I_mul, I_add, y_oct2 h, y_oct21 h, y_in, bi_if, I_inj]
      rw [if_pos (by omega)]
      rfl) (fun i hi hp => by
      have hp : (¬ (1 ≤ V0 53 (2 * i) ∧ V0 53 (2 * i) ≤ 30) ∨ V0 53 (2 * i + 1) = 0) := of_decide_eq_true hp
      have b1 := tp_b h (show 2 * i < 260 by omega)
      have b2 := tp_b h (show 2 * i + 1 < 260 by omega)
      unfold fX7_fares_L40
      simp (disch := omega) only [k_0, k_1, k_2, k_30, I_neg, I_le, if_neg, on258, Option.bind_some, I_mul, I_add, y_oct2 h, y_oct21 h, y_in, bi_if, I_inj]
      by_cases c : 1 ≤ V0 53 (2 * i) % 256 ∧ V0 53 (2 * i) % 256 ≤ 30
      · rw [if_pos c, if_pos (by omega)]
      · rw [if_neg c]) (by
      unfold fX7_fares_L40
      simp (disch := omega) only [I_le, if_pos])
  exact key
theorem sc_113 {V V' : Vw} (h : ∀ o, o ≠ 113 → V' o = V o) : Sc V V' := fun o k q => by rw [h o (fun e => q (by unfold scr; omega))]
theorem sc_304 {V V' : Vw} (h : ∀ o, o ≠ 304 → V' o = V o) : Sc V V' := fun o k q => by rw [h o (fun e => q (by unfold scr; omega))]
theorem mn_b {f : Nat → Int} {s lo hi : Int} (hs : lo ≤ s ∧ s ≤ hi) : ∀ n, (∀ i, i < n → lo ≤ f i) → lo ≤ mn f s n ∧ mn f s n ≤ hi
  | 0, _ => hs
  | n + 1, h => by
    have := mn_b hs n (fun i hi => h i (by omega))
    have := h n (by omega)
    rw [mn]
    omega
theorem x_f130 (h : Rel V0 V) (hn : n ≤ 8) (hd : d < 30) (hh : hsP u d) (hb : ∀ i, i < n → 1 ≤ V0 53 (2 * i) ∧ V0 53 (2 * i) ≤ 30) (hv : 0 ≤ V 113 d ∧ V 113 d ≤ 268435456) (hA : ∀ k, d < k → k ≤ 30 → 0 ≤ V 113 k ∧ V 113 k ≤ 268435456) : ∃ V', iter (fX0_fares_L130 (some b) (I (n : Int)) u (I (d : Int))) FUEL (I 0, Wd b V lw R) = some (Wd b V' lw R) ∧ (∀ o, o ≠ 113 → V' o = V o) ∧ (∀ k, k ≠ d → V' 113 k = V 113 k) ∧ V' 113 d = mn (fun i => V 113 (min 30 ((d : Int) + V0 53 (2 * i))).toNat + V0 53 (2 * i + 1) % 256) (V 113 d) n := by
  obtain ⟨r, h1, V', h2, h3, h4, h5⟩ := iter_for (b := fX0_fares_L130 (some b) (I (n : Int)) u (I (d : Int))) (s := (I 0, Wd b V lw R)) (fun i q => ∃ V', q = (I (i : Int), Wd b V' lw R) ∧ (∀ o, o ≠ 113 → V' o = V o) ∧ (∀ k, k ≠ d → V' 113 k = V 113 k) ∧ V' 113 d = mn (fun i => V 113 (min 30 ((d : Int) + V0 53 (2 * i))).toNat + V0 53 (2 * i + 1) % 256) (V 113 d) i) (fun r => ∃ V', r = Wd b V' lw R ∧ (∀ o, o ≠ 113 → V' o = V o) ∧ (∀ k, k ≠ d → V' 113 k = V 113 k) ∧ V' 113 d = mn (fun i => V 113 (min 30 ((d : Int) + V0 53 (2 * i))).toNat + V0 53 (2 * i + 1) % 256) (V 113 d) n) n (by omega) ⟨V, rfl, fun _ _ => rfl, fun _ _ => rfl, rfl⟩ (fun i q hS hi => by
      obtain ⟨V', rfl, a1, a2, a3⟩ := hS
      have h' : Rel V0 V' := h.sc (sc_113 a1)
      have q1 := hb i hi
      have b2 := tp_b h (show 2 * i + 1 < 260 by omega)
      have e1 : V' 113 (min 30 ((d : Int) + V0 53 (2 * i))).toNat = V 113 (min 30 ((d : Int) + V0 53 (2 * i))).toNat := a2 _ (by omega)
      have b3 := hA (min 30 ((d : Int) + V0 53 (2 * i))).toNat (by omega) (by omega)
      have b4 : 0 ≤ mn (fun i => V 113 (min 30 ((d : Int) + V0 53 (2 * i))).toNat + V0 53 (2 * i + 1) % 256) (V 113 d) i ∧ mn (fun i => V 113 (min 30 ((d : Int) + V0 53 (2 * i))).toNat + V0 53 (2 * i + 1) % 256) (V 113 d) i ≤ 268435456 := mn_b hv i (fun j hj => by
        have q2 := hb j (by omega)
        have := hA (min 30 ((d : Int) + V0 53 (2 * j))).toNat (by omega) (by omega)
        show 0 ≤ V 113 _ + V0 53 (2 * j + 1) % 256
        omega)
      refine ⟨(I ((i + 1 : Nat) : Int), Wd b (up V' 113 d (min (mn (fun i => V 113 (min 30 ((d : Int) + V0 53 (2 * i))).toNat + V0 53 (2 * i + 1) % 256) (V 113 d) i) (V 113 (min 30 ((d : Int) + V0 53 (2 * i))).toNat + V0 53 (2 * i + 1) % 256))) lw R), ?_, _, rfl, fun o ho => by rw [up_r ho, a1 o ho], fun k hk => by rw [up_k hk, a2 k hk], by rw [up_s, mn]⟩
      have e53 : ∀ k, V' 53 k = V0 53 k := v_tp h'
      unfold fX0_fares_L130
      simp (disch := omega) only [k_0, k_1, k_2, k_30, k_255, I_le, if_neg, x_has, Option.bind_some, bi_if, if_pos hh, gR0_21, gR0_10, rA113, rA53, I_mul, I_add, t2, t21, tn, e53, I_min, e1, a3, I_and255, wA113]
      rfl) (fun q hS => by
      obtain ⟨V', rfl, a1, a2, a3⟩ := hS
      refine ⟨_, ?_, V', rfl, a1, a2, a3⟩
      unfold fX0_fares_L130
      simp (disch := omega) only [I_le, if_pos])
  exact ⟨V', by rw [h1, h2], h3, h4, h5⟩
end FA
