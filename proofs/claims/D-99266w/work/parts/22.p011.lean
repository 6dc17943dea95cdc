/-! CALLS: check, feed. No JVM here. -/
set_option maxRecDepth 100000
set_option linter.unusedVariables false
theorem I_and255 (m : Int) : I m &&& I 255 = I (m % 256) := by
  apply Int32.toBitVec_inj.mp
  show BitVec.ofInt 32 m &&& BitVec.ofInt 32 255 = BitVec.ofInt 32 (m % 256)
  apply BitVec.eq_of_toNat_eq
  rw [BitVec.toNat_and, BitVec.toNat_ofInt, BitVec.toNat_ofInt, BitVec.toNat_ofInt]
  have e : ((255 : Int) % ((2 ^ 32 : Nat) : Int)).toNat = 2 ^ 8 - 1 := by decide
  rw [e, Nat.and_two_pow_sub_one_eq_mod]
  have e2 : ((2 ^ 32 : Nat) : Int) = 4294967296 := by decide
  rw [e2]
  omega
section CK
variable {b : Nat} {V0 V : Vw} {lw : Option Nat} {R : Hp} {p k : Nat} {s t z y w : Int}
theorem v_tp (h : Rel V0 V) (k : Nat) : V 53 k = V0 53 k := h.2 _ _ (by unfold scr; omega) (by omega)
theorem w_tp (h : Rel V0 V) (hk : k < 260) : V 272 k = V0 53 k := (h.2 _ _ (by unfold scr; omega) (by omega)).trans (h.1.2.2.2.2.2.2.2.2.2.2.2 k hk).1
theorem tp_b (h : Rel V0 V) (hk : k < 260) : -128 ≤ V0 53 k ∧ V0 53 k ≤ 127 := (h.1.2.2.2.2.2.2.2.2.2.2.2 k hk).2
theorem v_pe (h : Rel V0 V) (hp : p < 12) (k : Nat) : V (5 + 4 + p) k = V0 (5 + 4 + p) k := h.2 _ _ (by unfold scr; omega) (by omega)
theorem y_octet (h : Rel V0 V) (hk : k < 260) : fX7_octet (Wd b V lw R) (some (b + 258)) (I (k : Int)) = some (I (V0 53 k % 256)) := by
  unfold fX7_octet
  rw [gR258_16, Option.bind_some, rA272 (by omega) (by omega), Option.bind_some, tn, w_tp h hk, k_255, I_and255]
def ckB (V : Vw) (p : Nat) : Bool := decide (V 53 p % 256 ≠ if pT V p then V (5 + 4 + p) 4 % 256 else 0)
theorem x_check (h : Rel V0 V) {n : Nat} (hn : n ≤ 12) : iter (fX0_check_L28 (Wd b V lw R) (some b) (I (n : Int))) FUEL (I 0) = some (if fnd (ckB V0) n < n then .inr (I (fnd (ckB V0) n : Nat), Wd b V lw R) else .inl ()) := by
  have key := iter_find (b := fX0_check_L28 (Wd b V lw R) (some b) (I (n : Int))) (fun i => I (i : Int)) (ckB V0) n (fun i => .inr (I (i : Int), Wd b V lw R)) (.inl ()) (by omega) (fun i hi hp => by
      have hp : ¬ (V0 53 i % 256 ≠ if pT V0 i then V0 (5 + 4 + i) 4 % 256 else 0) := of_decide_eq_false hp
      have hp : (V0 53 i % 256 = if pT V0 i then V0 (5 + 4 + i) 4 % 256 else 0) := Classical.not_not.mp hp
      have q := pe h (show i < 12 by omega)
      have e : pT V i = pT V0 i := by rw [pT, v_pe h (by omega)]
      unfold fX0_check_L28
      simp (disch := omega) only [I_le, if_neg, gR0_10, rA53, Option.bind_some, on0, x_isTold h, tn, v_tp h, k_0, k_1, bi_e0, gR0_7, gR5_0, rP0, gP0, k_255, I_and255, I_add, v_pe h, e]
      by_cases c : pT V0 i
      · rw [if_pos c] at hp
        rw [if_neg (fun q => q ⟨by omega, by omega, c⟩), hp, if_pos rfl]
        rfl
      · rw [if_neg c] at hp
        rw [if_pos (fun q => c q.2.2), hp, if_pos rfl]
        rfl) (fun i hi hp => by
      have hp : (V0 53 i % 256 ≠ if pT V0 i then V0 (5 + 4 + i) 4 % 256 else 0) := of_decide_eq_true hp
      have q := pe h (show i < 12 by omega)
      have e : pT V i = pT V0 i := by rw [pT, v_pe h (by omega)]
      unfold fX0_check_L28
      simp (disch := omega) only [I_le, if_neg, gR0_10, rA53, Option.bind_some, on0, x_isTold h, tn, v_tp h, k_0, k_1, bi_e0, gR0_7, gR5_0, rP0, gP0, k_255, I_and255, I_add, v_pe h, e, I_inj]
      by_cases c : pT V0 i
      · rw [if_pos c] at hp
        rw [if_neg (fun q => q ⟨by omega, by omega, c⟩)] <;> rw [if_neg hp]
      · rw [if_neg c] at hp
        rw [if_pos (fun q => c q.2.2)] <;> rw [if_neg hp]) (by
      unfold fX0_check_L28
      simp (disch := omega) only [I_le, if_pos])
  exact key
theorem y_check (h : Rel V0 V) {n : Nat} (hn : n ≤ 12) : iter (fX7_check_L28 (Wd b V lw R) (some (b + 258)) (I (n : Int))) FUEL (I 0) = some (if fnd (ckB V0) n < n then .inr (I (fnd (ckB V0) n : Nat), Wd b V lw R) else .inl ()) := by
  have key := iter_find (b := fX7_check_L28 (Wd b V lw R) (some (b + 258)) (I (n : Int))) (fun i => I (i : Int)) (ckB V0) n (fun i => .inr (I (i : Int), Wd b V lw R)) (.inl ()) (by omega) (fun i hi hp => by
      have hp : ¬ (V0 53 i % 256 ≠ if pT V0 i then V0 (5 + 4 + i) 4 % 256 else 0) := of_decide_eq_false hp
      have hp : (V0 53 i % 256 = if pT V0 i then V0 (5 + 4 + i) 4 % 256 else 0) := Classical.not_not.mp hp
      have q := pe h (show i < 12 by omega)
      have e : pT V i = pT V0 i := by rw [pT, v_pe h (by omega)]
      have e12 : ((12 : Int) + (i : Int)).toNat = 12 + i := by omega
      have e4 : V 259 (12 + i) = V0 (5 + 4 + i) 4 := q.2.2.2.2.2.2.2.2.2.2.2.2.2.2.2.2.1.trans (v_pe h (by omega) 4)
      have b4 := v_pe h (show i < 12 by omega) 4
      unfold fX7_check_L28
      simp (disch := omega) only [I_le, if_neg, gR258_11, rTo h, gR258_0, rA259, Option.bind_some, on258, y_octet h, k_0, k_1, k_12, k_256, bi_e0, I_add, e12, e4, I_rem, e]
      by_cases c : pT V0 i
      · rw [if_pos c] at hp
        rw [if_neg (fun q => q c), hp, if_pos rfl]
        rfl
      · rw [if_neg c] at hp
        rw [if_pos c, hp, if_pos rfl]
        rfl) (fun i hi hp => by
      have hp : (V0 53 i % 256 ≠ if pT V0 i then V0 (5 + 4 + i) 4 % 256 else 0) := of_decide_eq_true hp
      have q := pe h (show i < 12 by omega)
      have e : pT V i = pT V0 i := by rw [pT, v_pe h (by omega)]
      have e12 : ((12 : Int) + (i : Int)).toNat = 12 + i := by omega
      have e4 : V 259 (12 + i) = V0 (5 + 4 + i) 4 := q.2.2.2.2.2.2.2.2.2.2.2.2.2.2.2.2.1.trans (v_pe h (by omega) 4)
      have b4 := v_pe h (show i < 12 by omega) 4
      unfold fX7_check_L28
      simp (disch := omega) only [I_le, if_neg, gR258_11, rTo h, gR258_0, rA259, Option.bind_some, on258, y_octet h, k_0, k_1, k_12, k_256, bi_e0, I_add, e12, e4, I_rem, I_inj, e]
      by_cases c : pT V0 i
      · rw [if_pos c] at hp
        rw [if_neg (fun q => q c)] <;> rw [if_neg hp]
      · rw [if_neg c] at hp
        rw [if_pos c] <;> rw [if_neg hp]) (by
      unfold fX7_check_L28
      simp (disch := omega) only [I_le, if_pos])
  exact key
theorem call_check (h : Inv V) (h1 : -2147483648 ≤ z) (h2 : z ≤ 2147483647) : Okc b V lw R (fun m => fX0_check m (some b) (I z)) (fun m => fX7_check m (some (b + 258)) (I z)) := by
  unfold Okc
  have q := h.2.2.2
  have q6 := q.2.2.2.2.2.1
  have q7 := q.2.2.2.2.2.2.1
  have q8 := q.2.2.2.2.2.2.2.1
  by_cases g : (0 ≤ z ∧ z ≤ 12) ∧ z ≤ V 0 12
  · obtain ⟨n, rfl⟩ : ∃ n : Nat, z = n := ⟨z.toNat, by omega⟩
    have hn : n ≤ 12 := by omega
    have r0 := h.tp0 (x := 0) (by omega) (by omega)
    have r1 := h.tp (x := 0) (by omega) (by omega)
    refine ⟨if fnd (ckB (up (up V 0 12 0) 258 17 0)) n < n then I (fnd (ckB (up (up V 0 12 0) 258 17 0)) n : Nat) else I (-1), Wd b (up V 0 12 0) lw R, up (up V 0 12 0) 258 17 0, ?_, ?_, r1.1, r1.2, cO258⟩
    · unfold fX0_check
      simp (disch := omega) only [k_0, k_1, k_2, k_12, I_neg, x_within, Option.bind_some, bi_e0, gI0_12, I_le, if_pos, if_neg, pI0_12, x_check r0 hn]
      by_cases c : fnd (ckB (up (up V 0 12 0) 258 17 0)) n < n
      · rw [if_pos c, if_pos c]
      · rw [if_neg c, if_neg c]
    · unfold fX7_check
      have e : up V 0 12 0 258 17 = V 0 12 := by rw [up_r (by omega)]; exact q8
      simp (disch := omega) only [k_0, k_1, k_2, k_12, I_neg, y_in, Option.bind_some, bi_e0, gI258_17, e, I_le, if_pos, if_neg, pI258_17, y_check r1.1.rel hn]
      by_cases c : fnd (ckB (up (up V 0 12 0) 258 17 0)) n < n
      · rw [if_pos c, if_pos c]
      · rw [if_neg c, if_neg c]
  · refine ⟨I (-2), Wd b V lw R, V, ?_, ?_, h, agL.id V, cO258⟩
    · unfold fX0_check
      simp only [k_0, k_1, k_2, k_12, I_neg, x_within h1 h2 (show -2147483648 ≤ 12 by decide) (show 12 ≤ 2147483647 by decide) (show -2147483648 ≤ 0 by decide) (show 0 ≤ 2147483647 by decide), Option.bind_some, bi_e0, gI0_12]
      by_cases c : 0 ≤ z ∧ z ≤ 12
      · rw [if_neg (fun q => q c), if_neg (fun q => by rw [I_le (by omega) (by omega) (by omega) (by omega)] at q; exact g ⟨c, q⟩)]
      · rw [if_pos c]
    · unfold fX7_check
      simp only [k_0, k_1, k_2, k_12, I_neg, y_in h1 h2 (show -2147483648 ≤ 12 by decide) (show 12 ≤ 2147483647 by decide) (show -2147483648 ≤ 0 by decide) (show 0 ≤ 2147483647 by decide), Option.bind_some, bi_e0, gI258_17, q8]
      by_cases c : 0 ≤ z ∧ z ≤ 12
      · rw [if_neg (fun q => q c), if_neg (fun q => by rw [I_le (by omega) (by omega) (by omega) (by omega)] at q; exact g ⟨c, q⟩)]
      · rw [if_pos c]
end CK
