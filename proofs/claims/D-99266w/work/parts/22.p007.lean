/-! CALLS that only ask, III: just missed, regular, meets. No JVM here. -/
set_option maxRecDepth 100000
set_option linter.unusedVariables false
def smN (f : Nat → Int) : Nat → Int
  | 0 => 0
  | n + 1 => smN f n + f n
theorem smN_c {f g : Nat → Int} : ∀ n : Nat, (∀ i, i < n → f i = g i) → smN f n = smN g n
  | 0, _ => rfl
  | n + 1, h => by rw [smN, smN, smN_c n (fun i hi => h i (by omega)), h n (by omega)]
theorem smN_add (f g : Nat → Int) : ∀ n : Nat, smN (fun i => f i + g i) n = smN f n + smN g n
  | 0 => rfl
  | n + 1 => by
    rw [smN, smN, smN, smN_add f g n]
    omega
theorem smN_0 : ∀ n : Nat, smN (fun _ => 0) n = 0
  | 0 => rfl
  | n + 1 => by rw [smN, smN_0 n]; rfl
theorem smN_swap (f : Nat → Nat → Int) (m : Nat) : ∀ n : Nat, smN (fun i => smN (f i) m) n = smN (fun j => smN (fun i => f i j) n) m
  | 0 => by rw [smN]; exact (smN_0 m).symm
  | n + 1 => by
    rw [smN, smN_swap f m n, ← smN_add]
    rfl
theorem cnt_smN (p : Nat → Bool) : ∀ n : Nat, cnt p n = smN (fun i => if p i then 1 else 0) n
  | 0 => rfl
  | n + 1 => by rw [cnt, smN, cnt_smN p n]
theorem cnt_hi {p : Nat → Bool} {k : Nat} : ∀ n : Nat, k ≤ n → (∀ i, k ≤ i → i < n → p i = false) → cnt p n = cnt p k
  | 0, h, _ => by rw [Nat.le_zero.mp h]
  | n + 1, h, hp => by
    by_cases he : k = n + 1
    · rw [he]
    · rw [cnt, hp n (by omega) (by omega), cnt_hi n (by omega) (fun i h1 h2 => hp i h1 (by omega))]
      exact Int.add_zero _
theorem cnt_0 {p : Nat → Bool} (n : Nat) (hp : ∀ i, i < n → p i = false) : cnt p n = 0 := by
  rw [cnt_hi n (Nat.zero_le _) (fun i _ h => hp i h)]
  rfl
theorem cnt_from {b : Int32 × Int32 → Option ((Int32 × Int32) ⊕ Int32)} (P : Nat → Prop) [DecidablePred P] (k n : Nat) (hk : k ≤ n) (hn : n < 2000) (c0 : Int) (hlo : ∀ i, i < k → ¬ P i) (step : ∀ (i : Nat) (c : Int), k ≤ i → i < n → b (I c, I i) = some (.inl (I (c + bi (P i)), I ((i : Int) + 1)))) (fin : ∀ c : Int, b (I c, I n) = some (.inr (I c))) : iter b FUEL (I c0, I k) = some (I (c0 + cnt (fun r => decide (P r)) n)) := by
  have key := iter_fromTo (b := b) (fun i => (I (c0 + cnt (fun r => decide (P r)) i), I (i : Int))) _ k n (fun i h1 hi => ?_) (fin _) k FUEL (Nat.le_refl _) hk (by unfold FUEL; omega)
  · rw [show cnt (fun r => decide (P r)) k = 0 from cnt_0 k (fun i hi => by simpa using hlo i hi), Int.add_zero] at key
    exact key
  · show b (I (c0 + cnt _ i), I (i : Int)) = some (.inl (I (c0 + cnt _ (i + 1)), I ((i + 1 : Nat) : Int)))
    rw [cnt, step i _ h1 hi, Int.add_assoc]
    unfold bi
    by_cases hp : P i
    · rw [if_pos hp, if_pos (decide_eq_true hp)]
      rfl
    · rw [if_neg hp, if_neg (by simpa using hp)]
      rfl
theorem sum_loop {b : Int32 × Int32 → Option ((Int32 × Int32) ⊕ Int32)} (f : Nat → Int) (n : Nat) (hn : n < 2000) (step : ∀ (i : Nat) (c : Int), i < n → b (I c, I i) = some (.inl (I (c + f i), I ((i : Int) + 1)))) (fin : ∀ c : Int, b (I c, I n) = some (.inr (I c))) : iter b FUEL (I 0, I 0) = some (I (smN f n)) := by
  refine iter_det (fun i => (I (smN f i), I (i : Int))) n _ hn (fun i hi => ?_) (fin _)
  exact step i _ hi
section C3
variable {b : Nat} {V0 V : Vw} {lw : Option Nat} {R : Hp} {r : Nat} {s t z y w : Int}
abbrev jm (V : Vw) (s y : Int) (a c : Nat) : Prop := a ≠ c ∧ comes V a s ∧ leaves V c s ∧ -y ≤ minAt V c s - minAt V a s ∧ minAt V c s - minAt V a s < ch V
theorem call_justMissed (h : Rel V0 V) (h1 : -2147483648 ≤ z) (h2 : z ≤ 2147483647) (h3 : -2147483648 ≤ y) (h4 : y ≤ 2147483647) : ∃ v, fX0_justMissed (Wd b V lw R) (some b) (I z) (I y) = some v ∧ fX7_justMissed (Wd b V lw R) (some (b + 258)) (I z) (I y) = some v := by
  have hn := n48 h
  have hch := ch_b h
  unfold fX0_justMissed fX7_justMissed
  simp (disch := omega) only [k_0, k_1, k_2, k_3, k_4, k_5, k_6, k_7, k_8, k_9, k_10, k_11, k_12, k_13, k_14, k_15, k_16, k_17, k_18, k_19, k_20, k_21, k_22, k_23, k_24, k_25, k_26, k_27, k_28, k_29, k_30, k_31, k_33, k_37, k_38, k_40, k_41, k_42, k_43, k_45, k_47, k_48, k_57, k_59, k_60, k_61, k_62, k_63, k_91, k_93, k_97, k_99, k_100, k_102, k_106, k_107, k_108, k_109, k_110, k_112, k_114, k_115, k_117, k_120, k_121, k_124, k_160, k_200, k_240, k_255, k_256, k_260, k_384, k_720, k_1000, k_1047, k_1439, k_1440, k_2000, k_2047, k_9999, k_10059, k_13849, k_25173, k_65535, k_65536, k_1000000, k_1048576, k_268435456, k_1073741823, k_1073741824, I_add, I_sub, I_mul, I_neg, Option.bind_some, tn, tn_at, Int.add_zero, Int.toNat_zero, bi_e0, bi_e1, bi_z, x_isSt, y_isSt, x_within, y_in]
  by_cases g : 0 ≤ z ∧ z < 10
  · by_cases g2 : 0 ≤ y ∧ y ≤ 60
    · rw [if_neg (show ¬ ¬ (0 ≤ z ∧ z < 10) by omega), if_neg (show ¬ ¬ (0 ≤ z ∧ z < 10) by omega), if_neg (show ¬ ¬ (0 ≤ y ∧ y ≤ 60) by omega), if_neg (show ¬ ¬ (0 ≤ y ∧ y ≤ 60) by omega)]
      have K0 : iter (fX0_justMissed_L24 (Wd b V lw R) (some b) (I z) (I y)) FUEL (I 0, I 0) = some (I (smN (fun a => cnt (fun c => decide (jm V0 z y a c)) (nT V0)) (nT V0))) := by
        refine sum_loop _ (nT V0) (by omega) (fun a c0 ha => ?_) (fun c => by simp (disch := omega) only [fX0_justMissed_L24, k_0, k_1, k_2, k_3, k_4, k_5, k_6, k_7, k_8, k_9, k_10, k_11, k_12, k_13, k_14, k_15, k_16, k_17, k_18, k_19, k_20, k_21, k_22, k_23, k_24, k_25, k_26, k_27, k_28, k_29, k_30, k_31, k_33, k_37, k_38, k_40, k_41, k_42, k_43, k_45, k_47, k_48, k_57, k_59, k_60, k_61, k_62, k_63, k_91, k_93, k_97, k_99, k_100, k_102, k_106, k_107, k_108, k_109, k_110, k_112, k_114, k_115, k_117, k_120, k_121, k_124, k_160, k_200, k_240, k_255, k_256, k_260, k_384, k_720, k_1000, k_1047, k_1439, k_1440, k_2000, k_2047, k_9999, k_10059, k_13849, k_25173, k_65535, k_65536, k_1000000, k_1048576, k_268435456, k_1073741823, k_1073741824, I_add, I_sub, I_mul, I_neg, Option.bind_some, tn, tn_at, Int.add_zero, Int.toNat_zero, bi_e0, bi_e1, bi_z, I_lt, I_le, I_inj, if_pos, if_neg, I_max, I_min, gR0_0, gR0_1, gR0_2, gI0_3, gI0_4, gI0_5, gR0_6, gR0_7, gR0_8, gR0_9, gR0_10, gI0_12, gI0_13, gR0_14, gR0_15, gR0_16, gR0_17, gR0_18, gR0_19, gR0_20, gR0_21, gI4_0, gI4_1, gI4_2, gI4_3, gI4_4, gI4_5, gI4_6, gI4_7, gI4_8, gI4_9, on0, on4, rTr, onTr, gTr0, gTr1, gTr2, gTr3, gTr4, rSt, rMi, rFr, rFu, v_n h])
        have KI := cnt_loopk (b := fX0_justMissed_L36 (Wd b V lw R) (some b) (I z) (I y) (I (a : Int))) (fun c => jm V0 z y a c) (nT V0) (by omega) c0 (fun q c hq => by
          have e1 : ((a : Int) = (q : Int)) = (a = q) := propext ⟨fun q => by omega, fun q => by omega⟩
          by_cases c1 : comes V0 a z
          · have ha1 : 0 ≤ sAt V0 a z := by have := c1.2; omega
            have hma := minAt_b h ha ha1
            by_cases c2 : leaves V0 q z
            · have hq1 : 0 ≤ sAt V0 q z := c2.2.1
              have hmq := minAt_b h hq hq1
              simp (disch := omega) only [fX0_justMissed_L36, k_0, k_1, k_2, k_3, k_4, k_5, k_6, k_7, k_8, k_9, k_10, k_11, k_12, k_13, k_14, k_15, k_16, k_17, k_18, k_19, k_20, k_21, k_22, k_23, k_24, k_25, k_26, k_27, k_28, k_29, k_30, k_31, k_33, k_37, k_38, k_40, k_41, k_42, k_43, k_45, k_47, k_48, k_57, k_59, k_60, k_61, k_62, k_63, k_91, k_93, k_97, k_99, k_100, k_102, k_106, k_107, k_108, k_109, k_110, k_112, k_114, k_115, k_117, k_120, k_121, k_124, k_160, k_200, k_240, k_255, k_256, k_260, k_384, k_720, k_1000, k_1047, k_1439, k_1440, k_2000, k_2047, k_9999, k_10059, k_13849, k_25173, k_65535, k_65536, k_1000000, k_1048576, k_268435456, k_1073741823, k_1073741824, I_add, I_sub, I_mul, I_neg, Option.bind_some, tn, tn_at, Int.add_zero, Int.toNat_zero, bi_e0, bi_e1, bi_z, I_le, I_lt, I_inj, gR0_0, gR0_1, gR0_2, gI0_3, gI0_4, gI0_5, gR0_6, gR0_7, gR0_8, gR0_9, gR0_10, gI0_12, gI0_13, gR0_14, gR0_15, gR0_16, gR0_17, gR0_18, gR0_19, gR0_20, gR0_21, gI4_0, gI4_1, gI4_2, gI4_3, gI4_4, gI4_5, gI4_6, gI4_7, gI4_8, gI4_9, on0, on4, rTr, onTr, gTr0, gTr1, gTr2, gTr3, gTr4, rSt, rMi, rFr, rFu, v_n h, v_ch h, x_comes h ha, x_leaves h hq, x_minAt h ha, x_minAt h hq]
              (repeat' split) <;> first | rfl | (exfalso; omega) | (rw [bi_t (by omega)]) | (rw [bi_f (by omega), Int.add_zero])
            · simp (disch := omega) only [fX0_justMissed_L36, k_0, k_1, k_2, k_3, k_4, k_5, k_6, k_7, k_8, k_9, k_10, k_11, k_12, k_13, k_14, k_15, k_16, k_17, k_18, k_19, k_20, k_21, k_22, k_23, k_24, k_25, k_26, k_27, k_28, k_29, k_30, k_31, k_33, k_37, k_38, k_40, k_41, k_42, k_43, k_45, k_47, k_48, k_57, k_59, k_60, k_61, k_62, k_63, k_91, k_93, k_97, k_99, k_100, k_102, k_106, k_107, k_108, k_109, k_110, k_112, k_114, k_115, k_117, k_120, k_121, k_124, k_160, k_200, k_240, k_255, k_256, k_260, k_384, k_720, k_1000, k_1047, k_1439, k_1440, k_2000, k_2047, k_9999, k_10059, k_13849, k_25173, k_65535, k_65536, k_1000000, k_1048576, k_268435456, k_1073741823, k_1073741824, I_add, I_sub, I_mul, I_neg, Option.bind_some, tn, tn_at, Int.add_zero, Int.toNat_zero, bi_e0, bi_e1, bi_z, I_lt, I_le, I_inj, if_pos, if_neg, I_max, I_min, gR0_0, gR0_1, gR0_2, gI0_3, gI0_4, gI0_5, gR0_6, gR0_7, gR0_8, gR0_9, gR0_10, gI0_12, gI0_13, gR0_14, gR0_15, gR0_16, gR0_17, gR0_18, gR0_19, gR0_20, gR0_21, gI4_0, gI4_1, gI4_2, gI4_3, gI4_4, gI4_5, gI4_6, gI4_7, gI4_8, gI4_9, on0, on4, rTr, onTr, gTr0, gTr1, gTr2, gTr3, gTr4, rSt, rMi, rFr, rFu, v_n h, x_comes h ha, x_leaves h hq]
              rw [bi_f (fun q => c2 q.2.2.1), Int.add_zero]
              (repeat' split) <;> rfl
          · simp (disch := omega) only [fX0_justMissed_L36, k_0, k_1, k_2, k_3, k_4, k_5, k_6, k_7, k_8, k_9, k_10, k_11, k_12, k_13, k_14, k_15, k_16, k_17, k_18, k_19, k_20, k_21, k_22, k_23, k_24, k_25, k_26, k_27, k_28, k_29, k_30, k_31, k_33, k_37, k_38, k_40, k_41, k_42, k_43, k_45, k_47, k_48, k_57, k_59, k_60, k_61, k_62, k_63, k_91, k_93, k_97, k_99, k_100, k_102, k_106, k_107, k_108, k_109, k_110, k_112, k_114, k_115, k_117, k_120, k_121, k_124, k_160, k_200, k_240, k_255, k_256, k_260, k_384, k_720, k_1000, k_1047, k_1439, k_1440, k_2000, k_2047, k_9999, k_10059, k_13849, k_25173, k_65535, k_65536, k_1000000, k_1048576, k_268435456, k_1073741823, k_1073741824, I_add, I_sub, I_mul, I_neg, Option.bind_some, tn, tn_at, Int.add_zero, Int.toNat_zero, bi_e0, bi_e1, bi_z, I_lt, I_le, I_inj, if_pos, if_neg, I_max, I_min, gR0_0, gR0_1, gR0_2, gI0_3, gI0_4, gI0_5, gR0_6, gR0_7, gR0_8, gR0_9, gR0_10, gI0_12, gI0_13, gR0_14, gR0_15, gR0_16, gR0_17, gR0_18, gR0_19, gR0_20, gR0_21, gI4_0, gI4_1, gI4_2, gI4_3, gI4_4, gI4_5, gI4_6, gI4_7, gI4_8, gI4_9, on0, on4, rTr, onTr, gTr0, gTr1, gTr2, gTr3, gTr4, rSt, rMi, rFr, rFu, v_n h, x_comes h ha]
            rw [bi_f (fun q => c1 q.2.1), Int.add_zero]
            (repeat' split) <;> rfl) (fun c => by simp (disch := omega) only [fX0_justMissed_L36, k_0, k_1, k_2, k_3, k_4, k_5, k_6, k_7, k_8, k_9, k_10, k_11, k_12, k_13, k_14, k_15, k_16, k_17, k_18, k_19, k_20, k_21, k_22, k_23, k_24, k_25, k_26, k_27, k_28, k_29, k_30, k_31, k_33, k_37, k_38, k_40, k_41, k_42, k_43, k_45, k_47, k_48, k_57, k_59, k_60, k_61, k_62, k_63, k_91, k_93, k_97, k_99, k_100, k_102, k_106, k_107, k_108, k_109, k_110, k_112, k_114, k_115, k_117, k_120, k_121, k_124, k_160, k_200, k_240, k_255, k_256, k_260, k_384, k_720, k_1000, k_1047, k_1439, k_1440, k_2000, k_2047, k_9999, k_10059, k_13849, k_25173, k_65535, k_65536, k_1000000, k_1048576, k_268435456, k_1073741823, k_1073741824, I_add, I_sub, I_mul, I_neg, Option.bind_some, tn, tn_at, Int.add_zero, Int.toNat_zero, bi_e0, bi_e1, bi_z, I_lt, I_le, I_inj, if_pos, if_neg, I_max, I_min, gR0_0, gR0_1, gR0_2, gI0_3, gI0_4, gI0_5, gR0_6, gR0_7, gR0_8, gR0_9, gR0_10, gI0_12, gI0_13, gR0_14, gR0_15, gR0_16, gR0_17, gR0_18, gR0_19, gR0_20, gR0_21, gI4_0, gI4_1, gI4_2, gI4_3, gI4_4, gI4_5, gI4_6, gI4_7, gI4_8, gI4_9, on0, on4, rTr, onTr, gTr0, gTr1, gTr2, gTr3, gTr4, rSt, rMi, rFr, rFu, v_n h])
        simp (disch := omega) only [fX0_justMissed_L24, k_0, k_1, k_2, k_3, k_4, k_5, k_6, k_7, k_8, k_9, k_10, k_11, k_12, k_13, k_14, k_15, k_16, k_17, k_18, k_19, k_20, k_21, k_22, k_23, k_24, k_25, k_26, k_27, k_28, k_29, k_30, k_31, k_33, k_37, k_38, k_40, k_41, k_42, k_43, k_45, k_47, k_48, k_57, k_59, k_60, k_61, k_62, k_63, k_91, k_93, k_97, k_99, k_100, k_102, k_106, k_107, k_108, k_109, k_110, k_112, k_114, k_115, k_117, k_120, k_121, k_124, k_160, k_200, k_240, k_255, k_256, k_260, k_384, k_720, k_1000, k_1047, k_1439, k_1440, k_2000, k_2047, k_9999, k_10059, k_13849, k_25173, k_65535, k_65536, k_1000000, k_1048576, k_268435456, k_1073741823, k_1073741824, I_add, I_sub, I_mul, I_neg, Option.bind_some, tn, tn_at, Int.add_zero, Int.toNat_zero, bi_e0, bi_e1, bi_z, I_lt, I_le, I_inj, if_pos, if_neg, I_max, I_min, gR0_0, gR0_1, gR0_2, gI0_3, gI0_4, gI0_5, gR0_6, gR0_7, gR0_8, gR0_9, gR0_10, gI0_12, gI0_13, gR0_14, gR0_15, gR0_16, gR0_17, gR0_18, gR0_19, gR0_20, gR0_21, gI4_0, gI4_1, gI4_2, gI4_3, gI4_4, gI4_5, gI4_6, gI4_7, gI4_8, gI4_9, on0, on4, rTr, onTr, gTr0, gTr1, gTr2, gTr3, gTr4, rSt, rMi, rFr, rFu, v_n h, KI]
      have K7 : iter (fX7_justMissed_L24 (Wd b V lw R) (some (b + 258)) (I z) (I y)) FUEL (I 0, I 0) = some (I (smN (fun c => cnt (fun a => decide (jm V0 z y a c)) (nT V0)) (nT V0))) := by
        refine sum_loop _ (nT V0) (by omega) (fun a c0 ha => ?_) (fun c => by simp (disch := omega) only [fX7_justMissed_L24, k_0, k_1, k_2, k_3, k_4, k_5, k_6, k_7, k_8, k_9, k_10, k_11, k_12, k_13, k_14, k_15, k_16, k_17, k_18, k_19, k_20, k_21, k_22, k_23, k_24, k_25, k_26, k_27, k_28, k_29, k_30, k_31, k_33, k_37, k_38, k_40, k_41, k_42, k_43, k_45, k_47, k_48, k_57, k_59, k_60, k_61, k_62, k_63, k_91, k_93, k_97, k_99, k_100, k_102, k_106, k_107, k_108, k_109, k_110, k_112, k_114, k_115, k_117, k_120, k_121, k_124, k_160, k_200, k_240, k_255, k_256, k_260, k_384, k_720, k_1000, k_1047, k_1439, k_1440, k_2000, k_2047, k_9999, k_10059, k_13849, k_25173, k_65535, k_65536, k_1000000, k_1048576, k_268435456, k_1073741823, k_1073741824, I_add, I_sub, I_mul, I_neg, Option.bind_some, tn, tn_at, Int.add_zero, Int.toNat_zero, bi_e0, bi_e1, bi_z, I_lt, I_le, I_inj, if_pos, if_neg, I_max, I_min, gR258_0, gR258_1, gR258_2, gR258_3, gR258_4, gR258_5, gR258_6, gR258_7, gR258_8, gR258_9, gR258_10, gR258_11, gR258_12, gI258_13, gI258_14, gI258_15, gR258_16, gI258_17, gI258_18, gI258_19, gI258_20, gI258_21, gI258_22, gI258_23, gI258_24, gI258_25, gI258_26, gR258_27, gR258_28, gR258_29, gR258_30, gR258_31, gR258_32, gR258_33, gR258_34, gR258_35, gR258_36, gR258_37, gR258_38, gR258_39, gR258_40, gR258_41, gR258_42, gI258_43, gI258_44, gR258_45, gR258_46, gR258_47, gR258_48, gI258_49, gR258_50, gR258_51, gI258_52, gI258_53, gI258_54, gR258_55, gR258_56, gR258_57, gR258_58, gR258_59, gR258_60, gR258_61, gR258_62, gR258_63, gR258_64, gI258_65, on258, w_n h])
        have KI := cnt_loopk (b := fX7_justMissed_L36 (Wd b V lw R) (some (b + 258)) (I z) (I y) (I (a : Int))) (fun c => jm V0 z y c a) (nT V0) (by omega) c0 (fun q c hq => by
          by_cases c1 : comes V0 q z
          · have ha1 : 0 ≤ sAt V0 q z := by have := c1.2; omega
            have hma := minAt_b h hq ha1
            by_cases c2 : leaves V0 a z
            · have hq1 : 0 ≤ sAt V0 a z := c2.2.1
              have hmq := minAt_b h ha hq1
              simp (disch := omega) only [fX7_justMissed_L36, k_0, k_1, k_2, k_3, k_4, k_5, k_6, k_7, k_8, k_9, k_10, k_11, k_12, k_13, k_14, k_15, k_16, k_17, k_18, k_19, k_20, k_21, k_22, k_23, k_24, k_25, k_26, k_27, k_28, k_29, k_30, k_31, k_33, k_37, k_38, k_40, k_41, k_42, k_43, k_45, k_47, k_48, k_57, k_59, k_60, k_61, k_62, k_63, k_91, k_93, k_97, k_99, k_100, k_102, k_106, k_107, k_108, k_109, k_110, k_112, k_114, k_115, k_117, k_120, k_121, k_124, k_160, k_200, k_240, k_255, k_256, k_260, k_384, k_720, k_1000, k_1047, k_1439, k_1440, k_2000, k_2047, k_9999, k_10059, k_13849, k_25173, k_65535, k_65536, k_1000000, k_1048576, k_268435456, k_1073741823, k_1073741824, I_add, I_sub, I_mul, I_neg, Option.bind_some, tn, tn_at, Int.add_zero, Int.toNat_zero, bi_e0, bi_e1, bi_z, I_le, I_lt, I_inj, gR258_0, gR258_1, gR258_2, gR258_3, gR258_4, gR258_5, gR258_6, gR258_7, gR258_8, gR258_9, gR258_10, gR258_11, gR258_12, gI258_13, gI258_14, gI258_15, gR258_16, gI258_17, gI258_18, gI258_19, gI258_20, gI258_21, gI258_22, gI258_23, gI258_24, gI258_25, gI258_26, gR258_27, gR258_28, gR258_29, gR258_30, gR258_31, gR258_32, gR258_33, gR258_34, gR258_35, gR258_36, gR258_37, gR258_38, gR258_39, gR258_40, gR258_41, gR258_42, gI258_43, gI258_44, gR258_45, gR258_46, gR258_47, gR258_48, gI258_49, gR258_50, gR258_51, gI258_52, gI258_53, gI258_54, gR258_55, gR258_56, gR258_57, gR258_58, gR258_59, gR258_60, gR258_61, gR258_62, gR258_63, gR258_64, gI258_65, on258, w_n h, w_ch h, y_comes h hq, y_leaves h ha, y_minAt h ha, y_minAt h hq]
              rw [if_neg (show ¬ (nT V0 : Int) ≤ (q : Int) by omega), if_neg (show ¬ ¬ leaves V0 a z by omega), if_neg (show ¬ ¬ comes V0 q z by omega)]
              by_cases d1 : (a : Int) = (q : Int)
              · rw [if_pos d1, bi_f (by omega), Int.add_zero]
              · rw [if_neg d1]
                by_cases d2 : minAt V0 a z - minAt V0 q z < 0
                · rw [if_pos d2]
                  simp only [Option.bind_some]
                  (repeat' split) <;> first | rfl | (exfalso; omega) | (rw [bi_t (by omega)]) | (rw [bi_f (by omega), Int.add_zero])
                · rw [if_neg d2]
                  by_cases d3 : minAt V0 a z - minAt V0 q z < ch V0
                  · rw [if_pos d3]
                    simp only [Option.bind_some]
                    (repeat' split) <;> first | rfl | (exfalso; omega) | (rw [bi_t (by omega)]) | (rw [bi_f (by omega), Int.add_zero])
                  · rw [if_neg d3]
                    simp only [Option.bind_some]
                    (repeat' split) <;> first | rfl | (exfalso; omega) | (rw [bi_t (by omega)]) | (rw [bi_f (by omega), Int.add_zero])
            · simp (disch := omega) only [fX7_justMissed_L36, k_0, k_1, k_2, k_3, k_4, k_5, k_6, k_7, k_8, k_9, k_10, k_11, k_12, k_13, k_14, k_15, k_16, k_17, k_18, k_19, k_20, k_21, k_22, k_23, k_24, k_25, k_26, k_27, k_28, k_29, k_30, k_31, k_33, k_37, k_38, k_40, k_41, k_42, k_43, k_45, k_47, k_48, k_57, k_59, k_60, k_61, k_62, k_63, k_91, k_93, k_97, k_99, k_100, k_102, k_106, k_107, k_108, k_109, k_110, k_112, k_114, k_115, k_117, k_120, k_121, k_124, k_160, k_200, k_240, k_255, k_256, k_260, k_384, k_720, k_1000, k_1047, k_1439, k_1440, k_2000, k_2047, k_9999, k_10059, k_13849, k_25173, k_65535, k_65536, k_1000000, k_1048576, k_268435456, k_1073741823, k_1073741824, I_add, I_sub, I_mul, I_neg, Option.bind_some, tn, tn_at, Int.add_zero, Int.toNat_zero, bi_e0, bi_e1, bi_z, I_lt, I_le, I_inj, if_pos, if_neg, I_max, I_min, gR258_0, gR258_1, gR258_2, gR258_3, gR258_4, gR258_5, gR258_6, gR258_7, gR258_8, gR258_9, gR258_10, gR258_11, gR258_12, gI258_13, gI258_14, gI258_15, gR258_16, gI258_17, gI258_18, gI258_19, gI258_20, gI258_21, gI258_22, gI258_23, gI258_24, gI258_25, gI258_26, gR258_27, gR258_28, gR258_29, gR258_30, gR258_31, gR258_32, gR258_33, gR258_34, gR258_35, gR258_36, gR258_37, gR258_38, gR258_39, gR258_40, gR258_41, gR258_42, gI258_43, gI258_44, gR258_45, gR258_46, gR258_47, gR258_48, gI258_49, gR258_50, gR258_51, gI258_52, gI258_53, gI258_54, gR258_55, gR258_56, gR258_57, gR258_58, gR258_59, gR258_60, gR258_61, gR258_62, gR258_63, gR258_64, gI258_65, on258, w_n h, y_leaves h ha]
              rw [bi_f (fun q => c2 q.2.2.1), Int.add_zero]
              (repeat' split) <;> rfl
          · simp (disch := omega) only [fX7_justMissed_L36, k_0, k_1, k_2, k_3, k_4, k_5, k_6, k_7, k_8, k_9, k_10, k_11, k_12, k_13, k_14, k_15, k_16, k_17, k_18, k_19, k_20, k_21, k_22, k_23, k_24, k_25, k_26, k_27, k_28, k_29, k_30, k_31, k_33, k_37, k_38, k_40, k_41, k_42, k_43, k_45, k_47, k_48, k_57, k_59, k_60, k_61, k_62, k_63, k_91, k_93, k_97, k_99, k_100, k_102, k_106, k_107, k_108, k_109, k_110, k_112, k_114, k_115, k_117, k_120, k_121, k_124, k_160, k_200, k_240, k_255, k_256, k_260, k_384, k_720, k_1000, k_1047, k_1439, k_1440, k_2000, k_2047, k_9999, k_10059, k_13849, k_25173, k_65535, k_65536, k_1000000, k_1048576, k_268435456, k_1073741823, k_1073741824, I_add, I_sub, I_mul, I_neg, Option.bind_some, tn, tn_at, Int.add_zero, Int.toNat_zero, bi_e0, bi_e1, bi_z, I_le, I_inj, gR258_0, gR258_1, gR258_2, gR258_3, gR258_4, gR258_5, gR258_6, gR258_7, gR258_8, gR258_9, gR258_10, gR258_11, gR258_12, gI258_13, gI258_14, gI258_15, gR258_16, gI258_17, gI258_18, gI258_19, gI258_20, gI258_21, gI258_22, gI258_23, gI258_24, gI258_25, gI258_26, gR258_27, gR258_28, gR258_29, gR258_30, gR258_31, gR258_32, gR258_33, gR258_34, gR258_35, gR258_36, gR258_37, gR258_38, gR258_39, gR258_40, gR258_41, gR258_42, gI258_43, gI258_44, gR258_45, gR258_46, gR258_47, gR258_48, gI258_49, gR258_50, gR258_51, gI258_52, gI258_53, gI258_54, gR258_55, gR258_56, gR258_57, gR258_58, gR258_59, gR258_60, gR258_61, gR258_62, gR258_63, gR258_64, gI258_65, on258, w_n h, y_comes h hq, y_leaves h ha]
            rw [bi_f (fun q => c1 q.2.1), Int.add_zero, if_neg (show ¬ (nT V0 : Int) ≤ (q : Int) by omega), if_pos c1]
            (repeat' split) <;> rfl) (fun c => by simp (disch := omega) only [fX7_justMissed_L36, k_0, k_1, k_2, k_3, k_4, k_5, k_6, k_7, k_8, k_9, k_10, k_11, k_12, k_13, k_14, k_15, k_16, k_17, k_18, k_19, k_20, k_21, k_22, k_23, k_24, k_25, k_26, k_27, k_28, k_29, k_30, k_31, k_33, k_37, k_38, k_40, k_41, k_42, k_43, k_45, k_47, k_48, k_57, k_59, k_60, k_61, k_62, k_63, k_91, k_93, k_97, k_99, k_100, k_102, k_106, k_107, k_108, k_109, k_110, k_112, k_114, k_115, k_117, k_120, k_121, k_124, k_160, k_200, k_240, k_255, k_256, k_260, k_384, k_720, k_1000, k_1047, k_1439, k_1440, k_2000, k_2047, k_9999, k_10059, k_13849, k_25173, k_65535, k_65536, k_1000000, k_1048576, k_268435456, k_1073741823, k_1073741824, I_add, I_sub, I_mul, I_neg, Option.bind_some, tn, tn_at, Int.add_zero, Int.toNat_zero, bi_e0, bi_e1, bi_z, I_lt, I_le, I_inj, if_pos, if_neg, I_max, I_min, gR258_0, gR258_1, gR258_2, gR258_3, gR258_4, gR258_5, gR258_6, gR258_7, gR258_8, gR258_9, gR258_10, gR258_11, gR258_12, gI258_13, gI258_14, gI258_15, gR258_16, gI258_17, gI258_18, gI258_19, gI258_20, gI258_21, gI258_22, gI258_23, gI258_24, gI258_25, gI258_26, gR258_27, gR258_28, gR258_29, gR258_30, gR258_31, gR258_32, gR258_33, gR258_34, gR258_35, gR258_36, gR258_37, gR258_38, gR258_39, gR258_40, gR258_41, gR258_42, gI258_43, gI258_44, gR258_45, gR258_46, gR258_47, gR258_48, gI258_49, gR258_50, gR258_51, gI258_52, gI258_53, gI258_54, gR258_55, gR258_56, gR258_57, gR258_58, gR258_59, gR258_60, gR258_61, gR258_62, gR258_63, gR258_64, gI258_65, on258, w_n h])
        simp (disch := omega) only [fX7_justMissed_L24, k_0, k_1, k_2, k_3, k_4, k_5, k_6, k_7, k_8, k_9, k_10, k_11, k_12, k_13, k_14, k_15, k_16, k_17, k_18, k_19, k_20, k_21, k_22, k_23, k_24, k_25, k_26, k_27, k_28, k_29, k_30, k_31, k_33, k_37, k_38, k_40, k_41, k_42, k_43, k_45, k_47, k_48, k_57, k_59, k_60, k_61, k_62, k_63, k_91, k_93, k_97, k_99, k_100, k_102, k_106, k_107, k_108, k_109, k_110, k_112, k_114, k_115, k_117, k_120, k_121, k_124, k_160, k_200, k_240, k_255, k_256, k_260, k_384, k_720, k_1000, k_1047, k_1439, k_1440, k_2000, k_2047, k_9999, k_10059, k_13849, k_25173, k_65535, k_65536, k_1000000, k_1048576, k_268435456, k_1073741823, k_1073741824, I_add, I_sub, I_mul, I_neg, Option.bind_some, tn, tn_at, Int.add_zero, Int.toNat_zero, bi_e0, bi_e1, bi_z, I_lt, I_le, I_inj, if_pos, if_neg, I_max, I_min, gR258_0, gR258_1, gR258_2, gR258_3, gR258_4, gR258_5, gR258_6, gR258_7, gR258_8, gR258_9, gR258_10, gR258_11, gR258_12, gI258_13, gI258_14, gI258_15, gR258_16, gI258_17, gI258_18, gI258_19, gI258_20, gI258_21, gI258_22, gI258_23, gI258_24, gI258_25, gI258_26, gR258_27, gR258_28, gR258_29, gR258_30, gR258_31, gR258_32, gR258_33, gR258_34, gR258_35, gR258_36, gR258_37, gR258_38, gR258_39, gR258_40, gR258_41, gR258_42, gI258_43, gI258_44, gR258_45, gR258_46, gR258_47, gR258_48, gI258_49, gR258_50, gR258_51, gI258_52, gI258_53, gI258_54, gR258_55, gR258_56, gR258_57, gR258_58, gR258_59, gR258_60, gR258_61, gR258_62, gR258_63, gR258_64, gI258_65, on258, w_n h, KI]
      rw [K0, K7]
      refine ⟨_, rfl, ?_⟩
      refine congrArg some (congrArg I ?_)
      rw [smN_c (nT V0) (fun i hi => cnt_smN _ _), smN_swap, smN_c (nT V0) (fun i hi => (cnt_smN _ _).symm)]
    · rw [if_neg (show ¬ ¬ (0 ≤ z ∧ z < 10) by omega), if_neg (show ¬ ¬ (0 ≤ z ∧ z < 10) by omega), if_pos g2, if_pos g2]
      exact ⟨_, rfl, rfl⟩
  · rw [if_pos g, if_pos g]
    exact ⟨_, rfl, rfl⟩
end C3
