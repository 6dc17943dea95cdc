/-! CALLS that only ask, IV: regular, meets. No JVM here. -/
set_option maxRecDepth 100000
set_option linter.unusedVariables false
theorem fnd_lt {p : Nat → Bool} {n : Nat} : fnd p n < n ↔ ∃ i, i < n ∧ p i = true := by
  constructor
  · intro h
    exact ⟨_, h, fnd_yes p n h⟩
  · intro ⟨i, hi, hp⟩
    by_cases hl : fnd p n < n
    · exact hl
    · have := fnd_no p n i (by omega)
      rw [hp] at this
      cases this
section C4
variable {b : Nat} {V0 V : Vw} {lw : Option Nat} {R : Hp} {r : Nat} {s t z y w : Int}
def lvAt (V : Vw) (s : Int) (m : Nat) : Int := cnt (fun r => decide (leaves V r s ∧ minAt V r s % 60 = (m : Int))) (nT V)
theorem lvAt_b (V : Vw) (s : Int) (m : Nat) : 0 ≤ lvAt V s m ∧ lvAt V s m ≤ nT V := cnt_le _ _
theorem x_leavesAt (h : Rel V0 V) (hs : -1000 ≤ s ∧ s ≤ 1000) (m : Nat) (hm : m < 2000) : fX0_leavesAt (Wd b V lw R) (some b) (I s) (I (m : Int)) = some (I (lvAt V0 s m)) := by
  have hn := n48 h
  unfold fX0_leavesAt lvAt
  rw [k_0, cnt_loop (fun r => leaves V0 r s ∧ minAt V0 r s % 60 = (m : Int)) (nT V0) (by omega) (fun i c hi => by
    by_cases hl : leaves V0 i s
    · have ha : 0 ≤ sAt V0 i s := hl.2.1
      have hb := minAt_b h hi ha
      simp (disch := omega) only [fX0_leavesAt_L5, k_0, k_1, k_2, k_3, k_4, k_5, k_6, k_7, k_8, k_9, k_10, k_11, k_12, k_13, k_14, k_15, k_16, k_17, k_18, k_19, k_20, k_21, k_22, k_23, k_24, k_25, k_26, k_27, k_28, k_29, k_30, k_31, k_33, k_37, k_38, k_40, k_41, k_42, k_43, k_45, k_47, k_48, k_57, k_59, k_60, k_61, k_62, k_63, k_91, k_93, k_97, k_99, k_100, k_102, k_106, k_107, k_108, k_109, k_110, k_112, k_114, k_115, k_117, k_120, k_121, k_124, k_160, k_200, k_240, k_255, k_256, k_260, k_384, k_720, k_1000, k_1047, k_1439, k_1440, k_2000, k_2047, k_9999, k_10059, k_13849, k_25173, k_65535, k_65536, k_1000000, k_1048576, k_268435456, k_1073741823, k_1073741824, I_add, I_sub, I_mul, I_neg, Option.bind_some, tn, tn_at, Int.add_zero, Int.toNat_zero, bi_e0, bi_e1, bi_z, I_le, I_inj, I_rem, gR0_0, gR0_1, gR0_2, gI0_3, gI0_4, gI0_5, gR0_6, gR0_7, gR0_8, gR0_9, gR0_10, gI0_12, gI0_13, gR0_14, gR0_15, gR0_16, gR0_17, gR0_18, gR0_19, gR0_20, gR0_21, gI4_0, gI4_1, gI4_2, gI4_3, gI4_4, gI4_5, gI4_6, gI4_7, gI4_8, gI4_9, on0, on4, rTr, onTr, gTr0, gTr1, gTr2, gTr3, gTr4, rSt, rMi, rFr, rFu, v_n h, x_leaves h hi, x_minAt h hi]
      (repeat' split) <;> first | rfl | (exfalso; omega) | (rw [bi_t (by omega)]) | (rw [bi_f (by omega), Int.add_zero])
    · simp (disch := omega) only [fX0_leavesAt_L5, k_0, k_1, k_2, k_3, k_4, k_5, k_6, k_7, k_8, k_9, k_10, k_11, k_12, k_13, k_14, k_15, k_16, k_17, k_18, k_19, k_20, k_21, k_22, k_23, k_24, k_25, k_26, k_27, k_28, k_29, k_30, k_31, k_33, k_37, k_38, k_40, k_41, k_42, k_43, k_45, k_47, k_48, k_57, k_59, k_60, k_61, k_62, k_63, k_91, k_93, k_97, k_99, k_100, k_102, k_106, k_107, k_108, k_109, k_110, k_112, k_114, k_115, k_117, k_120, k_121, k_124, k_160, k_200, k_240, k_255, k_256, k_260, k_384, k_720, k_1000, k_1047, k_1439, k_1440, k_2000, k_2047, k_9999, k_10059, k_13849, k_25173, k_65535, k_65536, k_1000000, k_1048576, k_268435456, k_1073741823, k_1073741824, I_add, I_sub, I_mul, I_neg, Option.bind_some, tn, tn_at, Int.add_zero, Int.toNat_zero, bi_e0, bi_e1, bi_z, I_lt, I_le, I_inj, if_pos, if_neg, I_max, I_min, gR0_0, gR0_1, gR0_2, gI0_3, gI0_4, gI0_5, gR0_6, gR0_7, gR0_8, gR0_9, gR0_10, gI0_12, gI0_13, gR0_14, gR0_15, gR0_16, gR0_17, gR0_18, gR0_19, gR0_20, gR0_21, gI4_0, gI4_1, gI4_2, gI4_3, gI4_4, gI4_5, gI4_6, gI4_7, gI4_8, gI4_9, on0, on4, rTr, onTr, gTr0, gTr1, gTr2, gTr3, gTr4, rSt, rMi, rFr, rFu, v_n h, x_leaves h hi]
      rw [bi_f (fun q => hl q.1), Int.add_zero]) (fun c => by simp (disch := omega) only [fX0_leavesAt_L5, k_0, k_1, k_2, k_3, k_4, k_5, k_6, k_7, k_8, k_9, k_10, k_11, k_12, k_13, k_14, k_15, k_16, k_17, k_18, k_19, k_20, k_21, k_22, k_23, k_24, k_25, k_26, k_27, k_28, k_29, k_30, k_31, k_33, k_37, k_38, k_40, k_41, k_42, k_43, k_45, k_47, k_48, k_57, k_59, k_60, k_61, k_62, k_63, k_91, k_93, k_97, k_99, k_100, k_102, k_106, k_107, k_108, k_109, k_110, k_112, k_114, k_115, k_117, k_120, k_121, k_124, k_160, k_200, k_240, k_255, k_256, k_260, k_384, k_720, k_1000, k_1047, k_1439, k_1440, k_2000, k_2047, k_9999, k_10059, k_13849, k_25173, k_65535, k_65536, k_1000000, k_1048576, k_268435456, k_1073741823, k_1073741824, I_add, I_sub, I_mul, I_neg, Option.bind_some, tn, tn_at, Int.add_zero, Int.toNat_zero, bi_e0, bi_e1, bi_z, I_lt, I_le, I_inj, if_pos, if_neg, I_max, I_min, gR0_0, gR0_1, gR0_2, gI0_3, gI0_4, gI0_5, gR0_6, gR0_7, gR0_8, gR0_9, gR0_10, gI0_12, gI0_13, gR0_14, gR0_15, gR0_16, gR0_17, gR0_18, gR0_19, gR0_20, gR0_21, gI4_0, gI4_1, gI4_2, gI4_3, gI4_4, gI4_5, gI4_6, gI4_7, gI4_8, gI4_9, on0, on4, rTr, onTr, gTr0, gTr1, gTr2, gTr3, gTr4, rSt, rMi, rFr, rFu, v_n h])]
  rfl
theorem call_regular (h : Rel V0 V) (h1 : -2147483648 ≤ z) (h2 : z ≤ 2147483647) (h3 : -2147483648 ≤ y) (h4 : y ≤ 2147483647) : ∃ v, fX0_regular (Wd b V lw R) (some b) (I z) (I y) = some v ∧ fX7_regular (Wd b V lw R) (some (b + 258)) (I z) (I y) = some v := by
  have hn := n48 h
  unfold fX0_regular fX7_regular
  simp (disch := omega) only [k_0, k_1, k_2, k_3, k_4, k_5, k_6, k_7, k_8, k_9, k_10, k_11, k_12, k_13, k_14, k_15, k_16, k_17, k_18, k_19, k_20, k_21, k_22, k_23, k_24, k_25, k_26, k_27, k_28, k_29, k_30, k_31, k_33, k_37, k_38, k_40, k_41, k_42, k_43, k_45, k_47, k_48, k_57, k_59, k_60, k_61, k_62, k_63, k_91, k_93, k_97, k_99, k_100, k_102, k_106, k_107, k_108, k_109, k_110, k_112, k_114, k_115, k_117, k_120, k_121, k_124, k_160, k_200, k_240, k_255, k_256, k_260, k_384, k_720, k_1000, k_1047, k_1439, k_1440, k_2000, k_2047, k_9999, k_10059, k_13849, k_25173, k_65535, k_65536, k_1000000, k_1048576, k_268435456, k_1073741823, k_1073741824, I_add, I_sub, I_mul, I_neg, Option.bind_some, tn, tn_at, Int.add_zero, Int.toNat_zero, bi_e0, bi_e1, bi_z, x_isSt, y_isSt, x_in, y_in]
  by_cases g : 0 ≤ z ∧ z < 10
  · by_cases g2 : 0 ≤ y ∧ y < 3
    · rw [if_neg (show ¬ ¬ (0 ≤ z ∧ z < 10) by omega), if_neg (show ¬ ¬ (0 ≤ z ∧ z < 10) by omega), if_neg (show ¬ ¬ (0 ≤ y ∧ y < 3) by omega), if_neg (show ¬ ¬ (0 ≤ y ∧ y ≤ 2) by omega)]
      have hf : ∀ i : Nat, 0 ≤ lvAt V0 z i ∧ lvAt V0 z i ≤ nT V0 := fun i => lvAt_b V0 z i
      have K0 : iter (fX0_regular_L25 (Wd b V lw R) (some b) (I z) (I y)) FUEL (I 0, I 0, I 0) = some (I (cnt (fun m => decide (0 < lvAt V0 z m)) 60), I (am (lvAt V0 z) 60)) := by
        refine iter_det (fun i => (I (cnt (fun m => decide (0 < lvAt V0 z m)) i), I (am (lvAt V0 z) i), I (i : Int))) 60 _ (by omega) (fun i hi => ?_) (by simp (disch := omega) only [fX0_regular_L25, k_0, k_1, k_2, k_3, k_4, k_5, k_6, k_7, k_8, k_9, k_10, k_11, k_12, k_13, k_14, k_15, k_16, k_17, k_18, k_19, k_20, k_21, k_22, k_23, k_24, k_25, k_26, k_27, k_28, k_29, k_30, k_31, k_33, k_37, k_38, k_40, k_41, k_42, k_43, k_45, k_47, k_48, k_57, k_59, k_60, k_61, k_62, k_63, k_91, k_93, k_97, k_99, k_100, k_102, k_106, k_107, k_108, k_109, k_110, k_112, k_114, k_115, k_117, k_120, k_121, k_124, k_160, k_200, k_240, k_255, k_256, k_260, k_384, k_720, k_1000, k_1047, k_1439, k_1440, k_2000, k_2047, k_9999, k_10059, k_13849, k_25173, k_65535, k_65536, k_1000000, k_1048576, k_268435456, k_1073741823, k_1073741824, I_add, I_sub, I_mul, I_neg, Option.bind_some, tn, tn_at, Int.add_zero, Int.toNat_zero, bi_e0, bi_e1, bi_z, I_lt, I_le, I_inj, if_pos, if_neg, I_max, I_min, gR0_0, gR0_1, gR0_2, gI0_3, gI0_4, gI0_5, gR0_6, gR0_7, gR0_8, gR0_9, gR0_10, gI0_12, gI0_13, gR0_14, gR0_15, gR0_16, gR0_17, gR0_18, gR0_19, gR0_20, gR0_21, gI4_0, gI4_1, gI4_2, gI4_3, gI4_4, gI4_5, gI4_6, gI4_7, gI4_8, gI4_9, on0, on4, rTr, onTr, gTr0, gTr1, gTr2, gTr3, gTr4, rSt, rMi, rFr, rFu])
        show fX0_regular_L25 _ _ _ _ (I _, I _, I _) = some (.inl (I (cnt _ (i + 1)), I (am _ (i + 1)), I ((i + 1 : Nat) : Int)))
        have ha := am_le (lvAt V0 z) i
        have hf1 := hf i
        have hf2 := hf (am (lvAt V0 z) i)
        rw [cnt, am]
        simp (disch := omega) only [fX0_regular_L25, k_0, k_1, k_2, k_3, k_4, k_5, k_6, k_7, k_8, k_9, k_10, k_11, k_12, k_13, k_14, k_15, k_16, k_17, k_18, k_19, k_20, k_21, k_22, k_23, k_24, k_25, k_26, k_27, k_28, k_29, k_30, k_31, k_33, k_37, k_38, k_40, k_41, k_42, k_43, k_45, k_47, k_48, k_57, k_59, k_60, k_61, k_62, k_63, k_91, k_93, k_97, k_99, k_100, k_102, k_106, k_107, k_108, k_109, k_110, k_112, k_114, k_115, k_117, k_120, k_121, k_124, k_160, k_200, k_240, k_255, k_256, k_260, k_384, k_720, k_1000, k_1047, k_1439, k_1440, k_2000, k_2047, k_9999, k_10059, k_13849, k_25173, k_65535, k_65536, k_1000000, k_1048576, k_268435456, k_1073741823, k_1073741824, I_add, I_sub, I_mul, I_neg, Option.bind_some, tn, tn_at, Int.add_zero, Int.toNat_zero, bi_e0, bi_e1, bi_z, I_le, gR0_0, gR0_1, gR0_2, gI0_3, gI0_4, gI0_5, gR0_6, gR0_7, gR0_8, gR0_9, gR0_10, gI0_12, gI0_13, gR0_14, gR0_15, gR0_16, gR0_17, gR0_18, gR0_19, gR0_20, gR0_21, gI4_0, gI4_1, gI4_2, gI4_3, gI4_4, gI4_5, gI4_6, gI4_7, gI4_8, gI4_9, on0, on4, rTr, onTr, gTr0, gTr1, gTr2, gTr3, gTr4, rSt, rMi, rFr, rFu, v_n h, x_leavesAt h]
        rw [if_neg (show ¬ (60 : Int) ≤ (i : Int) by omega)]
        by_cases c1 : lvAt V0 z i ≤ 0
        · rw [if_pos c1, if_neg (show ¬ decide (0 < lvAt V0 z i) = true by simpa using c1), Int.add_zero]
          simp only [Option.bind_some, Int.add_zero, I_add]
          (repeat' split) <;> first | rfl | (exfalso; omega)
        · rw [if_neg c1, if_pos (show decide (0 < lvAt V0 z i) = true by simpa using (show 0 < lvAt V0 z i by omega))]
          simp only [Option.bind_some, I_add]
          (repeat' split) <;> first | rfl | (exfalso; omega)
      have K7 : iter (fX7_regular_L30 (Wd b V lw R) (some (b + 258)) (I z) (I y)) FUEL (I 0, I (-2), I 0, I 0) = some (I (cnt (fun m => decide (0 < lvAt V0 z m)) 60), I (tbest (lvAt V0 z) 60), I (tmost (lvAt V0 z) 60)) := by
        refine iter_det (fun i => (I (cnt (fun m => decide (0 < lvAt V0 z m)) i), I (tbest (lvAt V0 z) i), I (tmost (lvAt V0 z) i), I (i : Int))) 60 _ (by omega) (fun i hi => ?_) (by simp (disch := omega) only [fX7_regular_L30, k_0, k_1, k_2, k_3, k_4, k_5, k_6, k_7, k_8, k_9, k_10, k_11, k_12, k_13, k_14, k_15, k_16, k_17, k_18, k_19, k_20, k_21, k_22, k_23, k_24, k_25, k_26, k_27, k_28, k_29, k_30, k_31, k_33, k_37, k_38, k_40, k_41, k_42, k_43, k_45, k_47, k_48, k_57, k_59, k_60, k_61, k_62, k_63, k_91, k_93, k_97, k_99, k_100, k_102, k_106, k_107, k_108, k_109, k_110, k_112, k_114, k_115, k_117, k_120, k_121, k_124, k_160, k_200, k_240, k_255, k_256, k_260, k_384, k_720, k_1000, k_1047, k_1439, k_1440, k_2000, k_2047, k_9999, k_10059, k_13849, k_25173, k_65535, k_65536, k_1000000, k_1048576, k_268435456, k_1073741823, k_1073741824, I_add, I_sub, I_mul, I_neg, Option.bind_some, tn, tn_at, Int.add_zero, Int.toNat_zero, bi_e0, bi_e1, bi_z, I_lt, I_le, I_inj, if_pos, if_neg, I_max, I_min, gR258_0, gR258_1, gR258_2, gR258_3, gR258_4, gR258_5, gR258_6, gR258_7, gR258_8, gR258_9, gR258_10, gR258_11, gR258_12, gI258_13, gI258_14, gI258_15, gR258_16, gI258_17, gI258_18, gI258_19, gI258_20, gI258_21, gI258_22, gI258_23, gI258_24, gI258_25, gI258_26, gR258_27, gR258_28, gR258_29, gR258_30, gR258_31, gR258_32, gR258_33, gR258_34, gR258_35, gR258_36, gR258_37, gR258_38, gR258_39, gR258_40, gR258_41, gR258_42, gI258_43, gI258_44, gR258_45, gR258_46, gR258_47, gR258_48, gI258_49, gR258_50, gR258_51, gI258_52, gI258_53, gI258_54, gR258_55, gR258_56, gR258_57, gR258_58, gR258_59, gR258_60, gR258_61, gR258_62, gR258_63, gR258_64, gI258_65, on258])
        show fX7_regular_L30 _ _ _ _ (I _, I _, I _, I _) = some (.inl (I (cnt _ (i + 1)), I (tbest _ (i + 1)), I (tmost _ (i + 1)), I ((i + 1 : Nat) : Int)))
        have hf1 := hf i
        have hf2 := hf (am (lvAt V0 z) i)
        have hm : 0 ≤ tmost (lvAt V0 z) i ∧ tmost (lvAt V0 z) i ≤ nT V0 := by
          unfold tmost
          split <;> omega
        obtain ⟨e1, e2⟩ := tm_s (f := lvAt V0 z) (fun i => (hf i).1) i
        rw [e1, e2, cnt]
        have KI := cnt_loop (b := fX7_regular_L43 (Wd b V lw R) (some (b + 258)) (I z) (I y) (I (cnt (fun m => decide (0 < lvAt V0 z m)) i)) (I (tbest (lvAt V0 z) i)) (I (tmost (lvAt V0 z) i)) (I (i : Int))) (fun r => leaves V0 r z ∧ minAt V0 r z % 60 = (i : Int)) (nT V0) (by omega) (fun r c hr => by
          by_cases hl : leaves V0 r z
          · have ha : 0 ≤ sAt V0 r z := hl.2.1
            have hb := minAt_b h hr ha
            simp (disch := omega) only [fX7_regular_L43, k_0, k_1, k_2, k_3, k_4, k_5, k_6, k_7, k_8, k_9, k_10, k_11, k_12, k_13, k_14, k_15, k_16, k_17, k_18, k_19, k_20, k_21, k_22, k_23, k_24, k_25, k_26, k_27, k_28, k_29, k_30, k_31, k_33, k_37, k_38, k_40, k_41, k_42, k_43, k_45, k_47, k_48, k_57, k_59, k_60, k_61, k_62, k_63, k_91, k_93, k_97, k_99, k_100, k_102, k_106, k_107, k_108, k_109, k_110, k_112, k_114, k_115, k_117, k_120, k_121, k_124, k_160, k_200, k_240, k_255, k_256, k_260, k_384, k_720, k_1000, k_1047, k_1439, k_1440, k_2000, k_2047, k_9999, k_10059, k_13849, k_25173, k_65535, k_65536, k_1000000, k_1048576, k_268435456, k_1073741823, k_1073741824, I_add, I_sub, I_mul, I_neg, Option.bind_some, tn, tn_at, Int.add_zero, Int.toNat_zero, bi_e0, bi_e1, bi_z, I_le, I_inj, I_rem, gR258_0, gR258_1, gR258_2, gR258_3, gR258_4, gR258_5, gR258_6, gR258_7, gR258_8, gR258_9, gR258_10, gR258_11, gR258_12, gI258_13, gI258_14, gI258_15, gR258_16, gI258_17, gI258_18, gI258_19, gI258_20, gI258_21, gI258_22, gI258_23, gI258_24, gI258_25, gI258_26, gR258_27, gR258_28, gR258_29, gR258_30, gR258_31, gR258_32, gR258_33, gR258_34, gR258_35, gR258_36, gR258_37, gR258_38, gR258_39, gR258_40, gR258_41, gR258_42, gI258_43, gI258_44, gR258_45, gR258_46, gR258_47, gR258_48, gI258_49, gR258_50, gR258_51, gI258_52, gI258_53, gI258_54, gR258_55, gR258_56, gR258_57, gR258_58, gR258_59, gR258_60, gR258_61, gR258_62, gR258_63, gR258_64, gI258_65, on258, w_n h, y_leaves h hr, y_minAt h hr]
            (repeat' split) <;> first | rfl | (exfalso; omega) | (rw [bi_t (by omega)]) | (rw [bi_f (by omega), Int.add_zero])
          · simp (disch := omega) only [fX7_regular_L43, k_0, k_1, k_2, k_3, k_4, k_5, k_6, k_7, k_8, k_9, k_10, k_11, k_12, k_13, k_14, k_15, k_16, k_17, k_18, k_19, k_20, k_21, k_22, k_23, k_24, k_25, k_26, k_27, k_28, k_29, k_30, k_31, k_33, k_37, k_38, k_40, k_41, k_42, k_43, k_45, k_47, k_48, k_57, k_59, k_60, k_61, k_62, k_63, k_91, k_93, k_97, k_99, k_100, k_102, k_106, k_107, k_108, k_109, k_110, k_112, k_114, k_115, k_117, k_120, k_121, k_124, k_160, k_200, k_240, k_255, k_256, k_260, k_384, k_720, k_1000, k_1047, k_1439, k_1440, k_2000, k_2047, k_9999, k_10059, k_13849, k_25173, k_65535, k_65536, k_1000000, k_1048576, k_268435456, k_1073741823, k_1073741824, I_add, I_sub, I_mul, I_neg, Option.bind_some, tn, tn_at, Int.add_zero, Int.toNat_zero, bi_e0, bi_e1, bi_z, I_lt, I_le, I_inj, if_pos, if_neg, I_max, I_min, gR258_0, gR258_1, gR258_2, gR258_3, gR258_4, gR258_5, gR258_6, gR258_7, gR258_8, gR258_9, gR258_10, gR258_11, gR258_12, gI258_13, gI258_14, gI258_15, gR258_16, gI258_17, gI258_18, gI258_19, gI258_20, gI258_21, gI258_22, gI258_23, gI258_24, gI258_25, gI258_26, gR258_27, gR258_28, gR258_29, gR258_30, gR258_31, gR258_32, gR258_33, gR258_34, gR258_35, gR258_36, gR258_37, gR258_38, gR258_39, gR258_40, gR258_41, gR258_42, gI258_43, gI258_44, gR258_45, gR258_46, gR258_47, gR258_48, gI258_49, gR258_50, gR258_51, gI258_52, gI258_53, gI258_54, gR258_55, gR258_56, gR258_57, gR258_58, gR258_59, gR258_60, gR258_61, gR258_62, gR258_63, gR258_64, gI258_65, on258, w_n h, y_leaves h hr]
            rw [bi_f (fun q => hl q.1), Int.add_zero]) (fun c => by simp (disch := omega) only [fX7_regular_L43, k_0, k_1, k_2, k_3, k_4, k_5, k_6, k_7, k_8, k_9, k_10, k_11, k_12, k_13, k_14, k_15, k_16, k_17, k_18, k_19, k_20, k_21, k_22, k_23, k_24, k_25, k_26, k_27, k_28, k_29, k_30, k_31, k_33, k_37, k_38, k_40, k_41, k_42, k_43, k_45, k_47, k_48, k_57, k_59, k_60, k_61, k_62, k_63, k_91, k_93, k_97, k_99, k_100, k_102, k_106, k_107, k_108, k_109, k_110, k_112, k_114, k_115, k_117, k_120, k_121, k_124, k_160, k_200, k_240, k_255, k_256, k_260, k_384, k_720, k_1000, k_1047, k_1439, k_1440, k_2000, k_2047, k_9999, k_10059, k_13849, k_25173, k_65535, k_65536, k_1000000, k_1048576, k_268435456, k_1073741823, k_1073741824, I_add, I_sub, I_mul, I_neg, Option.bind_some, tn, tn_at, Int.add_zero, Int.toNat_zero, bi_e0, bi_e1, bi_z, I_lt, I_le, I_inj, if_pos, if_neg, I_max, I_min, gR258_0, gR258_1, gR258_2, gR258_3, gR258_4, gR258_5, gR258_6, gR258_7, gR258_8, gR258_9, gR258_10, gR258_11, gR258_12, gI258_13, gI258_14, gI258_15, gR258_16, gI258_17, gI258_18, gI258_19, gI258_20, gI258_21, gI258_22, gI258_23, gI258_24, gI258_25, gI258_26, gR258_27, gR258_28, gR258_29, gR258_30, gR258_31, gR258_32, gR258_33, gR258_34, gR258_35, gR258_36, gR258_37, gR258_38, gR258_39, gR258_40, gR258_41, gR258_42, gI258_43, gI258_44, gR258_45, gR258_46, gR258_47, gR258_48, gI258_49, gR258_50, gR258_51, gI258_52, gI258_53, gI258_54, gR258_55, gR258_56, gR258_57, gR258_58, gR258_59, gR258_60, gR258_61, gR258_62, gR258_63, gR258_64, gI258_65, on258, w_n h])
        have KI : iter (fX7_regular_L43 (Wd b V lw R) (some (b + 258)) (I z) (I y) (I (cnt (fun m => decide (0 < lvAt V0 z m)) i)) (I (tbest (lvAt V0 z) i)) (I (tmost (lvAt V0 z) i)) (I (i : Int))) FUEL (I 0, I 0) = some (I (lvAt V0 z i)) := KI
        simp (disch := omega) only [fX7_regular_L30, k_0, k_1, k_2, k_3, k_4, k_5, k_6, k_7, k_8, k_9, k_10, k_11, k_12, k_13, k_14, k_15, k_16, k_17, k_18, k_19, k_20, k_21, k_22, k_23, k_24, k_25, k_26, k_27, k_28, k_29, k_30, k_31, k_33, k_37, k_38, k_40, k_41, k_42, k_43, k_45, k_47, k_48, k_57, k_59, k_60, k_61, k_62, k_63, k_91, k_93, k_97, k_99, k_100, k_102, k_106, k_107, k_108, k_109, k_110, k_112, k_114, k_115, k_117, k_120, k_121, k_124, k_160, k_200, k_240, k_255, k_256, k_260, k_384, k_720, k_1000, k_1047, k_1439, k_1440, k_2000, k_2047, k_9999, k_10059, k_13849, k_25173, k_65535, k_65536, k_1000000, k_1048576, k_268435456, k_1073741823, k_1073741824, I_add, I_sub, I_mul, I_neg, Option.bind_some, tn, tn_at, Int.add_zero, Int.toNat_zero, bi_e0, bi_e1, bi_z, I_le, I_lt, KI]
        rw [if_neg (show ¬ (60 : Int) ≤ (i : Int) by omega)]
        by_cases c1 : lvAt V0 z i ≤ 0
        · rw [if_pos c1, if_neg (show ¬ decide (0 < lvAt V0 z i) = true by simpa using c1), Int.add_zero]
          simp only [Option.bind_some, Int.add_zero]
          (repeat' split) <;> first | rfl | (exfalso; omega)
        · rw [if_neg c1, if_pos (show decide (0 < lvAt V0 z i) = true by simpa using (show 0 < lvAt V0 z i by omega))]
          simp only [Option.bind_some]
          (repeat' split) <;> first | rfl | (exfalso; omega)
      rw [K0, K7]
      have ha := am_le (lvAt V0 z) 60
      have hf2 := hf (am (lvAt V0 z) 60)
      have hc := cnt_le (fun m => decide (0 < lvAt V0 z m)) 60
      have e1 : tmost (lvAt V0 z) 60 = lvAt V0 z (am (lvAt V0 z) 60) := rfl
      have e2 : tbest (lvAt V0 z) 60 = if lvAt V0 z (am (lvAt V0 z) 60) = 0 then -2 else ((am (lvAt V0 z) 60 : Nat) : Int) := rfl
      rw [e1, e2]
      have am_ge : ∀ n i, i < n → lvAt V0 z i ≤ lvAt V0 z (am (lvAt V0 z) n) := by
        intro n
        induction n with
        | zero => intro i hi; omega
        | succ n ih =>
          intro i hi
          rw [am]
          by_cases he : i = n
          · subst he
            split <;> omega
          · have := ih i (by omega)
            split <;> omega
      have e3 : cnt (fun m => decide (0 < lvAt V0 z m)) 60 = 0 ↔ lvAt V0 z (am (lvAt V0 z) 60) = 0 := by
        constructor
        · intro q
          by_cases hz : lvAt V0 z (am (lvAt V0 z) 60) = 0
          · exact hz
          · have := (cnt_pos (p := fun m => decide (0 < lvAt V0 z m)) 60).mpr ⟨am (lvAt V0 z) 60, by omega, by simpa using (show 0 < lvAt V0 z (am (lvAt V0 z) 60) by omega)⟩
            omega
        · intro q
          refine cnt_0 60 (fun i hi => ?_)
          have := am_ge 60 i hi
          simpa using (show lvAt V0 z i ≤ 0 by omega)
      simp (disch := omega) only [k_0, k_1, k_2, k_3, k_4, k_5, k_6, k_7, k_8, k_9, k_10, k_11, k_12, k_13, k_14, k_15, k_16, k_17, k_18, k_19, k_20, k_21, k_22, k_23, k_24, k_25, k_26, k_27, k_28, k_29, k_30, k_31, k_33, k_37, k_38, k_40, k_41, k_42, k_43, k_45, k_47, k_48, k_57, k_59, k_60, k_61, k_62, k_63, k_91, k_93, k_97, k_99, k_100, k_102, k_106, k_107, k_108, k_109, k_110, k_112, k_114, k_115, k_117, k_120, k_121, k_124, k_160, k_200, k_240, k_255, k_256, k_260, k_384, k_720, k_1000, k_1047, k_1439, k_1440, k_2000, k_2047, k_9999, k_10059, k_13849, k_25173, k_65535, k_65536, k_1000000, k_1048576, k_268435456, k_1073741823, k_1073741824, I_add, I_sub, I_mul, I_neg, Option.bind_some, tn, tn_at, Int.add_zero, Int.toNat_zero, bi_e0, bi_e1, bi_z, on0, x_leavesAt h, I_inj]
      by_cases d0 : y = 0
      · rw [if_pos d0, if_pos d0]
        exact ⟨_, rfl, rfl⟩
      · rw [if_neg d0, if_neg d0]
        by_cases d1 : y = 2
        · rw [if_pos d1, if_neg (show ¬ y = 1 by omega)]
          exact ⟨_, rfl, rfl⟩
        · rw [if_neg d1, if_pos (show y = 1 by omega)]
          by_cases d2 : cnt (fun m => decide (0 < lvAt V0 z m)) 60 = 0
          · rw [if_pos d2, if_pos (e3.mp d2)]
            exact ⟨_, rfl, rfl⟩
          · rw [if_neg d2, if_neg (fun q => d2 (e3.mpr q))]
            exact ⟨_, rfl, rfl⟩
    · rw [if_neg (show ¬ ¬ (0 ≤ z ∧ z < 10) by omega), if_neg (show ¬ ¬ (0 ≤ z ∧ z < 10) by omega), if_pos g2, if_pos (by omega)]
      exact ⟨_, rfl, rfl⟩
  · rw [if_pos g, if_pos g]
    exact ⟨_, rfl, rfl⟩
/-! meets -/
abbrev mtQ (V : Vw) (a c k i : Nat) : Prop := st V a k = st V c (i + 1) ∧ st V a (k + 1) = st V c i ∧ mi V a k < mi V c (i + 1) ∧ mi V c i < mi V a (k + 1)
def mtB (V : Vw) (a c k : Nat) : Bool := decide (fnd (fun i => decide (mtQ V a c k i)) (sm V c - 1) < sm V c - 1)
def mt (V : Vw) (a c : Nat) : Bool := decide (fnd (mtB V a c) (sm V a - 1) < sm V a - 1)
theorem mt_iff {V : Vw} {a c : Nat} : mt V a c = true ↔ ∃ k, k < sm V a - 1 ∧ ∃ i, i < sm V c - 1 ∧ mtQ V a c k i := by
  unfold mt mtB
  rw [decide_eq_true_iff, fnd_lt]
  constructor
  · intro ⟨k, hk, q⟩
    obtain ⟨i, hi, q2⟩ := fnd_lt.mp (of_decide_eq_true q)
    exact ⟨k, hk, i, hi, of_decide_eq_true q2⟩
  · intro ⟨k, hk, i, hi, q⟩
    exact ⟨k, hk, decide_eq_true (fnd_lt.mpr ⟨i, hi, decide_eq_true q⟩)⟩
theorem mt_sym {V : Vw} {a c : Nat} : mt V a c = mt V c a := by
  rw [Bool.eq_iff_iff, mt_iff, mt_iff]
  constructor
  · intro ⟨k, hk, i, hi, q1, q2, q3, q4⟩
    exact ⟨i, hi, k, hk, q2.symm, q1.symm, q4, q3⟩
  · intro ⟨k, hk, i, hi, q1, q2, q3, q4⟩
    exact ⟨i, hi, k, hk, q2.symm, q1.symm, q4, q3⟩
theorem tn_s (k : Nat) : ((k : Int) + 1).toNat = k + 1 := by omega
theorem tn_ats {r k : Nat} : ((8 : Int) * (r : Int) + ((k : Int) + 1)).toNat = 8 * r + (k + 1) := by omega
theorem x_doMeet (h : Rel V0 V) {a c : Nat} (ha : a < nT V0) (hc : c < nT V0) : fX0_doMeet (Wd b V lw R) (some b) (some (b + (114 + 3 * a))) (some (b + (114 + 3 * c))) = some (I (bi (mt V0 a c = true))) := by
  have ha48 := r48 h ha
  have hc48 := r48 h hc
  have hsa := sm2 h ha
  have hsc := sm2 h hc
  have KI : ∀ k : Nat, k < sm V0 a - 1 → iter (fX0_doMeet_L15 (Wd b V lw R) (some (b + (114 + 3 * a))) (some (b + (114 + 3 * c))) (I (k : Int))) FUEL (I 0) = some (if fnd (fun i => decide (mtQ V0 a c k i)) (sm V0 c - 1) < sm V0 c - 1 then .inr (.inr (.inr (I 1))) else .inl ()) := by
    intro k hk
    refine iter_find (b := fX0_doMeet_L15 (Wd b V lw R) (some (b + (114 + 3 * a))) (some (b + (114 + 3 * c))) (I (k : Int))) (fun i => I (i : Int)) (fun i => decide (mtQ V0 a c k i)) (sm V0 c - 1) (fun _ => .inr (.inr (.inr (I 1)))) (.inl ()) (by omega) (fun i hi hp => ?_) (fun i hi hp => ?_) ?_
    · have hp : ¬ mtQ V0 a c k i := by simpa using hp
      have b1 := st_b h ha (show k < sm V0 a by omega)
      have b2 := st_b h ha (show k + 1 < sm V0 a by omega)
      have b3 := st_b h hc (show i < sm V0 c by omega)
      have b4 := st_b h hc (show i + 1 < sm V0 c by omega)
      have b5 := mi_b h ha (show k < sm V0 a by omega)
      have b6 := mi_b h ha (show k + 1 < sm V0 a by omega)
      have b7 := mi_b h hc (show i < sm V0 c by omega)
      have b8 := mi_b h hc (show i + 1 < sm V0 c by omega)
      simp (disch := omega) only [fX0_doMeet_L15, k_0, k_1, k_2, k_3, k_4, k_5, k_6, k_7, k_8, k_9, k_10, k_11, k_12, k_13, k_14, k_15, k_16, k_17, k_18, k_19, k_20, k_21, k_22, k_23, k_24, k_25, k_26, k_27, k_28, k_29, k_30, k_31, k_33, k_37, k_38, k_40, k_41, k_42, k_43, k_45, k_47, k_48, k_57, k_59, k_60, k_61, k_62, k_63, k_91, k_93, k_97, k_99, k_100, k_102, k_106, k_107, k_108, k_109, k_110, k_112, k_114, k_115, k_117, k_120, k_121, k_124, k_160, k_200, k_240, k_255, k_256, k_260, k_384, k_720, k_1000, k_1047, k_1439, k_1440, k_2000, k_2047, k_9999, k_10059, k_13849, k_25173, k_65535, k_65536, k_1000000, k_1048576, k_268435456, k_1073741823, k_1073741824, I_add, I_sub, I_mul, I_neg, Option.bind_some, tn, tn_at, Int.add_zero, Int.toNat_zero, bi_e0, bi_e1, bi_z, tn_s, I_le, I_inj, gR0_0, gR0_1, gR0_2, gI0_3, gI0_4, gI0_5, gR0_6, gR0_7, gR0_8, gR0_9, gR0_10, gI0_12, gI0_13, gR0_14, gR0_15, gR0_16, gR0_17, gR0_18, gR0_19, gR0_20, gR0_21, gI4_0, gI4_1, gI4_2, gI4_3, gI4_4, gI4_5, gI4_6, gI4_7, gI4_8, gI4_9, on0, on4, rTr, onTr, gTr0, gTr1, gTr2, gTr3, gTr4, rSt, rMi, rFr, rFu, v_sm h hc, v_st h ha, v_st h hc, v_mi h ha, v_mi h hc]
      rw [if_neg (show ¬ (sm V0 c : Int) ≤ (i : Int) + 1 by omega)]
      by_cases d1 : st V0 a k = st V0 c (i + 1)
      · rw [if_pos d1]
        by_cases d2 : st V0 a (k + 1) = st V0 c i
        · rw [if_pos d2]
          by_cases d3 : mi V0 c (i + 1) ≤ mi V0 a k
          · rw [if_pos d3]
            rfl
          · rw [if_neg d3]
            by_cases d4 : mi V0 a (k + 1) ≤ mi V0 c i
            · rw [if_pos d4]
              rfl
            · exact absurd ⟨d1, d2, Int.not_le.mp d3, Int.not_le.mp d4⟩ hp
        · rw [if_neg d2]
          rfl
      · rw [if_neg d1]
        rfl
    · have hp : mtQ V0 a c k i := by simpa using hp
      obtain ⟨p1, p2, p3, p4⟩ := hp
      have b1 := st_b h ha (show k < sm V0 a by omega)
      have b2 := st_b h ha (show k + 1 < sm V0 a by omega)
      have b3 := st_b h hc (show i < sm V0 c by omega)
      have b4 := st_b h hc (show i + 1 < sm V0 c by omega)
      have b5 := mi_b h ha (show k < sm V0 a by omega)
      have b6 := mi_b h ha (show k + 1 < sm V0 a by omega)
      have b7 := mi_b h hc (show i < sm V0 c by omega)
      have b8 := mi_b h hc (show i + 1 < sm V0 c by omega)
      simp (disch := omega) only [fX0_doMeet_L15, k_0, k_1, k_2, k_3, k_4, k_5, k_6, k_7, k_8, k_9, k_10, k_11, k_12, k_13, k_14, k_15, k_16, k_17, k_18, k_19, k_20, k_21, k_22, k_23, k_24, k_25, k_26, k_27, k_28, k_29, k_30, k_31, k_33, k_37, k_38, k_40, k_41, k_42, k_43, k_45, k_47, k_48, k_57, k_59, k_60, k_61, k_62, k_63, k_91, k_93, k_97, k_99, k_100, k_102, k_106, k_107, k_108, k_109, k_110, k_112, k_114, k_115, k_117, k_120, k_121, k_124, k_160, k_200, k_240, k_255, k_256, k_260, k_384, k_720, k_1000, k_1047, k_1439, k_1440, k_2000, k_2047, k_9999, k_10059, k_13849, k_25173, k_65535, k_65536, k_1000000, k_1048576, k_268435456, k_1073741823, k_1073741824, I_add, I_sub, I_mul, I_neg, Option.bind_some, tn, tn_at, Int.add_zero, Int.toNat_zero, bi_e0, bi_e1, bi_z, tn_s, I_lt, I_le, I_inj, if_pos, if_neg, I_max, I_min, gR0_0, gR0_1, gR0_2, gI0_3, gI0_4, gI0_5, gR0_6, gR0_7, gR0_8, gR0_9, gR0_10, gI0_12, gI0_13, gR0_14, gR0_15, gR0_16, gR0_17, gR0_18, gR0_19, gR0_20, gR0_21, gI4_0, gI4_1, gI4_2, gI4_3, gI4_4, gI4_5, gI4_6, gI4_7, gI4_8, gI4_9, on0, on4, rTr, onTr, gTr0, gTr1, gTr2, gTr3, gTr4, rSt, rMi, rFr, rFu, v_sm h hc, v_st h ha, v_st h hc, v_mi h ha, v_mi h hc]
    · simp (disch := omega) only [fX0_doMeet_L15, k_0, k_1, k_2, k_3, k_4, k_5, k_6, k_7, k_8, k_9, k_10, k_11, k_12, k_13, k_14, k_15, k_16, k_17, k_18, k_19, k_20, k_21, k_22, k_23, k_24, k_25, k_26, k_27, k_28, k_29, k_30, k_31, k_33, k_37, k_38, k_40, k_41, k_42, k_43, k_45, k_47, k_48, k_57, k_59, k_60, k_61, k_62, k_63, k_91, k_93, k_97, k_99, k_100, k_102, k_106, k_107, k_108, k_109, k_110, k_112, k_114, k_115, k_117, k_120, k_121, k_124, k_160, k_200, k_240, k_255, k_256, k_260, k_384, k_720, k_1000, k_1047, k_1439, k_1440, k_2000, k_2047, k_9999, k_10059, k_13849, k_25173, k_65535, k_65536, k_1000000, k_1048576, k_268435456, k_1073741823, k_1073741824, I_add, I_sub, I_mul, I_neg, Option.bind_some, tn, tn_at, Int.add_zero, Int.toNat_zero, bi_e0, bi_e1, bi_z, I_lt, I_le, I_inj, if_pos, if_neg, I_max, I_min, gR0_0, gR0_1, gR0_2, gI0_3, gI0_4, gI0_5, gR0_6, gR0_7, gR0_8, gR0_9, gR0_10, gI0_12, gI0_13, gR0_14, gR0_15, gR0_16, gR0_17, gR0_18, gR0_19, gR0_20, gR0_21, gI4_0, gI4_1, gI4_2, gI4_3, gI4_4, gI4_5, gI4_6, gI4_7, gI4_8, gI4_9, on0, on4, rTr, onTr, gTr0, gTr1, gTr2, gTr3, gTr4, rSt, rMi, rFr, rFu, v_sm h hc]
  have key := iter_find (b := fX0_doMeet_L2 (Wd b V lw R) (some (b + (114 + 3 * a))) (some (b + (114 + 3 * c)))) (fun i => I (i : Int)) (mtB V0 a c) (sm V0 a - 1) (fun _ => .inr (I 1)) (.inl ()) (by omega) (fun k hk hp => by
      have hp : ¬ fnd (fun i => decide (mtQ V0 a c k i)) (sm V0 c - 1) < sm V0 c - 1 := of_decide_eq_false hp
      simp (disch := omega) only [fX0_doMeet_L2, k_0, k_1, k_2, k_3, k_4, k_5, k_6, k_7, k_8, k_9, k_10, k_11, k_12, k_13, k_14, k_15, k_16, k_17, k_18, k_19, k_20, k_21, k_22, k_23, k_24, k_25, k_26, k_27, k_28, k_29, k_30, k_31, k_33, k_37, k_38, k_40, k_41, k_42, k_43, k_45, k_47, k_48, k_57, k_59, k_60, k_61, k_62, k_63, k_91, k_93, k_97, k_99, k_100, k_102, k_106, k_107, k_108, k_109, k_110, k_112, k_114, k_115, k_117, k_120, k_121, k_124, k_160, k_200, k_240, k_255, k_256, k_260, k_384, k_720, k_1000, k_1047, k_1439, k_1440, k_2000, k_2047, k_9999, k_10059, k_13849, k_25173, k_65535, k_65536, k_1000000, k_1048576, k_268435456, k_1073741823, k_1073741824, I_add, I_sub, I_mul, I_neg, Option.bind_some, tn, tn_at, Int.add_zero, Int.toNat_zero, bi_e0, bi_e1, bi_z, I_le, gR0_0, gR0_1, gR0_2, gI0_3, gI0_4, gI0_5, gR0_6, gR0_7, gR0_8, gR0_9, gR0_10, gI0_12, gI0_13, gR0_14, gR0_15, gR0_16, gR0_17, gR0_18, gR0_19, gR0_20, gR0_21, gI4_0, gI4_1, gI4_2, gI4_3, gI4_4, gI4_5, gI4_6, gI4_7, gI4_8, gI4_9, on0, on4, rTr, onTr, gTr0, gTr1, gTr2, gTr3, gTr4, rSt, rMi, rFr, rFu, v_sm h ha, KI k hk]
      rw [if_neg (by omega), if_neg hp]
      rfl) (fun k hk hp => by
      have hp : fnd (fun i => decide (mtQ V0 a c k i)) (sm V0 c - 1) < sm V0 c - 1 := of_decide_eq_true hp
      simp (disch := omega) only [fX0_doMeet_L2, k_0, k_1, k_2, k_3, k_4, k_5, k_6, k_7, k_8, k_9, k_10, k_11, k_12, k_13, k_14, k_15, k_16, k_17, k_18, k_19, k_20, k_21, k_22, k_23, k_24, k_25, k_26, k_27, k_28, k_29, k_30, k_31, k_33, k_37, k_38, k_40, k_41, k_42, k_43, k_45, k_47, k_48, k_57, k_59, k_60, k_61, k_62, k_63, k_91, k_93, k_97, k_99, k_100, k_102, k_106, k_107, k_108, k_109, k_110, k_112, k_114, k_115, k_117, k_120, k_121, k_124, k_160, k_200, k_240, k_255, k_256, k_260, k_384, k_720, k_1000, k_1047, k_1439, k_1440, k_2000, k_2047, k_9999, k_10059, k_13849, k_25173, k_65535, k_65536, k_1000000, k_1048576, k_268435456, k_1073741823, k_1073741824, I_add, I_sub, I_mul, I_neg, Option.bind_some, tn, tn_at, Int.add_zero, Int.toNat_zero, bi_e0, bi_e1, bi_z, I_le, gR0_0, gR0_1, gR0_2, gI0_3, gI0_4, gI0_5, gR0_6, gR0_7, gR0_8, gR0_9, gR0_10, gI0_12, gI0_13, gR0_14, gR0_15, gR0_16, gR0_17, gR0_18, gR0_19, gR0_20, gR0_21, gI4_0, gI4_1, gI4_2, gI4_3, gI4_4, gI4_5, gI4_6, gI4_7, gI4_8, gI4_9, on0, on4, rTr, onTr, gTr0, gTr1, gTr2, gTr3, gTr4, rSt, rMi, rFr, rFu, v_sm h ha, KI k hk]
      rw [if_neg (by omega), if_pos hp]) (by simp (disch := omega) only [fX0_doMeet_L2, k_0, k_1, k_2, k_3, k_4, k_5, k_6, k_7, k_8, k_9, k_10, k_11, k_12, k_13, k_14, k_15, k_16, k_17, k_18, k_19, k_20, k_21, k_22, k_23, k_24, k_25, k_26, k_27, k_28, k_29, k_30, k_31, k_33, k_37, k_38, k_40, k_41, k_42, k_43, k_45, k_47, k_48, k_57, k_59, k_60, k_61, k_62, k_63, k_91, k_93, k_97, k_99, k_100, k_102, k_106, k_107, k_108, k_109, k_110, k_112, k_114, k_115, k_117, k_120, k_121, k_124, k_160, k_200, k_240, k_255, k_256, k_260, k_384, k_720, k_1000, k_1047, k_1439, k_1440, k_2000, k_2047, k_9999, k_10059, k_13849, k_25173, k_65535, k_65536, k_1000000, k_1048576, k_268435456, k_1073741823, k_1073741824, I_add, I_sub, I_mul, I_neg, Option.bind_some, tn, tn_at, Int.add_zero, Int.toNat_zero, bi_e0, bi_e1, bi_z, I_lt, I_le, I_inj, if_pos, if_neg, I_max, I_min, gR0_0, gR0_1, gR0_2, gI0_3, gI0_4, gI0_5, gR0_6, gR0_7, gR0_8, gR0_9, gR0_10, gI0_12, gI0_13, gR0_14, gR0_15, gR0_16, gR0_17, gR0_18, gR0_19, gR0_20, gR0_21, gI4_0, gI4_1, gI4_2, gI4_3, gI4_4, gI4_5, gI4_6, gI4_7, gI4_8, gI4_9, on0, on4, rTr, onTr, gTr0, gTr1, gTr2, gTr3, gTr4, rSt, rMi, rFr, rFu, v_sm h ha])
  unfold fX0_doMeet
  rw [show (0 : Int32) = I ((0 : Nat) : Int) from rfl, key]
  unfold mt
  by_cases q : fnd (mtB V0 a c) (sm V0 a - 1) < sm V0 a - 1
  · rw [if_pos q, bi_t (by simpa using q)]
    rfl
  · rw [if_neg q, bi_f (by simpa using q)]
    rfl
theorem ySt (h : Rel V0 V) {a k : Nat} (ha : a < nT V0) (hk : k < sm V0 a) : hp_aI (Wd b V lw R) (some (b + 266)) 0 (I (8 * (a : Int) + (k : Int))) = some (I (st V0 a k)) := by
  have ha48 := r48 h ha
  have hsa := sm2 h ha
  rw [rA266 (by omega) (by omega), tn_at, w_st h ha hk]
theorem yMi (h : Rel V0 V) {a k : Nat} (ha : a < nT V0) (hk : k < sm V0 a) : hp_aI (Wd b V lw R) (some (b + 267)) 0 (I (8 * (a : Int) + (k : Int))) = some (I (mi V0 a k)) := by
  have ha48 := r48 h ha
  have hsa := sm2 h ha
  rw [rA267 (by omega) (by omega), tn_at, w_mi h ha hk]
theorem ySt1 (h : Rel V0 V) {a k : Nat} (ha : a < nT V0) (hk : k + 1 < sm V0 a) : hp_aI (Wd b V lw R) (some (b + 266)) 0 (I (8 * (a : Int) + ((k : Int) + 1))) = some (I (st V0 a (k + 1))) := ySt h ha hk
theorem yMi1 (h : Rel V0 V) {a k : Nat} (ha : a < nT V0) (hk : k + 1 < sm V0 a) : hp_aI (Wd b V lw R) (some (b + 267)) 0 (I (8 * (a : Int) + ((k : Int) + 1))) = some (I (mi V0 a (k + 1))) := yMi h ha hk
theorem ySm (h : Rel V0 V) {a : Nat} (ha : a < nT V0) : hp_aI (Wd b V lw R) (some (b + 265)) 0 (I (a : Int)) = some (I (sm V0 a : Int)) := by
  have ha48 := r48 h ha
  rw [rA265 (by omega) (by omega), tn, w_sm h ha]
theorem st_i (h : Rel V0 V) {a c k i : Nat} (ha : a < nT V0) (hc : c < nT V0) (hk : k < sm V0 a) (hi : i < sm V0 c) : (I (st V0 a k) = I (st V0 c i)) = (st V0 a k = st V0 c i) := by
  have b1 := st_b h ha hk
  have b2 := st_b h hc hi
  exact I_inj (by omega) (by omega) (by omega) (by omega)
theorem mi_i (h : Rel V0 V) {a c k i : Nat} (ha : a < nT V0) (hc : c < nT V0) (hk : k < sm V0 a) (hi : i < sm V0 c) : (I (mi V0 a k) ≤ I (mi V0 c i)) = (mi V0 a k ≤ mi V0 c i) := by
  have b1 := mi_b h ha hk
  have b2 := mi_b h hc hi
  exact I_le (by omega) (by omega) (by omega) (by omega)
theorem y_met_no (h : Rel V0 V) {a c k i : Nat} (ha : a < nT V0) (hc : c < nT V0) (hk : k + 1 < sm V0 a) (hi : i + 1 < sm V0 c) (hp : ¬ mtQ V0 a c k i) : fX7_areMet_L17 (Wd b V lw R) (some (b + 258)) (I (a : Int)) (I (c : Int)) (I (k : Int)) (I (i : Int)) = some (.inl (I ((i : Int) + 1))) := by
  have hsc := sm2 h hc
  have e0 : (I (sm V0 c : Int) ≤ I ((i : Int) + 1)) = False := by
    rw [I_le (by omega) (by omega) (by omega) (by omega)]
    exact eq_false (by omega)
  have hk0 : k < sm V0 a := by omega
  have hi0 : i < sm V0 c := by omega
  simp only [fX7_areMet_L17, fX7_at, k_0, k_1, k_8, I_mul, I_add, gR258_6, gR258_7, gR258_8, Option.bind_some, ySm h hc, ySt h ha hk0, ySt1 h ha hk, ySt h hc hi0, ySt1 h hc hi, yMi h ha hk0, yMi1 h ha hk, yMi h hc hi0, yMi1 h hc hi, e0, if_false, st_i h ha hc hk0 hi, st_i h ha hc hk hi0, mi_i h hc ha hi hk0, mi_i h ha hc hk hi0]
  by_cases d1 : st V0 a k = st V0 c (i + 1)
  · by_cases d2 : st V0 a (k + 1) = st V0 c i
    · rw [if_pos d1, if_pos d2, Option.bind_some, if_neg (show ¬ I 1 = I 0 by decide)]
      by_cases d3 : mi V0 c (i + 1) ≤ mi V0 a k
      · rw [if_pos d3]
      · rw [if_neg d3]
        by_cases d4 : mi V0 a (k + 1) ≤ mi V0 c i
        · rw [if_pos d4]
        · exact absurd ⟨d1, d2, Int.not_le.mp d3, Int.not_le.mp d4⟩ hp
    · rw [if_pos d1, if_neg d2, Option.bind_some, if_pos rfl]
  · rw [if_neg d1, Option.bind_some, if_pos rfl]
theorem y_met_yes (h : Rel V0 V) {a c k i : Nat} (ha : a < nT V0) (hc : c < nT V0) (hk : k + 1 < sm V0 a) (hi : i + 1 < sm V0 c) (hp : mtQ V0 a c k i) : fX7_areMet_L17 (Wd b V lw R) (some (b + 258)) (I (a : Int)) (I (c : Int)) (I (k : Int)) (I (i : Int)) = some (.inr (.inr (.inr (.inr (I 1))))) := by
  have hsc := sm2 h hc
  have e0 : (I (sm V0 c : Int) ≤ I ((i : Int) + 1)) = False := by
    rw [I_le (by omega) (by omega) (by omega) (by omega)]
    exact eq_false (by omega)
  have hk0 : k < sm V0 a := by omega
  have hi0 : i < sm V0 c := by omega
  obtain ⟨d1, d2, d3, d4⟩ := hp
  simp only [fX7_areMet_L17, fX7_at, k_0, k_1, k_8, I_mul, I_add, gR258_6, gR258_7, gR258_8, Option.bind_some, ySm h hc, ySt h ha hk0, ySt1 h ha hk, ySt h hc hi0, ySt1 h hc hi, yMi h ha hk0, yMi1 h ha hk, yMi h hc hi0, yMi1 h hc hi, e0, if_false, st_i h ha hc hk0 hi, st_i h ha hc hk hi0, mi_i h hc ha hi hk0, mi_i h ha hc hk hi0]
  rw [if_pos d1, if_pos d2, Option.bind_some, if_neg (show ¬ I 1 = I 0 by decide), if_neg (Int.not_le.mpr d3), if_neg (Int.not_le.mpr d4)]
theorem y_met_fin (h : Rel V0 V) {a c k : Nat} (hc : c < nT V0) : fX7_areMet_L17 (Wd b V lw R) (some (b + 258)) (I (a : Int)) (I (c : Int)) (I (k : Int)) (I ((sm V0 c - 1 : Nat) : Int)) = some (.inr (.inl ())) := by
  have hsc := sm2 h hc
  have e0 : (I (sm V0 c : Int) ≤ I (((sm V0 c - 1 : Nat) : Int) + 1)) = True := by
    rw [I_le (by omega) (by omega) (by omega) (by omega)]
    exact eq_true (by omega)
  unfold fX7_areMet_L17
  rw [gR258_6, Option.bind_some, ySm h hc, Option.bind_some, k_1, I_add]
  simp only [e0, if_true]
theorem y_met_in (h : Rel V0 V) {a c k : Nat} (ha : a < nT V0) (hc : c < nT V0) (hk : k + 1 < sm V0 a) : iter (fX7_areMet_L17 (Wd b V lw R) (some (b + 258)) (I (a : Int)) (I (c : Int)) (I (k : Int))) FUEL (I 0) = some (if fnd (fun i => decide (mtQ V0 a c k i)) (sm V0 c - 1) < sm V0 c - 1 then .inr (.inr (.inr (I 1))) else .inl ()) := by
  have hsc := sm2 h hc
  have key := iter_find (b := fX7_areMet_L17 (Wd b V lw R) (some (b + 258)) (I (a : Int)) (I (c : Int)) (I (k : Int))) (fun i => I (i : Int)) (fun i => decide (mtQ V0 a c k i)) (sm V0 c - 1) (fun _ => .inr (.inr (.inr (I 1)))) (.inl ()) (by omega) (fun i hi hp => y_met_no h ha hc hk (by omega) (by simpa using hp)) (fun i hi hp => y_met_yes h ha hc hk (by omega) (by simpa using hp)) (y_met_fin h hc)
  exact key
theorem y_areMet (h : Rel V0 V) {a c : Nat} (ha : a < nT V0) (hc : c < nT V0) : fX7_areMet (Wd b V lw R) (some (b + 258)) (I (a : Int)) (I (c : Int)) = some (I (bi (mt V0 a c = true))) := by
  have hsa := sm2 h ha
  have key := iter_find (b := fX7_areMet_L2 (Wd b V lw R) (some (b + 258)) (I (a : Int)) (I (c : Int))) (fun i => I (i : Int)) (mtB V0 a c) (sm V0 a - 1) (fun _ => .inr (I 1)) (.inl ()) (by omega) (fun k hk hp => by
      have hp : ¬ fnd (fun i => decide (mtQ V0 a c k i)) (sm V0 c - 1) < sm V0 c - 1 := of_decide_eq_false hp
      simp (disch := omega) only [fX7_areMet_L2, k_0, k_1, I_add, Option.bind_some, gR258_6, I_le, ySm h ha, y_met_in h ha hc (show k + 1 < sm V0 a by omega)]
      rw [if_neg (by omega), if_neg hp]
      rfl) (fun k hk hp => by
      have hp : fnd (fun i => decide (mtQ V0 a c k i)) (sm V0 c - 1) < sm V0 c - 1 := of_decide_eq_true hp
      simp (disch := omega) only [fX7_areMet_L2, k_0, k_1, I_add, Option.bind_some, gR258_6, I_le, ySm h ha, y_met_in h ha hc (show k + 1 < sm V0 a by omega)]
      rw [if_neg (by omega), if_pos hp]) (by
      unfold fX7_areMet_L2
      rw [gR258_6, Option.bind_some, ySm h ha, Option.bind_some, k_1, I_add]
      simp (disch := omega) only [I_le, if_pos])
  unfold fX7_areMet
  rw [show (0 : Int32) = I ((0 : Nat) : Int) from rfl, key]
  unfold mt
  by_cases q : fnd (mtB V0 a c) (sm V0 a - 1) < sm V0 a - 1
  · rw [if_pos q, bi_t (by simpa using q)]
    rfl
  · rw [if_neg q, bi_f (by simpa using q)]
    rfl
abbrev mp (V : Vw) (a c : Nat) : Prop := a < c ∧ ru V a ∧ ru V c ∧ mt V a c = true
theorem call_meets (h : Rel V0 V) : ∃ v, fX0_meets (Wd b V lw R) (some b) = some v ∧ fX7_meets (Wd b V lw R) (some (b + 258)) = some v := by
  have hn := n48 h
  have K0 : iter (fX0_meets_L4 (Wd b V lw R) (some b)) FUEL (I 0, I 0) = some (I (smN (fun a => cnt (fun c => decide (mp V0 a c)) (nT V0)) (nT V0))) := by
    refine sum_loop _ (nT V0) (by omega) (fun a c0 ha => ?_) (fun c => by simp (disch := omega) only [fX0_meets_L4, k_0, k_1, k_2, k_3, k_4, k_5, k_6, k_7, k_8, k_9, k_10, k_11, k_12, k_13, k_14, k_15, k_16, k_17, k_18, k_19, k_20, k_21, k_22, k_23, k_24, k_25, k_26, k_27, k_28, k_29, k_30, k_31, k_33, k_37, k_38, k_40, k_41, k_42, k_43, k_45, k_47, k_48, k_57, k_59, k_60, k_61, k_62, k_63, k_91, k_93, k_97, k_99, k_100, k_102, k_106, k_107, k_108, k_109, k_110, k_112, k_114, k_115, k_117, k_120, k_121, k_124, k_160, k_200, k_240, k_255, k_256, k_260, k_384, k_720, k_1000, k_1047, k_1439, k_1440, k_2000, k_2047, k_9999, k_10059, k_13849, k_25173, k_65535, k_65536, k_1000000, k_1048576, k_268435456, k_1073741823, k_1073741824, I_add, I_sub, I_mul, I_neg, Option.bind_some, tn, tn_at, Int.add_zero, Int.toNat_zero, bi_e0, bi_e1, bi_z, I_lt, I_le, I_inj, if_pos, if_neg, I_max, I_min, gR0_0, gR0_1, gR0_2, gI0_3, gI0_4, gI0_5, gR0_6, gR0_7, gR0_8, gR0_9, gR0_10, gI0_12, gI0_13, gR0_14, gR0_15, gR0_16, gR0_17, gR0_18, gR0_19, gR0_20, gR0_21, gI4_0, gI4_1, gI4_2, gI4_3, gI4_4, gI4_5, gI4_6, gI4_7, gI4_8, gI4_9, on0, on4, rTr, onTr, gTr0, gTr1, gTr2, gTr3, gTr4, rSt, rMi, rFr, rFu, v_n h])
    have KI := cnt_from (b := fX0_meets_L16 (Wd b V lw R) (some b) (I (a : Int))) (fun c => mp V0 a c) (a + 1) (nT V0) (by omega) (by omega) c0 (fun i hi q => by have := q.1; omega) (fun q c hlo hq => by
      simp (disch := omega) only [fX0_meets_L16, k_0, k_1, k_2, k_3, k_4, k_5, k_6, k_7, k_8, k_9, k_10, k_11, k_12, k_13, k_14, k_15, k_16, k_17, k_18, k_19, k_20, k_21, k_22, k_23, k_24, k_25, k_26, k_27, k_28, k_29, k_30, k_31, k_33, k_37, k_38, k_40, k_41, k_42, k_43, k_45, k_47, k_48, k_57, k_59, k_60, k_61, k_62, k_63, k_91, k_93, k_97, k_99, k_100, k_102, k_106, k_107, k_108, k_109, k_110, k_112, k_114, k_115, k_117, k_120, k_121, k_124, k_160, k_200, k_240, k_255, k_256, k_260, k_384, k_720, k_1000, k_1047, k_1439, k_1440, k_2000, k_2047, k_9999, k_10059, k_13849, k_25173, k_65535, k_65536, k_1000000, k_1048576, k_268435456, k_1073741823, k_1073741824, I_add, I_sub, I_mul, I_neg, Option.bind_some, tn, tn_at, Int.add_zero, Int.toNat_zero, bi_e0, bi_e1, bi_z, I_le, gR0_0, gR0_1, gR0_2, gI0_3, gI0_4, gI0_5, gR0_6, gR0_7, gR0_8, gR0_9, gR0_10, gI0_12, gI0_13, gR0_14, gR0_15, gR0_16, gR0_17, gR0_18, gR0_19, gR0_20, gR0_21, gI4_0, gI4_1, gI4_2, gI4_3, gI4_4, gI4_5, gI4_6, gI4_7, gI4_8, gI4_9, on0, on4, rTr, onTr, gTr0, gTr1, gTr2, gTr3, gTr4, rSt, rMi, rFr, rFu, v_n h, v_ru h ha, v_ru h hq, x_doMeet h ha hq]
      by_cases d1 : ru V0 a
      · by_cases d2 : ru V0 q
        · by_cases d3 : mt V0 a q = true
          · rw [bi_t ⟨by omega, d1, d2, d3⟩, if_neg (by omega), if_neg (fun x => x d1), if_neg (fun x => x d2), if_neg (fun x => x d3)]
          · rw [bi_f (fun x => d3 x.2.2.2), Int.add_zero, if_neg (by omega), if_neg (fun x => x d1), if_neg (fun x => x d2), if_pos d3]
        · rw [bi_f (fun x => d2 x.2.2.1), Int.add_zero, if_neg (by omega), if_neg (fun x => x d1), if_pos d2]
      · rw [bi_f (fun x => d1 x.2.1), Int.add_zero, if_neg (by omega), if_pos d1]) (fun c => by simp (disch := omega) only [fX0_meets_L16, k_0, k_1, k_2, k_3, k_4, k_5, k_6, k_7, k_8, k_9, k_10, k_11, k_12, k_13, k_14, k_15, k_16, k_17, k_18, k_19, k_20, k_21, k_22, k_23, k_24, k_25, k_26, k_27, k_28, k_29, k_30, k_31, k_33, k_37, k_38, k_40, k_41, k_42, k_43, k_45, k_47, k_48, k_57, k_59, k_60, k_61, k_62, k_63, k_91, k_93, k_97, k_99, k_100, k_102, k_106, k_107, k_108, k_109, k_110, k_112, k_114, k_115, k_117, k_120, k_121, k_124, k_160, k_200, k_240, k_255, k_256, k_260, k_384, k_720, k_1000, k_1047, k_1439, k_1440, k_2000, k_2047, k_9999, k_10059, k_13849, k_25173, k_65535, k_65536, k_1000000, k_1048576, k_268435456, k_1073741823, k_1073741824, I_add, I_sub, I_mul, I_neg, Option.bind_some, tn, tn_at, Int.add_zero, Int.toNat_zero, bi_e0, bi_e1, bi_z, I_lt, I_le, I_inj, if_pos, if_neg, I_max, I_min, gR0_0, gR0_1, gR0_2, gI0_3, gI0_4, gI0_5, gR0_6, gR0_7, gR0_8, gR0_9, gR0_10, gI0_12, gI0_13, gR0_14, gR0_15, gR0_16, gR0_17, gR0_18, gR0_19, gR0_20, gR0_21, gI4_0, gI4_1, gI4_2, gI4_3, gI4_4, gI4_5, gI4_6, gI4_7, gI4_8, gI4_9, on0, on4, rTr, onTr, gTr0, gTr1, gTr2, gTr3, gTr4, rSt, rMi, rFr, rFu, v_n h])
    have KI : iter (fX0_meets_L16 (Wd b V lw R) (some b) (I (a : Int))) FUEL (I c0, I ((a : Int) + 1)) = _ := KI
    simp (disch := omega) only [fX0_meets_L4, k_0, k_1, k_2, k_3, k_4, k_5, k_6, k_7, k_8, k_9, k_10, k_11, k_12, k_13, k_14, k_15, k_16, k_17, k_18, k_19, k_20, k_21, k_22, k_23, k_24, k_25, k_26, k_27, k_28, k_29, k_30, k_31, k_33, k_37, k_38, k_40, k_41, k_42, k_43, k_45, k_47, k_48, k_57, k_59, k_60, k_61, k_62, k_63, k_91, k_93, k_97, k_99, k_100, k_102, k_106, k_107, k_108, k_109, k_110, k_112, k_114, k_115, k_117, k_120, k_121, k_124, k_160, k_200, k_240, k_255, k_256, k_260, k_384, k_720, k_1000, k_1047, k_1439, k_1440, k_2000, k_2047, k_9999, k_10059, k_13849, k_25173, k_65535, k_65536, k_1000000, k_1048576, k_268435456, k_1073741823, k_1073741824, I_add, I_sub, I_mul, I_neg, Option.bind_some, tn, tn_at, Int.add_zero, Int.toNat_zero, bi_e0, bi_e1, bi_z, I_lt, I_le, I_inj, if_pos, if_neg, I_max, I_min, gR0_0, gR0_1, gR0_2, gI0_3, gI0_4, gI0_5, gR0_6, gR0_7, gR0_8, gR0_9, gR0_10, gI0_12, gI0_13, gR0_14, gR0_15, gR0_16, gR0_17, gR0_18, gR0_19, gR0_20, gR0_21, gI4_0, gI4_1, gI4_2, gI4_3, gI4_4, gI4_5, gI4_6, gI4_7, gI4_8, gI4_9, on0, on4, rTr, onTr, gTr0, gTr1, gTr2, gTr3, gTr4, rSt, rMi, rFr, rFu, v_n h, KI]
  have K7 : iter (fX7_meets_L4 (Wd b V lw R) (some (b + 258))) FUEL (I 0, I 0) = some (I (smN (fun c => cnt (fun a => decide (mp V0 a c)) (nT V0)) (nT V0))) := by
    refine sum_loop _ (nT V0) (by omega) (fun c c0 hc => ?_) (fun c => by simp (disch := omega) only [fX7_meets_L4, k_0, k_1, k_2, k_3, k_4, k_5, k_6, k_7, k_8, k_9, k_10, k_11, k_12, k_13, k_14, k_15, k_16, k_17, k_18, k_19, k_20, k_21, k_22, k_23, k_24, k_25, k_26, k_27, k_28, k_29, k_30, k_31, k_33, k_37, k_38, k_40, k_41, k_42, k_43, k_45, k_47, k_48, k_57, k_59, k_60, k_61, k_62, k_63, k_91, k_93, k_97, k_99, k_100, k_102, k_106, k_107, k_108, k_109, k_110, k_112, k_114, k_115, k_117, k_120, k_121, k_124, k_160, k_200, k_240, k_255, k_256, k_260, k_384, k_720, k_1000, k_1047, k_1439, k_1440, k_2000, k_2047, k_9999, k_10059, k_13849, k_25173, k_65535, k_65536, k_1000000, k_1048576, k_268435456, k_1073741823, k_1073741824, I_add, I_sub, I_mul, I_neg, Option.bind_some, tn, tn_at, Int.add_zero, Int.toNat_zero, bi_e0, bi_e1, bi_z, I_lt, I_le, I_inj, if_pos, if_neg, I_max, I_min, gR258_0, gR258_1, gR258_2, gR258_3, gR258_4, gR258_5, gR258_6, gR258_7, gR258_8, gR258_9, gR258_10, gR258_11, gR258_12, gI258_13, gI258_14, gI258_15, gR258_16, gI258_17, gI258_18, gI258_19, gI258_20, gI258_21, gI258_22, gI258_23, gI258_24, gI258_25, gI258_26, gR258_27, gR258_28, gR258_29, gR258_30, gR258_31, gR258_32, gR258_33, gR258_34, gR258_35, gR258_36, gR258_37, gR258_38, gR258_39, gR258_40, gR258_41, gR258_42, gI258_43, gI258_44, gR258_45, gR258_46, gR258_47, gR258_48, gI258_49, gR258_50, gR258_51, gI258_52, gI258_53, gI258_54, gR258_55, gR258_56, gR258_57, gR258_58, gR258_59, gR258_60, gR258_61, gR258_62, gR258_63, gR258_64, gI258_65, on258, w_n h])
    have KI := cnt_loopk (b := fX7_meets_L14 (Wd b V lw R) (some (b + 258)) (I (c : Int))) (fun a => mp V0 a c) c (by omega) c0 (fun q c1 hq => by
      have hq2 : q < nT V0 := by omega
      simp (disch := omega) only [fX7_meets_L14, k_0, k_1, k_2, k_3, k_4, k_5, k_6, k_7, k_8, k_9, k_10, k_11, k_12, k_13, k_14, k_15, k_16, k_17, k_18, k_19, k_20, k_21, k_22, k_23, k_24, k_25, k_26, k_27, k_28, k_29, k_30, k_31, k_33, k_37, k_38, k_40, k_41, k_42, k_43, k_45, k_47, k_48, k_57, k_59, k_60, k_61, k_62, k_63, k_91, k_93, k_97, k_99, k_100, k_102, k_106, k_107, k_108, k_109, k_110, k_112, k_114, k_115, k_117, k_120, k_121, k_124, k_160, k_200, k_240, k_255, k_256, k_260, k_384, k_720, k_1000, k_1047, k_1439, k_1440, k_2000, k_2047, k_9999, k_10059, k_13849, k_25173, k_65535, k_65536, k_1000000, k_1048576, k_268435456, k_1073741823, k_1073741824, I_add, I_sub, I_mul, I_neg, Option.bind_some, tn, tn_at, Int.add_zero, Int.toNat_zero, bi_e0, bi_e1, bi_z, I_le, gR258_0, gR258_1, gR258_2, gR258_3, gR258_4, gR258_5, gR258_6, gR258_7, gR258_8, gR258_9, gR258_10, gR258_11, gR258_12, gI258_13, gI258_14, gI258_15, gR258_16, gI258_17, gI258_18, gI258_19, gI258_20, gI258_21, gI258_22, gI258_23, gI258_24, gI258_25, gI258_26, gR258_27, gR258_28, gR258_29, gR258_30, gR258_31, gR258_32, gR258_33, gR258_34, gR258_35, gR258_36, gR258_37, gR258_38, gR258_39, gR258_40, gR258_41, gR258_42, gI258_43, gI258_44, gR258_45, gR258_46, gR258_47, gR258_48, gI258_49, gR258_50, gR258_51, gI258_52, gI258_53, gI258_54, gR258_55, gR258_56, gR258_57, gR258_58, gR258_59, gR258_60, gR258_61, gR258_62, gR258_63, gR258_64, gI258_65, on258, w_n h, y_runs h hc, y_runs h hq2, y_areMet h hc hq2]
      by_cases d1 : ru V0 q
      · by_cases d2 : ru V0 c
        · by_cases d3 : mt V0 q c = true
          · rw [bi_t ⟨hq, d1, d2, d3⟩, if_neg (by omega), if_neg (fun x => x d2), if_neg (fun x => x d1), mt_sym, if_neg (fun x => x d3)]
          · rw [bi_f (fun x => d3 x.2.2.2), Int.add_zero, if_neg (by omega), if_neg (fun x => x d2), if_neg (fun x => x d1), mt_sym, if_pos d3]
        · rw [bi_f (fun x => d2 x.2.2.1), Int.add_zero, if_neg (by omega), if_pos d2]
      · rw [bi_f (fun x => d1 x.2.1), Int.add_zero, if_neg (by omega)]
        (repeat' split) <;> first | rfl | (exfalso; omega)) (fun c => by simp (disch := omega) only [fX7_meets_L14, k_0, k_1, k_2, k_3, k_4, k_5, k_6, k_7, k_8, k_9, k_10, k_11, k_12, k_13, k_14, k_15, k_16, k_17, k_18, k_19, k_20, k_21, k_22, k_23, k_24, k_25, k_26, k_27, k_28, k_29, k_30, k_31, k_33, k_37, k_38, k_40, k_41, k_42, k_43, k_45, k_47, k_48, k_57, k_59, k_60, k_61, k_62, k_63, k_91, k_93, k_97, k_99, k_100, k_102, k_106, k_107, k_108, k_109, k_110, k_112, k_114, k_115, k_117, k_120, k_121, k_124, k_160, k_200, k_240, k_255, k_256, k_260, k_384, k_720, k_1000, k_1047, k_1439, k_1440, k_2000, k_2047, k_9999, k_10059, k_13849, k_25173, k_65535, k_65536, k_1000000, k_1048576, k_268435456, k_1073741823, k_1073741824, I_add, I_sub, I_mul, I_neg, Option.bind_some, tn, tn_at, Int.add_zero, Int.toNat_zero, bi_e0, bi_e1, bi_z, I_lt, I_le, I_inj, if_pos, if_neg, I_max, I_min, gR258_0, gR258_1, gR258_2, gR258_3, gR258_4, gR258_5, gR258_6, gR258_7, gR258_8, gR258_9, gR258_10, gR258_11, gR258_12, gI258_13, gI258_14, gI258_15, gR258_16, gI258_17, gI258_18, gI258_19, gI258_20, gI258_21, gI258_22, gI258_23, gI258_24, gI258_25, gI258_26, gR258_27, gR258_28, gR258_29, gR258_30, gR258_31, gR258_32, gR258_33, gR258_34, gR258_35, gR258_36, gR258_37, gR258_38, gR258_39, gR258_40, gR258_41, gR258_42, gI258_43, gI258_44, gR258_45, gR258_46, gR258_47, gR258_48, gI258_49, gR258_50, gR258_51, gI258_52, gI258_53, gI258_54, gR258_55, gR258_56, gR258_57, gR258_58, gR258_59, gR258_60, gR258_61, gR258_62, gR258_63, gR258_64, gI258_65, on258, w_n h])
    simp (disch := omega) only [fX7_meets_L4, k_0, k_1, k_2, k_3, k_4, k_5, k_6, k_7, k_8, k_9, k_10, k_11, k_12, k_13, k_14, k_15, k_16, k_17, k_18, k_19, k_20, k_21, k_22, k_23, k_24, k_25, k_26, k_27, k_28, k_29, k_30, k_31, k_33, k_37, k_38, k_40, k_41, k_42, k_43, k_45, k_47, k_48, k_57, k_59, k_60, k_61, k_62, k_63, k_91, k_93, k_97, k_99, k_100, k_102, k_106, k_107, k_108, k_109, k_110, k_112, k_114, k_115, k_117, k_120, k_121, k_124, k_160, k_200, k_240, k_255, k_256, k_260, k_384, k_720, k_1000, k_1047, k_1439, k_1440, k_2000, k_2047, k_9999, k_10059, k_13849, k_25173, k_65535, k_65536, k_1000000, k_1048576, k_268435456, k_1073741823, k_1073741824, I_add, I_sub, I_mul, I_neg, Option.bind_some, tn, tn_at, Int.add_zero, Int.toNat_zero, bi_e0, bi_e1, bi_z, I_lt, I_le, I_inj, if_pos, if_neg, I_max, I_min, gR258_0, gR258_1, gR258_2, gR258_3, gR258_4, gR258_5, gR258_6, gR258_7, gR258_8, gR258_9, gR258_10, gR258_11, gR258_12, gI258_13, gI258_14, gI258_15, gR258_16, gI258_17, gI258_18, gI258_19, gI258_20, gI258_21, gI258_22, gI258_23, gI258_24, gI258_25, gI258_26, gR258_27, gR258_28, gR258_29, gR258_30, gR258_31, gR258_32, gR258_33, gR258_34, gR258_35, gR258_36, gR258_37, gR258_38, gR258_39, gR258_40, gR258_41, gR258_42, gI258_43, gI258_44, gR258_45, gR258_46, gR258_47, gR258_48, gI258_49, gR258_50, gR258_51, gI258_52, gI258_53, gI258_54, gR258_55, gR258_56, gR258_57, gR258_58, gR258_59, gR258_60, gR258_61, gR258_62, gR258_63, gR258_64, gI258_65, on258, w_n h, KI]
    rw [cnt_hi (k := c) (nT V0) (by omega) (fun i h1 h2 => decide_eq_false (fun x => by have := x.1; omega))]
  refine ⟨I (smN (fun a => cnt (fun c => decide (mp V0 a c)) (nT V0)) (nT V0)), ?_, ?_⟩
  · unfold fX0_meets
    rw [k_0, K0]
    rfl
  · unfold fX7_meets
    rw [k_0, K7]
    refine congrArg some (congrArg I ?_)
    rw [smN_c (nT V0) (fun i hi => cnt_smN _ _), smN_swap, smN_c (nT V0) (fun i hi => (cnt_smN _ _).symm)]
end C4
