/-! CALLS about people: asked, counted, checked, kept, undone. No JVM here. -/
set_option maxRecDepth 100000
set_option linter.unusedVariables false
abbrev pT (V : Vw) (p : Nat) : Prop := V (5 + 4 + p) 5 = 1
section PR
variable {b : Nat} {V0 V : Vw} {lw : Option Nat} {R : Hp} {p : Nat} {s t z y w : Int}
abbrev InvPe (V : Vw) (p : Nat) : Prop := (V (5 + 4 + p) 5 = 0 ∨ V (5 + 4 + p) 5 = 1) ∧ V 270 p = V (5 + 4 + p) 5 ∧ 0 ≤ V (5 + 4 + p) 0 ∧ V (5 + 4 + p) 0 ≤ 9 ∧ V 262 p = V (5 + 4 + p) 0 ∧ 0 ≤ V (5 + 4 + p) 1 ∧ V (5 + 4 + p) 1 ≤ 9 ∧ V 263 p = V (5 + 4 + p) 1 ∧ 0 ≤ V (5 + 4 + p) 2 ∧ V (5 + 4 + p) 2 ≤ 1439 ∧ V 264 p = V (5 + 4 + p) 2 ∧ 0 ≤ V (5 + 4 + p) 3 ∧ V (5 + 4 + p) 3 ≤ 9999 ∧ V 259 p = V (5 + 4 + p) 3 ∧ 0 ≤ V (5 + 4 + p) 4 ∧ V (5 + 4 + p) 4 ≤ 9999 ∧ V 259 (12 + p) = V (5 + 4 + p) 4 ∧ 0 ≤ V (37 + 4 + p) 3 ∧ V (37 + 4 + p) 3 ≤ 9999 ∧ V 261 p = V (37 + 4 + p) 3 ∧ 0 ≤ V (37 + 4 + p) 4 ∧ V (37 + 4 + p) 4 ≤ 9999 ∧ V 261 (12 + p) = V (37 + 4 + p) 4
theorem pe (h : Rel V0 V) (hp : p < 12) : InvPe V p := h.invP.1 p hp
theorem v_pT (h : Rel V0 V) (hp : p < 12) : V (5 + 4 + p) 5 = bi (pT V p) := by
  have := (pe h hp).1
  exact bi_i1 (fun q => q) (fun q => this.elim id (fun c => absurd c q))
theorem w_pT (h : Rel V0 V) (hp : p < 12) : V 270 p = bi (pT V p) := (pe h hp).2.1.trans (v_pT h hp)
theorem rP0 (h0 : 0 ≤ z) (h1 : z < 12) : hp_aR (Wd b V lw R) (some (b + 6)) 6 (I z) = some (some (b + (5 + 4 + z.toNat))) := rPe (j := 5) (Or.inl rfl) h0 h1
theorem gP0 {k : Nat} (h : p < 12) (hk : k < 6) : hp_gI (Wd b V lw R) (some (b + (5 + 4 + p))) 3 k = some (I (V (5 + 4 + p) k)) := gPe (Or.inl rfl) h hk
theorem bi_if {α : Type} {q : Prop} [Decidable q] {x y : α} : (if I (bi q) = I 0 then x else y) = if q then y else x := by
  by_cases c : q
  · rw [if_pos c, if_neg (by rw [bi_t c]; decide)]
  · rw [if_neg c, if_pos (by rw [bi_f c])]
theorem gPT (h : Rel V0 V) (hp : p < 12) : hp_gI (Wd b V lw R) (some (b + (5 + 4 + p))) 3 5 = some (I (bi (pT V p))) := (gP0 hp (by decide)).trans (congrArg (fun x => some (I x)) (v_pT h hp))
theorem rTo (h : Rel V0 V) (hp : p < 12) : hp_aI (Wd b V lw R) (some (b + 270)) 2 (I (p : Int)) = some (I (bi (pT V p))) := (rA270 (by omega) (by omega)).trans (congrArg (fun x => some (I x)) (w_pT h hp))
theorem rToz (h : Rel V0 V) (h0 : 0 ≤ z) (h1 : z < 12) : hp_aI (Wd b V lw R) (some (b + 270)) 2 (I z) = some (I (bi (pT V z.toNat))) := (rA270 h0 h1).trans (congrArg (fun x => some (I x)) (w_pT h (by omega)))
theorem x_isTold (h : Rel V0 V) (hz1 : -2147483648 ≤ z) (hz2 : z ≤ 2147483647) : fX0_isTold (Wd b V lw R) (some b) (I z) = some (I (bi (0 ≤ z ∧ z < 12 ∧ pT V z.toNat))) := by
  unfold fX0_isTold
  rw [k_12, x_in hz1 hz2 (by decide) (by decide), Option.bind_some, k_0, bi_if]
  by_cases g : 0 ≤ z ∧ z < 12
  · rw [if_pos g, gR0_7, Option.bind_some, gR5_0, Option.bind_some, rP0 g.1 g.2, Option.bind_some, gPT h (by omega), Option.bind_some, bi_if]
    by_cases c : pT V z.toNat
    · rw [if_pos c, bi_t ⟨g.1, g.2, c⟩]
      rfl
    · rw [if_neg c, bi_f (fun q => c q.2.2)]
  · rw [if_neg g, bi_f (fun q => g ⟨q.1, q.2.1⟩)]
theorem y_isPerson (h : Rel V0 V) (hz1 : -2147483648 ≤ z) (hz2 : z ≤ 2147483647) : fX7_isPerson (Wd b V lw R) (some (b + 258)) (I z) = some (I (bi (0 ≤ z ∧ z < 12 ∧ pT V z.toNat))) := by
  unfold fX7_isPerson
  rw [k_0, k_11, y_in hz1 hz2 (by decide) (by decide) (by decide) (by decide), Option.bind_some, bi_if]
  by_cases g : 0 ≤ z ∧ z ≤ 11
  · rw [if_pos g, gR258_11, Option.bind_some, rToz h g.1 (by omega), Option.bind_some, bi_if]
    by_cases c : pT V z.toNat
    · rw [if_pos c, bi_t ⟨g.1, by omega, c⟩]
      rfl
    · rw [if_neg c, bi_f (fun q => c q.2.2)]
  · rw [if_neg g, bi_f (fun q => g ⟨q.1, by omega⟩)]
theorem call_personIs (h : Rel V0 V) (h1 : -2147483648 ≤ z) (h2 : z ≤ 2147483647) (h3 : -2147483648 ≤ y) (h4 : y ≤ 2147483647) : ∃ v, fX0_personIs (Wd b V lw R) (some b) (I z) (I y) = some v ∧ fX7_personIs (Wd b V lw R) (some (b + 258)) (I z) (I y) = some v := by
  by_cases g : 0 ≤ z ∧ z < 12 ∧ pT V z.toNat
  · obtain ⟨g1, g2, g3⟩ := g
    obtain ⟨p, rfl⟩ : ∃ q : Nat, z = q := ⟨z.toNat, by omega⟩
    have hp : p < 12 := by omega
    have gg : 0 ≤ (p : Int) ∧ (p : Int) < 12 ∧ pT V (p : Int).toNat := ⟨g1, g2, g3⟩
    have q := pe h hp
    have e12 : ((12 : Int) + (p : Int)).toNat = 12 + p := by omega
    refine ⟨I (if y = 0 then V (5 + 4 + p) 0 else if y = 1 then V (5 + 4 + p) 1 else if y = 2 then V (5 + 4 + p) 2 else if y = 3 then V (5 + 4 + p) 3 else if y = 4 then V (5 + 4 + p) 4 else -1), ?_, ?_⟩
    · unfold fX0_personIs
      rw [on0, x_isTold h h1 h2, Option.bind_some, k_0, bi_if, if_pos gg]
      simp (disch := omega) only [k_0, k_1, k_2, k_3, k_4, k_5, k_6, k_7, k_8, k_9, k_10, k_11, k_12, k_13, k_14, k_15, k_16, k_17, k_18, k_19, k_20, k_21, k_22, k_23, k_24, k_25, k_26, k_27, k_28, k_29, k_30, k_31, k_33, k_37, k_38, k_40, k_41, k_42, k_43, k_45, k_47, k_48, k_57, k_59, k_60, k_61, k_62, k_63, k_91, k_93, k_97, k_99, k_100, k_102, k_106, k_107, k_108, k_109, k_110, k_112, k_114, k_115, k_117, k_120, k_121, k_124, k_160, k_200, k_240, k_255, k_256, k_260, k_384, k_720, k_1000, k_1047, k_1439, k_1440, k_2000, k_2047, k_9999, k_10059, k_13849, k_25173, k_65535, k_65536, k_1000000, k_1048576, k_268435456, k_1073741823, k_1073741824, I_add, I_sub, I_mul, I_neg, Option.bind_some, tn, tn_at, Int.add_zero, Int.toNat_zero, bi_e0, bi_e1, bi_z, I_inj, gR0_7, gR5_0, rP0, gP0]
      (repeat' split) <;> rfl
    · unfold fX7_personIs
      rw [on258, y_isPerson h h1 h2, Option.bind_some, k_0, bi_if, if_pos gg]
      simp (disch := omega) only [k_0, k_1, k_2, k_3, k_4, k_5, k_6, k_7, k_8, k_9, k_10, k_11, k_12, k_13, k_14, k_15, k_16, k_17, k_18, k_19, k_20, k_21, k_22, k_23, k_24, k_25, k_26, k_27, k_28, k_29, k_30, k_31, k_33, k_37, k_38, k_40, k_41, k_42, k_43, k_45, k_47, k_48, k_57, k_59, k_60, k_61, k_62, k_63, k_91, k_93, k_97, k_99, k_100, k_102, k_106, k_107, k_108, k_109, k_110, k_112, k_114, k_115, k_117, k_120, k_121, k_124, k_160, k_200, k_240, k_255, k_256, k_260, k_384, k_720, k_1000, k_1047, k_1439, k_1440, k_2000, k_2047, k_9999, k_10059, k_13849, k_25173, k_65535, k_65536, k_1000000, k_1048576, k_268435456, k_1073741823, k_1073741824, I_add, I_sub, I_mul, I_neg, Option.bind_some, tn, tn_at, Int.add_zero, Int.toNat_zero, bi_e0, bi_e1, bi_z, Int.zero_add, I_inj, gR258_3, gR258_4, gR258_5, gR258_0, rA262, rA263, rA264, rA259, e12, q.2.2.2.2.1, q.2.2.2.2.2.2.2.1, q.2.2.2.2.2.2.2.2.2.2.1, q.2.2.2.2.2.2.2.2.2.2.2.2.2.1, q.2.2.2.2.2.2.2.2.2.2.2.2.2.2.2.2.1]
      (repeat' split) <;> rfl
  · refine ⟨I (-1), ?_, ?_⟩
    · unfold fX0_personIs
      rw [on0, x_isTold h h1 h2, Option.bind_some, k_0, bi_if, if_neg g]
      rfl
    · unfold fX7_personIs
      rw [on258, y_isPerson h h1 h2, Option.bind_some, k_0, bi_if, if_neg g]
      rfl
/-- who is told, as a set -/
def tset (V : Vw) : Nat → Int32
  | 0 => I 0
  | n + 1 => if pT V n then tset V n ||| jshl (I 1) (I (n : Int)) else tset V n
theorem x_told (h : Rel V0 V) : fX0_told (Wd b V lw R) (some b) = some (tset V 12) := by
  have key := iter_det (b := fX0_told_L4 (Wd b V lw R) (some b)) (fun i => (tset V i, I (i : Int))) 12 (tset V 12) (by decide) (fun i hi => by
    show _ = some (Sum.inl (tset V (i + 1), I ((i + 1 : Nat) : Int)))
    have e : (0 ≤ (i : Int) ∧ (i : Int) < 12 ∧ pT V (i : Int).toNat) = pT V i := propext ⟨fun q => q.2.2, fun q => ⟨by omega, by omega, q⟩⟩
    simp (disch := omega) only [fX0_told_L4, k_0, k_1, k_2, k_3, k_4, k_5, k_6, k_7, k_8, k_9, k_10, k_11, k_12, k_13, k_14, k_15, k_16, k_17, k_18, k_19, k_20, k_21, k_22, k_23, k_24, k_25, k_26, k_27, k_28, k_29, k_30, k_31, k_33, k_37, k_38, k_40, k_41, k_42, k_43, k_45, k_47, k_48, k_57, k_59, k_60, k_61, k_62, k_63, k_91, k_93, k_97, k_99, k_100, k_102, k_106, k_107, k_108, k_109, k_110, k_112, k_114, k_115, k_117, k_120, k_121, k_124, k_160, k_200, k_240, k_255, k_256, k_260, k_384, k_720, k_1000, k_1047, k_1439, k_1440, k_2000, k_2047, k_9999, k_10059, k_13849, k_25173, k_65535, k_65536, k_1000000, k_1048576, k_268435456, k_1073741823, k_1073741824, I_add, I_sub, I_mul, I_neg, Option.bind_some, tn, tn_at, Int.add_zero, Int.toNat_zero, bi_e0, bi_e1, bi_z, I_le, if_neg, on0, x_isTold h]
    rw [tset]
    by_cases c : pT V i
    · rw [if_neg (fun q => q ⟨by omega, by omega, c⟩), if_pos c]
      rfl
    · rw [if_pos (fun q => c q.2.2), if_neg c, show (I 0 : Int32) = 0 from rfl, Int32.or_zero]
      rfl) (by simp (disch := omega) only [fX0_told_L4, k_0, k_1, k_2, k_3, k_4, k_5, k_6, k_7, k_8, k_9, k_10, k_11, k_12, k_13, k_14, k_15, k_16, k_17, k_18, k_19, k_20, k_21, k_22, k_23, k_24, k_25, k_26, k_27, k_28, k_29, k_30, k_31, k_33, k_37, k_38, k_40, k_41, k_42, k_43, k_45, k_47, k_48, k_57, k_59, k_60, k_61, k_62, k_63, k_91, k_93, k_97, k_99, k_100, k_102, k_106, k_107, k_108, k_109, k_110, k_112, k_114, k_115, k_117, k_120, k_121, k_124, k_160, k_200, k_240, k_255, k_256, k_260, k_384, k_720, k_1000, k_1047, k_1439, k_1440, k_2000, k_2047, k_9999, k_10059, k_13849, k_25173, k_65535, k_65536, k_1000000, k_1048576, k_268435456, k_1073741823, k_1073741824, I_add, I_sub, I_mul, I_neg, Option.bind_some, tn, tn_at, Int.add_zero, Int.toNat_zero, bi_e0, bi_e1, bi_z, I_lt, I_le, I_inj, if_pos, if_neg, I_max, I_min])
  unfold fX0_told
  rw [k_0]
  have key : iter (fX0_told_L4 (Wd b V lw R) (some b)) FUEL (I 0, I 0) = some (tset V 12) := key
  rw [key]
  rfl
theorem y_toldSet (h : Rel V0 V) : fX7_toldSet (Wd b V lw R) (some (b + 258)) = some (tset V 12) := by
  have key := iter_det (b := fX7_toldSet_L4 (Wd b V lw R) (some (b + 258))) (fun i => (tset V i, I (i : Int))) 12 (tset V 12) (by decide) (fun i hi => by
    show _ = some (Sum.inl (tset V (i + 1), I ((i + 1 : Nat) : Int)))
    simp (disch := omega) only [fX7_toldSet_L4, k_0, k_1, k_2, k_3, k_4, k_5, k_6, k_7, k_8, k_9, k_10, k_11, k_12, k_13, k_14, k_15, k_16, k_17, k_18, k_19, k_20, k_21, k_22, k_23, k_24, k_25, k_26, k_27, k_28, k_29, k_30, k_31, k_33, k_37, k_38, k_40, k_41, k_42, k_43, k_45, k_47, k_48, k_57, k_59, k_60, k_61, k_62, k_63, k_91, k_93, k_97, k_99, k_100, k_102, k_106, k_107, k_108, k_109, k_110, k_112, k_114, k_115, k_117, k_120, k_121, k_124, k_160, k_200, k_240, k_255, k_256, k_260, k_384, k_720, k_1000, k_1047, k_1439, k_1440, k_2000, k_2047, k_9999, k_10059, k_13849, k_25173, k_65535, k_65536, k_1000000, k_1048576, k_268435456, k_1073741823, k_1073741824, I_add, I_sub, I_mul, I_neg, Option.bind_some, tn, tn_at, Int.add_zero, Int.toNat_zero, bi_e0, bi_e1, bi_z, I_le, if_neg, gR258_11, rA270, w_pT h hi]
    rw [tset]
    by_cases c : pT V i
    · rw [if_neg (fun q => q c), if_pos c]
      rfl
    · rw [if_pos c, if_neg c]
      rfl) (by simp (disch := omega) only [fX7_toldSet_L4, k_0, k_1, k_2, k_3, k_4, k_5, k_6, k_7, k_8, k_9, k_10, k_11, k_12, k_13, k_14, k_15, k_16, k_17, k_18, k_19, k_20, k_21, k_22, k_23, k_24, k_25, k_26, k_27, k_28, k_29, k_30, k_31, k_33, k_37, k_38, k_40, k_41, k_42, k_43, k_45, k_47, k_48, k_57, k_59, k_60, k_61, k_62, k_63, k_91, k_93, k_97, k_99, k_100, k_102, k_106, k_107, k_108, k_109, k_110, k_112, k_114, k_115, k_117, k_120, k_121, k_124, k_160, k_200, k_240, k_255, k_256, k_260, k_384, k_720, k_1000, k_1047, k_1439, k_1440, k_2000, k_2047, k_9999, k_10059, k_13849, k_25173, k_65535, k_65536, k_1000000, k_1048576, k_268435456, k_1073741823, k_1073741824, I_add, I_sub, I_mul, I_neg, Option.bind_some, tn, tn_at, Int.add_zero, Int.toNat_zero, bi_e0, bi_e1, bi_z, I_lt, I_le, I_inj, if_pos, if_neg, I_max, I_min])
  unfold fX7_toldSet
  rw [k_0]
  have key : iter (fX7_toldSet_L4 (Wd b V lw R) (some (b + 258))) FUEL (I 0, I 0) = some (tset V 12) := key
  rw [key]
  rfl
def allS (V : Vw) (k : Nat) (p : Nat) : Int := if pT V p then V (5 + 4 + p) k else 0
theorem x_counted (h : Rel V0 V) (g : z = 0 ∨ z = 1) : fX0_countedOfAll (Wd b V lw R) (some b) (I z) = some (I (smN (allS V (if z = 1 then 3 else 4)) 12)) := by
  unfold fX0_countedOfAll
  rw [gR0_7, Option.bind_some, gR5_0, Option.bind_some, show hp_len (Wd b V lw R) (some (b + 6)) 6 = some (I 12) from lPe (j := 5) (Or.inl rfl), Option.bind_some, k_0, sum_loop (allS V (if z = 1 then 3 else 4)) 12 (by decide) (fun i c hi => by
    simp (disch := omega) only [fX0_countedOfAll_L17, k_0, k_1, k_2, k_3, k_4, k_5, k_6, k_7, k_8, k_9, k_10, k_11, k_12, k_13, k_14, k_15, k_16, k_17, k_18, k_19, k_20, k_21, k_22, k_23, k_24, k_25, k_26, k_27, k_28, k_29, k_30, k_31, k_33, k_37, k_38, k_40, k_41, k_42, k_43, k_45, k_47, k_48, k_57, k_59, k_60, k_61, k_62, k_63, k_91, k_93, k_97, k_99, k_100, k_102, k_106, k_107, k_108, k_109, k_110, k_112, k_114, k_115, k_117, k_120, k_121, k_124, k_160, k_200, k_240, k_255, k_256, k_260, k_384, k_720, k_1000, k_1047, k_1439, k_1440, k_2000, k_2047, k_9999, k_10059, k_13849, k_25173, k_65535, k_65536, k_1000000, k_1048576, k_268435456, k_1073741823, k_1073741824, I_add, I_sub, I_mul, I_neg, Option.bind_some, tn, tn_at, Int.add_zero, Int.toNat_zero, bi_e0, bi_e1, bi_z, I_le, I_inj, if_neg, rP0, gP0, v_pT h hi]
    unfold allS
    by_cases c : pT V i
    · rw [if_neg (fun q => q c), if_pos c]
      rcases g with rfl | rfl
      · rfl
      · rfl
    · rw [if_pos c, if_neg c, Int.add_zero]) (fun c => by simp (disch := omega) only [fX0_countedOfAll_L17, k_0, k_1, k_2, k_3, k_4, k_5, k_6, k_7, k_8, k_9, k_10, k_11, k_12, k_13, k_14, k_15, k_16, k_17, k_18, k_19, k_20, k_21, k_22, k_23, k_24, k_25, k_26, k_27, k_28, k_29, k_30, k_31, k_33, k_37, k_38, k_40, k_41, k_42, k_43, k_45, k_47, k_48, k_57, k_59, k_60, k_61, k_62, k_63, k_91, k_93, k_97, k_99, k_100, k_102, k_106, k_107, k_108, k_109, k_110, k_112, k_114, k_115, k_117, k_120, k_121, k_124, k_160, k_200, k_240, k_255, k_256, k_260, k_384, k_720, k_1000, k_1047, k_1439, k_1440, k_2000, k_2047, k_9999, k_10059, k_13849, k_25173, k_65535, k_65536, k_1000000, k_1048576, k_268435456, k_1073741823, k_1073741824, I_add, I_sub, I_mul, I_neg, Option.bind_some, tn, tn_at, Int.add_zero, Int.toNat_zero, bi_e0, bi_e1, bi_z, I_lt, I_le, I_inj, if_pos, if_neg, I_max, I_min])]
  rfl
theorem y_allOf (h : Rel V0 V) (g : z = 0 ∨ z = 12) : fX7_allOf (Wd b V lw R) (some (b + 258)) (I z) = some (I (smN (allS V (if z = 0 then 3 else 4)) 12)) := by
  unfold fX7_allOf
  rw [k_0, sum_loop (allS V (if z = 0 then 3 else 4)) 12 (by decide) (fun i c hi => by
    have q := pe h hi
    have e12 : ((12 : Int) + (i : Int)).toNat = 12 + i := by omega
    have e0 : ((0 : Int) + (i : Int)).toNat = i := by omega
    unfold allS
    rcases g with rfl | rfl
    · simp (disch := omega) only [fX7_allOf_L4, k_0, k_1, k_2, k_3, k_4, k_5, k_6, k_7, k_8, k_9, k_10, k_11, k_12, k_13, k_14, k_15, k_16, k_17, k_18, k_19, k_20, k_21, k_22, k_23, k_24, k_25, k_26, k_27, k_28, k_29, k_30, k_31, k_33, k_37, k_38, k_40, k_41, k_42, k_43, k_45, k_47, k_48, k_57, k_59, k_60, k_61, k_62, k_63, k_91, k_93, k_97, k_99, k_100, k_102, k_106, k_107, k_108, k_109, k_110, k_112, k_114, k_115, k_117, k_120, k_121, k_124, k_160, k_200, k_240, k_255, k_256, k_260, k_384, k_720, k_1000, k_1047, k_1439, k_1440, k_2000, k_2047, k_9999, k_10059, k_13849, k_25173, k_65535, k_65536, k_1000000, k_1048576, k_268435456, k_1073741823, k_1073741824, I_add, I_sub, I_mul, I_neg, Option.bind_some, tn, tn_at, Int.add_zero, Int.toNat_zero, bi_e0, bi_e1, bi_z, I_le, if_neg, gR258_11, gR258_0, rA270, rA259, w_pT h hi, e0, q.2.2.2.2.2.2.2.2.2.2.2.2.2.1]
      by_cases c : pT V i
      · rw [if_neg (fun q => q c), if_pos c]
        try rfl
      · rw [if_pos c, if_neg c, Int.add_zero]
    · simp (disch := omega) only [fX7_allOf_L4, k_0, k_1, k_2, k_3, k_4, k_5, k_6, k_7, k_8, k_9, k_10, k_11, k_12, k_13, k_14, k_15, k_16, k_17, k_18, k_19, k_20, k_21, k_22, k_23, k_24, k_25, k_26, k_27, k_28, k_29, k_30, k_31, k_33, k_37, k_38, k_40, k_41, k_42, k_43, k_45, k_47, k_48, k_57, k_59, k_60, k_61, k_62, k_63, k_91, k_93, k_97, k_99, k_100, k_102, k_106, k_107, k_108, k_109, k_110, k_112, k_114, k_115, k_117, k_120, k_121, k_124, k_160, k_200, k_240, k_255, k_256, k_260, k_384, k_720, k_1000, k_1047, k_1439, k_1440, k_2000, k_2047, k_9999, k_10059, k_13849, k_25173, k_65535, k_65536, k_1000000, k_1048576, k_268435456, k_1073741823, k_1073741824, I_add, I_sub, I_mul, I_neg, Option.bind_some, tn, tn_at, Int.add_zero, Int.toNat_zero, bi_e0, bi_e1, bi_z, I_le, if_neg, gR258_11, gR258_0, rA270, rA259, w_pT h hi, e12, q.2.2.2.2.2.2.2.2.2.2.2.2.2.2.2.2.1]
      by_cases c : pT V i
      · rw [if_neg (fun q => q c), if_pos c]
        try rfl
      · rw [if_pos c, if_neg c, Int.add_zero]) (fun c => by simp (disch := omega) only [fX7_allOf_L4, k_0, k_1, k_2, k_3, k_4, k_5, k_6, k_7, k_8, k_9, k_10, k_11, k_12, k_13, k_14, k_15, k_16, k_17, k_18, k_19, k_20, k_21, k_22, k_23, k_24, k_25, k_26, k_27, k_28, k_29, k_30, k_31, k_33, k_37, k_38, k_40, k_41, k_42, k_43, k_45, k_47, k_48, k_57, k_59, k_60, k_61, k_62, k_63, k_91, k_93, k_97, k_99, k_100, k_102, k_106, k_107, k_108, k_109, k_110, k_112, k_114, k_115, k_117, k_120, k_121, k_124, k_160, k_200, k_240, k_255, k_256, k_260, k_384, k_720, k_1000, k_1047, k_1439, k_1440, k_2000, k_2047, k_9999, k_10059, k_13849, k_25173, k_65535, k_65536, k_1000000, k_1048576, k_268435456, k_1073741823, k_1073741824, I_add, I_sub, I_mul, I_neg, Option.bind_some, tn, tn_at, Int.add_zero, Int.toNat_zero, bi_e0, bi_e1, bi_z, I_lt, I_le, I_inj, if_pos, if_neg, I_max, I_min])]
  rfl
theorem x_minuteOf {e : Nat} (h : Rel V0 V) (he : e < nE V0) : fX0_minuteOf (Wd b V lw R) (some b) (I (e : Int)) = some (I (evM V0 e)) := by
  have h1 := et_b h he
  have h2 := es_b h he
  have h3 := r48 h h1
  have h4 := sm2 h h1
  have h5 := ne_b h
  unfold fX0_minuteOf evM
  simp (disch := omega) only [k_0, k_1, k_2, k_3, k_4, k_5, k_6, k_7, k_8, k_9, k_10, k_11, k_12, k_13, k_14, k_15, k_16, k_17, k_18, k_19, k_20, k_21, k_22, k_23, k_24, k_25, k_26, k_27, k_28, k_29, k_30, k_31, k_33, k_37, k_38, k_40, k_41, k_42, k_43, k_45, k_47, k_48, k_57, k_59, k_60, k_61, k_62, k_63, k_91, k_93, k_97, k_99, k_100, k_102, k_106, k_107, k_108, k_109, k_110, k_112, k_114, k_115, k_117, k_120, k_121, k_124, k_160, k_200, k_240, k_255, k_256, k_260, k_384, k_720, k_1000, k_1047, k_1439, k_1440, k_2000, k_2047, k_9999, k_10059, k_13849, k_25173, k_65535, k_65536, k_1000000, k_1048576, k_268435456, k_1073741823, k_1073741824, I_add, I_sub, I_mul, I_neg, Option.bind_some, tn, tn_at, Int.add_zero, Int.toNat_zero, bi_e0, bi_e1, bi_z, gR0_0, gR0_1, gR0_2, gI0_3, gI0_4, gI0_5, gR0_6, gR0_7, gR0_8, gR0_9, gR0_10, gI0_12, gI0_13, gR0_14, gR0_15, gR0_16, gR0_17, gR0_18, gR0_19, gR0_20, gR0_21, gI4_0, gI4_1, gI4_2, gI4_3, gI4_4, gI4_5, gI4_6, gI4_7, gI4_8, gI4_9, on0, on4, rTr, onTr, gTr0, gTr1, gTr2, gTr3, gTr4, rSt, rMi, rFr, rFu, rA2, rA3, v_et h he, v_es h he, v_mi h h1]
theorem call_count (hi : Inv V) (hl : hp_gI (Wd b V lw R) lw 4 3 = some (I (V 258 26))) (h1 : -2147483648 ≤ z) (h2 : z ≤ 2147483647) : ∃ v, fX0_count (Wd b V lw R) (some b) (I z) = some v ∧ fX7_count (Wd b V lw R) (some (b + 258)) (I z) = some v := by
  have h := hi.rel
  have i3 := hi.2.2.1
  have i4 := hi.2.2.2
  have hne := ne_b h
  unfold fX0_count fX7_count
  simp only [k_0, k_1, k_2, k_3, k_4, k_5, k_6, k_7, k_8, k_9, k_10, k_11, k_12, k_13, k_14, k_15, k_16, k_17, k_18, k_19, k_20, k_21, k_22, k_23, k_24, k_25, k_26, k_27, k_28, k_29, k_30, k_31, k_33, k_37, k_38, k_40, k_41, k_42, k_43, k_45, k_47, k_48, k_57, k_59, k_60, k_61, k_62, k_63, k_91, k_93, k_97, k_99, k_100, k_102, k_106, k_107, k_108, k_109, k_110, k_112, k_114, k_115, k_117, k_120, k_121, k_124, k_160, k_200, k_240, k_255, k_256, k_260, k_384, k_720, k_1000, k_1047, k_1439, k_1440, k_2000, k_2047, k_9999, k_10059, k_13849, k_25173, k_65535, k_65536, k_1000000, k_1048576, k_268435456, k_1073741823, k_1073741824, I_neg]
  by_cases c0 : I z = I 0
  · rw [if_pos c0, if_pos c0]
    refine ⟨I (V 5 3), ?_, ?_⟩
    · simp only [gR0_7, gI5_3, Option.bind_some]
    · simp (disch := omega) only [gR258_0, rA259, Option.bind_some]
      rw [show (24 : Int).toNat = 24 from rfl, i3.2.2.2.1]
  rw [if_neg c0, if_neg c0]
  by_cases c1 : I z = I 1
  · rw [if_pos c1, if_pos c1, on0, on258, x_told h, y_toldSet h]
    exact ⟨_, rfl, rfl⟩
  rw [if_neg c1, if_neg c1]
  by_cases c2 : I z = I 2
  · rw [if_pos c2, if_pos c2]
    refine ⟨I (nT V), ?_, ?_⟩
    · simp only [gI0_3, v_n h, Option.bind_some]
    · simp only [gI258_14, w_n h, Option.bind_some]
  rw [if_neg c2, if_neg c2]
  by_cases c3 : I z = I 3
  · rw [if_pos c3, if_pos c3, on0, on258, x_running h, y_running h]
    exact ⟨_, rfl, rfl⟩
  rw [if_neg c3, if_neg c3]
  by_cases c4 : I z = I 4
  · rw [if_pos c4, if_pos c4]
    refine ⟨I (ch V), ?_, ?_⟩
    · simp only [gI0_5, v_ch h, Option.bind_some]
    · simp only [gI258_13, w_ch h, Option.bind_some]
  rw [if_neg c4, if_neg c4]
  by_cases c5 : I z = I 5
  · rw [if_pos c5, if_pos c5]
    refine ⟨I (V 258 26), ?_, ?_⟩
    · simp only [rdL, hl, Option.bind_some]
    · simp only [gI258_26, Option.bind_some]
  rw [if_neg c5, if_neg c5]
  by_cases c6 : I z = I 6
  · rw [if_pos c6, if_pos c6]
    refine ⟨I (V 0 12), ?_, ?_⟩
    · simp only [gI0_12, Option.bind_some]
    · simp only [gI258_17, i4.2.2.2.2.2.2.2.1, Option.bind_some]
  rw [if_neg c6, if_neg c6]
  by_cases c7 : I z = I 7
  · rw [if_pos c7, if_pos c7]
    refine ⟨I (V 5 4), ?_, ?_⟩
    · simp only [gR0_7, gI5_4, Option.bind_some]
    · simp (disch := omega) only [gR258_0, rA259, Option.bind_some]
      rw [show (25 : Int).toNat = 25 from rfl, i3.2.2.2.2.2.2.1]
  rw [if_neg c7, if_neg c7]
  by_cases c8 : I z = I 8
  · rw [if_pos c8, if_pos c8, on0, on258, x_counted h (Or.inr rfl), y_allOf h (Or.inl rfl)]
    exact ⟨_, rfl, rfl⟩
  rw [if_neg c8, if_neg c8]
  by_cases c9 : I z = I 9
  · rw [if_pos c9, if_pos c9, on0, on258, x_counted h (Or.inl rfl), y_allOf h (Or.inr rfl)]
    exact ⟨_, rfl, rfl⟩
  rw [if_neg c9, if_neg c9]
  by_cases c10 : I z = I 10
  · rw [if_pos c10, if_pos c10]
    refine ⟨I (nE V), ?_, ?_⟩
    · simp only [gI0_4, v_ne h, Option.bind_some]
    · simp only [gI258_15, w_ne h, Option.bind_some]
  rw [if_neg c10, if_neg c10]
  by_cases c11 : I z = I 11
  · rw [if_pos c11, if_pos c11]
    simp (disch := omega) only [gI0_4, v_ne h, gI258_15, w_ne h, Option.bind_some, I_inj, I_sub]
    by_cases d : nE V = 0
    · rw [if_pos (by omega), if_pos (by omega)]
      exact ⟨_, rfl, rfl⟩
    · rw [if_neg (by omega), if_neg (by omega)]
      obtain ⟨e, he⟩ : ∃ e, nE V = e + 1 := ⟨nE V - 1, by omega⟩
      have he2 : e < nE V := by omega
      have h1 := et_b h he2
      have h2 := es_b h he2
      have h3 := r48 h h1
      have h4 := sm2 h h1
      have ee : ((nE V : Int) - 1) = (e : Int) := by omega
      refine ⟨I (evM V e), ?_, ?_⟩
      · rw [ee, on0, x_minuteOf h he2]
        rfl
      · simp (disch := omega) only [ee, gR258_8, gR258_10, rA269, rA267, Option.bind_some, tn, w_ev h he2, w_mi h h1 h2]
        rfl
  · rw [if_neg c11, if_neg c11]
    exact ⟨_, rfl, rfl⟩
end PR
