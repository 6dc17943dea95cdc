/-! THE READING LEMMAS ANEW, printed by gen_rem.py. No JVM here. -/
set_option maxRecDepth 100000
set_option linter.unusedVariables false
def Rem (V0 V : Vw) : Prop := Inv V0 ∧ ∀ o k, ¬ scr o k → ¬ ((o = 258 ∧ k = 17) ∨ (o = 5 ∧ (k = 3 ∨ k = 4)) ∨ (9 ≤ o ∧ o ≤ 20 ∧ (k = 3 ∨ k = 4)) ∨ o = 259) → V o k = V0 o k
section RM
variable {b : Nat} {V0 V : Vw} {lw : Option Nat} {R : Hp} {p k j i r e n d f to : Nat} {s t z y w c lo hi m v : Int} {u : Int32} {A : Nat → Int}
theorem v_nM (h : Rem V0 V) : V 0 3 = nT V0 := (h.2 _ _ (by unfold scr; omega) (by (try have := r48M h hr); omega)).trans h.1.1.1
theorem w_nM (h : Rem V0 V) : V 258 14 = nT V0 := (h.2 _ _ (by unfold scr; omega) (by (try have := r48M h hr); omega)).trans h.1.1.2.2.1
theorem n48M (h : Rem V0 V) : nT V0 ≤ 48 := h.1.1.2.1
theorem trM (h : Rem V0 V) (hr : r < nT V0) : InvTr V0 r := h.1.1.2.2.2 r hr
theorem r48M (h : Rem V0 V) (hr : r < nT V0) : r < 48 := Nat.lt_of_lt_of_le hr (n48M h)
theorem v_smM (h : Rem V0 V) (hr : r < nT V0) : V (114 + 3 * r) 2 = sm V0 r := (h.2 _ _ (by have := r48M h hr; unfold scr; omega) (by (try have := r48M h hr); omega)).trans (trM h hr).1
theorem sm2M (h : Rem V0 V) (hr : r < nT V0) : 2 ≤ sm V0 r ∧ sm V0 r ≤ 8 := ⟨(trM h hr).2.1, (trM h hr).2.2.1⟩
theorem w_smM (h : Rem V0 V) (hr : r < nT V0) : V 265 r = sm V0 r := (h.2 _ _ (by unfold scr; omega) (by (try have := r48M h hr); omega)).trans (trM h hr).2.2.2.1
theorem v_ruM (h : Rem V0 V) (hr : r < nT V0) : V (114 + 3 * r) 4 = bi (ru V0 r) := by
  rw [h.2 _ _ (by have := r48M h hr; unfold scr; omega) (by (try have := r48M h hr); omega)]
  have := (trM h hr).2.2.2.2.1
  exact bi_i1 (fun q => q) (fun q => this.elim id (fun c => absurd c q))
theorem w_ruM (h : Rem V0 V) (hr : r < nT V0) : V 271 r = bi (¬ ru V0 r) := by
  rw [h.2 _ _ (by unfold scr; omega) (by (try have := r48M h hr); omega), (trM h hr).2.2.2.2.2.1]
  have := (trM h hr).2.2.2.2.1
  refine bi_i1 (fun q => ?_) (fun q => ?_)
  · unfold ru at q
    omega
  · unfold ru at q
    omega
theorem v_plM (h : Rem V0 V) (hr : r < nT V0) : V (114 + 3 * r) 3 = pl V0 r := h.2 _ _ (by have := r48M h hr; unfold scr; omega) (by (try have := r48M h hr); omega)
theorem w_plM (h : Rem V0 V) (hr : r < nT V0) : V 268 r = pl V0 r := (h.2 _ _ (by unfold scr; omega) (by (try have := r48M h hr); omega)).trans (trM h hr).2.2.2.2.2.2.2.2.1
theorem pl_bM (h : Rem V0 V) (hr : r < nT V0) : 0 ≤ pl V0 r ∧ pl V0 r ≤ 99 := ⟨(trM h hr).2.2.2.2.2.2.1, (trM h hr).2.2.2.2.2.2.2.1⟩
theorem v_stM (h : Rem V0 V) (hr : r < nT V0) (k : Nat) : V (115 + 3 * r) k = st V0 r k := h.2 _ _ (by have := r48M h hr; unfold scr; omega) (by (try have := r48M h hr); omega)
theorem v_miM (h : Rem V0 V) (hr : r < nT V0) (k : Nat) : V (116 + 3 * r) k = mi V0 r k := h.2 _ _ (by have := r48M h hr; unfold scr; omega) (by (try have := r48M h hr); omega)
theorem w_stM (h : Rem V0 V) (hr : r < nT V0) (hk : k < sm V0 r) : V 266 (8 * r + k) = st V0 r k := (h.2 _ _ (by unfold scr; omega) (by (try have := r48M h hr); omega)).trans ((trM h hr).2.2.2.2.2.2.2.2.2.1 k hk).2.2.1
theorem w_miM (h : Rem V0 V) (hr : r < nT V0) (hk : k < sm V0 r) : V 267 (8 * r + k) = mi V0 r k := (h.2 _ _ (by unfold scr; omega) (by (try have := r48M h hr); omega)).trans ((trM h hr).2.2.2.2.2.2.2.2.2.1 k hk).2.2.2.2.2
theorem st_bM (h : Rem V0 V) (hr : r < nT V0) (hk : k < sm V0 r) : 0 ≤ st V0 r k ∧ st V0 r k ≤ 9 := ⟨((trM h hr).2.2.2.2.2.2.2.2.2.1 k hk).1, ((trM h hr).2.2.2.2.2.2.2.2.2.1 k hk).2.1⟩
theorem mi_bM (h : Rem V0 V) (hr : r < nT V0) (hk : k < sm V0 r) : 0 ≤ mi V0 r k ∧ mi V0 r k ≤ 1439 := ⟨((trM h hr).2.2.2.2.2.2.2.2.2.1 k hk).2.2.2.1, ((trM h hr).2.2.2.2.2.2.2.2.2.1 k hk).2.2.2.2.1⟩
theorem st_neM (h : Rem V0 V) (hr : r < nT V0) {i : Nat} (hi : i < k) (hk : k < sm V0 r) : st V0 r i ≠ st V0 r k := ((trM h hr).2.2.2.2.2.2.2.2.2.2 i k hi hk).1
theorem mi_ltM (h : Rem V0 V) (hr : r < nT V0) {i : Nat} (hi : i < k) (hk : k < sm V0 r) : mi V0 r i < mi V0 r k := ((trM h hr).2.2.2.2.2.2.2.2.2.2 i k hi hk).2
theorem v_chM (h : Rem V0 V) : V 0 5 = ch V0 := h.2 _ _ (by unfold scr; omega) (by (try have := r48M h hr); omega)
theorem w_chM (h : Rem V0 V) : V 258 13 = ch V0 := (h.2 _ _ (by unfold scr; omega) (by (try have := r48M h hr); omega)).trans h.1.2.2.2.2.2.1
theorem ch_bM (h : Rem V0 V) : 0 ≤ ch V0 ∧ ch V0 ≤ 60 := ⟨h.1.2.2.2.1, h.1.2.2.2.2.1⟩
theorem v_neM (h : Rem V0 V) : V 0 4 = nE V0 := (h.2 _ _ (by unfold scr; omega) (by (try have := r48M h hr); omega)).trans h.1.2.1.1
theorem w_neM (h : Rem V0 V) : V 258 15 = nE V0 := (h.2 _ _ (by unfold scr; omega) (by (try have := r48M h hr); omega)).trans h.1.2.1.2.2.1
theorem ne_bM (h : Rem V0 V) : nE V0 ≤ 384 := h.1.2.1.2.1
theorem v_etM (h : Rem V0 V) (he : e < nE V0) : V 2 e = evT V0 e := (h.2 _ _ (by unfold scr; omega) (by (try have := r48M h hr); omega)).trans (h.1.2.1.2.2.2.1 e he).1
theorem v_esM (h : Rem V0 V) (he : e < nE V0) : V 3 e = evS V0 e := (h.2 _ _ (by unfold scr; omega) (by (try have := r48M h hr); omega)).trans (h.1.2.1.2.2.2.1 e he).2.2.1
theorem et_bM (h : Rem V0 V) (he : e < nE V0) : evT V0 e < nT V0 := (h.1.2.1.2.2.2.1 e he).2.1
theorem es_bM (h : Rem V0 V) (he : e < nE V0) : evS V0 e < sm V0 (evT V0 e) := (h.1.2.1.2.2.2.1 e he).2.2.2.1
theorem w_evM (h : Rem V0 V) (he : e < nE V0) : V 269 e = ((8 * evT V0 e + evS V0 e : Nat) : Int) := (h.2 _ _ (by unfold scr; omega) (by (try have := r48M h hr); omega)).trans (h.1.2.1.2.2.2.1 e he).2.2.2.2
theorem ev_leM (h : Rem V0 V) {f : Nat} (he : e < f) (hf : f < nE V0) : evM V0 e ≤ evM V0 f := (h.1.2.1.2.2.2.2.1 e f he hf).1
theorem ev_neM (h : Rem V0 V) {f : Nat} (he : e < f) (hf : f < nE V0) : ¬ (evT V0 e = evT V0 f ∧ evS V0 e = evS V0 f) := (h.1.2.1.2.2.2.2.1 e f he hf).2
theorem ev_ofM (h : Rem V0 V) (hr : r < nT V0) (hk : k < sm V0 r) : ∃ e, e < nE V0 ∧ evT V0 e = r ∧ evS V0 e = k := h.1.2.1.2.2.2.2.2 r k hr hk
theorem x_stopAtM (h : Rem V0 V) (hr : r < nT V0) (hs : -1000 ≤ s ∧ s ≤ 1000) : fX6_stopAt (Wd b V lw R) (some (b + (114 + 3 * r))) (I s) = some (I (sAt V0 r s)) := by
  have h48 := r48M h hr
  have hsm := sm2M h hr
  have key := iter_find (b := fX6_stopAt_L2 (Wd b V lw R) (some (b + (114 + 3 * r))) (I s)) (fun i => I (i : Int)) (fun k => decide (st V0 r k = s)) (sm V0 r) (fun i => .inr (I i)) (.inl ()) (by omega)
    (fun i hi hp => by
      have hb := st_bM h hr hi
      have hp : st V0 r i ≠ s := by simpa using hp
      simp (disch := omega) only [fX6_stopAt_L2, k_0, k_1, k_2, k_3, k_4, k_5, k_6, k_7, k_8, k_9, k_10, k_11, k_12, k_13, k_14, k_15, k_16, k_17, k_18, k_19, k_20, k_21, k_22, k_23, k_24, k_25, k_26, k_27, k_28, k_29, k_30, k_31, k_33, k_37, k_38, k_40, k_41, k_42, k_43, k_45, k_47, k_48, k_57, k_59, k_60, k_61, k_62, k_63, k_91, k_93, k_97, k_99, k_100, k_102, k_106, k_107, k_108, k_109, k_110, k_112, k_114, k_115, k_117, k_120, k_121, k_124, k_160, k_200, k_240, k_255, k_256, k_260, k_384, k_720, k_1000, k_1047, k_1439, k_1440, k_2000, k_2047, k_9999, k_10059, k_13849, k_25173, k_65535, k_65536, k_1000000, k_1048576, k_268435456, k_1073741823, k_1073741824, I_add, I_sub, I_mul, I_neg, Option.bind_some, tn, tn_at, Int.add_zero, Int.toNat_zero, bi_e0, bi_e1, bi_z, I_lt, I_le, I_inj, if_pos, if_neg, I_max, I_min, gR0_0, gR0_1, gR0_2, gI0_3, gI0_4, gI0_5, gR0_6, gR0_7, gR0_8, gR0_9, gR0_10, gI0_12, gI0_13, gR0_14, gR0_15, gR0_16, gR0_17, gR0_18, gR0_19, gR0_20, gR0_21, gI4_0, gI4_1, gI4_2, gI4_3, gI4_4, gI4_5, gI4_6, gI4_7, gI4_8, gI4_9, on0, on4, rTr, onTr, gTr0, gTr1, gTr2, gTr3, gTr4, rSt, rMi, rFr, rFu, v_smM h hr, v_stM h hr]
      rfl)
    (fun i hi hp => by
      have hb := st_bM h hr hi
      have hp : st V0 r i = s := by simpa using hp
      simp (disch := omega) only [fX6_stopAt_L2, k_0, k_1, k_2, k_3, k_4, k_5, k_6, k_7, k_8, k_9, k_10, k_11, k_12, k_13, k_14, k_15, k_16, k_17, k_18, k_19, k_20, k_21, k_22, k_23, k_24, k_25, k_26, k_27, k_28, k_29, k_30, k_31, k_33, k_37, k_38, k_40, k_41, k_42, k_43, k_45, k_47, k_48, k_57, k_59, k_60, k_61, k_62, k_63, k_91, k_93, k_97, k_99, k_100, k_102, k_106, k_107, k_108, k_109, k_110, k_112, k_114, k_115, k_117, k_120, k_121, k_124, k_160, k_200, k_240, k_255, k_256, k_260, k_384, k_720, k_1000, k_1047, k_1439, k_1440, k_2000, k_2047, k_9999, k_10059, k_13849, k_25173, k_65535, k_65536, k_1000000, k_1048576, k_268435456, k_1073741823, k_1073741824, I_add, I_sub, I_mul, I_neg, Option.bind_some, tn, tn_at, Int.add_zero, Int.toNat_zero, bi_e0, bi_e1, bi_z, I_lt, I_le, I_inj, if_pos, if_neg, I_max, I_min, gR0_0, gR0_1, gR0_2, gI0_3, gI0_4, gI0_5, gR0_6, gR0_7, gR0_8, gR0_9, gR0_10, gI0_12, gI0_13, gR0_14, gR0_15, gR0_16, gR0_17, gR0_18, gR0_19, gR0_20, gR0_21, gI4_0, gI4_1, gI4_2, gI4_3, gI4_4, gI4_5, gI4_6, gI4_7, gI4_8, gI4_9, on0, on4, rTr, onTr, gTr0, gTr1, gTr2, gTr3, gTr4, rSt, rMi, rFr, rFu, v_smM h hr, v_stM h hr])
    (by simp (disch := omega) only [fX6_stopAt_L2, k_0, k_1, k_2, k_3, k_4, k_5, k_6, k_7, k_8, k_9, k_10, k_11, k_12, k_13, k_14, k_15, k_16, k_17, k_18, k_19, k_20, k_21, k_22, k_23, k_24, k_25, k_26, k_27, k_28, k_29, k_30, k_31, k_33, k_37, k_38, k_40, k_41, k_42, k_43, k_45, k_47, k_48, k_57, k_59, k_60, k_61, k_62, k_63, k_91, k_93, k_97, k_99, k_100, k_102, k_106, k_107, k_108, k_109, k_110, k_112, k_114, k_115, k_117, k_120, k_121, k_124, k_160, k_200, k_240, k_255, k_256, k_260, k_384, k_720, k_1000, k_1047, k_1439, k_1440, k_2000, k_2047, k_9999, k_10059, k_13849, k_25173, k_65535, k_65536, k_1000000, k_1048576, k_268435456, k_1073741823, k_1073741824, I_add, I_sub, I_mul, I_neg, Option.bind_some, tn, tn_at, Int.add_zero, Int.toNat_zero, bi_e0, bi_e1, bi_z, I_lt, I_le, I_inj, if_pos, if_neg, I_max, I_min, gR0_0, gR0_1, gR0_2, gI0_3, gI0_4, gI0_5, gR0_6, gR0_7, gR0_8, gR0_9, gR0_10, gI0_12, gI0_13, gR0_14, gR0_15, gR0_16, gR0_17, gR0_18, gR0_19, gR0_20, gR0_21, gI4_0, gI4_1, gI4_2, gI4_3, gI4_4, gI4_5, gI4_6, gI4_7, gI4_8, gI4_9, on0, on4, rTr, onTr, gTr0, gTr1, gTr2, gTr3, gTr4, rSt, rMi, rFr, rFu, v_smM h hr, v_stM h hr])
  unfold fX6_stopAt
  rw [show (0 : Int32) = I ((0 : Nat) : Int) from rfl, key]
  unfold sAt sAn
  split
  · rfl
  · rfl
theorem y_stopAtM (h : Rem V0 V) (hr : r < nT V0) (hs : -1000 ≤ s ∧ s ≤ 1000) : fX7_stopAt (Wd b V lw R) (some (b + 258)) (I (r : Int)) (I s) = some (I (sAt V0 r s)) := by
  have h48 := r48M h hr
  have hsm := sm2M h hr
  have key := iter_find (b := fX7_stopAt_L2 (Wd b V lw R) (some (b + 258)) (I (r : Int)) (I s)) (fun i => I (i : Int)) (fun k => decide (st V0 r k = s)) (sm V0 r) (fun i => .inr (I i)) (.inl ()) (by omega)
    (fun i hi hp => by
      have hb := st_bM h hr hi
      have hp : st V0 r i ≠ s := by simpa using hp
      simp (disch := omega) only [fX7_stopAt_L2, fX7_at, k_0, k_1, k_2, k_3, k_4, k_5, k_6, k_7, k_8, k_9, k_10, k_11, k_12, k_13, k_14, k_15, k_16, k_17, k_18, k_19, k_20, k_21, k_22, k_23, k_24, k_25, k_26, k_27, k_28, k_29, k_30, k_31, k_33, k_37, k_38, k_40, k_41, k_42, k_43, k_45, k_47, k_48, k_57, k_59, k_60, k_61, k_62, k_63, k_91, k_93, k_97, k_99, k_100, k_102, k_106, k_107, k_108, k_109, k_110, k_112, k_114, k_115, k_117, k_120, k_121, k_124, k_160, k_200, k_240, k_255, k_256, k_260, k_384, k_720, k_1000, k_1047, k_1439, k_1440, k_2000, k_2047, k_9999, k_10059, k_13849, k_25173, k_65535, k_65536, k_1000000, k_1048576, k_268435456, k_1073741823, k_1073741824, I_add, I_sub, I_mul, I_neg, Option.bind_some, tn, tn_at, Int.add_zero, Int.toNat_zero, bi_e0, bi_e1, bi_z, I_lt, I_le, I_inj, if_pos, if_neg, I_max, I_min, gR258_0, gR258_1, gR258_2, gR258_3, gR258_4, gR258_5, gR258_6, gR258_7, gR258_8, gR258_9, gR258_10, gR258_11, gR258_12, gI258_13, gI258_14, gI258_15, gR258_16, gI258_17, gI258_18, gI258_19, gI258_20, gI258_21, gI258_22, gI258_23, gI258_24, gI258_25, gI258_26, gR258_27, gR258_28, gR258_29, gR258_30, gR258_31, gR258_32, gR258_33, gR258_34, gR258_35, gR258_36, gR258_37, gR258_38, gR258_39, gR258_40, gR258_41, gR258_42, gI258_43, gI258_44, gR258_45, gR258_46, gR258_47, gR258_48, gI258_49, gR258_50, gR258_51, gI258_52, gI258_53, gI258_54, gR258_55, gR258_56, gR258_57, gR258_58, gR258_59, gR258_60, gR258_61, gR258_62, gR258_63, gR258_64, gI258_65, on258, rA2, rA3, rA7, rA8, rA23, rA24, rA39, rA40, rA53, rA58, rA59, rA60, rA61, rA62, rA63, rA113, rA259, rA260, rA261, rA262, rA263, rA264, rA265, rA266, rA267, rA268, rA269, rA270, rA271, rA272, rA273, rA274, rA275, rA276, rA277, rA278, rA279, rA280, rA281, rA282, rA283, rA284, rA285, rA286, rA287, rA288, rA289, rA290, rA291, rA292, rA293, rA294, rA295, rA296, rA297, rA298, rA299, rA300, rA301, rA302, rA303, rA304, w_smM h hr, w_stM h hr hi]
      rfl)
    (fun i hi hp => by
      have hb := st_bM h hr hi
      have hp : st V0 r i = s := by simpa using hp
      simp (disch := omega) only [fX7_stopAt_L2, fX7_at, k_0, k_1, k_2, k_3, k_4, k_5, k_6, k_7, k_8, k_9, k_10, k_11, k_12, k_13, k_14, k_15, k_16, k_17, k_18, k_19, k_20, k_21, k_22, k_23, k_24, k_25, k_26, k_27, k_28, k_29, k_30, k_31, k_33, k_37, k_38, k_40, k_41, k_42, k_43, k_45, k_47, k_48, k_57, k_59, k_60, k_61, k_62, k_63, k_91, k_93, k_97, k_99, k_100, k_102, k_106, k_107, k_108, k_109, k_110, k_112, k_114, k_115, k_117, k_120, k_121, k_124, k_160, k_200, k_240, k_255, k_256, k_260, k_384, k_720, k_1000, k_1047, k_1439, k_1440, k_2000, k_2047, k_9999, k_10059, k_13849, k_25173, k_65535, k_65536, k_1000000, k_1048576, k_268435456, k_1073741823, k_1073741824, I_add, I_sub, I_mul, I_neg, Option.bind_some, tn, tn_at, Int.add_zero, Int.toNat_zero, bi_e0, bi_e1, bi_z, I_lt, I_le, I_inj, if_pos, if_neg, I_max, I_min, gR258_0, gR258_1, gR258_2, gR258_3, gR258_4, gR258_5, gR258_6, gR258_7, gR258_8, gR258_9, gR258_10, gR258_11, gR258_12, gI258_13, gI258_14, gI258_15, gR258_16, gI258_17, gI258_18, gI258_19, gI258_20, gI258_21, gI258_22, gI258_23, gI258_24, gI258_25, gI258_26, gR258_27, gR258_28, gR258_29, gR258_30, gR258_31, gR258_32, gR258_33, gR258_34, gR258_35, gR258_36, gR258_37, gR258_38, gR258_39, gR258_40, gR258_41, gR258_42, gI258_43, gI258_44, gR258_45, gR258_46, gR258_47, gR258_48, gI258_49, gR258_50, gR258_51, gI258_52, gI258_53, gI258_54, gR258_55, gR258_56, gR258_57, gR258_58, gR258_59, gR258_60, gR258_61, gR258_62, gR258_63, gR258_64, gI258_65, on258, rA2, rA3, rA7, rA8, rA23, rA24, rA39, rA40, rA53, rA58, rA59, rA60, rA61, rA62, rA63, rA113, rA259, rA260, rA261, rA262, rA263, rA264, rA265, rA266, rA267, rA268, rA269, rA270, rA271, rA272, rA273, rA274, rA275, rA276, rA277, rA278, rA279, rA280, rA281, rA282, rA283, rA284, rA285, rA286, rA287, rA288, rA289, rA290, rA291, rA292, rA293, rA294, rA295, rA296, rA297, rA298, rA299, rA300, rA301, rA302, rA303, rA304, w_smM h hr, w_stM h hr hi])
    (by simp (disch := omega) only [fX7_stopAt_L2, fX7_at, k_0, k_1, k_2, k_3, k_4, k_5, k_6, k_7, k_8, k_9, k_10, k_11, k_12, k_13, k_14, k_15, k_16, k_17, k_18, k_19, k_20, k_21, k_22, k_23, k_24, k_25, k_26, k_27, k_28, k_29, k_30, k_31, k_33, k_37, k_38, k_40, k_41, k_42, k_43, k_45, k_47, k_48, k_57, k_59, k_60, k_61, k_62, k_63, k_91, k_93, k_97, k_99, k_100, k_102, k_106, k_107, k_108, k_109, k_110, k_112, k_114, k_115, k_117, k_120, k_121, k_124, k_160, k_200, k_240, k_255, k_256, k_260, k_384, k_720, k_1000, k_1047, k_1439, k_1440, k_2000, k_2047, k_9999, k_10059, k_13849, k_25173, k_65535, k_65536, k_1000000, k_1048576, k_268435456, k_1073741823, k_1073741824, I_add, I_sub, I_mul, I_neg, Option.bind_some, tn, tn_at, Int.add_zero, Int.toNat_zero, bi_e0, bi_e1, bi_z, I_lt, I_le, I_inj, if_pos, if_neg, I_max, I_min, gR258_0, gR258_1, gR258_2, gR258_3, gR258_4, gR258_5, gR258_6, gR258_7, gR258_8, gR258_9, gR258_10, gR258_11, gR258_12, gI258_13, gI258_14, gI258_15, gR258_16, gI258_17, gI258_18, gI258_19, gI258_20, gI258_21, gI258_22, gI258_23, gI258_24, gI258_25, gI258_26, gR258_27, gR258_28, gR258_29, gR258_30, gR258_31, gR258_32, gR258_33, gR258_34, gR258_35, gR258_36, gR258_37, gR258_38, gR258_39, gR258_40, gR258_41, gR258_42, gI258_43, gI258_44, gR258_45, gR258_46, gR258_47, gR258_48, gI258_49, gR258_50, gR258_51, gI258_52, gI258_53, gI258_54, gR258_55, gR258_56, gR258_57, gR258_58, gR258_59, gR258_60, gR258_61, gR258_62, gR258_63, gR258_64, gI258_65, on258, rA2, rA3, rA7, rA8, rA23, rA24, rA39, rA40, rA53, rA58, rA59, rA60, rA61, rA62, rA63, rA113, rA259, rA260, rA261, rA262, rA263, rA264, rA265, rA266, rA267, rA268, rA269, rA270, rA271, rA272, rA273, rA274, rA275, rA276, rA277, rA278, rA279, rA280, rA281, rA282, rA283, rA284, rA285, rA286, rA287, rA288, rA289, rA290, rA291, rA292, rA293, rA294, rA295, rA296, rA297, rA298, rA299, rA300, rA301, rA302, rA303, rA304, w_smM h hr])
  unfold fX7_stopAt
  rw [show (0 : Int32) = I ((0 : Nat) : Int) from rfl, key]
  unfold sAt sAn
  split
  · rfl
  · rfl
theorem y_runsM (h : Rem V0 V) (hr : r < nT V0) : fX7_runs (Wd b V lw R) (some (b + 258)) (I (r : Int)) = some (I (bi (ru V0 r))) := by
  have h48 := n48M h
  unfold fX7_runs
  simp (disch := omega) only [k_0, k_1, k_2, k_3, k_4, k_5, k_6, k_7, k_8, k_9, k_10, k_11, k_12, k_13, k_14, k_15, k_16, k_17, k_18, k_19, k_20, k_21, k_22, k_23, k_24, k_25, k_26, k_27, k_28, k_29, k_30, k_31, k_33, k_37, k_38, k_40, k_41, k_42, k_43, k_45, k_47, k_48, k_57, k_59, k_60, k_61, k_62, k_63, k_91, k_93, k_97, k_99, k_100, k_102, k_106, k_107, k_108, k_109, k_110, k_112, k_114, k_115, k_117, k_120, k_121, k_124, k_160, k_200, k_240, k_255, k_256, k_260, k_384, k_720, k_1000, k_1047, k_1439, k_1440, k_2000, k_2047, k_9999, k_10059, k_13849, k_25173, k_65535, k_65536, k_1000000, k_1048576, k_268435456, k_1073741823, k_1073741824, I_add, I_sub, I_mul, I_neg, Option.bind_some, tn, tn_at, Int.add_zero, Int.toNat_zero, bi_e0, bi_e1, bi_z, gR258_0, gR258_1, gR258_2, gR258_3, gR258_4, gR258_5, gR258_6, gR258_7, gR258_8, gR258_9, gR258_10, gR258_11, gR258_12, gI258_13, gI258_14, gI258_15, gR258_16, gI258_17, gI258_18, gI258_19, gI258_20, gI258_21, gI258_22, gI258_23, gI258_24, gI258_25, gI258_26, gR258_27, gR258_28, gR258_29, gR258_30, gR258_31, gR258_32, gR258_33, gR258_34, gR258_35, gR258_36, gR258_37, gR258_38, gR258_39, gR258_40, gR258_41, gR258_42, gI258_43, gI258_44, gR258_45, gR258_46, gR258_47, gR258_48, gI258_49, gR258_50, gR258_51, gI258_52, gI258_53, gI258_54, gR258_55, gR258_56, gR258_57, gR258_58, gR258_59, gR258_60, gR258_61, gR258_62, gR258_63, gR258_64, gI258_65, on258, rA271, y_in, w_nM h, w_ruM h hr]
  rw [if_neg (show ¬ ¬ (0 ≤ (r : Int) ∧ (r : Int) ≤ (nT V0 : Int) - 1) by omega)]
  (repeat' split) <;> first | rfl | (rw [bi_f (by omega)]) | (rw [bi_t (by omega)]) | (exfalso; omega)
theorem yStM (h : Rem V0 V) {a k : Nat} (ha : a < nT V0) (hk : k < sm V0 a) : hp_aI (Wd b V lw R) (some (b + 266)) 0 (I (8 * (a : Int) + (k : Int))) = some (I (st V0 a k)) := by
  have ha48 := r48M h ha
  have hsa := sm2M h ha
  rw [rA266 (by omega) (by omega), tn_at, w_stM h ha hk]
theorem yMiM (h : Rem V0 V) {a k : Nat} (ha : a < nT V0) (hk : k < sm V0 a) : hp_aI (Wd b V lw R) (some (b + 267)) 0 (I (8 * (a : Int) + (k : Int))) = some (I (mi V0 a k)) := by
  have ha48 := r48M h ha
  have hsa := sm2M h ha
  rw [rA267 (by omega) (by omega), tn_at, w_miM h ha hk]
theorem ySmM (h : Rem V0 V) {a : Nat} (ha : a < nT V0) : hp_aI (Wd b V lw R) (some (b + 265)) 0 (I (a : Int)) = some (I (sm V0 a : Int)) := by
  have ha48 := r48M h ha
  rw [rA265 (by omega) (by omega), tn, w_smM h ha]
theorem yEvM (h : Rem V0 V) (he : e < nE V0) : hp_aI (Wd b V lw R) (some (b + 269)) 0 (I (e : Int)) = some (I ((8 * evT V0 e + evS V0 e : Nat) : Int)) := by
  have := ne_bM h
  rw [rA269 (by omega) (by omega), tn, w_evM h he]
theorem yE8M (h : Rem V0 V) (he : e < nE V0) : I ((8 * evT V0 e + evS V0 e : Nat) : Int) / I 8 = I (evT V0 e : Int) := by
  have h1 := et_bM h he
  have h2 := es_bM h he
  have h3 := r48M h h1
  have h4 := sm2M h h1
  rw [I_div (by omega) (by omega) (by omega) (by omega)]
  congr 1
  omega
theorem yE8rM (h : Rem V0 V) (he : e < nE V0) : jrem (I ((8 * evT V0 e + evS V0 e : Nat) : Int)) (I 8) = I (evS V0 e : Int) := by
  have h1 := et_bM h he
  have h2 := es_bM h he
  have h3 := r48M h h1
  have h4 := sm2M h h1
  rw [I_rem (by omega) (by omega) (by omega) (by omega)]
  congr 1
  omega
end RM
