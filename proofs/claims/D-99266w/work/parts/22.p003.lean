/-! THE INVARIANT: what the class's memory and the reference's say of the same. No JVM here. -/
set_option maxRecDepth 100000
set_option linter.unusedVariables false
/-- cells that carry nothing from call to call -/
def scr (o k : Nat) : Prop := o = 4 ∨ (21 ≤ o ∧ o ≤ 36) ∨ o = 7 ∨ o = 8 ∨ o = 39 ∨ o = 40 ∨ (o = 5 ∧ 5 ≤ k) ∨ (58 ≤ o ∧ o ≤ 113) ∨ (o = 258 ∧ ((18 ≤ k ∧ k ≤ 25) ∨ k = 43 ∨ k = 44 ∨ k = 49 ∨ k = 52 ∨ k = 53 ∨ k = 54)) ∨ o = 260 ∨ (273 ≤ o ∧ o ≤ 278) ∨ (284 ≤ o ∧ o ≤ 304)
def Sc (V0 V : Vw) : Prop := ∀ o k, ¬ scr o k → V o k = V0 o k
def nT (V : Vw) : Nat := (V 0 3).toNat
def sm (V : Vw) (r : Nat) : Nat := (V (114 + 3 * r) 2).toNat
def st (V : Vw) (r k : Nat) : Int := V (115 + 3 * r) k
def mi (V : Vw) (r k : Nat) : Int := V (116 + 3 * r) k
abbrev ru (V : Vw) (r : Nat) : Prop := V (114 + 3 * r) 4 = 1
def pl (V : Vw) (r : Nat) : Int := V (114 + 3 * r) 3
def ch (V : Vw) : Int := V 0 5
def InvTr (V : Vw) (r : Nat) : Prop := V (114 + 3 * r) 2 = sm V r ∧ 2 ≤ sm V r ∧ sm V r ≤ 8 ∧ V 265 r = sm V r ∧ (V (114 + 3 * r) 4 = 0 ∨ V (114 + 3 * r) 4 = 1) ∧ V 271 r = 1 - V (114 + 3 * r) 4 ∧ 0 ≤ pl V r ∧ pl V r ≤ 99 ∧ V 268 r = pl V r ∧ (∀ k, k < sm V r → 0 ≤ st V r k ∧ st V r k ≤ 9 ∧ V 266 (8 * r + k) = st V r k ∧ 0 ≤ mi V r k ∧ mi V r k ≤ 1439 ∧ V 267 (8 * r + k) = mi V r k) ∧ (∀ i k, i < k → k < sm V r → st V r i ≠ st V r k ∧ mi V r i < mi V r k)
def InvT (V : Vw) : Prop := V 0 3 = nT V ∧ nT V ≤ 48 ∧ V 258 14 = nT V ∧ ∀ r, r < nT V → InvTr V r
def nE (V : Vw) : Nat := (V 0 4).toNat
def evT (V : Vw) (e : Nat) : Nat := (V 2 e).toNat
def evS (V : Vw) (e : Nat) : Nat := (V 3 e).toNat
def evM (V : Vw) (e : Nat) : Int := mi V (evT V e) (evS V e)
def InvE (V : Vw) : Prop := V 0 4 = nE V ∧ nE V ≤ 384 ∧ V 258 15 = nE V ∧ (∀ e, e < nE V → V 2 e = evT V e ∧ evT V e < nT V ∧ V 3 e = evS V e ∧ evS V e < sm V (evT V e) ∧ V 269 e = ((8 * evT V e + evS V e : Nat) : Int)) ∧ (∀ e f, e < f → f < nE V → evM V e ≤ evM V f ∧ ¬ (evT V e = evT V f ∧ evS V e = evS V f)) ∧ (∀ r k, r < nT V → k < sm V r → ∃ e, e < nE V ∧ evT V e = r ∧ evS V e = k)
def InvP (V : Vw) : Prop := (∀ p, p < 12 → (V (5 + 4 + p) 5 = 0 ∨ V (5 + 4 + p) 5 = 1) ∧ V 270 p = V (5 + 4 + p) 5 ∧ 0 ≤ V (5 + 4 + p) 0 ∧ V (5 + 4 + p) 0 ≤ 9 ∧ V 262 p = V (5 + 4 + p) 0 ∧ 0 ≤ V (5 + 4 + p) 1 ∧ V (5 + 4 + p) 1 ≤ 9 ∧ V 263 p = V (5 + 4 + p) 1 ∧ 0 ≤ V (5 + 4 + p) 2 ∧ V (5 + 4 + p) 2 ≤ 1439 ∧ V 264 p = V (5 + 4 + p) 2 ∧ 0 ≤ V (5 + 4 + p) 3 ∧ V (5 + 4 + p) 3 ≤ 9999 ∧ V 259 p = V (5 + 4 + p) 3 ∧ 0 ≤ V (5 + 4 + p) 4 ∧ V (5 + 4 + p) 4 ≤ 9999 ∧ V 259 (12 + p) = V (5 + 4 + p) 4 ∧ 0 ≤ V (37 + 4 + p) 3 ∧ V (37 + 4 + p) 3 ≤ 9999 ∧ V 261 p = V (37 + 4 + p) 3 ∧ 0 ≤ V (37 + 4 + p) 4 ∧ V (37 + 4 + p) 4 ≤ 9999 ∧ V 261 (12 + p) = V (37 + 4 + p) 4) ∧ 0 ≤ V 5 3 ∧ V 5 3 ≤ 9999 ∧ V 259 24 = V 5 3 ∧ 0 ≤ V 5 4 ∧ V 5 4 ≤ 65535 ∧ V 259 25 = V 5 4 ∧ 0 ≤ V 37 3 ∧ V 37 3 ≤ 9999 ∧ V 261 24 = V 37 3 ∧ 0 ≤ V 37 4 ∧ V 37 4 ≤ 65535 ∧ V 261 25 = V 37 4
def InvQ (V : Vw) : Prop := 0 ≤ V 0 5 ∧ V 0 5 ≤ 60 ∧ V 258 13 = V 0 5 ∧ (V 0 13 = 0 ∨ V 0 13 = 1) ∧ V 258 65 = V 0 13 ∧ 0 ≤ V 0 12 ∧ V 0 12 ≤ 260 ∧ V 258 17 = V 0 12 ∧ ∀ k, k < 260 → V 272 k = V 53 k ∧ -128 ≤ V 53 k ∧ V 53 k ≤ 127
def Inv (V : Vw) : Prop := InvT V ∧ InvE V ∧ InvP V ∧ InvQ V
/-- the same, but the reference's mark on the tape, which follows the class's own only at a call's end -/
def ScW (V0 V : Vw) : Prop := ∀ o k, ¬ scr o k → ¬ (o = 258 ∧ k = 17) → V o k = V0 o k
def Rel (V0 V : Vw) : Prop := Inv V0 ∧ ScW V0 V
theorem Sc.rfl (V : Vw) : Sc V V := fun _ _ _ => Eq.refl _
theorem Sc.tr {V0 V1 V2 : Vw} (h1 : Sc V0 V1) (h2 : Sc V1 V2) : Sc V0 V2 := fun o k q => (h2 o k q).trans (h1 o k q)
theorem Sc.upd {V0 V : Vw} {o k : Nat} {x : Int} (h : Sc V0 V) (q : scr o k) : Sc V0 (up V o k x) := fun o2 k2 q2 => by
  unfold up
  rw [if_neg (fun e => q2 (by rw [e.1, e.2]; exact q))]
  exact h o2 k2 q2
theorem Rel.upd {V0 V : Vw} {o k : Nat} {x : Int} (h : Rel V0 V) (q : scr o k ∨ (o = 258 ∧ k = 17)) : Rel V0 (up V o k x) := ⟨h.1, fun o2 k2 q2 q3 => by
  unfold up
  rw [if_neg (fun e => q.elim (fun c => q2 (by rw [e.1, e.2]; exact c)) (fun c => q3 (by rw [e.1, e.2]; exact c)))]
  exact h.2 o2 k2 q2 q3⟩
theorem Rel.sc {V0 V V' : Vw} (h : Rel V0 V) (s : Sc V V') : Rel V0 V' := ⟨h.1, fun o k q1 q2 => (s o k q1).trans (h.2 o k q1 q2)⟩
theorem Sc.row {V0 V : Vw} (s : Sc V0 V) {o : Nat} (q : ∀ k, ¬ scr o k) : V o = V0 o := funext fun k => s o k (q k)
/-! reading V through V0 -/
section RD
variable {V0 V : Vw} {r k p e : Nat}
theorem v_n (h : Rel V0 V) : V 0 3 = nT V0 := (h.2 _ _ (by unfold scr; omega) (by omega)).trans h.1.1.1
theorem w_n (h : Rel V0 V) : V 258 14 = nT V0 := (h.2 _ _ (by unfold scr; omega) (by omega)).trans h.1.1.2.2.1
theorem n48 (h : Rel V0 V) : nT V0 ≤ 48 := h.1.1.2.1
theorem tr (h : Rel V0 V) (hr : r < nT V0) : InvTr V0 r := h.1.1.2.2.2 r hr
theorem r48 (h : Rel V0 V) (hr : r < nT V0) : r < 48 := Nat.lt_of_lt_of_le hr (n48 h)
theorem v_sm (h : Rel V0 V) (hr : r < nT V0) : V (114 + 3 * r) 2 = sm V0 r := (h.2 _ _ (by have := r48 h hr; unfold scr; omega) (by omega)).trans (tr h hr).1
theorem sm2 (h : Rel V0 V) (hr : r < nT V0) : 2 ≤ sm V0 r ∧ sm V0 r ≤ 8 := ⟨(tr h hr).2.1, (tr h hr).2.2.1⟩
theorem w_sm (h : Rel V0 V) (hr : r < nT V0) : V 265 r = sm V0 r := (h.2 _ _ (by unfold scr; omega) (by omega)).trans (tr h hr).2.2.2.1
theorem v_ru (h : Rel V0 V) (hr : r < nT V0) : V (114 + 3 * r) 4 = bi (ru V0 r) := by
  rw [h.2 _ _ (by have := r48 h hr; unfold scr; omega) (by omega)]
  have := (tr h hr).2.2.2.2.1
  exact bi_i1 (fun q => q) (fun q => this.elim id (fun c => absurd c q))
theorem w_ru (h : Rel V0 V) (hr : r < nT V0) : V 271 r = bi (¬ ru V0 r) := by
  rw [h.2 _ _ (by unfold scr; omega) (by omega), (tr h hr).2.2.2.2.2.1]
  have := (tr h hr).2.2.2.2.1
  refine bi_i1 (fun q => ?_) (fun q => ?_)
  · unfold ru at q
    omega
  · unfold ru at q
    omega
theorem v_pl (h : Rel V0 V) (hr : r < nT V0) : V (114 + 3 * r) 3 = pl V0 r := h.2 _ _ (by have := r48 h hr; unfold scr; omega) (by omega)
theorem w_pl (h : Rel V0 V) (hr : r < nT V0) : V 268 r = pl V0 r := (h.2 _ _ (by unfold scr; omega) (by omega)).trans (tr h hr).2.2.2.2.2.2.2.2.1
theorem pl_b (h : Rel V0 V) (hr : r < nT V0) : 0 ≤ pl V0 r ∧ pl V0 r ≤ 99 := ⟨(tr h hr).2.2.2.2.2.2.1, (tr h hr).2.2.2.2.2.2.2.1⟩
theorem v_st (h : Rel V0 V) (hr : r < nT V0) (k : Nat) : V (115 + 3 * r) k = st V0 r k := h.2 _ _ (by have := r48 h hr; unfold scr; omega) (by omega)
theorem v_mi (h : Rel V0 V) (hr : r < nT V0) (k : Nat) : V (116 + 3 * r) k = mi V0 r k := h.2 _ _ (by have := r48 h hr; unfold scr; omega) (by omega)
theorem w_st (h : Rel V0 V) (hr : r < nT V0) (hk : k < sm V0 r) : V 266 (8 * r + k) = st V0 r k := (h.2 _ _ (by unfold scr; omega) (by omega)).trans ((tr h hr).2.2.2.2.2.2.2.2.2.1 k hk).2.2.1
theorem w_mi (h : Rel V0 V) (hr : r < nT V0) (hk : k < sm V0 r) : V 267 (8 * r + k) = mi V0 r k := (h.2 _ _ (by unfold scr; omega) (by omega)).trans ((tr h hr).2.2.2.2.2.2.2.2.2.1 k hk).2.2.2.2.2
theorem st_b (h : Rel V0 V) (hr : r < nT V0) (hk : k < sm V0 r) : 0 ≤ st V0 r k ∧ st V0 r k ≤ 9 := ⟨((tr h hr).2.2.2.2.2.2.2.2.2.1 k hk).1, ((tr h hr).2.2.2.2.2.2.2.2.2.1 k hk).2.1⟩
theorem mi_b (h : Rel V0 V) (hr : r < nT V0) (hk : k < sm V0 r) : 0 ≤ mi V0 r k ∧ mi V0 r k ≤ 1439 := ⟨((tr h hr).2.2.2.2.2.2.2.2.2.1 k hk).2.2.2.1, ((tr h hr).2.2.2.2.2.2.2.2.2.1 k hk).2.2.2.2.1⟩
theorem st_ne (h : Rel V0 V) (hr : r < nT V0) {i : Nat} (hi : i < k) (hk : k < sm V0 r) : st V0 r i ≠ st V0 r k := ((tr h hr).2.2.2.2.2.2.2.2.2.2 i k hi hk).1
theorem mi_lt (h : Rel V0 V) (hr : r < nT V0) {i : Nat} (hi : i < k) (hk : k < sm V0 r) : mi V0 r i < mi V0 r k := ((tr h hr).2.2.2.2.2.2.2.2.2.2 i k hi hk).2
theorem v_ch (h : Rel V0 V) : V 0 5 = ch V0 := h.2 _ _ (by unfold scr; omega) (by omega)
theorem w_ch (h : Rel V0 V) : V 258 13 = ch V0 := (h.2 _ _ (by unfold scr; omega) (by omega)).trans h.1.2.2.2.2.2.1
theorem ch_b (h : Rel V0 V) : 0 ≤ ch V0 ∧ ch V0 ≤ 60 := ⟨h.1.2.2.2.1, h.1.2.2.2.2.1⟩
theorem v_ne (h : Rel V0 V) : V 0 4 = nE V0 := (h.2 _ _ (by unfold scr; omega) (by omega)).trans h.1.2.1.1
theorem w_ne (h : Rel V0 V) : V 258 15 = nE V0 := (h.2 _ _ (by unfold scr; omega) (by omega)).trans h.1.2.1.2.2.1
theorem ne_b (h : Rel V0 V) : nE V0 ≤ 384 := h.1.2.1.2.1
theorem v_et (h : Rel V0 V) (he : e < nE V0) : V 2 e = evT V0 e := (h.2 _ _ (by unfold scr; omega) (by omega)).trans (h.1.2.1.2.2.2.1 e he).1
theorem v_es (h : Rel V0 V) (he : e < nE V0) : V 3 e = evS V0 e := (h.2 _ _ (by unfold scr; omega) (by omega)).trans (h.1.2.1.2.2.2.1 e he).2.2.1
theorem et_b (h : Rel V0 V) (he : e < nE V0) : evT V0 e < nT V0 := (h.1.2.1.2.2.2.1 e he).2.1
theorem es_b (h : Rel V0 V) (he : e < nE V0) : evS V0 e < sm V0 (evT V0 e) := (h.1.2.1.2.2.2.1 e he).2.2.2.1
theorem w_ev (h : Rel V0 V) (he : e < nE V0) : V 269 e = ((8 * evT V0 e + evS V0 e : Nat) : Int) := (h.2 _ _ (by unfold scr; omega) (by omega)).trans (h.1.2.1.2.2.2.1 e he).2.2.2.2
theorem ev_le (h : Rel V0 V) {f : Nat} (he : e < f) (hf : f < nE V0) : evM V0 e ≤ evM V0 f := (h.1.2.1.2.2.2.2.1 e f he hf).1
theorem ev_ne (h : Rel V0 V) {f : Nat} (he : e < f) (hf : f < nE V0) : ¬ (evT V0 e = evT V0 f ∧ evS V0 e = evS V0 f) := (h.1.2.1.2.2.2.2.1 e f he hf).2
theorem ev_of (h : Rel V0 V) (hr : r < nT V0) (hk : k < sm V0 r) : ∃ e, e < nE V0 ∧ evT V0 e = r ∧ evS V0 e = k := h.1.2.1.2.2.2.2.2 r k hr hk
end RD
/-! what is asked of trains -/
def sAn (V : Vw) (r : Nat) (s : Int) : Nat := fnd (fun k => decide (st V r k = s)) (sm V r)
def sAt (V : Vw) (r : Nat) (s : Int) : Int := if sAn V r s < sm V r then (sAn V r s : Int) else -1
abbrev leaves (V : Vw) (r : Nat) (s : Int) : Prop := ru V r ∧ 0 ≤ sAt V r s ∧ sAt V r s < (sm V r : Int) - 1
abbrev comes (V : Vw) (r : Nat) (s : Int) : Prop := ru V r ∧ 0 < sAt V r s
abbrev isAt (V : Vw) (r : Nat) (s : Int) : Prop := ru V r ∧ 0 ≤ sAt V r s
abbrev goes (V : Vw) (r : Nat) (s t : Int) : Prop := ru V r ∧ 0 ≤ sAt V r s ∧ sAt V r s < sAt V r t
def minAt (V : Vw) (r : Nat) (s : Int) : Int := mi V r (sAn V r s)
theorem sAt_b (V : Vw) (r : Nat) (s : Int) : -1 ≤ sAt V r s ∧ sAt V r s < (sm V r : Int) ∨ sAt V r s = -1 := by
  unfold sAt
  split <;> omega
theorem sAt_of {V : Vw} {r : Nat} {s : Int} (h : 0 ≤ sAt V r s) : sAt V r s = (sAn V r s : Int) ∧ sAn V r s < sm V r ∧ st V r (sAn V r s) = s := by
  unfold sAt at h ⊢
  split at h
  · rename_i hl
    rw [if_pos hl]
    refine ⟨rfl, hl, ?_⟩
    exact of_decide_eq_true (fnd_yes _ _ hl)
  · omega
theorem sAt_k {V0 V : Vw} (h : Rel V0 V) {r k : Nat} (hr : r < nT V0) (hk : k < sm V0 r) : sAt V0 r (st V0 r k) = (k : Int) ∧ sAn V0 r (st V0 r k) = k := by
  have he : sAn V0 r (st V0 r k) = k := fnd_eq hk (by simp) (fun j hj => by simpa using st_ne h hr hj hk)
  unfold sAt
  rw [he, if_pos hk]
  exact ⟨rfl, rfl⟩
section TR
variable {b : Nat} {V0 V : Vw} {lw : Option Nat} {R : Hp} {r : Nat} {s t : Int}
theorem x_in {a n : Int} (h1 : -2147483648 ≤ a) (h2 : a ≤ 2147483647) (h3 : -2147483648 ≤ n) (h4 : n ≤ 2147483647) : fX0_in (I a) (I n) = some (I (bi (0 ≤ a ∧ a < n))) := by
  unfold fX0_in
  simp (disch := omega) only [k_0, k_1, k_2, k_3, k_4, k_5, k_6, k_7, k_8, k_9, k_10, k_11, k_12, k_13, k_14, k_15, k_16, k_17, k_18, k_19, k_20, k_21, k_22, k_23, k_24, k_25, k_26, k_27, k_28, k_29, k_30, k_31, k_33, k_37, k_38, k_40, k_41, k_42, k_43, k_45, k_47, k_48, k_57, k_59, k_60, k_61, k_62, k_63, k_91, k_93, k_97, k_99, k_100, k_102, k_106, k_107, k_108, k_109, k_110, k_112, k_114, k_115, k_117, k_120, k_121, k_124, k_160, k_200, k_240, k_255, k_256, k_260, k_384, k_720, k_1000, k_1047, k_1439, k_1440, k_2000, k_2047, k_9999, k_10059, k_13849, k_25173, k_65535, k_65536, k_1000000, k_1048576, k_268435456, k_1073741823, k_1073741824, I_add, I_sub, I_mul, I_neg, Option.bind_some, tn, tn_at, Int.add_zero, Int.toNat_zero, bi_e0, bi_e1, bi_z, I_lt, I_le]
  by_cases c1 : a < 0
  · rw [if_pos c1, bi_f (by omega)]
  · rw [if_neg c1]
    by_cases c2 : n ≤ a
    · rw [if_pos c2, bi_f (by omega)]
    · rw [if_neg c2, bi_t (by omega)]
theorem x_within {a n l : Int} (h1 : -2147483648 ≤ a) (h2 : a ≤ 2147483647) (h3 : -2147483648 ≤ n) (h4 : n ≤ 2147483647) (h5 : -2147483648 ≤ l) (h6 : l ≤ 2147483647) : fX0_within (I a) (I l) (I n) = some (I (bi (l ≤ a ∧ a ≤ n))) := by
  unfold fX0_within
  simp (disch := omega) only [k_0, k_1, k_2, k_3, k_4, k_5, k_6, k_7, k_8, k_9, k_10, k_11, k_12, k_13, k_14, k_15, k_16, k_17, k_18, k_19, k_20, k_21, k_22, k_23, k_24, k_25, k_26, k_27, k_28, k_29, k_30, k_31, k_33, k_37, k_38, k_40, k_41, k_42, k_43, k_45, k_47, k_48, k_57, k_59, k_60, k_61, k_62, k_63, k_91, k_93, k_97, k_99, k_100, k_102, k_106, k_107, k_108, k_109, k_110, k_112, k_114, k_115, k_117, k_120, k_121, k_124, k_160, k_200, k_240, k_255, k_256, k_260, k_384, k_720, k_1000, k_1047, k_1439, k_1440, k_2000, k_2047, k_9999, k_10059, k_13849, k_25173, k_65535, k_65536, k_1000000, k_1048576, k_268435456, k_1073741823, k_1073741824, I_add, I_sub, I_mul, I_neg, Option.bind_some, tn, tn_at, Int.add_zero, Int.toNat_zero, bi_e0, bi_e1, bi_z, I_lt, I_le]
  by_cases c1 : a < l
  · rw [if_pos c1, bi_f (by omega)]
  · rw [if_neg c1]
    by_cases c2 : n < a
    · rw [if_pos c2, bi_f (by omega)]
    · rw [if_neg c2, bi_t (by omega)]
theorem y_in {a n l : Int} (h1 : -2147483648 ≤ a) (h2 : a ≤ 2147483647) (h3 : -2147483648 ≤ n) (h4 : n ≤ 2147483647) (h5 : -2147483648 ≤ l) (h6 : l ≤ 2147483647) : fX7_in (I a) (I l) (I n) = some (I (bi (l ≤ a ∧ a ≤ n))) := by
  unfold fX7_in
  simp (disch := omega) only [k_0, k_1, k_2, k_3, k_4, k_5, k_6, k_7, k_8, k_9, k_10, k_11, k_12, k_13, k_14, k_15, k_16, k_17, k_18, k_19, k_20, k_21, k_22, k_23, k_24, k_25, k_26, k_27, k_28, k_29, k_30, k_31, k_33, k_37, k_38, k_40, k_41, k_42, k_43, k_45, k_47, k_48, k_57, k_59, k_60, k_61, k_62, k_63, k_91, k_93, k_97, k_99, k_100, k_102, k_106, k_107, k_108, k_109, k_110, k_112, k_114, k_115, k_117, k_120, k_121, k_124, k_160, k_200, k_240, k_255, k_256, k_260, k_384, k_720, k_1000, k_1047, k_1439, k_1440, k_2000, k_2047, k_9999, k_10059, k_13849, k_25173, k_65535, k_65536, k_1000000, k_1048576, k_268435456, k_1073741823, k_1073741824, I_add, I_sub, I_mul, I_neg, Option.bind_some, tn, tn_at, Int.add_zero, Int.toNat_zero, bi_e0, bi_e1, bi_z, I_lt, I_le]
  by_cases c1 : a < l
  · rw [if_pos c1, bi_f (by omega)]
  · rw [if_neg c1]
    by_cases c2 : n < a
    · rw [if_pos c2, bi_f (by omega)]
    · rw [if_neg c2, bi_t (by omega)]
theorem x_stopAt (h : Rel V0 V) (hr : r < nT V0) (hs : -1000 ≤ s ∧ s ≤ 1000) : fX6_stopAt (Wd b V lw R) (some (b + (114 + 3 * r))) (I s) = some (I (sAt V0 r s)) := by
  have h48 := r48 h hr
  have hsm := sm2 h hr
  have key := iter_find (b := fX6_stopAt_L2 (Wd b V lw R) (some (b + (114 + 3 * r))) (I s)) (fun i => I (i : Int)) (fun k => decide (st V0 r k = s)) (sm V0 r) (fun i => .inr (I i)) (.inl ()) (by omega)
    (fun i hi hp => by
      have hb := st_b h hr hi
      have hp : st V0 r i ≠ s := by simpa using hp
      simp (disch := omega) only [fX6_stopAt_L2, k_0, k_1, k_2, k_3, k_4, k_5, k_6, k_7, k_8, k_9, k_10, k_11, k_12, k_13, k_14, k_15, k_16, k_17, k_18, k_19, k_20, k_21, k_22, k_23, k_24, k_25, k_26, k_27, k_28, k_29, k_30, k_31, k_33, k_37, k_38, k_40, k_41, k_42, k_43, k_45, k_47, k_48, k_57, k_59, k_60, k_61, k_62, k_63, k_91, k_93, k_97, k_99, k_100, k_102, k_106, k_107, k_108, k_109, k_110, k_112, k_114, k_115, k_117, k_120, k_121, k_124, k_160, k_200, k_240, k_255, k_256, k_260, k_384, k_720, k_1000, k_1047, k_1439, k_1440, k_2000, k_2047, k_9999, k_10059, k_13849, k_25173, k_65535, k_65536, k_1000000, k_1048576, k_268435456, k_1073741823, k_1073741824, I_add, I_sub, I_mul, I_neg, Option.bind_some, tn, tn_at, Int.add_zero, Int.toNat_zero, bi_e0, bi_e1, bi_z, I_lt, I_le, I_inj, if_pos, if_neg, I_max, I_min, gR0_0, gR0_1, gR0_2, gI0_3, gI0_4, gI0_5, gR0_6, gR0_7, gR0_8, gR0_9, gR0_10, gI0_12, gI0_13, gR0_14, gR0_15, gR0_16, gR0_17, gR0_18, gR0_19, gR0_20, gR0_21, gI4_0, gI4_1, gI4_2, gI4_3, gI4_4, gI4_5, gI4_6, gI4_7, gI4_8, gI4_9, on0, on4, rTr, onTr, gTr0, gTr1, gTr2, gTr3, gTr4, rSt, rMi, rFr, rFu, v_sm h hr, v_st h hr]
      rfl)
    (fun i hi hp => by
      have hb := st_b h hr hi
      have hp : st V0 r i = s := by simpa using hp
      simp (disch := omega) only [fX6_stopAt_L2, k_0, k_1, k_2, k_3, k_4, k_5, k_6, k_7, k_8, k_9, k_10, k_11, k_12, k_13, k_14, k_15, k_16, k_17, k_18, k_19, k_20, k_21, k_22, k_23, k_24, k_25, k_26, k_27, k_28, k_29, k_30, k_31, k_33, k_37, k_38, k_40, k_41, k_42, k_43, k_45, k_47, k_48, k_57, k_59, k_60, k_61, k_62, k_63, k_91, k_93, k_97, k_99, k_100, k_102, k_106, k_107, k_108, k_109, k_110, k_112, k_114, k_115, k_117, k_120, k_121, k_124, k_160, k_200, k_240, k_255, k_256, k_260, k_384, k_720, k_1000, k_1047, k_1439, k_1440, k_2000, k_2047, k_9999, k_10059, k_13849, k_25173, k_65535, k_65536, k_1000000, k_1048576, k_268435456, k_1073741823, k_1073741824, I_add, I_sub, I_mul, I_neg, Option.bind_some, tn, tn_at, Int.add_zero, Int.toNat_zero, bi_e0, bi_e1, bi_z, I_lt, I_le, I_inj, if_pos, if_neg, I_max, I_min, gR0_0, gR0_1, gR0_2, gI0_3, gI0_4, gI0_5, gR0_6, gR0_7, gR0_8, gR0_9, gR0_10, gI0_12, gI0_13, gR0_14, gR0_15, gR0_16, gR0_17, gR0_18, gR0_19, gR0_20, gR0_21, gI4_0, gI4_1, gI4_2, gI4_3, gI4_4, gI4_5, gI4_6, gI4_7, gI4_8, gI4_9, on0, on4, rTr, onTr, gTr0, gTr1, gTr2, gTr3, gTr4, rSt, rMi, rFr, rFu, v_sm h hr, v_st h hr])
    (by simp (disch := omega) only [fX6_stopAt_L2, k_0, k_1, k_2, k_3, k_4, k_5, k_6, k_7, k_8, k_9, k_10, k_11, k_12, k_13, k_14, k_15, k_16, k_17, k_18, k_19, k_20, k_21, k_22, k_23, k_24, k_25, k_26, k_27, k_28, k_29, k_30, k_31, k_33, k_37, k_38, k_40, k_41, k_42, k_43, k_45, k_47, k_48, k_57, k_59, k_60, k_61, k_62, k_63, k_91, k_93, k_97, k_99, k_100, k_102, k_106, k_107, k_108, k_109, k_110, k_112, k_114, k_115, k_117, k_120, k_121, k_124, k_160, k_200, k_240, k_255, k_256, k_260, k_384, k_720, k_1000, k_1047, k_1439, k_1440, k_2000, k_2047, k_9999, k_10059, k_13849, k_25173, k_65535, k_65536, k_1000000, k_1048576, k_268435456, k_1073741823, k_1073741824, I_add, I_sub, I_mul, I_neg, Option.bind_some, tn, tn_at, Int.add_zero, Int.toNat_zero, bi_e0, bi_e1, bi_z, I_lt, I_le, I_inj, if_pos, if_neg, I_max, I_min, gR0_0, gR0_1, gR0_2, gI0_3, gI0_4, gI0_5, gR0_6, gR0_7, gR0_8, gR0_9, gR0_10, gI0_12, gI0_13, gR0_14, gR0_15, gR0_16, gR0_17, gR0_18, gR0_19, gR0_20, gR0_21, gI4_0, gI4_1, gI4_2, gI4_3, gI4_4, gI4_5, gI4_6, gI4_7, gI4_8, gI4_9, on0, on4, rTr, onTr, gTr0, gTr1, gTr2, gTr3, gTr4, rSt, rMi, rFr, rFu, v_sm h hr, v_st h hr])
  unfold fX6_stopAt
  rw [show (0 : Int32) = I ((0 : Nat) : Int) from rfl, key]
  unfold sAt sAn
  split
  · rfl
  · rfl
theorem y_stopAt (h : Rel V0 V) (hr : r < nT V0) (hs : -1000 ≤ s ∧ s ≤ 1000) : fX7_stopAt (Wd b V lw R) (some (b + 258)) (I (r : Int)) (I s) = some (I (sAt V0 r s)) := by
  have h48 := r48 h hr
  have hsm := sm2 h hr
  have key := iter_find (b := fX7_stopAt_L2 (Wd b V lw R) (some (b + 258)) (I (r : Int)) (I s)) (fun i => I (i : Int)) (fun k => decide (st V0 r k = s)) (sm V0 r) (fun i => .inr (I i)) (.inl ()) (by omega)
    (fun i hi hp => by
      have hb := st_b h hr hi
      have hp : st V0 r i ≠ s := by simpa using hp
      simp (disch := omega) only [fX7_stopAt_L2, fX7_at, k_0, k_1, k_2, k_3, k_4, k_5, k_6, k_7, k_8, k_9, k_10, k_11, k_12, k_13, k_14, k_15, k_16, k_17, k_18, k_19, k_20, k_21, k_22, k_23, k_24, k_25, k_26, k_27, k_28, k_29, k_30, k_31, k_33, k_37, k_38, k_40, k_41, k_42, k_43, k_45, k_47, k_48, k_57, k_59, k_60, k_61, k_62, k_63, k_91, k_93, k_97, k_99, k_100, k_102, k_106, k_107, k_108, k_109, k_110, k_112, k_114, k_115, k_117, k_120, k_121, k_124, k_160, k_200, k_240, k_255, k_256, k_260, k_384, k_720, k_1000, k_1047, k_1439, k_1440, k_2000, k_2047, k_9999, k_10059, k_13849, k_25173, k_65535, k_65536, k_1000000, k_1048576, k_268435456, k_1073741823, k_1073741824, I_add, I_sub, I_mul, I_neg, Option.bind_some, tn, tn_at, Int.add_zero, Int.toNat_zero, bi_e0, bi_e1, bi_z, I_lt, I_le, I_inj, if_pos, if_neg, I_max, I_min, gR258_0, gR258_1, gR258_2, gR258_3, gR258_4, gR258_5, gR258_6, gR258_7, gR258_8, gR258_9, gR258_10, gR258_11, gR258_12, gI258_13, gI258_14, gI258_15, gR258_16, gI258_17, gI258_18, gI258_19, gI258_20, gI258_21, gI258_22, gI258_23, gI258_24, gI258_25, gI258_26, gR258_27, gR258_28, gR258_29, gR258_30, gR258_31, gR258_32, gR258_33, gR258_34, gR258_35, gR258_36, gR258_37, gR258_38, gR258_39, gR258_40, gR258_41, gR258_42, gI258_43, gI258_44, gR258_45, gR258_46, gR258_47, gR258_48, gI258_49, gR258_50, gR258_51, gI258_52, gI258_53, gI258_54, gR258_55, gR258_56, gR258_57, gR258_58, gR258_59, gR258_60, gR258_61, gR258_62, gR258_63, gR258_64, gI258_65, on258, rA2, rA3, rA7, rA8, rA23, rA24, rA39, rA40, rA53, rA58, rA59, rA60, rA61, rA62, rA63, rA113, rA259, rA260, rA261, rA262, rA263, rA264, rA265, rA266, rA267, rA268, rA269, rA270, rA271, rA272, rA273, rA274, rA275, rA276, rA277, rA278, rA279, rA280, rA281, rA282, rA283, rA284, rA285, rA286, rA287, rA288, rA289, rA290, rA291, rA292, rA293, rA294, rA295, rA296, rA297, rA298, rA299, rA300, rA301, rA302, rA303, rA304, w_sm h hr, w_st h hr hi]
      rfl)
    (fun i hi hp => by
      have hb := st_b h hr hi
      have hp : st V0 r i = s := by simpa using hp
      simp (disch := omega) only [fX7_stopAt_L2, fX7_at, k_0, k_1, k_2, k_3, k_4, k_5, k_6, k_7, k_8, k_9, k_10, k_11, k_12, k_13, k_14, k_15, k_16, k_17, k_18, k_19, k_20, k_21, k_22, k_23, k_24, k_25, k_26, k_27, k_28, k_29, k_30, k_31, k_33, k_37, k_38, k_40, k_41, k_42, k_43, k_45, k_47, k_48, k_57, k_59, k_60, k_61, k_62, k_63, k_91, k_93, k_97, k_99, k_100, k_102, k_106, k_107, k_108, k_109, k_110, k_112, k_114, k_115, k_117, k_120, k_121, k_124, k_160, k_200, k_240, k_255, k_256, k_260, k_384, k_720, k_1000, k_1047, k_1439, k_1440, k_2000, k_2047, k_9999, k_10059, k_13849, k_25173, k_65535, k_65536, k_1000000, k_1048576, k_268435456, k_1073741823, k_1073741824, I_add, I_sub, I_mul, I_neg, Option.bind_some, tn, tn_at, Int.add_zero, Int.toNat_zero, bi_e0, bi_e1, bi_z, I_lt, I_le, I_inj, if_pos, if_neg, I_max, I_min, gR258_0, gR258_1, gR258_2, gR258_3, gR258_4, gR258_5, gR258_6, gR258_7, gR258_8, gR258_9, gR258_10, gR258_11, gR258_12, gI258_13, gI258_14, gI258_15, gR258_16, gI258_17, gI258_18, gI258_19, gI258_20, gI258_21, gI258_22, gI258_23, gI258_24, gI258_25, gI258_26, gR258_27, gR258_28, gR258_29, gR258_30, gR258_31, gR258_32, gR258_33, gR258_34, gR258_35, gR258_36, gR258_37, gR258_38, gR258_39, gR258_40, gR258_41, gR258_42, gI258_43, gI258_44, gR258_45, gR258_46, gR258_47, gR258_48, gI258_49, gR258_50, gR258_51, gI258_52, gI258_53, gI258_54, gR258_55, gR258_56, gR258_57, gR258_58, gR258_59, gR258_60, gR258_61, gR258_62, gR258_63, gR258_64, gI258_65, on258, rA2, rA3, rA7, rA8, rA23, rA24, rA39, rA40, rA53, rA58, rA59, rA60, rA61, rA62, rA63, rA113, rA259, rA260, rA261, rA262, rA263, rA264, rA265, rA266, rA267, rA268, rA269, rA270, rA271, rA272, rA273, rA274, rA275, rA276, rA277, rA278, rA279, rA280, rA281, rA282, rA283, rA284, rA285, rA286, rA287, rA288, rA289, rA290, rA291, rA292, rA293, rA294, rA295, rA296, rA297, rA298, rA299, rA300, rA301, rA302, rA303, rA304, w_sm h hr, w_st h hr hi])
    (by simp (disch := omega) only [fX7_stopAt_L2, fX7_at, k_0, k_1, k_2, k_3, k_4, k_5, k_6, k_7, k_8, k_9, k_10, k_11, k_12, k_13, k_14, k_15, k_16, k_17, k_18, k_19, k_20, k_21, k_22, k_23, k_24, k_25, k_26, k_27, k_28, k_29, k_30, k_31, k_33, k_37, k_38, k_40, k_41, k_42, k_43, k_45, k_47, k_48, k_57, k_59, k_60, k_61, k_62, k_63, k_91, k_93, k_97, k_99, k_100, k_102, k_106, k_107, k_108, k_109, k_110, k_112, k_114, k_115, k_117, k_120, k_121, k_124, k_160, k_200, k_240, k_255, k_256, k_260, k_384, k_720, k_1000, k_1047, k_1439, k_1440, k_2000, k_2047, k_9999, k_10059, k_13849, k_25173, k_65535, k_65536, k_1000000, k_1048576, k_268435456, k_1073741823, k_1073741824, I_add, I_sub, I_mul, I_neg, Option.bind_some, tn, tn_at, Int.add_zero, Int.toNat_zero, bi_e0, bi_e1, bi_z, I_lt, I_le, I_inj, if_pos, if_neg, I_max, I_min, gR258_0, gR258_1, gR258_2, gR258_3, gR258_4, gR258_5, gR258_6, gR258_7, gR258_8, gR258_9, gR258_10, gR258_11, gR258_12, gI258_13, gI258_14, gI258_15, gR258_16, gI258_17, gI258_18, gI258_19, gI258_20, gI258_21, gI258_22, gI258_23, gI258_24, gI258_25, gI258_26, gR258_27, gR258_28, gR258_29, gR258_30, gR258_31, gR258_32, gR258_33, gR258_34, gR258_35, gR258_36, gR258_37, gR258_38, gR258_39, gR258_40, gR258_41, gR258_42, gI258_43, gI258_44, gR258_45, gR258_46, gR258_47, gR258_48, gI258_49, gR258_50, gR258_51, gI258_52, gI258_53, gI258_54, gR258_55, gR258_56, gR258_57, gR258_58, gR258_59, gR258_60, gR258_61, gR258_62, gR258_63, gR258_64, gI258_65, on258, rA2, rA3, rA7, rA8, rA23, rA24, rA39, rA40, rA53, rA58, rA59, rA60, rA61, rA62, rA63, rA113, rA259, rA260, rA261, rA262, rA263, rA264, rA265, rA266, rA267, rA268, rA269, rA270, rA271, rA272, rA273, rA274, rA275, rA276, rA277, rA278, rA279, rA280, rA281, rA282, rA283, rA284, rA285, rA286, rA287, rA288, rA289, rA290, rA291, rA292, rA293, rA294, rA295, rA296, rA297, rA298, rA299, rA300, rA301, rA302, rA303, rA304, w_sm h hr])
  unfold fX7_stopAt
  rw [show (0 : Int32) = I ((0 : Nat) : Int) from rfl, key]
  unfold sAt sAn
  split
  · rfl
  · rfl
end TR
