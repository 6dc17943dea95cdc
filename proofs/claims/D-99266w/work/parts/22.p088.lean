/-! LAW: how the reference reads sums, II: the grammar. No JVM here. -/
set_option maxRecDepth 100000
set_option linter.unusedVariables false
set_option linter.unusedSimpArgs false
section YB
variable {b : Nat} {V V0 V' : Vw} {lw : Option Nat} {R : Hp} {n p o e e' v op a base s : Nat} {W c M : List Cd} {x : Cd} {q w t : Int} {Q : Option (Int32 × Hp) → Prop}
/-- a sign -/
theorem B_op (hs : sgOf (yk V0 n p) = (s : Int)) (hs2 : 2 ≤ s ∧ s ≤ 6) (ha : a = if 4 ≤ s then 0 else 1) (hM : ∀ x ∈ M, clo a x.1) (ht : ¬ clo a (tpW W)) (h : AQ n b V0 lw R base (p + 1) o ((s, 0) :: W) (c ++ offs M) e Q) : BQ n b V0 lw R base p o (M ++ W) c e Q := fun fb V h2 hl => by
  obtain ⟨f, rfl⟩ : ∃ f, fb = f + 1 := ⟨fb - 1, by omega⟩
  have tb := yk_b V0 n p
  have oo := hl.oo
  have ne : yk V0 n p ≠ -1 := fun q => by
    rw [q] at hs
    have : sgOf (-1) = -1 := rfl
    omega
  have lt := hl.lt ne
  obtain ⟨V1, w1, w2⟩ := y_closes (b := b) (lw := lw) (R := R) (a := a) (by rw [ha]; split <;> omega) ht hl hM
  have wl := w2.wl
  have cl := w2.cl
  have nn := w2.nn
  have e1 : (1048576 * (s : Int)) = enc (s, 0) := by
    unfold enc
    show _ = 1048576 * (s : Int) + ((0 : Nat) : Int)
    omega
  have L : LSt n V0 (up (up (up V1 274 W.length (enc (s, 0))) 258 24 ((W.length : Int) + 1)) 258 18 ((p : Int) + 1)) (p + 1) o ((s, 0) :: W) (c ++ offs M) e := by
    refine w2.to (fun q k hq => by rw [up_o (by omega), up_o (by omega), up_o (by omega)]) (by rw [up_s]; omega) ?_ ?_ ?_ ⟨?_, ?_⟩ ?_ (wk_c w2.wk ⟨show s ≤ 14 by omega, show 0 < 1048576 by decide⟩) w2.ck (by rw [List.length_cons]; omega) (by rw [wt_1 ⟨show s ≠ 11 by omega, show s ≠ 12 by omega⟩]; omega) lt oo
    · simp (disch := omega) only [up_k, up_r, w2.op]
    · simp (disch := omega) only [up_k, up_s, List.length_cons]
      omega
    · simp (disch := omega) only [up_k, up_r, w2.cm]
    · simp (disch := omega) only [up_s, up_r]
    · exact WAt_c W (fun i hi => by simp (disch := omega) only [up_k, up_r]) w2.ww
    · exact CAt_c (fun i hi => by simp (disch := omega) only [up_r]) w2.cc
  have g := h FUEL f _ (by unfold FUEL; omega) (by omega) L
  have st : fX7_readsSum_L14 (some (b + 258)) (I (base : Int)) (Wd b V lw R) = (fX7_readsFactor (Wd b (up (up (up V1 274 W.length (enc (s, 0))) 258 24 ((W.length : Int) + 1)) 258 18 ((p : Int) + 1)) lw R) (some (b + 258))).bind fun (v38, m39) => if v38 = 0 then some (.inr ((0 : Int32), m39)) else some (.inl m39) := by
    have ea : ((if (4 : Int32) ≤ I (s : Int) then some (0 : Int32) else some (1 : Int32)) : Option Int32) = some (I (a : Int)) := by
      rw [k_4, ha]
      by_cases c4 : 4 ≤ s
      · rw [if_pos (I_leY (by omega) (by omega) (by omega)), if_pos c4]
        rfl
      · rw [if_neg (I_leN (by omega) (by omega) (by omega)), if_neg c4]
        rfl
    unfold fX7_readsSum_L14
    rw [on258, y_hr hl, Option.bind_some, y_sg tb, hs, Option.bind_some, k_1, I_neg, if_neg (I_ne (by omega) (by omega) (by omega)), show ((if (4 : Int32) ≤ I (s : Int) then some (0 : Int32) else some (I 1)) : Option Int32) = some (I (a : Int)) from ea, Option.bind_some, on258, w1, Option.bind_some, gR258_28, Option.bind_some, gI258_24, w2.wa, Option.bind_some, k_UN, I_mul, e1, wA274 (by omega) (by omega), Option.bind_some, tn, gI258_24, up_r (by omega), w2.wa, Option.bind_some, I_add, pI258_24, Option.bind_some, gI258_18, up_k (by omega), up_r (by omega), w2.pl, Option.bind_some, I_add, pI258_18, Option.bind_some, on258]
  show Q (iter _ (f + 1) _)
  have eq : iter (fX7_readsSum_L14 (some (b + 258)) (I (base : Int))) (f + 1) (Wd b V lw R) = Afn b base FUEL f (Wd b (up (up (up V1 274 W.length (enc (s, 0))) 258 24 ((W.length : Int) + 1)) 258 18 ((p : Int) + 1)) lw R) := by
    rw [iter, st]
    show _ = (fX7_readsFactor (Wd b _ lw R) (some (b + 258))).bind fun (v2, m3) => if v2 = 0 then some ((0 : Int32), m3) else iter (fX7_readsSum_L14 (some (b + 258)) (I (base : Int))) f m3
    cases fX7_readsFactor (Wd b (up (up (up V1 274 W.length (enc (s, 0))) 258 24 ((W.length : Int) + 1)) 258 18 ((p : Int) + 1)) lw R) (some (b + 258)) with
    | none => rfl
    | some q =>
      obtain ⟨v2, m3⟩ := q
      simp only [Option.bind_some]
      by_cases c0 : v2 = 0
      · simp only [c0, ↓reduceIte]
      · simp only [c0, ↓reduceIte]
  rw [eq]
  exact g
theorem clo1_14 (h : clo 1 t) : t ≠ 14 := by omega
/-- ] -/
theorem B_close {y : Cd} (hp : yk V0 n p = 93) (hM : ∀ x ∈ M, clo 1 x.1) (hy : y.1 = 14) (hb : base ≤ W.length) (h : BQ n b V0 lw R base (p + 1) o W (c ++ offs M) e Q) (ho : o < 6) : BQ n b V0 lw R base p (o + 1) (M ++ y :: W) c e Q := fun fb V h2 hl => by
  obtain ⟨f, rfl⟩ : ∃ f, fb = f + 1 := ⟨fb - 1, by omega⟩
  have lt := hl.lt (by omega)
  have ht : ¬ clo 1 (tpW (y :: W)) := fun q => by
    have : tpW (y :: W) = (y.1 : Int) := rfl
    omega
  obtain ⟨V1, w1, w2⟩ := y_closes (b := b) (lw := lw) (R := R) (a := 1) (by omega) ht hl hM
  have wl := w2.wl
  have cl := w2.cl
  have nn := w2.nn
  rw [wt_1 (by omega)] at cl
  rw [List.length_cons] at wl
  have wa := w2.wa
  have ww := w2.ww.2
  have L : LSt n V0 (up (up (up V1 258 24 (W.length : Int)) 258 22 (o : Int)) 258 18 ((p : Int) + 1)) (p + 1) o W (c ++ offs M) e := by
    refine w2.to (fun q k hq => by rw [up_o (by omega), up_o (by omega), up_o (by omega)]) (by rw [up_s]; omega) ?_ ?_ ?_ ?_ ?_ (wk_t w2.wk) w2.ck (by omega) (by omega) lt (by omega)
    · simp (disch := omega) only [up_k, up_s]
    · simp (disch := omega) only [up_k, up_s]
    · simp (disch := omega) only [up_k, up_r, w2.cm]
    · exact WAt_c W (fun i hi => by simp (disch := omega) only [up_k, up_r]) ww
    · exact CAt_c (fun i hi => by simp (disch := omega) only [up_r]) w2.cc
  have has := y_hasY (b := b) (lw := lw) (R := R) hl (fun x hx => by have := hM x hx; omega) hy hb
  have st : fX7_readsSum_L14 (some (b + 258)) (I (base : Int)) (Wd b V lw R) = some (.inl (Wd b (up (up (up V1 258 24 (W.length : Int)) 258 22 (o : Int)) 258 18 ((p : Int) + 1)) lw R)) := by
    have w1 : fX7_closesSums (Wd b V lw R) (some (b + 258)) (I 1) = _ := w1
    have e2 : (((y :: W).length : Nat) : Int) - 1 = (W.length : Int) := by simp
    have e3 : ((o + 1 : Nat) : Int) - 1 = (o : Int) := by omega
    unfold fX7_readsSum_L14
    simp only [on258, y_hr hl, Option.bind_some, hp, y_sg (show -1 ≤ (93 : Int) ∧ (93 : Int) ≤ 255 by omega), show sgOf 93 = -1 from rfl, k_1, I_neg, show (93 : Int32) = I 93 from rfl, ↓reduceIte, has, k_0, if_neg (show ¬ I 1 = I 0 by decide), w1, gI258_24, wa, I_sub, e2, pI258_24, gI258_22, up_k (show (22 : Nat) ≠ 24 by omega), w2.op, e3, pI258_22, gI258_18, up_k (show (18 : Nat) ≠ 22 by omega), up_k (show (18 : Nat) ≠ 24 by omega), w2.pl, I_add, pI258_18]
  rw [iter_s st]
  exact h f _ (by omega) L
theorem B_err {y : Cd} (hs : sgOf (yk V0 n p) = -1) (hp : yk V0 n p ≠ 93) (hM : ∀ x ∈ M, clo 1 x.1) (hy : y.1 = 14) (hb : base ≤ W.length) (h : ErQ b V0 lw R 1 p Q) : BQ n b V0 lw R base p o (M ++ y :: W) c e Q := fun fb V h2 hl => by
  obtain ⟨f, rfl⟩ : ∃ f, fb = f + 1 := ⟨fb - 1, by omega⟩
  have tb := yk_b V0 n p
  have has := y_hasY (b := b) (lw := lw) (R := R) hl (fun x hx => by have := hM x hx; omega) hy hb
  have st : fX7_readsSum_L14 (some (b + 258)) (I (base : Int)) (Wd b V lw R) = some (.inr (I 0, Wd b (up V 258 20 (-1000 * 1 - (p : Int))) lw R)) := by
    unfold fX7_readsSum_L14
    simp only [on258, y_hr hl, Option.bind_some, y_sg tb, hs, k_1, I_neg, show (93 : Int32) = I 93 from rfl, ↓reduceIte, if_neg (I_ne (x := yk V0 n p) (y := 93) (by omega) (by omega) hp), has, k_0, if_neg (show ¬ I 1 = I 0 by decide), gI258_18, hl.pl, y_wrong, z_0]
  rw [iter_r st]
  refine h _ (fun q k hq => ?_) (by rw [up_s]; rfl)
  rw [up_o (by omega)]
  exact hl.fr q k hq
theorem B_end (hs : sgOf (yk V0 n p) = -1) (hM : ∀ x ∈ M, clo 1 x.1) (ht : ¬ clo 1 (tpW W)) (h : ∀ V', LSt n V0 V' p o W (c ++ offs M) e → Q (some (I 1, Wd b V' lw R))) : BQ n b V0 lw R W.length p o (M ++ W) c e Q := fun fb V h2 hl => by
  obtain ⟨f, rfl⟩ : ∃ f, fb = f + 1 := ⟨fb - 1, by omega⟩
  have tb := yk_b V0 n p
  have has := y_hasN (b := b) (lw := lw) (R := R) hl (fun x hx => by have := hM x hx; omega)
  obtain ⟨V1, w1, w2⟩ := y_closes (b := b) (lw := lw) (R := R) (a := 1) (by omega) ht hl hM
  have w1 : fX7_closesSums (Wd b V lw R) (some (b + 258)) (I 1) = _ := w1
  have st : fX7_readsSum_L14 (some (b + 258)) (I (W.length : Int)) (Wd b V lw R) = some (.inr (I 1, Wd b V1 lw R)) := by
    unfold fX7_readsSum_L14
    by_cases c9 : yk V0 n p = 93
    · simp only [on258, y_hr hl, Option.bind_some, y_sg tb, hs, k_1, I_neg, show (93 : Int32) = I 93 from rfl, ↓reduceIte, I_T (x := yk V0 n p) (y := 93) c9, has, k_0, w1]
    · simp only [on258, y_hr hl, Option.bind_some, y_sg tb, hs, k_1, I_neg, show (93 : Int32) = I 93 from rfl, ↓reduceIte, if_neg (I_ne (x := yk V0 n p) (y := 93) (by omega) (by omega) c9), has, k_0, w1]
  rw [iter_r st]
  exact h V1 w2
end YB
/-! the grammar of sums -/
def lv (l : Nat) (W : List Cd) : Prop := (1 ≤ l → ¬ clo 0 (tpW W)) ∧ (2 ≤ l → ¬ clo 1 (tpW W))
def RE (T : Nat → Int) (n l p o w a : Nat) : Prop := ∀ (b : Nat) (V0 : Vw) (lw : Option Nat) (R : Hp) (base : Nat) (W c : List Cd) (e : Nat) (Q : Option (Int32 × Hp) → Prop), yk V0 n = T → base ≤ W.length → lv l W → ErQ b V0 lw R w a Q → AQ n b V0 lw R base p o W c e Q
def RO (T : Nat → Int) (n l p o p' : Nat) (C : List Cd) : Prop := ∃ M C', C = C' ++ offs M ∧ (l = 0 → M = []) ∧ (∀ x ∈ M, clo (l - 1) x.1) ∧ ∀ (b : Nat) (V0 : Vw) (lw : Option Nat) (R : Hp) (base : Nat) (W c : List Cd) (e : Nat) (Q : Option (Int32 × Hp) → Prop), yk V0 n = T → base ≤ W.length → lv l W → BQ n b V0 lw R base p' o (M ++ W) (c ++ C') e Q → AQ n b V0 lw R base p o W c e Q
section YG
variable {T : Nat → Int} {n p o p' p2 w a s l : Nat} {C D : List Cd}
theorem lv_0 (W : List Cd) : lv 0 W := ⟨fun q => absurd q (by omega), fun q => absurd q (by omega)⟩
theorem RO_num (hp : isDg T p) (hd : numD T p 5 ≠ 6) : RO T n 0 p o (p + numD T p 5) [(0, (numV T p (numD T p 5)).toNat)] := ⟨[], _, (List.append_nil _).symm, fun _ => rfl, fun x hx => (List.not_mem_nil hx).elim, fun b V0 lw R base W c e Q hT hb hv h => by
  subst hT
  exact A_num hp hd h⟩
theorem RE_num (hp : isDg T p) (hd : numD T p 5 = 6) : RE T n 0 p o 2 (p + 5) := fun b V0 lw R base W c e Q hT hb hv h => by
  subst hT
  exact A_num6 hp hd h
theorem RO_let (hp : T p ≠ 91) (hd : ¬ isDg T p) (hl : ltOf (T p) ≠ -1) : RO T n 0 p o (p + 1) [(1, (ltOf (T p)).toNat)] := ⟨[], _, (List.append_nil _).symm, fun _ => rfl, fun x hx => (List.not_mem_nil hx).elim, fun b V0 lw R base W c e Q hT hb hv h => by
  subst hT
  exact A_let hp hd hl h⟩
theorem RE_let (hp : T p ≠ 91) (hd : ¬ isDg T p) (hl : ltOf (T p) = -1) : RE T n 0 p o 1 p := fun b V0 lw R base W c e Q hT hb hv h => by
  subst hT
  exact A_bad hp hd hl h
theorem RE_open (hp : T p = 91) : RE T n 0 p 6 5 p := fun b V0 lw R base W c e Q hT hb hv h => by
  subst hT
  exact A_open6 hp h
theorem lv_14 (W : List Cd) : lv 2 ((14, 0) :: W) := by
  have : tpW ((14, 0) :: W) = 14 := rfl
  unfold lv
  rw [this]
  omega
theorem RO_br (hp : T p = 91) (ho : o < 6) (h : RO T n 2 (p + 1) (o + 1) p' C) (hq : T p' = 93) : RO T n 0 p o (p' + 1) C := by
  obtain ⟨M, C', rfl, h0, h1, h2⟩ := h
  refine ⟨[], _, (List.append_nil _).symm, fun _ => rfl, fun x hx => (List.not_mem_nil hx).elim, fun b V0 lw R base W c e Q hT hb hv g => ?_⟩
  have h3 := h2 b V0 lw R base ((14, 0) :: W) c e Q hT (by rw [List.length_cons]; omega) (lv_14 W)
  subst hT
  refine A_open hp (by omega) (h3 (B_close (y := (14, 0)) hq h1 rfl hb ?_ ho))
  rw [List.append_assoc]
  exact g
theorem RE_br (hp : T p = 91) (ho : o < 6) (h : RE T n 2 (p + 1) (o + 1) w a) : RE T n 0 p o w a := fun b V0 lw R base W c e Q hT hb hv g => by
  have h3 := h b V0 lw R base ((14, 0) :: W) c e Q hT (by rw [List.length_cons]; omega) (lv_14 W) g
  subst hT
  exact A_open hp (by omega) h3
theorem RE_br2 (hp : T p = 91) (ho : o < 6) (h : RO T n 2 (p + 1) (o + 1) p' C) (hs : sgOf (T p') = -1) (hq : T p' ≠ 93) : RE T n 0 p o 1 p' := fun b V0 lw R base W c e Q hT hb hv g => by
  obtain ⟨M, C', rfl, h0, h1, h2⟩ := h
  have h3 := h2 b V0 lw R base ((14, 0) :: W) c e Q hT (by rw [List.length_cons]; omega) (lv_14 W)
  subst hT
  exact A_open hp (by omega) (h3 (B_err (y := (14, 0)) hs hq h1 rfl hb g))
theorem lv_d {W : List Cd} (h : lv (l + 1) W) : lv l W := ⟨fun q => h.1 (by omega), fun q => h.2 (by omega)⟩
theorem RE_up (h : RE T n l p o w a) : RE T n (l + 1) p o w a := fun b V0 lw R base W c e Q hT hb hv g => h b V0 lw R base W c e Q hT hb (lv_d hv) g
theorem RO_01 (h : RO T n 0 p o p' C) : RO T n 1 p o p' C := by
  obtain ⟨M, C', rfl, h0, h1, h2⟩ := h
  have := h0 rfl
  subst this
  exact ⟨[], C', rfl, fun _ => rfl, fun x hx => (List.not_mem_nil hx).elim, fun b V0 lw R base W c e Q hT hb hv g => h2 b V0 lw R base W c e Q hT hb (lv_0 W) g⟩
theorem RO_12 (h : RO T n 1 p o p' C) : RO T n 2 p o p' C := by
  obtain ⟨M, C', rfl, h0, h1, h2⟩ := h
  exact ⟨M, C', rfl, fun q => absurd q (by omega), fun x hx => by have := h1 x hx; omega, fun b V0 lw R base W c e Q hT hb hv g => h2 b V0 lw R base W c e Q hT hb (lv_d hv) g⟩
theorem RO_mul (h : RO T n 1 p o p' C) (hs : sgOf (T p') = (s : Int)) (h4 : 4 ≤ s ∧ s ≤ 6) (g : RO T n 0 (p' + 1) o p2 D) : RO T n 1 p o p2 (C ++ (D ++ [(s, 0)])) := by
  obtain ⟨M, C', rfl, h0, h1, h2⟩ := h
  obtain ⟨M2, D', rfl, g0, g1, g2⟩ := g
  have := g0 rfl
  subst this
  refine ⟨[(s, 0)], C' ++ offs M ++ D', by simp [offs], fun q => absurd q (by omega), fun x hx => ?_, fun b V0 lw R base W c e Q hT hb hv k => ?_⟩
  · rw [List.mem_singleton] at hx
    subst hx
    show clo 0 (s : Int)
    omega
  · have h3 := h2 b V0 lw R base W c e Q hT hb hv
    have g3 := g2 b V0 lw R base ((s, 0) :: W) (c ++ C' ++ offs M) e Q hT (by rw [List.length_cons]; omega) (lv_0 _)
    subst hT
    refine h3 (B_op hs (by omega) (a := 0) (by rw [if_pos (by omega)]) h1 (hv.1 (by omega)) (g3 ?_))
    simp only [List.append_assoc] at k ⊢
    exact k
theorem RE_mul (h : RO T n 1 p o p' C) (hs : sgOf (T p') = (s : Int)) (h4 : 4 ≤ s ∧ s ≤ 6) (g : RE T n 0 (p' + 1) o w a) : RE T n 1 p o w a := fun b V0 lw R base W c e Q hT hb hv k => by
  obtain ⟨M, C', rfl, h0, h1, h2⟩ := h
  have h3 := h2 b V0 lw R base W c e Q hT hb hv
  have g3 := g b V0 lw R base ((s, 0) :: W) (c ++ C' ++ offs M) e Q hT (by rw [List.length_cons]; omega) (lv_0 _) k
  subst hT
  exact h3 (B_op hs (by omega) (a := 0) (by rw [if_pos (by omega)]) h1 (hv.1 (by omega)) g3)
theorem lv_s {W : List Cd} (h : 2 ≤ s ∧ s ≤ 3) : lv 1 ((s, 0) :: W) := by
  have : tpW ((s, 0) :: W) = (s : Int) := rfl
  unfold lv
  rw [this]
  omega
theorem RO_add (h : RO T n 2 p o p' C) (hs : sgOf (T p') = (s : Int)) (h4 : 2 ≤ s ∧ s ≤ 3) (g : RO T n 1 (p' + 1) o p2 D) : RO T n 2 p o p2 (C ++ (D ++ [(s, 0)])) := by
  obtain ⟨M, C', rfl, h0, h1, h2⟩ := h
  obtain ⟨M2, D', rfl, g0, g1, g2⟩ := g
  refine ⟨M2 ++ [(s, 0)], C' ++ offs M ++ D', by simp [offs], fun q => absurd q (by omega), fun x hx => ?_, fun b V0 lw R base W c e Q hT hb hv k => ?_⟩
  · rw [List.mem_append, List.mem_singleton] at hx
    rcases hx with hx | rfl
    · have := g1 x hx
      show clo 1 _
      omega
    · show clo 1 (s : Int)
      omega
  · have h3 := h2 b V0 lw R base W c e Q hT hb hv
    have g3 := g2 b V0 lw R base ((s, 0) :: W) (c ++ C' ++ offs M) e Q hT (by rw [List.length_cons]; omega) (lv_s h4)
    subst hT
    refine h3 (B_op hs (by omega) (a := 1) (by rw [if_neg (by omega)]) h1 (hv.2 (by omega)) (g3 ?_))
    simp only [List.append_assoc, List.singleton_append] at k ⊢
    exact k
theorem RE_add (h : RO T n 2 p o p' C) (hs : sgOf (T p') = (s : Int)) (h4 : 2 ≤ s ∧ s ≤ 3) (g : RE T n 1 (p' + 1) o w a) : RE T n 2 p o w a := fun b V0 lw R base W c e Q hT hb hv k => by
  obtain ⟨M, C', rfl, h0, h1, h2⟩ := h
  have h3 := h2 b V0 lw R base W c e Q hT hb hv
  have g3 := g b V0 lw R base ((s, 0) :: W) (c ++ C' ++ offs M) e Q hT (by rw [List.length_cons]; omega) (lv_s h4) k
  subst hT
  exact h3 (B_op hs (by omega) (a := 1) (by rw [if_neg (by omega)]) h1 (hv.2 (by omega)) g3)
/-- a whole sum -/
theorem y_sumA {b : Nat} {V0 V : Vw} {lw : Option Nat} {R : Hp} {W c : List Cd} {e : Nat} (hl : LSt n V0 V p o W c e) : fX7_readsSum (Wd b V lw R) (some (b + 258)) = Afn b W.length FUEL FUEL (Wd b V lw R) := by
  unfold fX7_readsSum
  rw [gI258_24, hl.wa, Option.bind_some, on258]
  show _ = (fX7_readsFactor (Wd b V lw R) (some (b + 258))).bind fun (v2, m3) => if v2 = 0 then some ((0 : Int32), m3) else iter (fX7_readsSum_L14 (some (b + 258)) (I (W.length : Int))) FUEL m3
  cases fX7_readsFactor (Wd b V lw R) (some (b + 258)) with
  | none => rfl
  | some q =>
    obtain ⟨v2, m3⟩ := q
    simp only [Option.bind_some]
    by_cases c0 : v2 = 0
    · simp only [c0, ↓reduceIte]
    · simp only [c0, ↓reduceIte]
      cases iter (fX7_readsSum_L14 (some (b + 258)) (I (W.length : Int))) FUEL m3 <;> rfl
theorem y_sumO {b : Nat} {V0 V : Vw} {lw : Option Nat} {R : Hp} {W c : List Cd} {e : Nat} (hl : LSt n V0 V p o W c e) (hv : lv 2 W) (h : RO (yk V0 n) n 2 p o p' C) (hs : sgOf (yk V0 n p') = -1) : ∃ V', fX7_readsSum (Wd b V lw R) (some (b + 258)) = some (I 1, Wd b V' lw R) ∧ LSt n V0 V' p' o W (c ++ C) e := by
  obtain ⟨M, C', rfl, h0, h1, h2⟩ := h
  have nn := hl.nn
  rw [y_sumA hl]
  refine h2 b V0 lw R W.length W c e (fun z => ∃ V', z = some (I 1, Wd b V' lw R) ∧ LSt n V0 V' p' o W (c ++ (C' ++ offs M)) e) rfl (Nat.le_refl _) hv (B_end hs h1 (hv.2 (by omega)) fun V' g => ⟨V', rfl, ?_⟩) FUEL FUEL V (by unfold FUEL; omega) (by unfold FUEL; omega) hl
  rw [← List.append_assoc]
  exact g
theorem y_sumE {b : Nat} {V0 V : Vw} {lw : Option Nat} {R : Hp} {W c : List Cd} {e : Nat} (hl : LSt n V0 V p o W c e) (hv : lv 2 W) (h : RE (yk V0 n) n 2 p o w a) : ∃ V', fX7_readsSum (Wd b V lw R) (some (b + 258)) = some (I 0, Wd b V' lw R) ∧ (∀ q k, ¬ yLc q k → V' q k = V0 q k) ∧ V' 258 20 = -1000 * (w : Int) - (a : Int) := by
  have nn := hl.nn
  rw [y_sumA hl]
  exact h b V0 lw R W.length W c e (fun z => ∃ V', z = some (I 0, Wd b V' lw R) ∧ (∀ q k, ¬ yLc q k → V' q k = V0 q k) ∧ V' 258 20 = -1000 * (w : Int) - (a : Int)) rfl (Nat.le_refl _) hv (fun V' h1 h2 => ⟨V', rfl, h1, h2⟩) FUEL FUEL V (by unfold FUEL; omega) (by unfold FUEL; omega) hl
end YG
