/-! JOURNEYS: the reference's table. No JVM here. -/
set_option maxRecDepth 100000
set_option linter.unusedVariables false
section JY
variable {b : Nat} {V0 V : Vw} {lw : Option Nat} {R : Hp} {p k j i r e n d : Nat} {s t z y w c lo hi : Int} {u : Int32} {N A N' A' : Nat → Int}
theorem sc_29x {V V' : Vw} (h : ∀ o, o ≠ 295 → o ≠ 296 → V' o = V o) : Sc V V' := fun o k q => by rw [h o (fun e => q (by unfold scr; omega)) (fun e => q (by unfold scr; omega))]
theorem y_ride (h : Rel V0 V) (hr : r < nT V0) (hc : 0 ≤ c ∧ c ≤ 60) (hA : tbB (V 296) (-60) 1000000) (hN : tbB (V 295) (-60) 1000000) : ∃ V', iter (fX7_oneRideMore_L41 (some (b + 258)) (I c) (I (r : Int))) FUEL (I 0, I 0, Wd b V lw R) = some (Wd b V' lw R) ∧ (∀ o, o ≠ 296 → V' o = V o) ∧ V' 296 = if ru V0 r then tU V0 (V 295) c r (V 296) (sm V0 r) else V 296 := by
  have h48 := r48 h hr
  have hsm := sm2 h hr
  by_cases hru : ru V0 r
  · rw [if_pos hru]
    obtain ⟨q, h1, V', h2, h3, h4⟩ := iter_for (b := fX7_oneRideMore_L41 (some (b + 258)) (I c) (I (r : Int))) (s := (I 0, I 0, Wd b V lw R)) (fun k q => ∃ V', q = (I (bi (onB V0 (V 295) c r k = true)), I (k : Int), Wd b V' lw R) ∧ (∀ o, o ≠ 296 → V' o = V o) ∧ V' 296 = tU V0 (V 295) c r (V 296) k) (fun q => ∃ V', q = Wd b V' lw R ∧ (∀ o, o ≠ 296 → V' o = V o) ∧ V' 296 = tU V0 (V 295) c r (V 296) (sm V0 r)) (sm V0 r) (by omega) ⟨V, by rw [bi_f (by simp [onB])]; rfl, fun _ _ => rfl, rfl⟩ (fun k q hS hk => by
        obtain ⟨V', rfl, a1, a2⟩ := hS
        have h' : Rel V0 V' := h.sc (sc_29x (fun o h1 h2 => a1 o h2))
        have hst := st_b h hr hk
        have hmi := mi_b h hr hk
        have eN : V' 295 = V 295 := a1 _ (by decide)
        have bA := tU_b (N := V 295) (c := c) h hr hA (by decide) k (by omega) (st V0 r k).toNat (by omega)
        have bN := hN (st V0 r k).toNat (by omega)
        have bA' : -60 ≤ V' 296 (st V0 r k).toNat ∧ V' 296 (st V0 r k).toNat ≤ 1000000 := by rw [a2]; exact bA
        by_cases on : onB V0 (V 295) c r k = true
        · refine ⟨(I 1, I ((k + 1 : Nat) : Int), Wd b (up V' 296 (st V0 r k).toNat (min (V' 296 (st V0 r k).toNat) (mi V0 r k))) lw R), ?_, _, by rw [bi_t (by rw [onB, on]; rfl)], fun o ho => by rw [up_r ho, a1 o ho], ?_⟩
          · rw [bi_t on]
            have q0 : (I 1 = I 0) = False := eq_false (by decide)
            have h2 : Rel V0 (up V' 296 (st V0 r k).toNat (min (V' 296 (st V0 r k).toNat) (mi V0 r k))) := h'.upd (Or.inl (by unfold scr; omega))
            have eN2 : up V' 296 (st V0 r k).toNat (min (V' 296 (st V0 r k).toNat) (mi V0 r k)) 295 = V 295 := by rw [up_r (by decide), eN]
            unfold fX7_oneRideMore_L41 fX7_at
            simp (disch := omega) only [k_0, k_1, k_8, I_le, if_neg, gR258_6, ySm h' hr, Option.bind_some, on258, y_runs h' hr, bi_if, if_pos hru, gR258_7, gR258_8, I_mul, I_add, ySt h' hr hk, yMi h' hr hk, yMi h2 hr hk, q0, if_false, gR258_56, gR258_55, rA296, rA295, eN2, y_min, wA296, I_lt, ite_self]
            rfl
          · rw [up_row, tU, if_pos on, a2]
            funext x
            by_cases e : x = (st V0 r k).toNat
            · rw [if_pos e, if_pos e, e]
            · rw [if_neg e, if_neg e]
        · refine ⟨(I (bi (onB V0 (V 295) c r (k + 1) = true)), I ((k + 1 : Nat) : Int), Wd b V' lw R), ?_, V', rfl, a1, by rw [tU, if_neg on, a2]⟩
          have on' : onB V0 (V 295) c r k = false := by simpa using on
          rw [bi_f on]
          unfold fX7_oneRideMore_L41 fX7_at
          simp (disch := omega) only [k_0, k_1, k_8, I_le, if_neg, gR258_6, ySm h' hr, Option.bind_some, on258, y_runs h' hr, bi_if, if_pos hru, gR258_7, gR258_8, I_mul, I_add, ySt h' hr hk, yMi h' hr hk, if_true, gR258_55, rA295, eN, I_lt]
          by_cases c1 : mi V0 r k < V 295 (st V0 r k).toNat + c
          · rw [if_pos c1, bi_f (by rw [onB, on']; simpa using c1)]
            rfl
          · rw [if_neg c1, bi_t (by rw [onB, on']; simpa using c1)]
            rfl) (fun q hS => by
        obtain ⟨V', rfl, a1, a2⟩ := hS
        have h' : Rel V0 V' := h.sc (sc_29x (fun o h1 h2 => a1 o h2))
        refine ⟨_, ?_, V', rfl, a1, a2⟩
        unfold fX7_oneRideMore_L41
        simp (disch := omega) only [gR258_6, Option.bind_some, ySm h' hr, I_le, if_pos])
    exact ⟨V', by rw [h1, h2], h3, h4⟩
  · rw [if_neg hru]
    refine ⟨V, ?_, fun _ _ => rfl, rfl⟩
    refine iter_r (n := 1999) ?_
    unfold fX7_oneRideMore_L41
    simp (disch := omega) only [gR258_6, ySm h hr, Option.bind_some, I_le, if_neg, on258, y_runs h hr]
    exact if_pos (by rw [bi_f hru]; rfl)
theorem y_one2 : ∃ V', iter (fX7_oneRideMore_L2 (some (b + 258)) (I c)) FUEL (I 0, Wd b V lw R) = some (Wd b V' lw R) ∧ (∀ o, o ≠ 296 → V' o = V o) ∧ ∀ s, s < 10 → V' 296 s = V 295 s := by
  obtain ⟨q, h1, V', h2, h3, h4⟩ := iter_for (b := fX7_oneRideMore_L2 (some (b + 258)) (I c)) (s := (I 0, Wd b V lw R)) (fun n q => ∃ V', q = (I (n : Int), Wd b V' lw R) ∧ (∀ o, o ≠ 296 → V' o = V o) ∧ ∀ s, s < n → V' 296 s = V 295 s) (fun q => ∃ V', q = Wd b V' lw R ∧ (∀ o, o ≠ 296 → V' o = V o) ∧ ∀ s, s < 10 → V' 296 s = V 295 s) 10 (by decide) ⟨V, rfl, fun _ _ => rfl, fun s h => absurd h (Nat.not_lt_zero _)⟩ (fun n q hS hn => by
      obtain ⟨V', rfl, a1, a2⟩ := hS
      refine ⟨(I ((n + 1 : Nat) : Int), Wd b (up V' 296 n (V 295 n)) lw R), ?_, _, rfl, fun o ho => by rw [up_r ho, a1 o ho], fun s hs => ?_⟩
      · unfold fX7_oneRideMore_L2
        have e := a1 295 (by decide)
        simp (disch := omega) only [k_10, k_1, I_le, if_neg, gR258_55, gR258_56, Option.bind_some, rA295, wA296, tn, I_add, e]
        rfl
      · by_cases e : s = n
        · subst e
          rw [up_s]
        · rw [up_k e, a2 s (by omega)]) (fun q hS => by
      obtain ⟨V', rfl, a1, a2⟩ := hS
      refine ⟨_, ?_, V', rfl, a1, a2⟩
      unfold fX7_oneRideMore_L2
      simp (disch := omega) only [k_10, I_le, if_pos])
  exact ⟨V', by rw [h1, h2], h3, h4⟩
theorem y_one144 : ∃ V', iter (fX7_oneRideMore_L144 (some (b + 258))) FUEL (I 0, Wd b V lw R) = some (Wd b V' lw R) ∧ (∀ o, o ≠ 295 → V' o = V o) ∧ ∀ s, s < 10 → V' 295 s = V 296 s := by
  obtain ⟨q, h1, V', h2, h3, h4⟩ := iter_for (b := fX7_oneRideMore_L144 (some (b + 258))) (s := (I 0, Wd b V lw R)) (fun n q => ∃ V', q = (I (n : Int), Wd b V' lw R) ∧ (∀ o, o ≠ 295 → V' o = V o) ∧ ∀ s, s < n → V' 295 s = V 296 s) (fun q => ∃ V', q = Wd b V' lw R ∧ (∀ o, o ≠ 295 → V' o = V o) ∧ ∀ s, s < 10 → V' 295 s = V 296 s) 10 (by decide) ⟨V, rfl, fun _ _ => rfl, fun s h => absurd h (Nat.not_lt_zero _)⟩ (fun n q hS hn => by
      obtain ⟨V', rfl, a1, a2⟩ := hS
      refine ⟨(I ((n + 1 : Nat) : Int), Wd b (up V' 295 n (V 296 n)) lw R), ?_, _, rfl, fun o ho => by rw [up_r ho, a1 o ho], fun s hs => ?_⟩
      · unfold fX7_oneRideMore_L144
        have e := a1 296 (by decide)
        simp (disch := omega) only [k_10, k_1, I_le, if_neg, gR258_55, gR258_56, Option.bind_some, rA296, wA295, tn, I_add, e]
        rfl
      · by_cases e : s = n
        · subst e
          rw [up_s]
        · rw [up_k e, a2 s (by omega)]) (fun q hS => by
      obtain ⟨V', rfl, a1, a2⟩ := hS
      refine ⟨_, ?_, V', rfl, a1, a2⟩
      unfold fX7_oneRideMore_L144
      simp (disch := omega) only [k_10, I_le, if_pos])
  exact ⟨V', by rw [h1, h2], h3, h4⟩
theorem y_one28 (h : Rel V0 V) (hc : 0 ≤ c ∧ c ≤ 60) (hA : tbB (V 296) (-60) 1000000) (hN : tbB (V 295) (-60) 1000000) : ∃ V', iter (fX7_oneRideMore_L28 (some (b + 258)) (I c)) FUEL (I 0, Wd b V lw R) = some (Wd b V' lw R) ∧ (∀ o, o ≠ 296 → V' o = V o) ∧ V' 296 = tA V0 (V 295) c (V 296) (nT V0) := by
  have hn := n48 h
  obtain ⟨q, h1, V', h2, h3, h4⟩ := iter_for (b := fX7_oneRideMore_L28 (some (b + 258)) (I c)) (s := (I 0, Wd b V lw R)) (fun r q => ∃ V', q = (I (r : Int), Wd b V' lw R) ∧ (∀ o, o ≠ 296 → V' o = V o) ∧ V' 296 = tA V0 (V 295) c (V 296) r) (fun q => ∃ V', q = Wd b V' lw R ∧ (∀ o, o ≠ 296 → V' o = V o) ∧ V' 296 = tA V0 (V 295) c (V 296) (nT V0)) (nT V0) (by omega) ⟨V, rfl, fun _ _ => rfl, rfl⟩ (fun r q hS hr => by
      obtain ⟨V', rfl, a1, a2⟩ := hS
      have h' : Rel V0 V' := h.sc (sc_29x (fun o h1 h2 => a1 o h2))
      have eN : V' 295 = V 295 := a1 _ (by decide)
      have bA := tA_b (N := V 295) (c := c) h hA (by decide) r (by omega)
      obtain ⟨V2, f1, f2, f3⟩ := y_ride (b := b) (lw := lw) (R := R) (c := c) h' hr hc (by rw [a2]; exact bA) (by rw [eN]; exact hN)
      refine ⟨(I ((r + 1 : Nat) : Int), Wd b V2 lw R), ?_, V2, rfl, fun o ho => by rw [f2 o ho, a1 o ho], by rw [f3, tA, a2, eN]⟩
      unfold fX7_oneRideMore_L28
      simp (disch := omega) only [k_0, k_1, I_le, if_neg, gI258_14, w_n h', Option.bind_some, f1, I_add]
      rfl) (fun q hS => by
      obtain ⟨V', rfl, a1, a2⟩ := hS
      have h' : Rel V0 V' := h.sc (sc_29x (fun o h1 h2 => a1 o h2))
      refine ⟨_, ?_, V', rfl, a1, a2⟩
      unfold fX7_oneRideMore_L28
      simp (disch := omega) only [I_le, if_pos, gI258_14, w_n h', Option.bind_some])
  exact ⟨V', by rw [h1, h2], h3, h4⟩
theorem y_oneRide (h : Rel V0 V) (hc : 0 ≤ c ∧ c ≤ 60) (hN : tbB (V 295) (-60) 1000000) : ∃ V', fX7_oneRideMore (Wd b V lw R) (some (b + 258)) (I c) = some (Wd b V' lw R) ∧ (∀ o, o ≠ 295 → o ≠ 296 → V' o = V o) ∧ ∀ s, s < 10 → V' 295 s = tA V0 (V 295) c (V 295) (nT V0) s := by
  obtain ⟨V1, e1, e2, e3⟩ := y_one2 (b := b) (V := V) (lw := lw) (R := R) (c := c)
  have eN : V1 295 = V 295 := e2 _ (by decide)
  have h1 : Rel V0 V1 := h.sc (sc_29x (fun o h1 h2 => e2 o h2))
  obtain ⟨V2, f1, f2, f3⟩ := y_one28 (b := b) (lw := lw) (R := R) h1 hc (fun s hs => by rw [e3 s hs]; exact hN s hs) (by rw [eN]; exact hN)
  obtain ⟨V3, g1, g2, g3⟩ := y_one144 (b := b) (V := V2) (lw := lw) (R := R)
  refine ⟨V3, ?_, fun o h1 h2 => by rw [g2 o h1, f2 o h2, e2 o h2], fun s hs => ?_⟩
  · unfold fX7_oneRideMore
    simp only [k_0, e1, Option.bind_some, f1, g1]
  · rw [g3 s hs, f3, eN]
    exact tA_c h (fun _ _ => rfl) e3 _ (Nat.le_refl _) s hs
/-- the reference's table after k + 1 rides -/
def yT0 (f : Nat) (m : Int) : Nat → Int := fun s => if s = f then m else 1000000
def yT (V : Vw) (f : Nat) (m : Int) : Nat → Nat → Int
  | 0 => fun s => if s = f then m - ch V else tA V (yT0 f m) 0 (yT0 f m) (nT V) s
  | k + 1 => tA V (yT V f m k) (ch V) (yT V f m k) (nT V)
theorem yT0_b {f : Nat} {m : Int} (hm : 0 ≤ m ∧ m ≤ 1439) : tbB (yT0 f m) (-60) 1000000 := fun s hs => by
  unfold yT0
  split <;> omega
theorem yT_b (h : Rel V0 V) {f : Nat} {m : Int} (hm : 0 ≤ m ∧ m ≤ 1439) : ∀ k, tbB (yT V0 f m k) (-60) 1000000
  | 0 => fun s hs => by
    have hch := ch_b h
    have := tA_b (N := yT0 f m) (A := yT0 f m) (c := 0) h (yT0_b (f := f) hm) (by decide) (nT V0) (Nat.le_refl _) s hs
    show -60 ≤ (if s = f then m - ch V0 else _) ∧ (if s = f then m - ch V0 else _) ≤ 1000000
    split <;> omega
  | k + 1 => tA_b h (yT_b h hm k) (by decide) _ (Nat.le_refl _)
theorem y_beg2 : ∃ V', iter (fX7_beginsAt_L2 (some (b + 258)) (I t) (I z)) FUEL (I 0, Wd b V lw R) = some (Wd b V' lw R) ∧ (∀ o, o ≠ 295 → V' o = V o) ∧ ∀ s, s < 10 → V' 295 s = 1000000 := by
  obtain ⟨q, h1, V', h2, h3, h4⟩ := iter_for (b := fX7_beginsAt_L2 (some (b + 258)) (I t) (I z)) (s := (I 0, Wd b V lw R)) (fun n q => ∃ V', q = (I (n : Int), Wd b V' lw R) ∧ (∀ o, o ≠ 295 → V' o = V o) ∧ ∀ s, s < n → V' 295 s = 1000000) (fun q => ∃ V', q = Wd b V' lw R ∧ (∀ o, o ≠ 295 → V' o = V o) ∧ ∀ s, s < 10 → V' 295 s = 1000000) 10 (by decide) ⟨V, rfl, fun _ _ => rfl, fun s h => absurd h (Nat.not_lt_zero _)⟩ (fun n q hS hn => by
      obtain ⟨V', rfl, a1, a2⟩ := hS
      refine ⟨(I ((n + 1 : Nat) : Int), Wd b (up V' 295 n 1000000) lw R), ?_, _, rfl, fun o ho => by rw [up_r ho, a1 o ho], fun s hs => ?_⟩
      · unfold fX7_beginsAt_L2
        simp (disch := omega) only [k_10, k_1, k_1000000, I_le, if_neg, gR258_55, Option.bind_some, wA295, tn, I_add]
        rfl
      · by_cases e : s = n
        · subst e
          rw [up_s]
        · rw [up_k e, a2 s (by omega)]) (fun q hS => by
      obtain ⟨V', rfl, a1, a2⟩ := hS
      refine ⟨_, ?_, V', rfl, a1, a2⟩
      unfold fX7_beginsAt_L2
      simp (disch := omega) only [k_10, I_le, if_pos])
  exact ⟨V', by rw [h1, h2], h3, h4⟩
theorem y_begins (h : Rel V0 V) {f : Nat} (hf : f < 10) {m : Int} (hm : 0 ≤ m ∧ m ≤ 1439) : ∃ V', fX7_beginsAt (Wd b V lw R) (some (b + 258)) (I (f : Int)) (I m) = some (Wd b V' lw R) ∧ (∀ o, o ≠ 295 → o ≠ 296 → V' o = V o) ∧ ∀ s, s < 10 → V' 295 s = yT V0 f m 0 s := by
  obtain ⟨V1, e1, e2, e3⟩ := y_beg2 (b := b) (V := V) (lw := lw) (R := R) (t := (f : Int)) (z := m)
  have t0 : ∀ s, s < 10 → up V1 295 f m 295 s = yT0 f m s := fun s hs => by
    unfold yT0
    by_cases e : s = f
    · rw [if_pos e, e, up_s]
    · rw [if_neg e, up_k e, e3 s hs]
  have h1 : Rel V0 (up V1 295 f m) := h.sc (sc_29x (fun o h1 h2 => by rw [up_r h1, e2 o h1]))
  obtain ⟨V2, f1, f2, f3⟩ := y_oneRide (b := b) (lw := lw) (R := R) (c := 0) h1 (by decide) (fun s hs => by rw [t0 s hs]; exact yT0_b hm s hs)
  have h2 : Rel V0 V2 := h1.sc (sc_29x f2)
  refine ⟨up V2 295 f (m - ch V0), ?_, fun o h1 h2 => by rw [up_r h1, f2 o h1 h2, up_r h1, e2 o h1], fun s hs => ?_⟩
  · unfold fX7_beginsAt
    simp (disch := omega) only [k_0, e1, gR258_55, Option.bind_some, wA295, tn, on258, f1, gI258_13, w_ch h2, I_sub]
  · rw [yT]
    show _ = if s = f then m - ch V0 else _
    by_cases e : s = f
    · rw [if_pos e, e, up_s]
    · rw [if_neg e, up_k e, f3 s hs]
      exact tA_c h t0 t0 _ (Nat.le_refl _) s hs
theorem y_soonest (h : Rel V0 V) {f to : Nat} (hf : f < 10) (hto : to < 10) {m : Int} (hm : 0 ≤ m ∧ m ≤ 1439) : ∃ V', fX7_soonest (Wd b V lw R) (some (b + 258)) (I (f : Int)) (I (to : Int)) (I m) = some (I (yT V0 f m 9 to), Wd b V' lw R) ∧ (∀ o, o ≠ 295 → o ≠ 296 → V' o = V o) ∧ ∀ s, s < 10 → V' 295 s = yT V0 f m 9 s := by
  obtain ⟨V1, e1, e2, e3⟩ := y_begins (b := b) (lw := lw) (R := R) h hf hm
  obtain ⟨q, h1, V', h2, h3, h4⟩ := iter_for (b := fX7_soonest_L9 (some (b + 258)) (I (to : Int))) (s := (I 1, Wd b V1 lw R)) (fun k q => ∃ V', q = (I ((k : Int) + 1), Wd b V' lw R) ∧ (∀ o, o ≠ 295 → o ≠ 296 → V' o = V o) ∧ ∀ s, s < 10 → V' 295 s = yT V0 f m k s) (fun q => ∃ V', q = Wd b V' lw R ∧ (∀ o, o ≠ 295 → o ≠ 296 → V' o = V o) ∧ ∀ s, s < 10 → V' 295 s = yT V0 f m 9 s) 9 (by decide) ⟨V1, rfl, e2, e3⟩ (fun k q hS hk => by
      obtain ⟨V', rfl, a1, a2⟩ := hS
      have h' : Rel V0 V' := h.sc (sc_29x a1)
      obtain ⟨V2, f1, f2, f3⟩ := y_oneRide (b := b) (lw := lw) (R := R) (c := ch V0) h' (ch_b h) (fun s hs => by rw [a2 s hs]; exact yT_b h hm k s hs)
      refine ⟨(I (((k + 1 : Nat) : Int) + 1), Wd b V2 lw R), ?_, V2, rfl, fun o h1 h2 => by rw [f2 o h1 h2, a1 o h1 h2], fun s hs => ?_⟩
      · unfold fX7_soonest_L9
        simp (disch := omega) only [k_10, k_1, I_le, if_neg, gI258_13, w_ch h', Option.bind_some, on258, f1, I_add]
        rfl
      · rw [f3 s hs, yT]
        exact tA_c h a2 a2 _ (Nat.le_refl _) s hs) (fun q hS => by
      obtain ⟨V', rfl, a1, a2⟩ := hS
      refine ⟨_, ?_, V', rfl, a1, a2⟩
      unfold fX7_soonest_L9
      simp (disch := omega) only [k_10, I_le, if_pos])
  refine ⟨V', ?_, h3, h4⟩
  unfold fX7_soonest
  rw [on258, e1, Option.bind_some, k_1, h1, h2]
  simp (disch := omega) only [Option.bind_some, gR258_55, rA295, tn, h4 to hto]
end JY
