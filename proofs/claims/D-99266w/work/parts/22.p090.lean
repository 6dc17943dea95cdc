/-! LAW: how the reference reads conditions, II. No JVM here. -/
set_option maxRecDepth 100000
set_option linter.unusedVariables false
set_option linter.unusedSimpArgs false
def hwOf (t : Int) : Int := if t = 60 then 7 else if t = 62 then 8 else if t = 61 then 9 else -1
section YE
variable {b : Nat} {V V0 V' : Vw} {lw : Option Nat} {R : Hp} {n p p1 p2 o e e' v op a base s h' : Nat} {W c M C D : List Cd} {x : Cd} {q w t : Int} {Q : Option (Int32 × Hp) → Prop}
theorem bind_c {α β : Type} {x y : Option α} {G : α → Option β} (h : x = y) : x.bind G = y.bind G := by rw [h]
theorem P_ok (hl : LSt n V0 V p o W c e) (h1 : yk V0 n p ≠ 33) (h2 : yk V0 n p ≠ 40) {V1 : Vw} (hc : fX7_readsCompared (Wd b V lw R) (some (b + 258)) = (fX7_endsPiece (Wd b V1 lw R) (some (b + 258))).bind fun m14 => some (I 1, m14)) (f : Nat) : ∃ z, iter (fX7_readsCondition_L40 (some (b + 258))) (f + 1) (Wd b V lw R) = Qfn b z FUEL FUEL f (Wd b V1 lw R) := by
  have tb := yk_b V0 n p
  have L : ∃ G : (Unit ⊕ (Hp ⊕ (Int32 × Hp))) → Option (Hp ⊕ (Int32 × Hp)), (∀ o, G (.inr o) = some o) ∧ fX7_readsCondition_L40 (some (b + 258)) (Wd b V lw R) = ((fX7_endsPiece (Wd b V1 lw R) (some (b + 258))).bind fun m14 => (iter (fX7_readsCondition_L92 (some (b + 258))) FUEL m14).bind (K92 (some (b + 258)))).bind G := by
    refine ⟨?w, ?h1, ?h2⟩
    case h2 =>
      unfold fX7_readsCondition_L40
      rw [on258, y_hr hl, Option.bind_some, show (33 : Int32) = I 33 from rfl, if_neg (I_ne (by omega) (by omega) h1), on258, Option.bind_some, show (40 : Int32) = I 40 from rfl, if_neg (I_ne (by omega) (by omega) h2), on258, hc]
      refine bind_c ?_
      cases fX7_endsPiece (Wd b V1 lw R) (some (b + 258)) with
      | none => rfl
      | some m => rfl
    case h1 => exact fun o => rfl
  obtain ⟨G, hG, L⟩ := L
  refine ⟨(match G (.inl ()) with
    | none => none
    | some (.inl s) => iter (fX7_readsCondition_L40 (some (b + 258))) f s
    | some (.inr r) => some r), ?_⟩
  · rw [iter, L]
    unfold Qfn
    rw [← y_endsQ]
    cases fX7_endsPiece (Wd b V1 lw R) (some (b + 258)) with
    | none => rfl
    | some m =>
      rw [Option.bind_some, Option.bind_some]
      unfold Efn
      cases (iter (fX7_readsCondition_L92 (some (b + 258))) FUEL m).bind (K92 (some (b + 258))) with
      | none => rfl
      | some x =>
        cases x with
        | inl u =>
          have eu : u = () := rfl
          subst eu
          rw [Option.bind_some]
          dsimp only
          generalize G (Sum.inl ()) = g
          cases g with
          | none => rfl
          | some y => cases y <;> rfl
        | inr o =>
          rw [Option.bind_some, hG]
          cases o <;> rfl
/-- compared -/
theorem y_how (ht : -1 ≤ t ∧ t ≤ 255) (m : Hp) (hh : fX7_here m (some (b + 258)) = some (I t)) (hon : ∀ {α : Type} {x : Option α}, hp_on m (some (b + 258)) 6 x = x) : ((if I t = (60 : Int32) then some (7 : Int32) else (hp_on m (some (b + 258)) 6 (fX7_here m (some (b + 258)))).bind fun v20 => if v20 = (62 : Int32) then some (8 : Int32) else (hp_on m (some (b + 258)) 6 (fX7_here m (some (b + 258)))).bind fun v22 => if v22 = (61 : Int32) then some (9 : Int32) else some (-1 : Int32)) : Option Int32) = some (I (hwOf t)) := by
  unfold hwOf
  simp only [hon, hh, Option.bind_some, show (60 : Int32) = I 60 from rfl, show (62 : Int32) = I 62 from rfl, show (61 : Int32) = I 61 from rfl]
  by_cases c1 : t = 60
  · rw [if_pos (by rw [c1]), if_pos c1]
    rfl
  rw [if_neg (I_ne (by omega) (by omega) c1), if_neg c1]
  by_cases c2 : t = 62
  · rw [if_pos (by rw [c2]), if_pos c2]
    rfl
  rw [if_neg (I_ne (by omega) (by omega) c2), if_neg c2]
  by_cases c3 : t = 61
  · rw [if_pos (by rw [c3]), if_pos c3]
    rfl
  rw [if_neg (I_ne (by omega) (by omega) c3), if_neg c3]
  rfl
theorem hwOf_b (t : Int) : hwOf t = -1 ∨ 7 ≤ hwOf t ∧ hwOf t ≤ 9 := by
  unfold hwOf
  repeat (split; · omega)
  omega
theorem LSt.place (h : LSt n V0 V p o W c e) (lt : p < n) : LSt n V0 (up V 258 18 ((p : Int) + 1)) (p + 1) o W c (e + 1) := by
  have wl := h.wl
  have cl := h.cl
  refine h.to (fun q k hq => by rw [up_o (by omega)]) (by rw [up_s]; omega) ?_ ?_ ?_ ?_ ?_ h.wk h.ck (by omega) (by omega) lt h.oo
  · simp (disch := omega) only [up_k, h.op]
  · simp (disch := omega) only [up_k, h.wa]
  · simp (disch := omega) only [up_k, h.cm]
  · exact WAt_c W (fun i hi => by simp (disch := omega) only [up_r]) h.ww
  · exact CAt_c (fun i hi => by simp (disch := omega) only [up_r]) h.cc
theorem cmp_E1 (hl : LSt n V0 V p o W c e) (hv : lv 2 W) {w a : Nat} (h : RE (yk V0 n) n 2 p o w a) (hq : ErQ b V0 lw R w a Q) : Q (fX7_readsCompared (Wd b V lw R) (some (b + 258))) := by
  obtain ⟨V1, w1, w2, w3⟩ := y_sumE (b := b) (lw := lw) (R := R) hl hv h
  have e : fX7_readsCompared (Wd b V lw R) (some (b + 258)) = some (I 0, Wd b V1 lw R) := by
    unfold fX7_readsCompared
    rw [on258, w1, Option.bind_some, k_0]
    exact if_pos rfl
  rw [e]
  exact hq V1 w2 w3
theorem cmp_E2 (hl : LSt n V0 V p o W c e) (hv : lv 2 W) (h : RO (yk V0 n) n 2 p o p1 C) (hs : sgOf (yk V0 n p1) = -1) (hh : hwOf (yk V0 n p1) = -1) (hq : ErQ b V0 lw R 1 p1 Q) : Q (fX7_readsCompared (Wd b V lw R) (some (b + 258))) := by
  obtain ⟨V1, w1, w2⟩ := y_sumO (b := b) (lw := lw) (R := R) hl hv h hs
  have tb := yk_b V0 n p1
  have hw := y_how (b := b) tb (Wd b V1 lw R) (y_hr w2) on258
  rw [hh] at hw
  have e : fX7_readsCompared (Wd b V lw R) (some (b + 258)) = some (I 0, Wd b (up V1 258 20 (-1000 * 1 - (p1 : Int))) lw R) := by
    unfold fX7_readsCompared
    rw [on258, w1, Option.bind_some]
    dsimp only
    rw [if_neg (show ¬ I 1 = 0 by decide), on258, y_hr w2, Option.bind_some]
    rw [on258, y_hr w2] at hw
    rw [hw, Option.bind_some, k_1, I_neg, if_pos rfl, gI258_18, w2.pl, Option.bind_some, on258, y_wrong, Option.bind_some]
    rfl
  rw [e]
  refine hq _ (fun q k hq => ?_) (by rw [up_s]; rfl)
  rw [up_o (by omega)]
  exact w2.fr q k hq
theorem cmp_m (hl : LSt n V0 V p o W c e) (hv : lv 2 W) (h : RO (yk V0 n) n 2 p o p1 C) (hs : sgOf (yk V0 n p1) = -1) (hh : hwOf (yk V0 n p1) = (h' : Int)) : ∃ V2, LSt n V0 V2 (p1 + 1) o W (c ++ C) (e + 1) ∧ fX7_readsCompared (Wd b V lw R) (some (b + 258)) = (fX7_readsSum (Wd b V2 lw R) (some (b + 258))).bind fun (v10, m11) => if v10 = 0 then some ((0 : Int32), m11) else (hp_on m11 (some (b + 258)) 6 (fX7_notes m11 (some (b + 258)) (I (h' : Int)) (0 : Int32))).bind fun m13 => (hp_on m13 (some (b + 258)) 6 (fX7_endsPiece m13 (some (b + 258)))).bind fun m14 => some ((1 : Int32), m14) := by
  obtain ⟨V1, w1, w2⟩ := y_sumO (b := b) (lw := lw) (R := R) hl hv h hs
  have tb := yk_b V0 n p1
  have hb := hwOf_b (yk V0 n p1)
  have hw := y_how (b := b) tb (Wd b V1 lw R) (y_hr w2) on258
  rw [hh] at hw hb
  have lt := w2.lt (fun q => by
    rw [q] at hh
    have : hwOf (-1) = -1 := rfl
    omega)
  refine ⟨_, w2.place lt, ?_⟩
  unfold fX7_readsCompared
  rw [on258, w1, Option.bind_some]
  dsimp only
  rw [if_neg (show ¬ I 1 = 0 by decide), on258, y_hr w2, Option.bind_some]
  rw [on258, y_hr w2] at hw
  rw [hw, Option.bind_some, k_1, I_neg, if_neg (I_ne (by omega) (by omega) (by omega)), gI258_18, w2.pl, Option.bind_some, I_add, pI258_18, Option.bind_some, on258]
theorem cmp_E3 (hl : LSt n V0 V p o W c e) (hv : lv 2 W) (h : RO (yk V0 n) n 2 p o p1 C) (hs : sgOf (yk V0 n p1) = -1) (hh : hwOf (yk V0 n p1) = (h' : Int)) {w a : Nat} (g : RE (yk V0 n) n 2 (p1 + 1) o w a) (hq : ErQ b V0 lw R w a Q) : Q (fX7_readsCompared (Wd b V lw R) (some (b + 258))) := by
  obtain ⟨V2, L, E⟩ := cmp_m (b := b) (lw := lw) (R := R) hl hv h hs hh
  obtain ⟨V3, w1, w2, w3⟩ := y_sumE (b := b) (lw := lw) (R := R) L hv g
  rw [E, w1, Option.bind_some]
  have e : (if I 0 = 0 then some ((0 : Int32), Wd b V3 lw R) else (hp_on (Wd b V3 lw R) (some (b + 258)) 6 (fX7_notes (Wd b V3 lw R) (some (b + 258)) (I (h' : Int)) (0 : Int32))).bind fun m13 => (hp_on m13 (some (b + 258)) 6 (fX7_endsPiece m13 (some (b + 258)))).bind fun m14 => some ((1 : Int32), m14)) = some (I 0, Wd b V3 lw R) := if_pos rfl
  show Q (if I 0 = 0 then _ else _)
  rw [e]
  exact hq V3 w2 w3
theorem cmp_O (hl : LSt n V0 V p o W c e) (hv : lv 2 W) (h : RO (yk V0 n) n 2 p o p1 C) (hs : sgOf (yk V0 n p1) = -1) (hh : hwOf (yk V0 n p1) = (h' : Int)) (g : RO (yk V0 n) n 2 (p1 + 1) o p2 D) (hs2 : sgOf (yk V0 n p2) = -1) : ∃ V1, LSt n V0 V1 p2 o W (c ++ (C ++ (D ++ [(h', 0)]))) e ∧ fX7_readsCompared (Wd b V lw R) (some (b + 258)) = (fX7_endsPiece (Wd b V1 lw R) (some (b + 258))).bind fun m14 => some (I 1, m14) := by
  obtain ⟨V2, L, E⟩ := cmp_m (b := b) (lw := lw) (R := R) hl hv h hs hh
  obtain ⟨V3, w1, w2⟩ := y_sumO (b := b) (lw := lw) (R := R) L hv g hs2
  have hb := hwOf_b (yk V0 n p1)
  rw [hh] at hb
  have cl := w2.cl
  have pn := w2.pn
  have nn := w2.nn
  have nt : fX7_notes (Wd b V3 lw R) (some (b + 258)) (I (h' : Int)) (0 : Int32) = some (Wd b (up (up V3 273 (c ++ C ++ D).length (enc (h', 0))) 258 23 (((c ++ C ++ D).length : Int) + 1)) lw R) := y_notes (x := (h', 0)) w2.cm (by omega)
  refine ⟨?w, ?h1, ?h2⟩
  case h2 =>
    rw [E, w1, Option.bind_some]
    dsimp only
    rw [if_neg (show ¬ I 1 = 0 by decide), on258, nt, Option.bind_some, on258]
    rfl
  case h1 =>
    have ec : c ++ (C ++ (D ++ [(h', 0)])) = c ++ C ++ D ++ [(h', 0)] := by simp
    rw [ec]
    refine w2.to (fun q k hq => by rw [up_o (by omega), up_o (by omega)]) ?_ ?_ ?_ ?_ ?_ ?_ w2.wk (wk_a w2.ck ⟨show h' ≤ 14 by omega, show 0 < 1048576 by decide⟩) w2.wl ?_ pn w2.oo
    · simp (disch := omega) only [up_k, up_r, w2.pl]
    · simp (disch := omega) only [up_k, up_r, w2.op]
    · simp (disch := omega) only [up_k, up_r, w2.wa]
    · rw [up_s, List.length_append (bs := [(h', 0)]), List.length_singleton]
      omega
    · exact WAt_c W (fun i hi => by simp (disch := omega) only [up_r]) w2.ww
    · exact CAt_app (CAt_c (fun i hi => by simp (disch := omega) only [up_k, up_r]) w2.cc) (by simp (disch := omega) only [up_s, up_r])
    · rw [List.length_append (bs := [(h', 0)]), List.length_singleton]
      omega
theorem P_err (h1 : yk V0 n p ≠ 33) (h2 : yk V0 n p ≠ 40) {w a : Nat} (h : ∀ (V : Vw) (Q : Option (Int32 × Hp) → Prop), LSt n V0 V p o W c e → ErQ b V0 lw R w a Q → Q (fX7_readsCompared (Wd b V lw R) (some (b + 258)))) (hq : ErQ b V0 lw R w a Q) : PQ n b V0 lw R p o W c e Q := fun fp V h3 hl => by
  obtain ⟨f, rfl⟩ : ∃ f, fp = f + 1 := ⟨fp - 1, by omega⟩
  have tb := yk_b V0 n p
  obtain ⟨V', e1, e2, e3⟩ := h V (fun z => ∃ V', z = some (I 0, Wd b V' lw R) ∧ (∀ q k, ¬ yLc q k → V' q k = V0 q k) ∧ V' 258 20 = -1000 * (w : Int) - (a : Int)) hl (fun V' g1 g2 => ⟨V', rfl, g1, g2⟩)
  have st : fX7_readsCondition_L40 (some (b + 258)) (Wd b V lw R) = some (.inr (I 0, Wd b V' lw R)) := by
    unfold fX7_readsCondition_L40
    simp only [on258, y_hr hl, Option.bind_some, show (33 : Int32) = I 33 from rfl, show (40 : Int32) = I 40 from rfl, if_neg (I_ne (x := yk V0 n p) (y := 33) (by omega) (by omega) h1), if_neg (I_ne (x := yk V0 n p) (y := 40) (by omega) (by omega) h2), e1, k_0, ↓reduceIte]
  rw [iter_r st]
  exact hq V' e2 e3
end YE
