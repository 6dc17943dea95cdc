/-! LAW: how the reference reads, the small steps. No JVM here. -/
set_option maxRecDepth 100000
set_option linter.unusedVariables false
def wt : List Cd → Nat
  | [] => 0
  | c :: W => (if c.1 = 11 ∨ c.1 = 12 then 0 else 1) + wt W
def WAt (w : Nat → Int) : List Cd → Prop
  | [] => True
  | c :: W => w W.length = enc c ∧ WAt w W
def CAt (w : Nat → Int) (c : List Cd) : Prop := ∀ i, i < c.length → w i = enc (c.getD i (0, 0))
abbrev okC (c : Cd) : Prop := c.1 ≤ 14 ∧ c.2 < 1048576
abbrev yLc (q k : Nat) : Prop := (q = 258 ∧ (k = 18 ∨ 20 ≤ k ∧ k ≤ 24)) ∨ q = 273 ∨ q = 274
def tpW : List Cd → Int
  | [] => -1
  | c :: _ => (c.1 : Int)
def LSt (n : Nat) (V0 V : Vw) (p o : Nat) (W c : List Cd) (e : Nat) : Prop := (∀ q k, ¬ yLc q k → V q k = V0 q k) ∧ (V 258 18 = (p : Int)) ∧ (V 258 22 = (o : Int)) ∧ (V 258 24 = (W.length : Int)) ∧ (V 258 23 = (c.length : Int)) ∧ (WAt (V 274) W) ∧ (CAt (V 273) c) ∧ (∀ x ∈ W, okC x) ∧ (∀ x ∈ c, okC x) ∧ (W.length ≤ p) ∧ (c.length + wt W + e ≤ p) ∧ (p ≤ n) ∧ (n ≤ 240) ∧ (V0 258 19 = (n : Int)) ∧ (o ≤ 6)
theorem LSt.fr {n : Nat} {V0 V : Vw} {p o : Nat} {W c : List Cd} {e : Nat} (h : LSt n V0 V p o W c e) : ∀ q k, ¬ yLc q k → V q k = V0 q k := h.1
theorem LSt.pl {n : Nat} {V0 V : Vw} {p o : Nat} {W c : List Cd} {e : Nat} (h : LSt n V0 V p o W c e) : V 258 18 = (p : Int) := h.2.1
theorem LSt.op {n : Nat} {V0 V : Vw} {p o : Nat} {W c : List Cd} {e : Nat} (h : LSt n V0 V p o W c e) : V 258 22 = (o : Int) := h.2.2.1
theorem LSt.wa {n : Nat} {V0 V : Vw} {p o : Nat} {W c : List Cd} {e : Nat} (h : LSt n V0 V p o W c e) : V 258 24 = (W.length : Int) := h.2.2.2.1
theorem LSt.cm {n : Nat} {V0 V : Vw} {p o : Nat} {W c : List Cd} {e : Nat} (h : LSt n V0 V p o W c e) : V 258 23 = (c.length : Int) := h.2.2.2.2.1
theorem LSt.ww {n : Nat} {V0 V : Vw} {p o : Nat} {W c : List Cd} {e : Nat} (h : LSt n V0 V p o W c e) : WAt (V 274) W := h.2.2.2.2.2.1
theorem LSt.cc {n : Nat} {V0 V : Vw} {p o : Nat} {W c : List Cd} {e : Nat} (h : LSt n V0 V p o W c e) : CAt (V 273) c := h.2.2.2.2.2.2.1
theorem LSt.wk {n : Nat} {V0 V : Vw} {p o : Nat} {W c : List Cd} {e : Nat} (h : LSt n V0 V p o W c e) : ∀ x ∈ W, okC x := h.2.2.2.2.2.2.2.1
theorem LSt.ck {n : Nat} {V0 V : Vw} {p o : Nat} {W c : List Cd} {e : Nat} (h : LSt n V0 V p o W c e) : ∀ x ∈ c, okC x := h.2.2.2.2.2.2.2.2.1
theorem LSt.wl {n : Nat} {V0 V : Vw} {p o : Nat} {W c : List Cd} {e : Nat} (h : LSt n V0 V p o W c e) : W.length ≤ p := h.2.2.2.2.2.2.2.2.2.1
theorem LSt.cl {n : Nat} {V0 V : Vw} {p o : Nat} {W c : List Cd} {e : Nat} (h : LSt n V0 V p o W c e) : c.length + wt W + e ≤ p := h.2.2.2.2.2.2.2.2.2.2.1
theorem LSt.pn {n : Nat} {V0 V : Vw} {p o : Nat} {W c : List Cd} {e : Nat} (h : LSt n V0 V p o W c e) : p ≤ n := h.2.2.2.2.2.2.2.2.2.2.2.1
theorem LSt.nn {n : Nat} {V0 V : Vw} {p o : Nat} {W c : List Cd} {e : Nat} (h : LSt n V0 V p o W c e) : n ≤ 240 := h.2.2.2.2.2.2.2.2.2.2.2.2.1
theorem LSt.ln {n : Nat} {V0 V : Vw} {p o : Nat} {W c : List Cd} {e : Nat} (h : LSt n V0 V p o W c e) : V0 258 19 = (n : Int) := h.2.2.2.2.2.2.2.2.2.2.2.2.2.1
theorem LSt.oo {n : Nat} {V0 V : Vw} {p o : Nat} {W c : List Cd} {e : Nat} (h : LSt n V0 V p o W c e) : o ≤ 6 := h.2.2.2.2.2.2.2.2.2.2.2.2.2.2
section YP
variable {b : Nat} {V V0 V' : Vw} {lw : Option Nat} {R : Hp} {n p o e e' v op : Nat} {W c : List Cd} {x : Cd} {q w : Int}
theorem WAt_c {f g : Nat → Int} : ∀ (W : List Cd), (∀ i, i < W.length → f i = g i) → WAt g W → WAt f W
  | [], _, _ => trivial
  | c :: W, h, k => ⟨by rw [h W.length (by simp)]; exact k.1, WAt_c W (fun i hi => h i (by simp only [List.length_cons]; omega)) k.2⟩
theorem CAt_app {f : Nat → Int} (h : CAt f c) (hx : f c.length = enc x) : CAt f (c ++ [x]) := fun i hi => by
  rw [List.length_append, List.length_singleton] at hi
  by_cases q : i < c.length
  · rw [h i q, List.getD_eq_getElem?_getD, List.getD_eq_getElem?_getD, List.getElem?_append_left q]
  · have : i = c.length := by omega
    subst this
    rw [hx, List.getD_eq_getElem?_getD, List.getElem?_append_right (Nat.le_refl _), Nat.sub_self]
    rfl
theorem CAt_c {f g : Nat → Int} (h : ∀ i, i < c.length → f i = g i) (k : CAt g c) : CAt f c := fun i hi => by rw [h i hi]; exact k i hi
theorem enc_wr {x : Cd} (h : okC x) : 0 ≤ enc x ∧ enc x ≤ 15728639 := by
  obtain ⟨h1, h2⟩ := h
  unfold enc
  omega
theorem LSt.yp (h : LSt n V0 V p o W c e) : yPl V n p := by
  have := h.pn
  have := h.nn
  exact ⟨h.pl, by rw [h.fr _ _ (by omega)]; exact h.ln, by omega, by omega⟩
theorem LSt.yt (h : LSt n V0 V p o W c e) : yk V n = yk V0 n := funext fun i => by
  rw [yk_e, yk_e, h.fr _ _ (by omega)]
theorem y_hr (h : LSt n V0 V p o W c e) : fX7_here (Wd b V lw R) (some (b + 258)) = some (I (yk V0 n p)) := by rw [y_here h.yp, h.yt]
theorem y_dg (h : LSt n V0 V p o W c e) : fX7_isDigit (Wd b V lw R) (some (b + 258)) = some (I (bi (isDg (yk V0 n) p))) := by
  rw [y_isDg h.yp]
  unfold isDg
  rw [h.yt]
theorem LSt.lt (h : LSt n V0 V p o W c e) (hp : yk V0 n p ≠ -1) : p < n := by
  rw [yk_e] at hp
  split at hp
  · assumption
  · exact absurd rfl hp
theorem LSt.le (h : LSt n V0 V p o W c e) (he : e' ≤ e) : LSt n V0 V p o W c e' := ⟨h.fr, h.pl, h.op, h.wa, h.cm, h.ww, h.cc, h.wk, h.ck, h.wl, by have := h.cl; omega, h.pn, h.nn, h.ln, h.oo⟩
theorem y_top (h : LSt n V0 V p o W c e) : fX7_waitTop (Wd b V lw R) (some (b + 258)) = some (I (tpW W)) := by
  unfold fX7_waitTop
  rw [gI258_24, Option.bind_some, h.wa]
  match W, h with
  | [], h =>
    rw [show (((([] : List Cd).length : Nat)) : Int) = 0 from rfl, k_0, if_pos rfl]
    rfl
  | x :: W, h =>
    have wl := h.wl
    have pn := h.pn
    have nn := h.nn
    rw [List.length_cons] at wl
    have ok := h.wk x (by simp)
    have e1 : (((x :: W).length : Nat) : Int) = (W.length : Int) + 1 := by simp
    rw [e1, k_0, k_1, if_neg (by rw [I_inj (by omega) (by omega) (by omega) (by omega)]; omega), gR258_28, Option.bind_some, Option.bind_some, I_sub, show (W.length : Int) + 1 - 1 = (W.length : Int) by omega, rA274 (by omega) (by omega), Option.bind_some, tn, h.ww.1, k_UN, enc_op ok.1 ok.2]
    rfl
theorem tpW_b (h : LSt n V0 V p o W c e) : -1 ≤ tpW W ∧ tpW W ≤ 14 := by
  match W, h with
  | [], h => exact ⟨Int.le_refl _, by decide⟩
  | x :: W, h =>
    have ok := h.wk x (by simp)
    show -1 ≤ (x.1 : Int) ∧ (x.1 : Int) ≤ 14
    omega
theorem up_o {o i o2 i2 : Nat} {x : Int} (h : ¬ (o2 = o ∧ i2 = i)) : up V o i x o2 i2 = V o2 i2 := if_neg h
theorem LSt.to {p' o' : Nat} {W' c' : List Cd} (h : LSt n V0 V p o W c e) (fr : ∀ q k, ¬ yLc q k → V' q k = V q k) (pl : V' 258 18 = (p' : Int)) (op : V' 258 22 = (o' : Int)) (wa : V' 258 24 = (W'.length : Int)) (cm : V' 258 23 = (c'.length : Int)) (ww : WAt (V' 274) W') (cc : CAt (V' 273) c') (wk : ∀ x ∈ W', okC x) (ck : ∀ x ∈ c', okC x) (wl : W'.length ≤ p') (cl : c'.length + wt W' + e' ≤ p') (pn : p' ≤ n) (oo : o' ≤ 6) : LSt n V0 V' p' o' W' c' e' := ⟨fun q k hq => (fr q k hq).trans (h.fr q k hq), pl, op, wa, cm, ww, cc, wk, ck, wl, cl, pn, h.nn, h.ln, oo⟩
/-- noted -/
theorem y_notes (hc : V 258 23 = (c.length : Int)) (hl : c.length < 260) : fX7_notes (Wd b V lw R) (some (b + 258)) (I (x.1 : Int)) (I (x.2 : Int)) = some (Wd b (up (up V 273 c.length (enc x)) 258 23 ((c.length : Int) + 1)) lw R) := by
  unfold fX7_notes
  simp (disch := omega) only [gR258_27, gI258_23, hc, Option.bind_some, k_UN, I_mul, I_add, wA273, tn, up_r, k_1, pI258_23]
  rfl
theorem wk_t {P : Cd → Prop} (h : ∀ y ∈ x :: W, P y) : ∀ y ∈ W, P y := fun y hy => h y (List.mem_cons_of_mem _ hy)
theorem wk_c {P : Cd → Prop} (h : ∀ y ∈ W, P y) (hx : P x) : ∀ y ∈ x :: W, P y := fun y hy => by
  rw [List.mem_cons] at hy
  rcases hy with rfl | hy
  · exact hx
  · exact h y hy
theorem wk_a {P : Cd → Prop} (h : ∀ y ∈ c, P y) (hx : P x) : ∀ y ∈ c ++ [x], P y := fun y hy => by
  rw [List.mem_append, List.mem_singleton] at hy
  rcases hy with hy | rfl
  · exact h y hy
  · exact hx
theorem wt_1 (h : x.1 ≠ 11 ∧ x.1 ≠ 12) : wt (x :: W) = 1 + wt W := by
  rw [wt, if_neg (by omega)]
theorem wt_0 (h : x.1 = 11 ∨ x.1 = 12) : wt (x :: W) = wt W := by
  rw [wt, if_pos h, Nat.zero_add]
/-- an operator at the top is noted and taken off -/
theorem y_noteTop (h : LSt n V0 V p o (x :: W) c e) (hx : x.1 ≠ 11 ∧ x.1 ≠ 12) : ∃ V', fX7_notes (Wd b V lw R) (some (b + 258)) (I (x.1 : Int)) (I 0) = some (Wd b V' lw R) ∧ V' 258 24 = ((x :: W).length : Int) ∧ (V' 258 22 = (o : Int)) ∧ ∀ o' : Nat, o' ≤ 6 → LSt n V0 (up (up V' 258 24 (W.length : Int)) 258 22 (o' : Int)) p o' W (c ++ [(x.1, 0)]) e ∧ LSt n V0 (up V' 258 24 (W.length : Int)) p o W (c ++ [(x.1, 0)]) e := by
  have wl := h.wl
  have cl := h.cl
  have pn := h.pn
  have nn := h.nn
  rw [wt_1 hx] at cl
  rw [List.length_cons] at wl
  have ok := h.wk x (by simp)
  have ww := h.ww.2
  refine ⟨_, y_notes (x := (x.1, 0)) h.cm (by omega), by simp (disch := omega) only [up_k, up_r, h.wa], by simp (disch := omega) only [up_k, up_r, h.op], fun o' ho' => ⟨h.to (fun q k hq => by rw [up_o (by omega), up_o (by omega), up_o (by omega), up_o (by omega)]) ?_ up_s ?_ ?_ ?_ ?_ (wk_t h.wk) (wk_a h.ck ⟨ok.1, show 0 < 1048576 by decide⟩) (by omega) (by rw [List.length_append, List.length_singleton]; omega) pn ho', h.to (fun q k hq => by rw [up_o (by omega), up_o (by omega), up_o (by omega)]) ?_ ?_ up_s ?_ ?_ ?_ (wk_t h.wk) (wk_a h.ck ⟨ok.1, show 0 < 1048576 by decide⟩) (by omega) (by rw [List.length_append, List.length_singleton]; omega) pn h.oo⟩⟩
  · simp (disch := omega) only [up_k, up_s, up_r, h.pl]
  · simp (disch := omega) only [up_k, up_s, up_r]
  · simp (disch := omega) only [up_k, up_s, up_r, List.length_append, List.length_singleton]
    omega
  · exact WAt_c W (fun i hi => by simp (disch := omega) only [up_k, up_s, up_r]) ww
  · exact CAt_app (CAt_c (fun i hi => by simp (disch := omega) only [up_k, up_s, up_r]) h.cc) (by simp (disch := omega) only [up_k, up_s, up_r])
  · simp (disch := omega) only [up_k, up_s, up_r, h.pl]
  · simp (disch := omega) only [up_k, up_s, up_r, h.op]
  · simp (disch := omega) only [up_k, up_s, up_r, List.length_append, List.length_singleton]
    omega
  · exact WAt_c W (fun i hi => by simp (disch := omega) only [up_k, up_s, up_r]) ww
  · exact CAt_app (CAt_c (fun i hi => by simp (disch := omega) only [up_k, up_s, up_r]) h.cc) (by simp (disch := omega) only [up_k, up_s, up_r])
/-- opened -/
theorem y_opens (h : LSt n V0 V p o W c e) (ho : o ≠ 6) (hp : p < n) {k : Nat} (hk : k ≤ 14 ∧ k ≠ 11 ∧ k ≠ 12) : ∃ V', fX7_opens (Wd b V lw R) (some (b + 258)) (I (k : Int)) = some (I 1, Wd b V' lw R) ∧ LSt n V0 V' (p + 1) (o + 1) ((k, 0) :: W) c e := by
  have wl := h.wl
  have cl := h.cl
  have nn := h.nn
  have oo := h.oo
  have e1 : (1048576 * (k : Int)) = enc (k, 0) := by
    unfold enc
    show _ = 1048576 * (k : Int) + ((0 : Nat) : Int)
    omega
  refine ⟨up (up (up (up V 258 22 ((o : Int) + 1)) 274 W.length (enc (k, 0))) 258 24 ((W.length : Int) + 1)) 258 18 ((p : Int) + 1), ?_, h.to (fun q k hq => by rw [up_o (by omega), up_o (by omega), up_o (by omega), up_o (by omega)]) ?_ ?_ ?_ ?_ ⟨?_, ?_⟩ ?_ (wk_c h.wk ⟨hk.1, show 0 < 1048576 by decide⟩) h.ck (by rw [List.length_cons]; omega) (by rw [wt_1 hk.2]; omega) hp (by omega)⟩
  · unfold fX7_opens
    rw [gI258_22, Option.bind_some, h.op, k_6, if_neg (by rw [I_inj (by omega) (by omega) (by omega) (by omega)]; omega)]
    simp (disch := omega) only [gI258_22, h.op, Option.bind_some, k_1, I_add, pI258_22, gR258_28, gI258_24, up_k, h.wa, k_UN, I_mul, e1, wA274, tn, up_r, pI258_24, gI258_18, h.pl, pI258_18]
  · rw [up_s]
    omega
  · simp (disch := omega) only [up_k, up_s, up_r]
    omega
  · simp (disch := omega) only [up_k, up_s, up_r, List.length_cons]
    omega
  · simp (disch := omega) only [up_k, up_s, up_r, h.cm]
  · simp (disch := omega) only [up_k, up_s, up_r]
  · exact WAt_c W (fun i hi => by simp (disch := omega) only [up_k, up_s, up_r]) h.ww
  · exact CAt_c (fun i hi => by simp (disch := omega) only [up_k, up_s, up_r]) h.cc
theorem y_opens6 (h : LSt n V0 V p 6 W c e) {k : Nat} : fX7_opens (Wd b V lw R) (some (b + 258)) (I (k : Int)) = some (I 0, Wd b (up V 258 20 (-1000 * 5 - (p : Int))) lw R) := by
  unfold fX7_opens
  simp (disch := omega) only [gI258_22, h.op, Option.bind_some, k_6, I_inj, if_pos, gI258_18, h.pl, on258, k_5, y_wrong, z_0]
end YP
