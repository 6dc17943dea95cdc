/-! LAW: what the class tells by its text. No JVM here. -/
set_option maxRecDepth 100000
set_option linter.unusedVariables false
set_option linter.unusedSimpArgs false
abbrev okQ (c : Int) (FF : Nat → Int32) (q : Cls) : Prop := I q.l = I c ∧ q.g FF = 1
def FI (F : Nat → Int) : Nat → Int32 := fun k => I (F k)
def tvQ (q : Cls) (FF : Nat → Int32) : Int32 := if (q.f FF).2 = true then 0 else (q.f FF).1
def syL (cls : List Cls) (c : Int) (F : Nat → Int) : Bool := cls.any fun q => decide (okQ c (FI F) q)
def tlV (o : Option Cls) (FF : Nat → Int32) : Int := match o with
  | none => 0
  | some q => max 0 (min 60 (tvQ q FF).toInt)
def tlL (cls : List Cls) (c : Int) (F : Nat → Int) : Int := tlV (cls.find? fun q => decide (okQ c (FI F) q)) (FI F)
theorem up_id {V : Vw} {o k : Nat} : up V o k (V o k) = V := by
  funext q j
  unfold up
  split
  · rename_i h
    rw [h.1, h.2]
  · rfl
theorem tlV_b (o : Option Cls) (FF : Nat → Int32) : 0 ≤ tlV o FF ∧ tlV o FF ≤ 60 := by
  unfold tlV
  split <;> omega
section TX
variable {b : Nat} {V : Vw} {lw : Option Nat} {R R' : Hp} {tx nx lo hi j s : Nat} {c : Int} {FF : Nat → Int32} {fl : Nat → Int32} {fs fc : Nat → Option Nat} {cls : List Cls}
/-- one clause looked at -/
theorem tx_g3 (h : b + 305 ≤ tx) (k : TxK R tx s fl fs fc) : hp_gI (Wd b V lw R) (some tx) 4 3 = some (I (s : Int)) := o_gI h k.1 rfl
theorem tx_l (h : b + 305 ≤ tx) (k : TxK R tx s fl fs fc) (hj : j < 16) : (hp_gR (Wd b V lw R) (some tx) 4 0).bind (fun v4 => hp_aI (Wd b V lw R) v4 0 (I (j : Int))) = some (fl j) := by
  rw [show hp_gR (Wd b V lw R) (some tx) 4 0 = some (some (tx + 1)) from o_gR h k.1 rfl, Option.bind_some, o_aI (n := 16) (by omega) k.2.1 (by omega) (by omega) (by omega), tn]
theorem tx_g0 (h : b + 305 ≤ tx) (k : TxK R tx s fl fs fc) : hp_gR (Wd b V lw R) (some tx) 4 0 = some (some (tx + 1)) := o_gR h k.1 rfl
theorem tx_g1 (h : b + 305 ≤ tx) (k : TxK R tx s fl fs fc) : hp_gR (Wd b V lw R) (some tx) 4 1 = some (some (tx + 2)) := o_gR h k.1 rfl
theorem tx_g2 (h : b + 305 ≤ tx) (k : TxK R tx s fl fs fc) : hp_gR (Wd b V lw R) (some tx) 4 2 = some (some (tx + 3)) := o_gR h k.1 rfl
theorem tx_a0 (h : b + 305 ≤ tx) (k : TxK R tx s fl fs fc) (hj : j < 16) : hp_aI (Wd b V lw R) (some (tx + 1)) 0 (I (j : Int)) = some (fl j) := by rw [o_aI (n := 16) (by omega) k.2.1 (by omega) (by omega) (by omega), tn]
theorem tx_a1 (h : b + 305 ≤ tx) (k : TxK R tx s fl fs fc) (hj : j < 16) : hp_aR (Wd b V lw R) (some (tx + 2)) 3 (I (j : Int)) = some (fs j) := by rw [o_aR (n := 16) (by omega) k.2.2.1 (by omega) (by omega) (by omega), tn]
theorem tx_a2 (h : b + 305 ≤ tx) (k : TxK R tx s fl fs fc) (hj : j < 16) : hp_aR (Wd b V lw R) (some (tx + 3)) 4 (I (j : Int)) = some (fc j) := by rw [o_aR (n := 16) (by omega) k.2.2.2 (by omega) (by omega) (by omega), tn]
theorem x_saysL (h : b + 305 ≤ tx) (k : TxK R tx cls.length fl fs fc) (h16 : cls.length ≤ 16) (hI : ∀ j q, cls[j]? = some q → fl j = I q.l ∧ (q.l ≠ 109 → SemS b R lo hi (fs j) q.f 60) ∧ SemC b R lo hi (fc j) q.g 60) : ∀ (n j fu : Nat) (V : Vw), j + n = cls.length → n < fu → mtF V FF → ∃ x, iter (fX5_says_L2 (some tx) (I c) (some (b + 4))) fu (I (j : Int), Wd b V lw R) = some (if ((cls.drop j).any fun q => decide (okQ c FF q)) = true then .inr (1, Wd b (up V 4 0 x) lw R) else .inl (Wd b (up V 4 0 x) lw R))
  | 0, j, fu, V, e1, e2, e3 => by
    obtain ⟨f, rfl⟩ : ∃ f, fu = f + 1 := ⟨fu - 1, by omega⟩
    refine ⟨V 4 0, ?_⟩
    rw [List.drop_of_length_le (by omega), up_id]
    refine iter_r ?_
    unfold fX5_says_L2
    dsimp only
    rw [tx_g3 h k, Option.bind_some, if_pos (by rw [I_le (by omega) (by omega) (by omega) (by omega)]; omega)]
    rfl
  | n + 1, j, fu, V, e1, e2, e3 => by
    obtain ⟨f, rfl⟩ : ∃ f, fu = f + 1 := ⟨fu - 1, by omega⟩
    have jl : j < cls.length := by omega
    obtain ⟨a1, a2, a3⟩ := hI j cls[j] (List.getElem?_eq_getElem jl)
    rw [List.drop_eq_getElem_cons jl, List.any_cons]
    have st0 : ∀ r, fX5_says_L2 (some tx) (I c) (some (b + 4)) (I (j : Int), Wd b V lw R) = r → fX5_says_L2 (some tx) (I c) (some (b + 4)) (I (j : Int), Wd b V lw R) = r := fun r h => h
    by_cases c1 : I (cls[j]).l = I c
    · obtain ⟨x, w⟩ := a3.2 R (fun _ _ _ => rfl) V lw FF e3 60 (Nat.le_refl _)
      by_cases c2 : (cls[j]).g FF = 1
      · refine ⟨x, ?_⟩
        rw [decide_eq_true (show okQ c FF cls[j] from ⟨c1, c2⟩), Bool.true_or, if_pos rfl]
        refine iter_r ?_
        unfold fX5_says_L2
        dsimp only
        rw [tx_g3 h k, Option.bind_some, if_neg (by rw [I_le (by omega) (by omega) (by omega) (by omega)]; omega), tx_g0 h k, Option.bind_some, tx_a0 h k (by omega), Option.bind_some, a1, if_pos c1, tx_g2 h k, Option.bind_some, tx_a2 h k (by omega), Option.bind_some, w, c2, Option.bind_some]
        dsimp only
        rw [if_pos rfl]
      · have st : fX5_says_L2 (some tx) (I c) (some (b + 4)) (I (j : Int), Wd b V lw R) = some (.inl (I ((j + 1 : Nat) : Int), Wd b (up V 4 0 x) lw R)) := by
          unfold fX5_says_L2
          dsimp only
          rw [tx_g3 h k, Option.bind_some, if_neg (by rw [I_le (by omega) (by omega) (by omega) (by omega)]; omega), tx_g0 h k, Option.bind_some, tx_a0 h k (by omega), Option.bind_some, a1, if_pos c1, tx_g2 h k, Option.bind_some, tx_a2 h k (by omega), Option.bind_some, w, Option.bind_some]
          dsimp only
          rw [if_neg c2, k_1, I_add]
          rfl
        obtain ⟨x2, g⟩ := x_saysL h k h16 hI n (j + 1) f (up V 4 0 x) (by omega) (by omega) (mtF_u e3)
        rw [up_up] at g
        refine ⟨x2, ?_⟩
        rw [iter_s st, g, decide_eq_false (show ¬ okQ c FF cls[j] from fun q => c2 q.2), Bool.false_or]
    · have st : fX5_says_L2 (some tx) (I c) (some (b + 4)) (I (j : Int), Wd b V lw R) = some (.inl (I ((j + 1 : Nat) : Int), Wd b V lw R)) := by
        unfold fX5_says_L2
        dsimp only
        rw [tx_g3 h k, Option.bind_some, if_neg (by rw [I_le (by omega) (by omega) (by omega) (by omega)]; omega), tx_g0 h k, Option.bind_some, tx_a0 h k (by omega), Option.bind_some, a1, if_neg c1, k_1, I_add]
        rfl
      obtain ⟨x2, g⟩ := x_saysL h k h16 hI n (j + 1) f V (by omega) (by omega) e3
      refine ⟨x2, ?_⟩
      rw [iter_s st, g, decide_eq_false (show ¬ okQ c FF cls[j] from fun q => c1 q.1), Bool.false_or]
theorem x_toldS {v : Option Nat} {f : Fm} {k : Nat} (hs : SemS b R lo hi v f k) (hk : k ≤ 60) (hF : mtF V FF) : ∃ x, hp_onS (Wd b V lw R) v (fX9_told (Wd b V lw R) v (some (b + 4))) = some (if (f FF).2 = true then 0 else (f FF).1, Wd b (up V 4 0 x) lw R) := by
  obtain ⟨⟨u, cl, fs, e1, e2, e3, e4, e5, e6⟩, hs⟩ := hs
  have ec : hp_cls (Wd b V lw R) v = some cl := by rw [e1]; exact o_cl e2 e5
  have w := hs R (fun _ _ _ => rfl) (up V 4 0 0) lw FF (mtF_u hF) 60 hk
  obtain ⟨x, x1, x2⟩ := rfz_u (V := V) (e := (f FF).2)
  rw [x1] at w
  refine ⟨x, ?_⟩
  unfold hp_onS
  rw [ec, if_pos (by rcases e6 with rfl | rfl | rfl <;> simp)]
  unfold fX9_told
  rw [k_0, mo_z (Or.inl rfl), Option.bind_some, w, Option.bind_some]
  dsimp only
  rw [mo_g, up_s, x2, Option.bind_some]
  cases (f FF).2 with
  | true => rw [if_pos rfl, if_neg (by decide), if_pos rfl]
  | false => rw [if_pos (show (if false = true then (1 : Int32) else 0) = I 0 from rfl), if_neg (show ¬ false = true by decide)]
theorem x_tellsL (h : b + 305 ≤ tx) (k : TxK R tx cls.length fl fs fc) (h16 : cls.length ≤ 16) (hc : I c ≠ I 109) (hI : ∀ j q, cls[j]? = some q → fl j = I q.l ∧ (q.l ≠ 109 → SemS b R lo hi (fs j) q.f 60) ∧ SemC b R lo hi (fc j) q.g 60) : ∀ (n j fu : Nat) (V : Vw), j + n = cls.length → n < fu → mtF V FF → ∃ x, iter (fX5_tells_L2 (some tx) (I c) (some (b + 4))) fu (I (j : Int), Wd b V lw R) = some (match (cls.drop j).find? fun q => decide (okQ c FF q) with
    | none => .inl (Wd b (up V 4 0 x) lw R)
    | some q => .inr (tvQ q FF, Wd b (up V 4 0 x) lw R))
  | 0, j, fu, V, e1, e2, e3 => by
    obtain ⟨f, rfl⟩ : ∃ f, fu = f + 1 := ⟨fu - 1, by omega⟩
    refine ⟨V 4 0, ?_⟩
    rw [List.drop_of_length_le (by omega), up_id]
    refine iter_r ?_
    unfold fX5_tells_L2
    dsimp only
    rw [tx_g3 h k, Option.bind_some, if_pos (by rw [I_le (by omega) (by omega) (by omega) (by omega)]; omega)]
    rfl
  | n + 1, j, fu, V, e1, e2, e3 => by
    obtain ⟨f, rfl⟩ : ∃ f, fu = f + 1 := ⟨fu - 1, by omega⟩
    have jl : j < cls.length := by omega
    obtain ⟨a1, a2, a3⟩ := hI j cls[j] (List.getElem?_eq_getElem jl)
    rw [List.drop_eq_getElem_cons jl, List.find?_cons]
    by_cases c1 : I (cls[j]).l = I c
    · obtain ⟨x, w⟩ := a3.2 R (fun _ _ _ => rfl) V lw FF e3 60 (Nat.le_refl _)
      by_cases c2 : (cls[j]).g FF = 1
      · obtain ⟨y, w2⟩ := x_toldS (V := up V 4 0 x) (lw := lw) (a2 fun q => hc (by rw [← c1, q])) (Nat.le_refl _) (mtF_u e3)
        rw [up_up] at w2
        refine ⟨y, ?_⟩
        rw [decide_eq_true (show okQ c FF cls[j] from ⟨c1, c2⟩)]
        refine iter_r ?_
        unfold fX5_tells_L2
        dsimp only
        rw [tx_g3 h k, Option.bind_some, if_neg (by rw [I_le (by omega) (by omega) (by omega) (by omega)]; omega), tx_g0 h k, Option.bind_some, tx_a0 h k (by omega), Option.bind_some, a1, if_pos c1, tx_g2 h k, Option.bind_some, tx_a2 h k (by omega), Option.bind_some, w, c2, Option.bind_some]
        dsimp only
        rw [if_pos rfl, tx_g1 h k, Option.bind_some, tx_a1 h k (by omega), Option.bind_some, w2]
        rfl
      · have st : fX5_tells_L2 (some tx) (I c) (some (b + 4)) (I (j : Int), Wd b V lw R) = some (.inl (I ((j + 1 : Nat) : Int), Wd b (up V 4 0 x) lw R)) := by
          unfold fX5_tells_L2
          dsimp only
          rw [tx_g3 h k, Option.bind_some, if_neg (by rw [I_le (by omega) (by omega) (by omega) (by omega)]; omega), tx_g0 h k, Option.bind_some, tx_a0 h k (by omega), Option.bind_some, a1, if_pos c1, tx_g2 h k, Option.bind_some, tx_a2 h k (by omega), Option.bind_some, w, Option.bind_some]
          dsimp only
          rw [if_neg c2, k_1, I_add]
          rfl
        obtain ⟨x2, g⟩ := x_tellsL h k h16 hc hI n (j + 1) f (up V 4 0 x) (by omega) (by omega) (mtF_u e3)
        rw [up_up] at g
        refine ⟨x2, ?_⟩
        rw [iter_s st, g, decide_eq_false (show ¬ okQ c FF cls[j] from fun q => c2 q.2)]
    · have st : fX5_tells_L2 (some tx) (I c) (some (b + 4)) (I (j : Int), Wd b V lw R) = some (.inl (I ((j + 1 : Nat) : Int), Wd b V lw R)) := by
        unfold fX5_tells_L2
        dsimp only
        rw [tx_g3 h k, Option.bind_some, if_neg (by rw [I_le (by omega) (by omega) (by omega) (by omega)]; omega), tx_g0 h k, Option.bind_some, tx_a0 h k (by omega), Option.bind_some, a1, if_neg c1, k_1, I_add]
        rfl
      obtain ⟨x2, g⟩ := x_tellsL h k h16 hc hI n (j + 1) f V (by omega) (by omega) e3
      refine ⟨x2, ?_⟩
      rw [iter_s st, g, decide_eq_false (show ¬ okQ c FF cls[j] from fun q => c1 q.1)]
theorem law_X (h : b + 305 ≤ tx) (hlo : tx + 3 < lo) (hl : lo ≤ hi) (hn : hi ≤ nx) (h16 : cls.length ≤ 16) (hT : TxI b R tx lo hi cls) : LawX b (some tx) R nx (syL cls) (tlL cls) (cls.length : Int) := by
  intro R' hR V
  have hT' := TxI_m (R' := R') hT (Nat.le_refl _) (fun y _ y2 => hR y (by omega)) hlo hl
  obtain ⟨fl, fs, fc, k, hI⟩ := hT'
  refine ⟨tx_g3 h k, o_cl h k.1, fun F hF => ?_⟩
  have mF : mtF V (FI F) := fun k hk => by
    rw [hF k hk]
    rfl
  refine ⟨?_, fun c hc => ?_⟩
  · obtain ⟨x, w⟩ := x_saysL (lw := some tx) (c := 109) h k h16 hI cls.length 0 FUEL V (by omega) (by unfold FUEL; omega) mF
    refine ⟨x, ?_⟩
    unfold fX5_says
    rw [k_0, show (I 0 : Int32) = I ((0 : Nat) : Int) from rfl, w, List.drop_zero]
    unfold syL
    by_cases q : (cls.any fun q => decide (okQ 109 (FI F) q)) = true
    · rw [if_pos q, if_pos q]
      rfl
    · rw [if_neg q, if_neg q]
      rfl
  · obtain ⟨x, w⟩ := x_tellsL (lw := some tx) (c := c) h k h16 (by rcases hc with rfl | rfl <;> decide) hI cls.length 0 FUEL V (by omega) (by unfold FUEL; omega) mF
    rw [List.drop_zero] at w
    refine ⟨x, ?_, tlV_b _ _⟩
    have ec : hp_cls (Wd b V (some tx) R') (some tx) = some 4 := o_cl h k.1
    have e1 : hp_gR (Wd b V (some tx) R') (some b) 0 6 = some (some (b + 4)) := gR0_6
    unfold fX0_tells
    rw [rdL, Option.bind_some, e1, Option.bind_some]
    unfold hp_on
    rw [ec, if_pos rfl]
    unfold fX5_tells
    rw [k_0, show (I 0 : Int32) = I ((0 : Nat) : Int) from rfl, w, Option.bind_some]
    unfold tlL
    cases cls.find? fun q => decide (okQ c (FI F) q) with
    | none =>
      rfl
    | some q =>
      show Option.bind (some (tvQ q (FI F), Wd b (up V 4 0 x) (some tx) R')) _ = _
      rw [Option.bind_some]
      dsimp only
      unfold fX0_held
      have b1 := Int32.le_toInt (tvQ q (FI F))
      have b2 := Int32.toInt_lt (tvQ q (FI F))
      have ex : tvQ q (FI F) = I (tvQ q (FI F)).toInt := (I_ot _).symm
      rw [ex, show (0 : Int32) = I 0 from rfl, I_min (by omega) (by omega) (by omega) (by omega), I_max (by omega) (by omega) (by omega) (by omega)]
      rfl
end TX
