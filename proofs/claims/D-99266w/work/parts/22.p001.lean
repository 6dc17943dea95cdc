/-! THE WORLD after both constructors: one table of what lies where, by offset. No JVM here. -/
set_option maxRecDepth 100000
set_option linter.unusedVariables false
def I (z : Int) : Int32 := Int32.ofInt z
abbrev Vw : Type := Nat → Nat → Int
def up (V : Vw) (o i : Nat) (x : Int) : Vw := fun o2 i2 => if o2 = o ∧ i2 = i then x else V o2 i2
def dKa : List (Nat × Nat × Nat) := [(3, 0, 22), (2, 5, 48), (1, 0, 384), (1, 0, 384), (3, 1, 10), (3, 2, 9), (2, 6, 12), (1, 0, 48), (1, 0, 12), (0, 0, 0), (0, 0, 0), (0, 0, 0), (0, 0, 0), (0, 0, 0), (0, 0, 0), (0, 0, 0), (0, 0, 0), (0, 0, 0), (0, 0, 0), (0, 0, 0), (0, 0, 0), (3, 2, 9), (2, 6, 12), (1, 0, 48), (1, 0, 12), (0, 0, 0), (0, 0, 0), (0, 0, 0), (0, 0, 0), (0, 0, 0), (0, 0, 0), (0, 0, 0), (0, 0, 0), (0, 0, 0), (0, 0, 0), (0, 0, 0), (0, 0, 0), (3, 2, 9), (2, 6, 12), (1, 0, 48), (1, 0, 12), (0, 0, 0), (0, 0, 0), (0, 0, 0), (0, 0, 0), (0, 0, 0), (0, 0, 0), (0, 0, 0), (0, 0, 0), (0, 0, 0), (0, 0, 0), (0, 0, 0), (0, 0, 0), (1, 1, 260), (0, 0, 0), (0, 0, 0), (0, 0, 0), (0, 0, 0), (1, 0, 10), (1, 0, 10), (1, 0, 48), (1, 0, 48), (1, 0, 48), (1, 2, 48), (2, 7, 48), (0, 0, 0), (0, 0, 0), (0, 0, 0), (0, 0, 0), (0, 0, 0), (0, 0, 0), (0, 0, 0), (0, 0, 0), (0, 0, 0), (0, 0, 0), (0, 0, 0), (0, 0, 0), (0, 0, 0), (0, 0, 0), (0, 0, 0), (0, 0, 0), (0, 0, 0), (0, 0, 0), (0, 0, 0), (0, 0, 0), (0, 0, 0), (0, 0, 0), (0, 0, 0), (0, 0, 0), (0, 0, 0), (0, 0, 0), (0, 0, 0), (0, 0, 0), (0, 0, 0), (0, 0, 0), (0, 0, 0), (0, 0, 0), (0, 0, 0), (0, 0, 0), (0, 0, 0), (0, 0, 0), (0, 0, 0), (0, 0, 0), (0, 0, 0), (0, 0, 0), (0, 0, 0), (0, 0, 0), (0, 0, 0), (0, 0, 0), (0, 0, 0), (0, 0, 0), (0, 0, 0), (0, 0, 0), (1, 0, 31)]
def dKb : List (Nat × Nat × Nat) := [(3, 6, 66), (1, 0, 26), (1, 0, 26), (1, 0, 26), (1, 0, 12), (1, 0, 12), (1, 0, 12), (1, 0, 48), (1, 0, 384), (1, 0, 384), (1, 0, 48), (1, 0, 384), (1, 2, 12), (1, 2, 48), (1, 1, 260), (1, 0, 260), (1, 0, 260), (1, 0, 16), (1, 0, 16), (1, 0, 16), (1, 0, 16), (1, 0, 260), (1, 0, 16), (1, 0, 16), (1, 0, 16), (1, 0, 16), (1, 0, 260), (1, 0, 9), (1, 0, 48), (1, 0, 384), (1, 0, 384), (1, 0, 8), (1, 0, 8), (1, 0, 48), (1, 2, 48), (1, 0, 12), (1, 0, 48), (1, 0, 10), (1, 0, 10), (1, 0, 48), (1, 0, 48), (1, 2, 1440), (1, 0, 48), (1, 0, 48), (1, 0, 48), (1, 0, 384), (1, 0, 61)]
/-- what lies at an offset: 1 an int array (tag, length), 2 an array of references, 3 an object (class, fields) -/
def dK (o : Nat) : Nat × Nat × Nat :=
  if o < 114 then
    if 9 ≤ o ∧ o ≤ 20 ∨ 25 ≤ o ∧ o ≤ 36 ∨ 41 ≤ o ∧ o ≤ 52 then (3, 3, 6)
    else if 65 ≤ o ∧ o ≤ 112 then (1, 0, 8)
    else dKa.getD o (0, 0, 0)
  else if o < 258 then if (o - 114) % 3 = 0 then (3, 5, 5) else (1, 0, 8)
  else dKb.getD (o - 258) (0, 0, 0)
/-- the references in it, by offset -/
def dR (o i : Nat) : Option Nat :=
  if o = 0 then ([some 1, some 2, some 3, none, none, none, some 4, some 5, some 21, some 37, some 53, none, none, none, some 58, some 59, some 60, some 61, some 62, some 63, some 64, some 113] : List (Option Nat)).getD i none
  else if o = 1 then some (114 + 3 * i)
  else if o = 5 ∨ o = 21 ∨ o = 37 then ([some (o + 1), some (o + 2), some (o + 3), none, none, none, none, none, some 0] : List (Option Nat)).getD i none
  else if o = 6 ∨ o = 22 ∨ o = 38 then some (o + 3 + i)
  else if o = 64 then some (65 + i)
  else if 114 ≤ o ∧ o < 258 ∧ (o - 114) % 3 = 0 then ([some (o + 1), some (o + 2)] : List (Option Nat)).getD i none
  else if o = 258 then ([some 259, some 260, some 261, some 262, some 263, some 264, some 265, some 266, some 267, some 268, some 269, some 270, some 271, none, none, none, some 272, none, none, none, none, none, none, none, none, none, none, some 273, some 274, some 275, some 276, some 277, some 278, some 279, some 280, some 281, some 282, some 283, some 284, some 285, some 286, some 287, some 288, none, none, some 289, some 290, some 291, some 292, none, some 293, some 294, none, none, none, some 295, some 296, some 297, some 298, some 299, some 300, some 301, some 302, some 303, some 304, none] : List (Option Nat)).getD i none
  else none
def dF (b : Nat) (V : Vw) (lw : Option Nat) (o k : Nat) : Vl := if o = 0 ∧ k = 11 then .inr lw else match dR o k with
  | some x => .inr (some (b + x))
  | none => .inl (I (V o k))
def dC (b : Nat) (V : Vw) (lw : Option Nat) (o : Nat) : Option Cel := match dK o with
  | (1, t, n) => some (.inl (t, n, .inl fun i => I (V o i)))
  | (2, t, n) => some (.inl (t, n, .inr fun i => if i < n then (dR o i).map fun x => b + x else none))
  | (3, c, n) => some (.inr (c, (List.range n).map fun k => dF b V lw o k))
  | _ => none
def Wd (b : Nat) (V : Vw) (lw : Option Nat) (R : Hp) : Hp := fun q => if b ≤ q ∧ (dK (q - b)).1 ≠ 0 then dC b V lw (q - b) else R q
theorem k1 {o a t n : Nat} (h : dK o = (a, t, n)) (ha : a ≠ 0) : (dK o).1 ≠ 0 := by
  rw [h]
  exact ha
theorem I_ti {z : Int} (h0 : -2147483648 ≤ z) (h1 : z < 2147483648) : (I z).toInt = z := Int32.toInt_ofInt_of_le h0 h1
theorem I_in {z : Int} {n : Nat} (h0 : 0 ≤ z) (h1 : z < n) (hn : n ≤ 2000) : hp_in (I z) n = true := by
  have ht : (I z).toInt = z := I_ti (by omega) (by omega)
  have h2 : ¬ I z < 0 := by
    rw [Int32.lt_iff_toInt_lt, ht]
    exact Int.not_lt.mpr h0
  have h3 : (I z).toNatClampNeg = z.toNat := by
    unfold Int32.toNatClampNeg
    rw [ht]
  unfold hp_in
  rw [h3]
  exact decide_eq_true (fun q => q.elim h2 (fun q => by omega))
theorem I_cl {z : Int} (h0 : 0 ≤ z) (h1 : z < 2000) : (I z).toNatClampNeg = z.toNat := by
  have ht : (I z).toInt = z := I_ti (by omega) (by omega)
  unfold Int32.toNatClampNeg
  rw [ht]
theorem W_at {b : Nat} {V : Vw} {lw : Option Nat} {R : Hp} {o : Nat} (h : (dK o).1 ≠ 0) : Wd b V lw R (b + o) = dC b V lw o := by
  unfold Wd
  rw [Nat.add_sub_cancel_left, if_pos ⟨Nat.le_add_right b o, h⟩]
theorem W_arr {b : Nat} {V : Vw} {lw : Option Nat} {R : Hp} {o t n : Nat} (h : dK o = (1, t, n)) : Wd b V lw R (b + o) = some (.inl (t, n, .inl fun i => I (V o i))) := by
  rw [W_at (k1 h (by decide))]
  unfold dC
  rw [h]
  rfl
theorem W_rar {b : Nat} {V : Vw} {lw : Option Nat} {R : Hp} {o t n : Nat} (h : dK o = (2, t, n)) : Wd b V lw R (b + o) = some (.inl (t, n, .inr fun i => if i < n then (dR o i).map fun x => b + x else none)) := by
  rw [W_at (k1 h (by decide))]
  unfold dC
  rw [h]
  rfl
theorem W_obj {b : Nat} {V : Vw} {lw : Option Nat} {R : Hp} {o c n : Nat} (h : dK o = (3, c, n)) : Wd b V lw R (b + o) = some (.inr (c, (List.range n).map fun k => dF b V lw o k)) := by
  rw [W_at (k1 h (by decide))]
  unfold dC
  rw [h]
  rfl
theorem rdA {b : Nat} {V : Vw} {lw : Option Nat} {R : Hp} {o t n : Nat} {z : Int} (h : dK o = (1, t, n)) (h0 : 0 ≤ z) (h1 : z < n) (hn : n ≤ 2000) : hp_aI (Wd b V lw R) (some (b + o)) t (I z) = some (I (V o z.toNat)) := by
  unfold hp_aI hp_arr
  simp only [W_arr h, if_true, I_in h0 h1 hn, I_cl h0 (show z < 2000 by omega)]
theorem rdRA {b : Nat} {V : Vw} {lw : Option Nat} {R : Hp} {o t n x : Nat} {z : Int} (h : dK o = (2, t, n)) (h0 : 0 ≤ z) (h1 : z < n) (hn : n ≤ 2000) (hx : dR o z.toNat = some x) : hp_aR (Wd b V lw R) (some (b + o)) t (I z) = some (some (b + x)) := by
  unfold hp_aR hp_arr
  have hz : z.toNat < n := by omega
  simp only [W_rar h, if_true, I_in h0 h1 hn, I_cl h0 (show z < 2000 by omega), if_pos hz, hx, Option.map_some]
theorem lnA {b : Nat} {V : Vw} {lw : Option Nat} {R : Hp} {o t n : Nat} (h : dK o = (1, t, n)) : hp_len (Wd b V lw R) (some (b + o)) t = some (I n) := by
  unfold hp_len hp_arr
  simp only [W_arr h, if_true]
  rfl
theorem lnRA {b : Nat} {V : Vw} {lw : Option Nat} {R : Hp} {o t n : Nat} (h : dK o = (2, t, n)) : hp_len (Wd b V lw R) (some (b + o)) t = some (I n) := by
  unfold hp_len hp_arr
  simp only [W_rar h, if_true]
  rfl
theorem W_up {b : Nat} {V V' : Vw} {lw : Option Nat} {R : Hp} {o : Nat} (hk : (dK o).1 ≠ 0) (hV : ∀ o2, o2 ≠ o → V' o2 = V o2) {c : Cel} (hc : some c = dC b V' lw o) : hp_set (Wd b V lw R) (b + o) c = Wd b V' lw R := by
  funext q
  unfold hp_set
  by_cases hq : q = b + o
  · subst hq
    rw [if_pos rfl, W_at hk, hc]
  · rw [if_neg hq]
    unfold Wd
    by_cases hc2 : b ≤ q ∧ (dK (q - b)).1 ≠ 0
    · rw [if_pos hc2, if_pos hc2]
      have hne : q - b ≠ o := by omega
      unfold dC
      have e1 : V' (q - b) = V (q - b) := hV _ hne
      have e2 : (fun k => dF b V lw (q - b) k) = fun k => dF b V' lw (q - b) k := by
        funext k
        unfold dF
        rw [e1]
      rw [e1, e2]
    · rw [if_neg hc2, if_neg hc2]
theorem wrA {b : Nat} {V : Vw} {lw : Option Nat} {R : Hp} {o t n : Nat} {z x y : Int} (h : dK o = (1, t, n)) (h0 : 0 ≤ z) (h1 : z < n) (hn : n ≤ 2000) (hy : hp_nar t (I x) = I y) : hp_sI (Wd b V lw R) (some (b + o)) t (I z) (I x) = some (Wd b (up V o z.toNat y) lw R) := by
  unfold hp_sI hp_arr
  simp only [W_arr h, if_true, I_in h0 h1 hn, I_cl h0 (show z < 2000 by omega), hy]
  refine congrArg some (W_up (k1 h (by decide)) (fun o2 ho => ?_) ?_)
  · funext i2
    unfold up
    exact if_neg (fun q => ho q.1)
  · unfold dC
    rw [h]
    refine congrArg some (congrArg Sum.inl (Prod.ext rfl (Prod.ext rfl (congrArg Sum.inl ?_))))
    funext j
    unfold hp_upI up
    by_cases hj : j = z.toNat
    · rw [if_pos hj, if_pos ⟨rfl, hj⟩]
    · rw [if_neg hj, if_neg (fun q => hj q.2)]
theorem nar2 {x : Int} (h : x = 0 ∨ x = 1) : hp_nar 2 (I x) = I x := by
  rcases h with rfl | rfl <;> decide
theorem rdV {b : Nat} {V : Vw} {lw : Option Nat} {R : Hp} {o c n k : Nat} (h : dK o = (3, c, n)) (hk : k < n) : hp_gV (Wd b V lw R) (some (b + o)) c k = some (dF b V lw o k) := by
  unfold hp_gV
  simp only [W_obj h, if_true, List.getElem?_map, List.getElem?_range hk, Option.map_some]
theorem rdI {b : Nat} {V : Vw} {lw : Option Nat} {R : Hp} {o c n k : Nat} (h : dK o = (3, c, n)) (hk : k < n) (hl : ¬ (o = 0 ∧ k = 11)) (hr : dR o k = none) : hp_gI (Wd b V lw R) (some (b + o)) c k = some (I (V o k)) := by
  unfold hp_gI
  rw [rdV h hk]
  unfold dF
  rw [if_neg hl, hr]
theorem rdR {b : Nat} {V : Vw} {lw : Option Nat} {R : Hp} {o c n k x : Nat} (h : dK o = (3, c, n)) (hk : k < n) (hl : ¬ (o = 0 ∧ k = 11)) (hr : dR o k = some x) : hp_gR (Wd b V lw R) (some (b + o)) c k = some (some (b + x)) := by
  unfold hp_gR
  rw [rdV h hk]
  unfold dF
  rw [if_neg hl, hr]
theorem rdL {b : Nat} {V : Vw} {lw : Option Nat} {R : Hp} : hp_gR (Wd b V lw R) (some b) 0 11 = some lw := by
  unfold hp_gR
  rw [show (some b : Option Nat) = some (b + 0) from rfl, rdV (n := 22) (by decide) (by decide)]
  rfl
theorem clO {b : Nat} {V : Vw} {lw : Option Nat} {R : Hp} {o c n : Nat} (h : dK o = (3, c, n)) : hp_cls (Wd b V lw R) (some (b + o)) = some c := by
  unfold hp_cls
  simp only [W_obj h]
theorem wrV {b : Nat} {V V' : Vw} {lw lw' : Option Nat} {R : Hp} {o c n k : Nat} {v : Vl} (h : dK o = (3, c, n)) (hk : k < n) (hW : hp_set (Wd b V lw R) (b + o) (.inr (c, ((List.range n).map fun k => dF b V lw o k).set k v)) = Wd b V' lw' R) : hp_pV (Wd b V lw R) (some (b + o)) c k v = some (Wd b V' lw' R) := by
  unfold hp_pV
  have hl : k < ((List.range n).map fun k => dF b V lw o k).length := by simpa using hk
  simp only [W_obj h]
  rw [if_pos ⟨trivial, hl⟩, hW]
theorem wrI {b : Nat} {V : Vw} {lw : Option Nat} {R : Hp} {o c n k : Nat} {x : Int} (h : dK o = (3, c, n)) (hk : k < n) (hl : ¬ (o = 0 ∧ k = 11)) (hr : dR o k = none) : hp_pI (Wd b V lw R) (some (b + o)) c k (I x) = some (Wd b (up V o k x) lw R) := by
  unfold hp_pI
  refine wrV h hk (W_up (k1 h (by decide)) (fun o2 ho => ?_) ?_)
  · funext i2
    unfold up
    exact if_neg (fun q => ho q.1)
  · unfold dC
    rw [h]
    refine congrArg some (congrArg Sum.inr (Prod.ext rfl ?_))
    apply List.ext_getElem?
    intro j
    rw [List.getElem?_set]
    by_cases hj : k = j
    · subst hj
      rw [if_pos rfl, List.length_map, List.length_range, if_pos hk, List.getElem?_map, List.getElem?_range hk, Option.map_some]
      unfold dF
      rw [if_neg hl, hr]
      unfold up
      rw [if_pos ⟨rfl, rfl⟩]
    · rw [if_neg hj, List.getElem?_map, List.getElem?_map]
      by_cases hjn : j < n
      · rw [List.getElem?_range hjn, Option.map_some, Option.map_some]
        unfold dF
        unfold up
        rw [if_neg (fun q : o = o ∧ j = k => hj q.2.symm)]
      · rw [List.getElem?_eq_none (by simpa using hjn)]
        rfl
theorem wrL {b : Nat} {V : Vw} {lw lw' : Option Nat} {R : Hp} : hp_pR (Wd b V lw R) (some b) 0 11 lw' = some (Wd b V lw' R) := by
  unfold hp_pR
  rw [show (some b : Option Nat) = some (b + 0) from rfl]
  refine wrV (n := 22) (by decide) (by decide) ?_
  funext q
  unfold hp_set
  by_cases hq : q = b + 0
  · rw [if_pos hq, hq, W_obj (n := 22) (c := 0) (by decide)]
    refine congrArg some (congrArg Sum.inr (Prod.ext rfl ?_))
    rfl
  · rw [if_neg hq]
    unfold Wd
    by_cases hc2 : b ≤ q ∧ (dK (q - b)).1 ≠ 0
    · rw [if_pos hc2, if_pos hc2]
      have hne : q - b ≠ 0 := by omega
      unfold dC dF
      simp only [hne, false_and, if_false]
    · rw [if_neg hc2, if_neg hc2]
theorem W_out {b : Nat} {V : Vw} {lw : Option Nat} {R : Hp} {a : Nat} {c : Cel} (h : ¬ (b ≤ a ∧ (dK (a - b)).1 ≠ 0)) : hp_set (Wd b V lw R) a c = Wd b V lw (hp_set R a c) := by
  funext q
  show (if q = a then some c else Wd b V lw R q) = if b ≤ q ∧ (dK (q - b)).1 ≠ 0 then dC b V lw (q - b) else if q = a then some c else R q
  by_cases hq : q = a
  · rw [if_pos hq, hq, if_neg h, if_pos rfl]
  · rw [if_neg hq, if_neg hq]
    rfl
theorem W_R {b : Nat} {V : Vw} {lw : Option Nat} {R : Hp} {a : Nat} (h : ¬ (b ≤ a ∧ (dK (a - b)).1 ≠ 0)) : Wd b V lw R a = R a := if_neg h
theorem dK_hi {o : Nat} (h : 305 ≤ o) : (dK o).1 = 0 := by
  unfold dK
  rw [if_neg (by omega), if_neg (by omega), List.getD_eq_getElem?_getD, List.getElem?_eq_none]
  · rfl
  · show dKb.length ≤ o - 258
    rw [show dKb.length = 47 from rfl]
    omega
/-! families: trains, persons, rows -/
theorem dK_tr {r : Nat} (h : r < 48) : dK (114 + 3 * r) = (3, 5, 5) := by
  unfold dK
  rw [if_neg (by omega), if_pos (by omega), if_pos (by omega)]
theorem dK_ts {r : Nat} (h : r < 48) : dK (115 + 3 * r) = (1, 0, 8) := by
  unfold dK
  rw [if_neg (by omega), if_pos (by omega), if_neg (by omega)]
theorem dK_tm {r : Nat} (h : r < 48) : dK (116 + 3 * r) = (1, 0, 8) := by
  unfold dK
  rw [if_neg (by omega), if_pos (by omega), if_neg (by omega)]
theorem dR_tr {r k : Nat} (h : r < 48) : dR (114 + 3 * r) k = ([some (115 + 3 * r), some (116 + 3 * r)] : List (Option Nat)).getD k none := by
  unfold dR
  rw [if_neg (by omega), if_neg (by omega), if_neg (by omega), if_neg (by omega), if_neg (by omega), if_pos (by omega)]
  rw [show 114 + 3 * r + 1 = 115 + 3 * r by omega, show 114 + 3 * r + 2 = 116 + 3 * r by omega]
theorem dK_pe {j p : Nat} (hj : j = 5 ∨ j = 21 ∨ j = 37) (h : p < 12) : dK (j + 4 + p) = (3, 3, 6) := by
  unfold dK
  rw [if_pos (by omega), if_pos (by omega)]
theorem dR_pe {j p k : Nat} (hj : j = 5 ∨ j = 21 ∨ j = 37) (h : p < 12) : dR (j + 4 + p) k = none := by
  unfold dR
  rw [if_neg (by omega), if_neg (by omega), if_neg (by omega), if_neg (by omega), if_neg (by omega), if_neg (by omega), if_neg (by omega)]
theorem dK_fr {r : Nat} (h : r < 48) : dK (65 + r) = (1, 0, 8) := by
  unfold dK
  rw [if_pos (by omega), if_neg (by omega), if_pos (by omega)]
section FAM
variable {b : Nat} {V : Vw} {lw : Option Nat} {R : Hp} {r p j : Nat} {z x : Int}
theorem rTr (h0 : 0 ≤ z) (h1 : z < 48) : hp_aR (Wd b V lw R) (some (b + 1)) 5 (I z) = some (some (b + (114 + 3 * z.toNat))) := rdRA (n := 48) (by decide) h0 h1 (by decide) rfl
theorem cTr (h : r < 48) : hp_cls (Wd b V lw R) (some (b + (114 + 3 * r))) = some 5 := clO (dK_tr h)
theorem onTr {α : Type} {y : Option α} (h : r < 48) : hp_on (Wd b V lw R) (some (b + (114 + 3 * r))) 5 y = y := if_pos (cTr h)
theorem gTr0 (h : r < 48) : hp_gR (Wd b V lw R) (some (b + (114 + 3 * r))) 5 0 = some (some (b + (115 + 3 * r))) := rdR (dK_tr h) (by decide) (by omega) (by rw [dR_tr h]; rfl)
theorem gTr1 (h : r < 48) : hp_gR (Wd b V lw R) (some (b + (114 + 3 * r))) 5 1 = some (some (b + (116 + 3 * r))) := rdR (dK_tr h) (by decide) (by omega) (by rw [dR_tr h]; rfl)
theorem gTr2 (h : r < 48) : hp_gI (Wd b V lw R) (some (b + (114 + 3 * r))) 5 2 = some (I (V (114 + 3 * r) 2)) := rdI (dK_tr h) (by decide) (by omega) (by rw [dR_tr h]; rfl)
theorem gTr3 (h : r < 48) : hp_gI (Wd b V lw R) (some (b + (114 + 3 * r))) 5 3 = some (I (V (114 + 3 * r) 3)) := rdI (dK_tr h) (by decide) (by omega) (by rw [dR_tr h]; rfl)
theorem gTr4 (h : r < 48) : hp_gI (Wd b V lw R) (some (b + (114 + 3 * r))) 5 4 = some (I (V (114 + 3 * r) 4)) := rdI (dK_tr h) (by decide) (by omega) (by rw [dR_tr h]; rfl)
theorem pTr2 (h : r < 48) : hp_pI (Wd b V lw R) (some (b + (114 + 3 * r))) 5 2 (I x) = some (Wd b (up V (114 + 3 * r) 2 x) lw R) := wrI (dK_tr h) (by decide) (by omega) (by rw [dR_tr h]; rfl)
theorem pTr3 (h : r < 48) : hp_pI (Wd b V lw R) (some (b + (114 + 3 * r))) 5 3 (I x) = some (Wd b (up V (114 + 3 * r) 3 x) lw R) := wrI (dK_tr h) (by decide) (by omega) (by rw [dR_tr h]; rfl)
theorem I01 (hx : x = 0 ∨ x = 1) : I x = 0 ∨ I x = 1 := by
  rcases hx with rfl | rfl
  · exact Or.inl (by decide)
  · exact Or.inr (by decide)
theorem pTr4 (h : r < 48) (hx : x = 0 ∨ x = 1) : hp_pZ (Wd b V lw R) (some (b + (114 + 3 * r))) 5 4 (I x) = some (Wd b (up V (114 + 3 * r) 4 x) lw R) := by
  unfold hp_pZ
  rw [if_pos (I01 hx)]
  exact wrI (dK_tr h) (by decide) (by omega) (by rw [dR_tr h]; rfl)
theorem rSt (h : r < 48) (h0 : 0 ≤ z) (h1 : z < 8) : hp_aI (Wd b V lw R) (some (b + (115 + 3 * r))) 0 (I z) = some (I (V (115 + 3 * r) z.toNat)) := rdA (n := 8) (dK_ts h) h0 h1 (by decide)
theorem rMi (h : r < 48) (h0 : 0 ≤ z) (h1 : z < 8) : hp_aI (Wd b V lw R) (some (b + (116 + 3 * r))) 0 (I z) = some (I (V (116 + 3 * r) z.toNat)) := rdA (n := 8) (dK_tm h) h0 h1 (by decide)
theorem wSt (h : r < 48) (h0 : 0 ≤ z) (h1 : z < 8) : hp_sI (Wd b V lw R) (some (b + (115 + 3 * r))) 0 (I z) (I x) = some (Wd b (up V (115 + 3 * r) z.toNat x) lw R) := wrA (n := 8) (dK_ts h) h0 h1 (by decide) rfl
theorem wMi (h : r < 48) (h0 : 0 ≤ z) (h1 : z < 8) : hp_sI (Wd b V lw R) (some (b + (116 + 3 * r))) 0 (I z) (I x) = some (Wd b (up V (116 + 3 * r) z.toNat x) lw R) := wrA (n := 8) (dK_tm h) h0 h1 (by decide) rfl
theorem rFr (h0 : 0 ≤ z) (h1 : z < 48) : hp_aR (Wd b V lw R) (some (b + 64)) 7 (I z) = some (some (b + (65 + z.toNat))) := rdRA (n := 48) (by decide) h0 h1 (by decide) rfl
theorem rFu (h : r < 48) (h0 : 0 ≤ z) (h1 : z < 8) : hp_aI (Wd b V lw R) (some (b + (65 + r))) 0 (I z) = some (I (V (65 + r) z.toNat)) := rdA (n := 8) (dK_fr h) h0 h1 (by decide)
theorem wFu (h : r < 48) (h0 : 0 ≤ z) (h1 : z < 8) : hp_sI (Wd b V lw R) (some (b + (65 + r))) 0 (I z) (I x) = some (Wd b (up V (65 + r) z.toNat x) lw R) := wrA (n := 8) (dK_fr h) h0 h1 (by decide) rfl
theorem dR_pp {i : Nat} (hj : j = 5 ∨ j = 21 ∨ j = 37) : dR (j + 1) i = some (j + 4 + i) := by
  rcases hj with rfl | rfl | rfl <;> rfl
theorem dK_pp (hj : j = 5 ∨ j = 21 ∨ j = 37) : dK (j + 1) = (2, 6, 12) := by
  rcases hj with rfl | rfl | rfl <;> decide
theorem rPe (hj : j = 5 ∨ j = 21 ∨ j = 37) (h0 : 0 ≤ z) (h1 : z < 12) : hp_aR (Wd b V lw R) (some (b + (j + 1))) 6 (I z) = some (some (b + (j + 4 + z.toNat))) := rdRA (n := 12) (dK_pp hj) h0 h1 (by decide) (dR_pp hj)
theorem lPe (hj : j = 5 ∨ j = 21 ∨ j = 37) : hp_len (Wd b V lw R) (some (b + (j + 1))) 6 = some (I 12) := lnRA (n := 12) (dK_pp hj)
theorem cPe (hj : j = 5 ∨ j = 21 ∨ j = 37) (h : p < 12) : hp_cls (Wd b V lw R) (some (b + (j + 4 + p))) = some 3 := clO (dK_pe hj h)
theorem onPe {α : Type} {y : Option α} (hj : j = 5 ∨ j = 21 ∨ j = 37) (h : p < 12) : hp_on (Wd b V lw R) (some (b + (j + 4 + p))) 3 y = y := if_pos (cPe hj h)
theorem gPe {k : Nat} (hj : j = 5 ∨ j = 21 ∨ j = 37) (h : p < 12) (hk : k < 6) : hp_gI (Wd b V lw R) (some (b + (j + 4 + p))) 3 k = some (I (V (j + 4 + p) k)) := rdI (dK_pe hj h) hk (by omega) (dR_pe hj h)
theorem pPe {k : Nat} (hj : j = 5 ∨ j = 21 ∨ j = 37) (h : p < 12) (hk : k < 6) : hp_pI (Wd b V lw R) (some (b + (j + 4 + p))) 3 k (I x) = some (Wd b (up V (j + 4 + p) k x) lw R) := wrI (dK_pe hj h) hk (by omega) (dR_pe hj h)
theorem pPeZ (hj : j = 5 ∨ j = 21 ∨ j = 37) (h : p < 12) (hx : x = 0 ∨ x = 1) : hp_pZ (Wd b V lw R) (some (b + (j + 4 + p))) 3 5 (I x) = some (Wd b (up V (j + 4 + p) 5 x) lw R) := by
  unfold hp_pZ
  rw [if_pos (I01 hx)]
  exact pPe hj h (by decide)
/-! platforms, symbolic -/
theorem dK_pf (hj : j = 5 ∨ j = 21 ∨ j = 37) : dK j = (3, 2, 9) := by
  rcases hj with rfl | rfl | rfl <;> decide
theorem dR_pf {k : Nat} (hj : j = 5 ∨ j = 21 ∨ j = 37) : dR j k = ([some (j + 1), some (j + 2), some (j + 3), none, none, none, none, none, some 0] : List (Option Nat)).getD k none := by
  rcases hj with rfl | rfl | rfl <;> rfl
theorem cPf (hj : j = 5 ∨ j = 21 ∨ j = 37) : hp_cls (Wd b V lw R) (some (b + j)) = some 2 := clO (dK_pf hj)
theorem onPf {α : Type} {y : Option α} (hj : j = 5 ∨ j = 21 ∨ j = 37) : hp_on (Wd b V lw R) (some (b + j)) 2 y = y := if_pos (cPf hj)
theorem gPf0 (hj : j = 5 ∨ j = 21 ∨ j = 37) : hp_gR (Wd b V lw R) (some (b + j)) 2 0 = some (some (b + (j + 1))) := rdR (dK_pf hj) (by decide) (by omega) (by rw [dR_pf hj]; rfl)
theorem gPf1 (hj : j = 5 ∨ j = 21 ∨ j = 37) : hp_gR (Wd b V lw R) (some (b + j)) 2 1 = some (some (b + (j + 2))) := rdR (dK_pf hj) (by decide) (by omega) (by rw [dR_pf hj]; rfl)
theorem gPf2 (hj : j = 5 ∨ j = 21 ∨ j = 37) : hp_gR (Wd b V lw R) (some (b + j)) 2 2 = some (some (b + (j + 3))) := rdR (dK_pf hj) (by decide) (by omega) (by rw [dR_pf hj]; rfl)
theorem gPf8 (hj : j = 5 ∨ j = 21 ∨ j = 37) : hp_gR (Wd b V lw R) (some (b + j)) 2 8 = some (some b) := rdR (x := 0) (dK_pf hj) (by decide) (by omega) (by rw [dR_pf hj]; rfl)
theorem gPf {k : Nat} (hj : j = 5 ∨ j = 21 ∨ j = 37) (hk : 3 ≤ k ∧ k < 8) : hp_gI (Wd b V lw R) (some (b + j)) 2 k = some (I (V j k)) := rdI (dK_pf hj) (by omega) (by omega) (by
  rw [dR_pf hj]
  rcases (show k = 3 ∨ k = 4 ∨ k = 5 ∨ k = 6 ∨ k = 7 by omega) with rfl | rfl | rfl | rfl | rfl <;> rfl)
theorem pPf {k : Nat} (hj : j = 5 ∨ j = 21 ∨ j = 37) (hk : 3 ≤ k ∧ k < 8) : hp_pI (Wd b V lw R) (some (b + j)) 2 k (I x) = some (Wd b (up V j k x) lw R) := wrI (dK_pf hj) (by omega) (by omega) (by
  rw [dR_pf hj]
  rcases (show k = 3 ∨ k = 4 ∨ k = 5 ∨ k = 6 ∨ k = 7 by omega) with rfl | rfl | rfl | rfl | rfl <;> rfl)
theorem dK_la (hj : j = 5 ∨ j = 21 ∨ j = 37) : dK (j + 2) = (1, 0, 48) := by
  rcases hj with rfl | rfl | rfl <;> decide
theorem dK_ri (hj : j = 5 ∨ j = 21 ∨ j = 37) : dK (j + 3) = (1, 0, 12) := by
  rcases hj with rfl | rfl | rfl <;> decide
theorem rLa (hj : j = 5 ∨ j = 21 ∨ j = 37) (h0 : 0 ≤ z) (h1 : z < 48) : hp_aI (Wd b V lw R) (some (b + (j + 2))) 0 (I z) = some (I (V (j + 2) z.toNat)) := rdA (n := 48) (dK_la hj) h0 h1 (by decide)
theorem wLa (hj : j = 5 ∨ j = 21 ∨ j = 37) (h0 : 0 ≤ z) (h1 : z < 48) : hp_sI (Wd b V lw R) (some (b + (j + 2))) 0 (I z) (I x) = some (Wd b (up V (j + 2) z.toNat x) lw R) := wrA (n := 48) (dK_la hj) h0 h1 (by decide) rfl
theorem rRi (hj : j = 5 ∨ j = 21 ∨ j = 37) (h0 : 0 ≤ z) (h1 : z < 12) : hp_aI (Wd b V lw R) (some (b + (j + 3))) 0 (I z) = some (I (V (j + 3) z.toNat)) := rdA (n := 12) (dK_ri hj) h0 h1 (by decide)
theorem wRi (hj : j = 5 ∨ j = 21 ∨ j = 37) (h0 : 0 ≤ z) (h1 : z < 12) : hp_sI (Wd b V lw R) (some (b + (j + 3))) 0 (I z) (I x) = some (Wd b (up V (j + 3) z.toNat x) lw R) := wrA (n := 12) (dK_ri hj) h0 h1 (by decide) rfl
end FAM
theorem rA2 {b : Nat} {V : Vw} {lw : Option Nat} {R : Hp} {z : Int} (h0 : 0 ≤ z) (h1 : z < 384) : hp_aI (Wd b V lw R) (some (b + 2)) 0 (I z) = some (I (V 2 z.toNat)) := rdA (n := 384) (by decide) h0 h1 (by decide)
theorem wA2 {b : Nat} {V : Vw} {lw : Option Nat} {R : Hp} {z x : Int} (h0 : 0 ≤ z) (h1 : z < 384) : hp_sI (Wd b V lw R) (some (b + 2)) 0 (I z) (I x) = some (Wd b (up V 2 z.toNat x) lw R) := wrA (n := 384) (by decide) h0 h1 (by decide) rfl
theorem rA3 {b : Nat} {V : Vw} {lw : Option Nat} {R : Hp} {z : Int} (h0 : 0 ≤ z) (h1 : z < 384) : hp_aI (Wd b V lw R) (some (b + 3)) 0 (I z) = some (I (V 3 z.toNat)) := rdA (n := 384) (by decide) h0 h1 (by decide)
theorem wA3 {b : Nat} {V : Vw} {lw : Option Nat} {R : Hp} {z x : Int} (h0 : 0 ≤ z) (h1 : z < 384) : hp_sI (Wd b V lw R) (some (b + 3)) 0 (I z) (I x) = some (Wd b (up V 3 z.toNat x) lw R) := wrA (n := 384) (by decide) h0 h1 (by decide) rfl
theorem rA7 {b : Nat} {V : Vw} {lw : Option Nat} {R : Hp} {z : Int} (h0 : 0 ≤ z) (h1 : z < 48) : hp_aI (Wd b V lw R) (some (b + 7)) 0 (I z) = some (I (V 7 z.toNat)) := rdA (n := 48) (by decide) h0 h1 (by decide)
theorem wA7 {b : Nat} {V : Vw} {lw : Option Nat} {R : Hp} {z x : Int} (h0 : 0 ≤ z) (h1 : z < 48) : hp_sI (Wd b V lw R) (some (b + 7)) 0 (I z) (I x) = some (Wd b (up V 7 z.toNat x) lw R) := wrA (n := 48) (by decide) h0 h1 (by decide) rfl
theorem rA8 {b : Nat} {V : Vw} {lw : Option Nat} {R : Hp} {z : Int} (h0 : 0 ≤ z) (h1 : z < 12) : hp_aI (Wd b V lw R) (some (b + 8)) 0 (I z) = some (I (V 8 z.toNat)) := rdA (n := 12) (by decide) h0 h1 (by decide)
theorem wA8 {b : Nat} {V : Vw} {lw : Option Nat} {R : Hp} {z x : Int} (h0 : 0 ≤ z) (h1 : z < 12) : hp_sI (Wd b V lw R) (some (b + 8)) 0 (I z) (I x) = some (Wd b (up V 8 z.toNat x) lw R) := wrA (n := 12) (by decide) h0 h1 (by decide) rfl
theorem rA23 {b : Nat} {V : Vw} {lw : Option Nat} {R : Hp} {z : Int} (h0 : 0 ≤ z) (h1 : z < 48) : hp_aI (Wd b V lw R) (some (b + 23)) 0 (I z) = some (I (V 23 z.toNat)) := rdA (n := 48) (by decide) h0 h1 (by decide)
theorem wA23 {b : Nat} {V : Vw} {lw : Option Nat} {R : Hp} {z x : Int} (h0 : 0 ≤ z) (h1 : z < 48) : hp_sI (Wd b V lw R) (some (b + 23)) 0 (I z) (I x) = some (Wd b (up V 23 z.toNat x) lw R) := wrA (n := 48) (by decide) h0 h1 (by decide) rfl
theorem rA24 {b : Nat} {V : Vw} {lw : Option Nat} {R : Hp} {z : Int} (h0 : 0 ≤ z) (h1 : z < 12) : hp_aI (Wd b V lw R) (some (b + 24)) 0 (I z) = some (I (V 24 z.toNat)) := rdA (n := 12) (by decide) h0 h1 (by decide)
theorem wA24 {b : Nat} {V : Vw} {lw : Option Nat} {R : Hp} {z x : Int} (h0 : 0 ≤ z) (h1 : z < 12) : hp_sI (Wd b V lw R) (some (b + 24)) 0 (I z) (I x) = some (Wd b (up V 24 z.toNat x) lw R) := wrA (n := 12) (by decide) h0 h1 (by decide) rfl
theorem rA39 {b : Nat} {V : Vw} {lw : Option Nat} {R : Hp} {z : Int} (h0 : 0 ≤ z) (h1 : z < 48) : hp_aI (Wd b V lw R) (some (b + 39)) 0 (I z) = some (I (V 39 z.toNat)) := rdA (n := 48) (by decide) h0 h1 (by decide)
theorem wA39 {b : Nat} {V : Vw} {lw : Option Nat} {R : Hp} {z x : Int} (h0 : 0 ≤ z) (h1 : z < 48) : hp_sI (Wd b V lw R) (some (b + 39)) 0 (I z) (I x) = some (Wd b (up V 39 z.toNat x) lw R) := wrA (n := 48) (by decide) h0 h1 (by decide) rfl
theorem rA40 {b : Nat} {V : Vw} {lw : Option Nat} {R : Hp} {z : Int} (h0 : 0 ≤ z) (h1 : z < 12) : hp_aI (Wd b V lw R) (some (b + 40)) 0 (I z) = some (I (V 40 z.toNat)) := rdA (n := 12) (by decide) h0 h1 (by decide)
theorem wA40 {b : Nat} {V : Vw} {lw : Option Nat} {R : Hp} {z x : Int} (h0 : 0 ≤ z) (h1 : z < 12) : hp_sI (Wd b V lw R) (some (b + 40)) 0 (I z) (I x) = some (Wd b (up V 40 z.toNat x) lw R) := wrA (n := 12) (by decide) h0 h1 (by decide) rfl
theorem rA53 {b : Nat} {V : Vw} {lw : Option Nat} {R : Hp} {z : Int} (h0 : 0 ≤ z) (h1 : z < 260) : hp_aI (Wd b V lw R) (some (b + 53)) 1 (I z) = some (I (V 53 z.toNat)) := rdA (n := 260) (by decide) h0 h1 (by decide)
theorem wA53 {b : Nat} {V : Vw} {lw : Option Nat} {R : Hp} {z x y : Int} (h0 : 0 ≤ z) (h1 : z < 260) (hy : (I x).toInt8.toInt32 = I y) : hp_sI (Wd b V lw R) (some (b + 53)) 1 (I z) (I x) = some (Wd b (up V 53 z.toNat y) lw R) := wrA (n := 260) (by decide) h0 h1 (by decide) hy
theorem rA58 {b : Nat} {V : Vw} {lw : Option Nat} {R : Hp} {z : Int} (h0 : 0 ≤ z) (h1 : z < 10) : hp_aI (Wd b V lw R) (some (b + 58)) 0 (I z) = some (I (V 58 z.toNat)) := rdA (n := 10) (by decide) h0 h1 (by decide)
theorem wA58 {b : Nat} {V : Vw} {lw : Option Nat} {R : Hp} {z x : Int} (h0 : 0 ≤ z) (h1 : z < 10) : hp_sI (Wd b V lw R) (some (b + 58)) 0 (I z) (I x) = some (Wd b (up V 58 z.toNat x) lw R) := wrA (n := 10) (by decide) h0 h1 (by decide) rfl
theorem rA59 {b : Nat} {V : Vw} {lw : Option Nat} {R : Hp} {z : Int} (h0 : 0 ≤ z) (h1 : z < 10) : hp_aI (Wd b V lw R) (some (b + 59)) 0 (I z) = some (I (V 59 z.toNat)) := rdA (n := 10) (by decide) h0 h1 (by decide)
theorem wA59 {b : Nat} {V : Vw} {lw : Option Nat} {R : Hp} {z x : Int} (h0 : 0 ≤ z) (h1 : z < 10) : hp_sI (Wd b V lw R) (some (b + 59)) 0 (I z) (I x) = some (Wd b (up V 59 z.toNat x) lw R) := wrA (n := 10) (by decide) h0 h1 (by decide) rfl
theorem rA60 {b : Nat} {V : Vw} {lw : Option Nat} {R : Hp} {z : Int} (h0 : 0 ≤ z) (h1 : z < 48) : hp_aI (Wd b V lw R) (some (b + 60)) 0 (I z) = some (I (V 60 z.toNat)) := rdA (n := 48) (by decide) h0 h1 (by decide)
theorem wA60 {b : Nat} {V : Vw} {lw : Option Nat} {R : Hp} {z x : Int} (h0 : 0 ≤ z) (h1 : z < 48) : hp_sI (Wd b V lw R) (some (b + 60)) 0 (I z) (I x) = some (Wd b (up V 60 z.toNat x) lw R) := wrA (n := 48) (by decide) h0 h1 (by decide) rfl
theorem rA61 {b : Nat} {V : Vw} {lw : Option Nat} {R : Hp} {z : Int} (h0 : 0 ≤ z) (h1 : z < 48) : hp_aI (Wd b V lw R) (some (b + 61)) 0 (I z) = some (I (V 61 z.toNat)) := rdA (n := 48) (by decide) h0 h1 (by decide)
theorem wA61 {b : Nat} {V : Vw} {lw : Option Nat} {R : Hp} {z x : Int} (h0 : 0 ≤ z) (h1 : z < 48) : hp_sI (Wd b V lw R) (some (b + 61)) 0 (I z) (I x) = some (Wd b (up V 61 z.toNat x) lw R) := wrA (n := 48) (by decide) h0 h1 (by decide) rfl
theorem rA62 {b : Nat} {V : Vw} {lw : Option Nat} {R : Hp} {z : Int} (h0 : 0 ≤ z) (h1 : z < 48) : hp_aI (Wd b V lw R) (some (b + 62)) 0 (I z) = some (I (V 62 z.toNat)) := rdA (n := 48) (by decide) h0 h1 (by decide)
theorem wA62 {b : Nat} {V : Vw} {lw : Option Nat} {R : Hp} {z x : Int} (h0 : 0 ≤ z) (h1 : z < 48) : hp_sI (Wd b V lw R) (some (b + 62)) 0 (I z) (I x) = some (Wd b (up V 62 z.toNat x) lw R) := wrA (n := 48) (by decide) h0 h1 (by decide) rfl
theorem rA63 {b : Nat} {V : Vw} {lw : Option Nat} {R : Hp} {z : Int} (h0 : 0 ≤ z) (h1 : z < 48) : hp_aI (Wd b V lw R) (some (b + 63)) 2 (I z) = some (I (V 63 z.toNat)) := rdA (n := 48) (by decide) h0 h1 (by decide)
theorem wA63 {b : Nat} {V : Vw} {lw : Option Nat} {R : Hp} {z x : Int} (h0 : 0 ≤ z) (h1 : z < 48) (hx : x = 0 ∨ x = 1) : hp_sI (Wd b V lw R) (some (b + 63)) 2 (I z) (I x) = some (Wd b (up V 63 z.toNat x) lw R) := wrA (n := 48) (by decide) h0 h1 (by decide) (nar2 hx)
theorem rA113 {b : Nat} {V : Vw} {lw : Option Nat} {R : Hp} {z : Int} (h0 : 0 ≤ z) (h1 : z < 31) : hp_aI (Wd b V lw R) (some (b + 113)) 0 (I z) = some (I (V 113 z.toNat)) := rdA (n := 31) (by decide) h0 h1 (by decide)
theorem wA113 {b : Nat} {V : Vw} {lw : Option Nat} {R : Hp} {z x : Int} (h0 : 0 ≤ z) (h1 : z < 31) : hp_sI (Wd b V lw R) (some (b + 113)) 0 (I z) (I x) = some (Wd b (up V 113 z.toNat x) lw R) := wrA (n := 31) (by decide) h0 h1 (by decide) rfl
theorem rA259 {b : Nat} {V : Vw} {lw : Option Nat} {R : Hp} {z : Int} (h0 : 0 ≤ z) (h1 : z < 26) : hp_aI (Wd b V lw R) (some (b + 259)) 0 (I z) = some (I (V 259 z.toNat)) := rdA (n := 26) (by decide) h0 h1 (by decide)
theorem wA259 {b : Nat} {V : Vw} {lw : Option Nat} {R : Hp} {z x : Int} (h0 : 0 ≤ z) (h1 : z < 26) : hp_sI (Wd b V lw R) (some (b + 259)) 0 (I z) (I x) = some (Wd b (up V 259 z.toNat x) lw R) := wrA (n := 26) (by decide) h0 h1 (by decide) rfl
theorem rA260 {b : Nat} {V : Vw} {lw : Option Nat} {R : Hp} {z : Int} (h0 : 0 ≤ z) (h1 : z < 26) : hp_aI (Wd b V lw R) (some (b + 260)) 0 (I z) = some (I (V 260 z.toNat)) := rdA (n := 26) (by decide) h0 h1 (by decide)
theorem wA260 {b : Nat} {V : Vw} {lw : Option Nat} {R : Hp} {z x : Int} (h0 : 0 ≤ z) (h1 : z < 26) : hp_sI (Wd b V lw R) (some (b + 260)) 0 (I z) (I x) = some (Wd b (up V 260 z.toNat x) lw R) := wrA (n := 26) (by decide) h0 h1 (by decide) rfl
theorem rA261 {b : Nat} {V : Vw} {lw : Option Nat} {R : Hp} {z : Int} (h0 : 0 ≤ z) (h1 : z < 26) : hp_aI (Wd b V lw R) (some (b + 261)) 0 (I z) = some (I (V 261 z.toNat)) := rdA (n := 26) (by decide) h0 h1 (by decide)
theorem wA261 {b : Nat} {V : Vw} {lw : Option Nat} {R : Hp} {z x : Int} (h0 : 0 ≤ z) (h1 : z < 26) : hp_sI (Wd b V lw R) (some (b + 261)) 0 (I z) (I x) = some (Wd b (up V 261 z.toNat x) lw R) := wrA (n := 26) (by decide) h0 h1 (by decide) rfl
theorem rA262 {b : Nat} {V : Vw} {lw : Option Nat} {R : Hp} {z : Int} (h0 : 0 ≤ z) (h1 : z < 12) : hp_aI (Wd b V lw R) (some (b + 262)) 0 (I z) = some (I (V 262 z.toNat)) := rdA (n := 12) (by decide) h0 h1 (by decide)
theorem wA262 {b : Nat} {V : Vw} {lw : Option Nat} {R : Hp} {z x : Int} (h0 : 0 ≤ z) (h1 : z < 12) : hp_sI (Wd b V lw R) (some (b + 262)) 0 (I z) (I x) = some (Wd b (up V 262 z.toNat x) lw R) := wrA (n := 12) (by decide) h0 h1 (by decide) rfl
theorem rA263 {b : Nat} {V : Vw} {lw : Option Nat} {R : Hp} {z : Int} (h0 : 0 ≤ z) (h1 : z < 12) : hp_aI (Wd b V lw R) (some (b + 263)) 0 (I z) = some (I (V 263 z.toNat)) := rdA (n := 12) (by decide) h0 h1 (by decide)
theorem wA263 {b : Nat} {V : Vw} {lw : Option Nat} {R : Hp} {z x : Int} (h0 : 0 ≤ z) (h1 : z < 12) : hp_sI (Wd b V lw R) (some (b + 263)) 0 (I z) (I x) = some (Wd b (up V 263 z.toNat x) lw R) := wrA (n := 12) (by decide) h0 h1 (by decide) rfl
theorem rA264 {b : Nat} {V : Vw} {lw : Option Nat} {R : Hp} {z : Int} (h0 : 0 ≤ z) (h1 : z < 12) : hp_aI (Wd b V lw R) (some (b + 264)) 0 (I z) = some (I (V 264 z.toNat)) := rdA (n := 12) (by decide) h0 h1 (by decide)
theorem wA264 {b : Nat} {V : Vw} {lw : Option Nat} {R : Hp} {z x : Int} (h0 : 0 ≤ z) (h1 : z < 12) : hp_sI (Wd b V lw R) (some (b + 264)) 0 (I z) (I x) = some (Wd b (up V 264 z.toNat x) lw R) := wrA (n := 12) (by decide) h0 h1 (by decide) rfl
theorem rA265 {b : Nat} {V : Vw} {lw : Option Nat} {R : Hp} {z : Int} (h0 : 0 ≤ z) (h1 : z < 48) : hp_aI (Wd b V lw R) (some (b + 265)) 0 (I z) = some (I (V 265 z.toNat)) := rdA (n := 48) (by decide) h0 h1 (by decide)
theorem wA265 {b : Nat} {V : Vw} {lw : Option Nat} {R : Hp} {z x : Int} (h0 : 0 ≤ z) (h1 : z < 48) : hp_sI (Wd b V lw R) (some (b + 265)) 0 (I z) (I x) = some (Wd b (up V 265 z.toNat x) lw R) := wrA (n := 48) (by decide) h0 h1 (by decide) rfl
theorem rA266 {b : Nat} {V : Vw} {lw : Option Nat} {R : Hp} {z : Int} (h0 : 0 ≤ z) (h1 : z < 384) : hp_aI (Wd b V lw R) (some (b + 266)) 0 (I z) = some (I (V 266 z.toNat)) := rdA (n := 384) (by decide) h0 h1 (by decide)
theorem wA266 {b : Nat} {V : Vw} {lw : Option Nat} {R : Hp} {z x : Int} (h0 : 0 ≤ z) (h1 : z < 384) : hp_sI (Wd b V lw R) (some (b + 266)) 0 (I z) (I x) = some (Wd b (up V 266 z.toNat x) lw R) := wrA (n := 384) (by decide) h0 h1 (by decide) rfl
theorem rA267 {b : Nat} {V : Vw} {lw : Option Nat} {R : Hp} {z : Int} (h0 : 0 ≤ z) (h1 : z < 384) : hp_aI (Wd b V lw R) (some (b + 267)) 0 (I z) = some (I (V 267 z.toNat)) := rdA (n := 384) (by decide) h0 h1 (by decide)
theorem wA267 {b : Nat} {V : Vw} {lw : Option Nat} {R : Hp} {z x : Int} (h0 : 0 ≤ z) (h1 : z < 384) : hp_sI (Wd b V lw R) (some (b + 267)) 0 (I z) (I x) = some (Wd b (up V 267 z.toNat x) lw R) := wrA (n := 384) (by decide) h0 h1 (by decide) rfl
theorem rA268 {b : Nat} {V : Vw} {lw : Option Nat} {R : Hp} {z : Int} (h0 : 0 ≤ z) (h1 : z < 48) : hp_aI (Wd b V lw R) (some (b + 268)) 0 (I z) = some (I (V 268 z.toNat)) := rdA (n := 48) (by decide) h0 h1 (by decide)
theorem wA268 {b : Nat} {V : Vw} {lw : Option Nat} {R : Hp} {z x : Int} (h0 : 0 ≤ z) (h1 : z < 48) : hp_sI (Wd b V lw R) (some (b + 268)) 0 (I z) (I x) = some (Wd b (up V 268 z.toNat x) lw R) := wrA (n := 48) (by decide) h0 h1 (by decide) rfl
theorem rA269 {b : Nat} {V : Vw} {lw : Option Nat} {R : Hp} {z : Int} (h0 : 0 ≤ z) (h1 : z < 384) : hp_aI (Wd b V lw R) (some (b + 269)) 0 (I z) = some (I (V 269 z.toNat)) := rdA (n := 384) (by decide) h0 h1 (by decide)
theorem wA269 {b : Nat} {V : Vw} {lw : Option Nat} {R : Hp} {z x : Int} (h0 : 0 ≤ z) (h1 : z < 384) : hp_sI (Wd b V lw R) (some (b + 269)) 0 (I z) (I x) = some (Wd b (up V 269 z.toNat x) lw R) := wrA (n := 384) (by decide) h0 h1 (by decide) rfl
theorem rA270 {b : Nat} {V : Vw} {lw : Option Nat} {R : Hp} {z : Int} (h0 : 0 ≤ z) (h1 : z < 12) : hp_aI (Wd b V lw R) (some (b + 270)) 2 (I z) = some (I (V 270 z.toNat)) := rdA (n := 12) (by decide) h0 h1 (by decide)
theorem wA270 {b : Nat} {V : Vw} {lw : Option Nat} {R : Hp} {z x : Int} (h0 : 0 ≤ z) (h1 : z < 12) (hx : x = 0 ∨ x = 1) : hp_sI (Wd b V lw R) (some (b + 270)) 2 (I z) (I x) = some (Wd b (up V 270 z.toNat x) lw R) := wrA (n := 12) (by decide) h0 h1 (by decide) (nar2 hx)
theorem rA271 {b : Nat} {V : Vw} {lw : Option Nat} {R : Hp} {z : Int} (h0 : 0 ≤ z) (h1 : z < 48) : hp_aI (Wd b V lw R) (some (b + 271)) 2 (I z) = some (I (V 271 z.toNat)) := rdA (n := 48) (by decide) h0 h1 (by decide)
theorem wA271 {b : Nat} {V : Vw} {lw : Option Nat} {R : Hp} {z x : Int} (h0 : 0 ≤ z) (h1 : z < 48) (hx : x = 0 ∨ x = 1) : hp_sI (Wd b V lw R) (some (b + 271)) 2 (I z) (I x) = some (Wd b (up V 271 z.toNat x) lw R) := wrA (n := 48) (by decide) h0 h1 (by decide) (nar2 hx)
theorem rA272 {b : Nat} {V : Vw} {lw : Option Nat} {R : Hp} {z : Int} (h0 : 0 ≤ z) (h1 : z < 260) : hp_aI (Wd b V lw R) (some (b + 272)) 1 (I z) = some (I (V 272 z.toNat)) := rdA (n := 260) (by decide) h0 h1 (by decide)
theorem wA272 {b : Nat} {V : Vw} {lw : Option Nat} {R : Hp} {z x y : Int} (h0 : 0 ≤ z) (h1 : z < 260) (hy : (I x).toInt8.toInt32 = I y) : hp_sI (Wd b V lw R) (some (b + 272)) 1 (I z) (I x) = some (Wd b (up V 272 z.toNat y) lw R) := wrA (n := 260) (by decide) h0 h1 (by decide) hy
theorem rA273 {b : Nat} {V : Vw} {lw : Option Nat} {R : Hp} {z : Int} (h0 : 0 ≤ z) (h1 : z < 260) : hp_aI (Wd b V lw R) (some (b + 273)) 0 (I z) = some (I (V 273 z.toNat)) := rdA (n := 260) (by decide) h0 h1 (by decide)
theorem wA273 {b : Nat} {V : Vw} {lw : Option Nat} {R : Hp} {z x : Int} (h0 : 0 ≤ z) (h1 : z < 260) : hp_sI (Wd b V lw R) (some (b + 273)) 0 (I z) (I x) = some (Wd b (up V 273 z.toNat x) lw R) := wrA (n := 260) (by decide) h0 h1 (by decide) rfl
theorem rA274 {b : Nat} {V : Vw} {lw : Option Nat} {R : Hp} {z : Int} (h0 : 0 ≤ z) (h1 : z < 260) : hp_aI (Wd b V lw R) (some (b + 274)) 0 (I z) = some (I (V 274 z.toNat)) := rdA (n := 260) (by decide) h0 h1 (by decide)
theorem wA274 {b : Nat} {V : Vw} {lw : Option Nat} {R : Hp} {z x : Int} (h0 : 0 ≤ z) (h1 : z < 260) : hp_sI (Wd b V lw R) (some (b + 274)) 0 (I z) (I x) = some (Wd b (up V 274 z.toNat x) lw R) := wrA (n := 260) (by decide) h0 h1 (by decide) rfl
theorem rA275 {b : Nat} {V : Vw} {lw : Option Nat} {R : Hp} {z : Int} (h0 : 0 ≤ z) (h1 : z < 16) : hp_aI (Wd b V lw R) (some (b + 275)) 0 (I z) = some (I (V 275 z.toNat)) := rdA (n := 16) (by decide) h0 h1 (by decide)
theorem wA275 {b : Nat} {V : Vw} {lw : Option Nat} {R : Hp} {z x : Int} (h0 : 0 ≤ z) (h1 : z < 16) : hp_sI (Wd b V lw R) (some (b + 275)) 0 (I z) (I x) = some (Wd b (up V 275 z.toNat x) lw R) := wrA (n := 16) (by decide) h0 h1 (by decide) rfl
theorem rA276 {b : Nat} {V : Vw} {lw : Option Nat} {R : Hp} {z : Int} (h0 : 0 ≤ z) (h1 : z < 16) : hp_aI (Wd b V lw R) (some (b + 276)) 0 (I z) = some (I (V 276 z.toNat)) := rdA (n := 16) (by decide) h0 h1 (by decide)
theorem wA276 {b : Nat} {V : Vw} {lw : Option Nat} {R : Hp} {z x : Int} (h0 : 0 ≤ z) (h1 : z < 16) : hp_sI (Wd b V lw R) (some (b + 276)) 0 (I z) (I x) = some (Wd b (up V 276 z.toNat x) lw R) := wrA (n := 16) (by decide) h0 h1 (by decide) rfl
theorem rA277 {b : Nat} {V : Vw} {lw : Option Nat} {R : Hp} {z : Int} (h0 : 0 ≤ z) (h1 : z < 16) : hp_aI (Wd b V lw R) (some (b + 277)) 0 (I z) = some (I (V 277 z.toNat)) := rdA (n := 16) (by decide) h0 h1 (by decide)
theorem wA277 {b : Nat} {V : Vw} {lw : Option Nat} {R : Hp} {z x : Int} (h0 : 0 ≤ z) (h1 : z < 16) : hp_sI (Wd b V lw R) (some (b + 277)) 0 (I z) (I x) = some (Wd b (up V 277 z.toNat x) lw R) := wrA (n := 16) (by decide) h0 h1 (by decide) rfl
theorem rA278 {b : Nat} {V : Vw} {lw : Option Nat} {R : Hp} {z : Int} (h0 : 0 ≤ z) (h1 : z < 16) : hp_aI (Wd b V lw R) (some (b + 278)) 0 (I z) = some (I (V 278 z.toNat)) := rdA (n := 16) (by decide) h0 h1 (by decide)
theorem wA278 {b : Nat} {V : Vw} {lw : Option Nat} {R : Hp} {z x : Int} (h0 : 0 ≤ z) (h1 : z < 16) : hp_sI (Wd b V lw R) (some (b + 278)) 0 (I z) (I x) = some (Wd b (up V 278 z.toNat x) lw R) := wrA (n := 16) (by decide) h0 h1 (by decide) rfl
theorem rA279 {b : Nat} {V : Vw} {lw : Option Nat} {R : Hp} {z : Int} (h0 : 0 ≤ z) (h1 : z < 260) : hp_aI (Wd b V lw R) (some (b + 279)) 0 (I z) = some (I (V 279 z.toNat)) := rdA (n := 260) (by decide) h0 h1 (by decide)
theorem wA279 {b : Nat} {V : Vw} {lw : Option Nat} {R : Hp} {z x : Int} (h0 : 0 ≤ z) (h1 : z < 260) : hp_sI (Wd b V lw R) (some (b + 279)) 0 (I z) (I x) = some (Wd b (up V 279 z.toNat x) lw R) := wrA (n := 260) (by decide) h0 h1 (by decide) rfl
theorem rA280 {b : Nat} {V : Vw} {lw : Option Nat} {R : Hp} {z : Int} (h0 : 0 ≤ z) (h1 : z < 16) : hp_aI (Wd b V lw R) (some (b + 280)) 0 (I z) = some (I (V 280 z.toNat)) := rdA (n := 16) (by decide) h0 h1 (by decide)
theorem wA280 {b : Nat} {V : Vw} {lw : Option Nat} {R : Hp} {z x : Int} (h0 : 0 ≤ z) (h1 : z < 16) : hp_sI (Wd b V lw R) (some (b + 280)) 0 (I z) (I x) = some (Wd b (up V 280 z.toNat x) lw R) := wrA (n := 16) (by decide) h0 h1 (by decide) rfl
theorem rA281 {b : Nat} {V : Vw} {lw : Option Nat} {R : Hp} {z : Int} (h0 : 0 ≤ z) (h1 : z < 16) : hp_aI (Wd b V lw R) (some (b + 281)) 0 (I z) = some (I (V 281 z.toNat)) := rdA (n := 16) (by decide) h0 h1 (by decide)
theorem wA281 {b : Nat} {V : Vw} {lw : Option Nat} {R : Hp} {z x : Int} (h0 : 0 ≤ z) (h1 : z < 16) : hp_sI (Wd b V lw R) (some (b + 281)) 0 (I z) (I x) = some (Wd b (up V 281 z.toNat x) lw R) := wrA (n := 16) (by decide) h0 h1 (by decide) rfl
theorem rA282 {b : Nat} {V : Vw} {lw : Option Nat} {R : Hp} {z : Int} (h0 : 0 ≤ z) (h1 : z < 16) : hp_aI (Wd b V lw R) (some (b + 282)) 0 (I z) = some (I (V 282 z.toNat)) := rdA (n := 16) (by decide) h0 h1 (by decide)
theorem wA282 {b : Nat} {V : Vw} {lw : Option Nat} {R : Hp} {z x : Int} (h0 : 0 ≤ z) (h1 : z < 16) : hp_sI (Wd b V lw R) (some (b + 282)) 0 (I z) (I x) = some (Wd b (up V 282 z.toNat x) lw R) := wrA (n := 16) (by decide) h0 h1 (by decide) rfl
theorem rA283 {b : Nat} {V : Vw} {lw : Option Nat} {R : Hp} {z : Int} (h0 : 0 ≤ z) (h1 : z < 16) : hp_aI (Wd b V lw R) (some (b + 283)) 0 (I z) = some (I (V 283 z.toNat)) := rdA (n := 16) (by decide) h0 h1 (by decide)
theorem wA283 {b : Nat} {V : Vw} {lw : Option Nat} {R : Hp} {z x : Int} (h0 : 0 ≤ z) (h1 : z < 16) : hp_sI (Wd b V lw R) (some (b + 283)) 0 (I z) (I x) = some (Wd b (up V 283 z.toNat x) lw R) := wrA (n := 16) (by decide) h0 h1 (by decide) rfl
theorem rA284 {b : Nat} {V : Vw} {lw : Option Nat} {R : Hp} {z : Int} (h0 : 0 ≤ z) (h1 : z < 260) : hp_aI (Wd b V lw R) (some (b + 284)) 0 (I z) = some (I (V 284 z.toNat)) := rdA (n := 260) (by decide) h0 h1 (by decide)
theorem wA284 {b : Nat} {V : Vw} {lw : Option Nat} {R : Hp} {z x : Int} (h0 : 0 ≤ z) (h1 : z < 260) : hp_sI (Wd b V lw R) (some (b + 284)) 0 (I z) (I x) = some (Wd b (up V 284 z.toNat x) lw R) := wrA (n := 260) (by decide) h0 h1 (by decide) rfl
theorem rA285 {b : Nat} {V : Vw} {lw : Option Nat} {R : Hp} {z : Int} (h0 : 0 ≤ z) (h1 : z < 9) : hp_aI (Wd b V lw R) (some (b + 285)) 0 (I z) = some (I (V 285 z.toNat)) := rdA (n := 9) (by decide) h0 h1 (by decide)
theorem wA285 {b : Nat} {V : Vw} {lw : Option Nat} {R : Hp} {z x : Int} (h0 : 0 ≤ z) (h1 : z < 9) : hp_sI (Wd b V lw R) (some (b + 285)) 0 (I z) (I x) = some (Wd b (up V 285 z.toNat x) lw R) := wrA (n := 9) (by decide) h0 h1 (by decide) rfl
theorem rA286 {b : Nat} {V : Vw} {lw : Option Nat} {R : Hp} {z : Int} (h0 : 0 ≤ z) (h1 : z < 48) : hp_aI (Wd b V lw R) (some (b + 286)) 0 (I z) = some (I (V 286 z.toNat)) := rdA (n := 48) (by decide) h0 h1 (by decide)
theorem wA286 {b : Nat} {V : Vw} {lw : Option Nat} {R : Hp} {z x : Int} (h0 : 0 ≤ z) (h1 : z < 48) : hp_sI (Wd b V lw R) (some (b + 286)) 0 (I z) (I x) = some (Wd b (up V 286 z.toNat x) lw R) := wrA (n := 48) (by decide) h0 h1 (by decide) rfl
theorem rA287 {b : Nat} {V : Vw} {lw : Option Nat} {R : Hp} {z : Int} (h0 : 0 ≤ z) (h1 : z < 384) : hp_aI (Wd b V lw R) (some (b + 287)) 0 (I z) = some (I (V 287 z.toNat)) := rdA (n := 384) (by decide) h0 h1 (by decide)
theorem wA287 {b : Nat} {V : Vw} {lw : Option Nat} {R : Hp} {z x : Int} (h0 : 0 ≤ z) (h1 : z < 384) : hp_sI (Wd b V lw R) (some (b + 287)) 0 (I z) (I x) = some (Wd b (up V 287 z.toNat x) lw R) := wrA (n := 384) (by decide) h0 h1 (by decide) rfl
theorem rA288 {b : Nat} {V : Vw} {lw : Option Nat} {R : Hp} {z : Int} (h0 : 0 ≤ z) (h1 : z < 384) : hp_aI (Wd b V lw R) (some (b + 288)) 0 (I z) = some (I (V 288 z.toNat)) := rdA (n := 384) (by decide) h0 h1 (by decide)
theorem wA288 {b : Nat} {V : Vw} {lw : Option Nat} {R : Hp} {z x : Int} (h0 : 0 ≤ z) (h1 : z < 384) : hp_sI (Wd b V lw R) (some (b + 288)) 0 (I z) (I x) = some (Wd b (up V 288 z.toNat x) lw R) := wrA (n := 384) (by decide) h0 h1 (by decide) rfl
theorem rA289 {b : Nat} {V : Vw} {lw : Option Nat} {R : Hp} {z : Int} (h0 : 0 ≤ z) (h1 : z < 8) : hp_aI (Wd b V lw R) (some (b + 289)) 0 (I z) = some (I (V 289 z.toNat)) := rdA (n := 8) (by decide) h0 h1 (by decide)
theorem wA289 {b : Nat} {V : Vw} {lw : Option Nat} {R : Hp} {z x : Int} (h0 : 0 ≤ z) (h1 : z < 8) : hp_sI (Wd b V lw R) (some (b + 289)) 0 (I z) (I x) = some (Wd b (up V 289 z.toNat x) lw R) := wrA (n := 8) (by decide) h0 h1 (by decide) rfl
theorem rA290 {b : Nat} {V : Vw} {lw : Option Nat} {R : Hp} {z : Int} (h0 : 0 ≤ z) (h1 : z < 8) : hp_aI (Wd b V lw R) (some (b + 290)) 0 (I z) = some (I (V 290 z.toNat)) := rdA (n := 8) (by decide) h0 h1 (by decide)
theorem wA290 {b : Nat} {V : Vw} {lw : Option Nat} {R : Hp} {z x : Int} (h0 : 0 ≤ z) (h1 : z < 8) : hp_sI (Wd b V lw R) (some (b + 290)) 0 (I z) (I x) = some (Wd b (up V 290 z.toNat x) lw R) := wrA (n := 8) (by decide) h0 h1 (by decide) rfl
theorem rA291 {b : Nat} {V : Vw} {lw : Option Nat} {R : Hp} {z : Int} (h0 : 0 ≤ z) (h1 : z < 48) : hp_aI (Wd b V lw R) (some (b + 291)) 0 (I z) = some (I (V 291 z.toNat)) := rdA (n := 48) (by decide) h0 h1 (by decide)
theorem wA291 {b : Nat} {V : Vw} {lw : Option Nat} {R : Hp} {z x : Int} (h0 : 0 ≤ z) (h1 : z < 48) : hp_sI (Wd b V lw R) (some (b + 291)) 0 (I z) (I x) = some (Wd b (up V 291 z.toNat x) lw R) := wrA (n := 48) (by decide) h0 h1 (by decide) rfl
theorem rA292 {b : Nat} {V : Vw} {lw : Option Nat} {R : Hp} {z : Int} (h0 : 0 ≤ z) (h1 : z < 48) : hp_aI (Wd b V lw R) (some (b + 292)) 2 (I z) = some (I (V 292 z.toNat)) := rdA (n := 48) (by decide) h0 h1 (by decide)
theorem wA292 {b : Nat} {V : Vw} {lw : Option Nat} {R : Hp} {z x : Int} (h0 : 0 ≤ z) (h1 : z < 48) (hx : x = 0 ∨ x = 1) : hp_sI (Wd b V lw R) (some (b + 292)) 2 (I z) (I x) = some (Wd b (up V 292 z.toNat x) lw R) := wrA (n := 48) (by decide) h0 h1 (by decide) (nar2 hx)
theorem rA293 {b : Nat} {V : Vw} {lw : Option Nat} {R : Hp} {z : Int} (h0 : 0 ≤ z) (h1 : z < 12) : hp_aI (Wd b V lw R) (some (b + 293)) 0 (I z) = some (I (V 293 z.toNat)) := rdA (n := 12) (by decide) h0 h1 (by decide)
theorem wA293 {b : Nat} {V : Vw} {lw : Option Nat} {R : Hp} {z x : Int} (h0 : 0 ≤ z) (h1 : z < 12) : hp_sI (Wd b V lw R) (some (b + 293)) 0 (I z) (I x) = some (Wd b (up V 293 z.toNat x) lw R) := wrA (n := 12) (by decide) h0 h1 (by decide) rfl
theorem rA294 {b : Nat} {V : Vw} {lw : Option Nat} {R : Hp} {z : Int} (h0 : 0 ≤ z) (h1 : z < 48) : hp_aI (Wd b V lw R) (some (b + 294)) 0 (I z) = some (I (V 294 z.toNat)) := rdA (n := 48) (by decide) h0 h1 (by decide)
theorem wA294 {b : Nat} {V : Vw} {lw : Option Nat} {R : Hp} {z x : Int} (h0 : 0 ≤ z) (h1 : z < 48) : hp_sI (Wd b V lw R) (some (b + 294)) 0 (I z) (I x) = some (Wd b (up V 294 z.toNat x) lw R) := wrA (n := 48) (by decide) h0 h1 (by decide) rfl
theorem rA295 {b : Nat} {V : Vw} {lw : Option Nat} {R : Hp} {z : Int} (h0 : 0 ≤ z) (h1 : z < 10) : hp_aI (Wd b V lw R) (some (b + 295)) 0 (I z) = some (I (V 295 z.toNat)) := rdA (n := 10) (by decide) h0 h1 (by decide)
theorem wA295 {b : Nat} {V : Vw} {lw : Option Nat} {R : Hp} {z x : Int} (h0 : 0 ≤ z) (h1 : z < 10) : hp_sI (Wd b V lw R) (some (b + 295)) 0 (I z) (I x) = some (Wd b (up V 295 z.toNat x) lw R) := wrA (n := 10) (by decide) h0 h1 (by decide) rfl
theorem rA296 {b : Nat} {V : Vw} {lw : Option Nat} {R : Hp} {z : Int} (h0 : 0 ≤ z) (h1 : z < 10) : hp_aI (Wd b V lw R) (some (b + 296)) 0 (I z) = some (I (V 296 z.toNat)) := rdA (n := 10) (by decide) h0 h1 (by decide)
theorem wA296 {b : Nat} {V : Vw} {lw : Option Nat} {R : Hp} {z x : Int} (h0 : 0 ≤ z) (h1 : z < 10) : hp_sI (Wd b V lw R) (some (b + 296)) 0 (I z) (I x) = some (Wd b (up V 296 z.toNat x) lw R) := wrA (n := 10) (by decide) h0 h1 (by decide) rfl
theorem rA297 {b : Nat} {V : Vw} {lw : Option Nat} {R : Hp} {z : Int} (h0 : 0 ≤ z) (h1 : z < 48) : hp_aI (Wd b V lw R) (some (b + 297)) 0 (I z) = some (I (V 297 z.toNat)) := rdA (n := 48) (by decide) h0 h1 (by decide)
theorem wA297 {b : Nat} {V : Vw} {lw : Option Nat} {R : Hp} {z x : Int} (h0 : 0 ≤ z) (h1 : z < 48) : hp_sI (Wd b V lw R) (some (b + 297)) 0 (I z) (I x) = some (Wd b (up V 297 z.toNat x) lw R) := wrA (n := 48) (by decide) h0 h1 (by decide) rfl
theorem rA298 {b : Nat} {V : Vw} {lw : Option Nat} {R : Hp} {z : Int} (h0 : 0 ≤ z) (h1 : z < 48) : hp_aI (Wd b V lw R) (some (b + 298)) 0 (I z) = some (I (V 298 z.toNat)) := rdA (n := 48) (by decide) h0 h1 (by decide)
theorem wA298 {b : Nat} {V : Vw} {lw : Option Nat} {R : Hp} {z x : Int} (h0 : 0 ≤ z) (h1 : z < 48) : hp_sI (Wd b V lw R) (some (b + 298)) 0 (I z) (I x) = some (Wd b (up V 298 z.toNat x) lw R) := wrA (n := 48) (by decide) h0 h1 (by decide) rfl
theorem rA299 {b : Nat} {V : Vw} {lw : Option Nat} {R : Hp} {z : Int} (h0 : 0 ≤ z) (h1 : z < 1440) : hp_aI (Wd b V lw R) (some (b + 299)) 2 (I z) = some (I (V 299 z.toNat)) := rdA (n := 1440) (by decide) h0 h1 (by decide)
theorem wA299 {b : Nat} {V : Vw} {lw : Option Nat} {R : Hp} {z x : Int} (h0 : 0 ≤ z) (h1 : z < 1440) (hx : x = 0 ∨ x = 1) : hp_sI (Wd b V lw R) (some (b + 299)) 2 (I z) (I x) = some (Wd b (up V 299 z.toNat x) lw R) := wrA (n := 1440) (by decide) h0 h1 (by decide) (nar2 hx)
theorem rA300 {b : Nat} {V : Vw} {lw : Option Nat} {R : Hp} {z : Int} (h0 : 0 ≤ z) (h1 : z < 48) : hp_aI (Wd b V lw R) (some (b + 300)) 0 (I z) = some (I (V 300 z.toNat)) := rdA (n := 48) (by decide) h0 h1 (by decide)
theorem wA300 {b : Nat} {V : Vw} {lw : Option Nat} {R : Hp} {z x : Int} (h0 : 0 ≤ z) (h1 : z < 48) : hp_sI (Wd b V lw R) (some (b + 300)) 0 (I z) (I x) = some (Wd b (up V 300 z.toNat x) lw R) := wrA (n := 48) (by decide) h0 h1 (by decide) rfl
theorem rA301 {b : Nat} {V : Vw} {lw : Option Nat} {R : Hp} {z : Int} (h0 : 0 ≤ z) (h1 : z < 48) : hp_aI (Wd b V lw R) (some (b + 301)) 0 (I z) = some (I (V 301 z.toNat)) := rdA (n := 48) (by decide) h0 h1 (by decide)
theorem wA301 {b : Nat} {V : Vw} {lw : Option Nat} {R : Hp} {z x : Int} (h0 : 0 ≤ z) (h1 : z < 48) : hp_sI (Wd b V lw R) (some (b + 301)) 0 (I z) (I x) = some (Wd b (up V 301 z.toNat x) lw R) := wrA (n := 48) (by decide) h0 h1 (by decide) rfl
theorem rA302 {b : Nat} {V : Vw} {lw : Option Nat} {R : Hp} {z : Int} (h0 : 0 ≤ z) (h1 : z < 48) : hp_aI (Wd b V lw R) (some (b + 302)) 0 (I z) = some (I (V 302 z.toNat)) := rdA (n := 48) (by decide) h0 h1 (by decide)
theorem wA302 {b : Nat} {V : Vw} {lw : Option Nat} {R : Hp} {z x : Int} (h0 : 0 ≤ z) (h1 : z < 48) : hp_sI (Wd b V lw R) (some (b + 302)) 0 (I z) (I x) = some (Wd b (up V 302 z.toNat x) lw R) := wrA (n := 48) (by decide) h0 h1 (by decide) rfl
theorem rA303 {b : Nat} {V : Vw} {lw : Option Nat} {R : Hp} {z : Int} (h0 : 0 ≤ z) (h1 : z < 384) : hp_aI (Wd b V lw R) (some (b + 303)) 0 (I z) = some (I (V 303 z.toNat)) := rdA (n := 384) (by decide) h0 h1 (by decide)
theorem wA303 {b : Nat} {V : Vw} {lw : Option Nat} {R : Hp} {z x : Int} (h0 : 0 ≤ z) (h1 : z < 384) : hp_sI (Wd b V lw R) (some (b + 303)) 0 (I z) (I x) = some (Wd b (up V 303 z.toNat x) lw R) := wrA (n := 384) (by decide) h0 h1 (by decide) rfl
theorem rA304 {b : Nat} {V : Vw} {lw : Option Nat} {R : Hp} {z : Int} (h0 : 0 ≤ z) (h1 : z < 61) : hp_aI (Wd b V lw R) (some (b + 304)) 0 (I z) = some (I (V 304 z.toNat)) := rdA (n := 61) (by decide) h0 h1 (by decide)
theorem wA304 {b : Nat} {V : Vw} {lw : Option Nat} {R : Hp} {z x : Int} (h0 : 0 ≤ z) (h1 : z < 61) : hp_sI (Wd b V lw R) (some (b + 304)) 0 (I z) (I x) = some (Wd b (up V 304 z.toNat x) lw R) := wrA (n := 61) (by decide) h0 h1 (by decide) rfl
theorem cO0 {b : Nat} {V : Vw} {lw : Option Nat} {R : Hp} : hp_cls (Wd b V lw R) (some (b)) = some 0 := clO (o := 0) (n := 22) (by decide)
theorem on0 {α : Type} {b : Nat} {V : Vw} {lw : Option Nat} {R : Hp} {x : Option α} : hp_on (Wd b V lw R) (some (b)) 0 x = x := if_pos cO0
theorem gR0_0 {b : Nat} {V : Vw} {lw : Option Nat} {R : Hp} : hp_gR (Wd b V lw R) (some (b)) 0 0 = some (some (b + 1)) := rdR (o := 0) (n := 22) (x := 1) (by decide) (by decide) (by decide) (by decide)
theorem gR0_1 {b : Nat} {V : Vw} {lw : Option Nat} {R : Hp} : hp_gR (Wd b V lw R) (some (b)) 0 1 = some (some (b + 2)) := rdR (o := 0) (n := 22) (x := 2) (by decide) (by decide) (by decide) (by decide)
theorem gR0_2 {b : Nat} {V : Vw} {lw : Option Nat} {R : Hp} : hp_gR (Wd b V lw R) (some (b)) 0 2 = some (some (b + 3)) := rdR (o := 0) (n := 22) (x := 3) (by decide) (by decide) (by decide) (by decide)
theorem gI0_3 {b : Nat} {V : Vw} {lw : Option Nat} {R : Hp} : hp_gI (Wd b V lw R) (some (b)) 0 3 = some (I (V 0 3)) := rdI (o := 0) (n := 22) (by decide) (by decide) (by decide) (by decide)
theorem pI0_3 {b : Nat} {V : Vw} {lw : Option Nat} {R : Hp} {x : Int} : hp_pI (Wd b V lw R) (some (b)) 0 3 (I x) = some (Wd b (up V 0 3 x) lw R) := wrI (o := 0) (n := 22) (by decide) (by decide) (by decide) (by decide)
theorem gI0_4 {b : Nat} {V : Vw} {lw : Option Nat} {R : Hp} : hp_gI (Wd b V lw R) (some (b)) 0 4 = some (I (V 0 4)) := rdI (o := 0) (n := 22) (by decide) (by decide) (by decide) (by decide)
theorem pI0_4 {b : Nat} {V : Vw} {lw : Option Nat} {R : Hp} {x : Int} : hp_pI (Wd b V lw R) (some (b)) 0 4 (I x) = some (Wd b (up V 0 4 x) lw R) := wrI (o := 0) (n := 22) (by decide) (by decide) (by decide) (by decide)
theorem gI0_5 {b : Nat} {V : Vw} {lw : Option Nat} {R : Hp} : hp_gI (Wd b V lw R) (some (b)) 0 5 = some (I (V 0 5)) := rdI (o := 0) (n := 22) (by decide) (by decide) (by decide) (by decide)
theorem pI0_5 {b : Nat} {V : Vw} {lw : Option Nat} {R : Hp} {x : Int} : hp_pI (Wd b V lw R) (some (b)) 0 5 (I x) = some (Wd b (up V 0 5 x) lw R) := wrI (o := 0) (n := 22) (by decide) (by decide) (by decide) (by decide)
theorem gR0_6 {b : Nat} {V : Vw} {lw : Option Nat} {R : Hp} : hp_gR (Wd b V lw R) (some (b)) 0 6 = some (some (b + 4)) := rdR (o := 0) (n := 22) (x := 4) (by decide) (by decide) (by decide) (by decide)
theorem gR0_7 {b : Nat} {V : Vw} {lw : Option Nat} {R : Hp} : hp_gR (Wd b V lw R) (some (b)) 0 7 = some (some (b + 5)) := rdR (o := 0) (n := 22) (x := 5) (by decide) (by decide) (by decide) (by decide)
theorem gR0_8 {b : Nat} {V : Vw} {lw : Option Nat} {R : Hp} : hp_gR (Wd b V lw R) (some (b)) 0 8 = some (some (b + 21)) := rdR (o := 0) (n := 22) (x := 21) (by decide) (by decide) (by decide) (by decide)
theorem gR0_9 {b : Nat} {V : Vw} {lw : Option Nat} {R : Hp} : hp_gR (Wd b V lw R) (some (b)) 0 9 = some (some (b + 37)) := rdR (o := 0) (n := 22) (x := 37) (by decide) (by decide) (by decide) (by decide)
theorem gR0_10 {b : Nat} {V : Vw} {lw : Option Nat} {R : Hp} : hp_gR (Wd b V lw R) (some (b)) 0 10 = some (some (b + 53)) := rdR (o := 0) (n := 22) (x := 53) (by decide) (by decide) (by decide) (by decide)
theorem gI0_12 {b : Nat} {V : Vw} {lw : Option Nat} {R : Hp} : hp_gI (Wd b V lw R) (some (b)) 0 12 = some (I (V 0 12)) := rdI (o := 0) (n := 22) (by decide) (by decide) (by decide) (by decide)
theorem pI0_12 {b : Nat} {V : Vw} {lw : Option Nat} {R : Hp} {x : Int} : hp_pI (Wd b V lw R) (some (b)) 0 12 (I x) = some (Wd b (up V 0 12 x) lw R) := wrI (o := 0) (n := 22) (by decide) (by decide) (by decide) (by decide)
theorem gI0_13 {b : Nat} {V : Vw} {lw : Option Nat} {R : Hp} : hp_gI (Wd b V lw R) (some (b)) 0 13 = some (I (V 0 13)) := rdI (o := 0) (n := 22) (by decide) (by decide) (by decide) (by decide)
theorem pI0_13 {b : Nat} {V : Vw} {lw : Option Nat} {R : Hp} {x : Int} : hp_pI (Wd b V lw R) (some (b)) 0 13 (I x) = some (Wd b (up V 0 13 x) lw R) := wrI (o := 0) (n := 22) (by decide) (by decide) (by decide) (by decide)
theorem gR0_14 {b : Nat} {V : Vw} {lw : Option Nat} {R : Hp} : hp_gR (Wd b V lw R) (some (b)) 0 14 = some (some (b + 58)) := rdR (o := 0) (n := 22) (x := 58) (by decide) (by decide) (by decide) (by decide)
theorem gR0_15 {b : Nat} {V : Vw} {lw : Option Nat} {R : Hp} : hp_gR (Wd b V lw R) (some (b)) 0 15 = some (some (b + 59)) := rdR (o := 0) (n := 22) (x := 59) (by decide) (by decide) (by decide) (by decide)
theorem gR0_16 {b : Nat} {V : Vw} {lw : Option Nat} {R : Hp} : hp_gR (Wd b V lw R) (some (b)) 0 16 = some (some (b + 60)) := rdR (o := 0) (n := 22) (x := 60) (by decide) (by decide) (by decide) (by decide)
theorem gR0_17 {b : Nat} {V : Vw} {lw : Option Nat} {R : Hp} : hp_gR (Wd b V lw R) (some (b)) 0 17 = some (some (b + 61)) := rdR (o := 0) (n := 22) (x := 61) (by decide) (by decide) (by decide) (by decide)
theorem gR0_18 {b : Nat} {V : Vw} {lw : Option Nat} {R : Hp} : hp_gR (Wd b V lw R) (some (b)) 0 18 = some (some (b + 62)) := rdR (o := 0) (n := 22) (x := 62) (by decide) (by decide) (by decide) (by decide)
theorem gR0_19 {b : Nat} {V : Vw} {lw : Option Nat} {R : Hp} : hp_gR (Wd b V lw R) (some (b)) 0 19 = some (some (b + 63)) := rdR (o := 0) (n := 22) (x := 63) (by decide) (by decide) (by decide) (by decide)
theorem gR0_20 {b : Nat} {V : Vw} {lw : Option Nat} {R : Hp} : hp_gR (Wd b V lw R) (some (b)) 0 20 = some (some (b + 64)) := rdR (o := 0) (n := 22) (x := 64) (by decide) (by decide) (by decide) (by decide)
theorem gR0_21 {b : Nat} {V : Vw} {lw : Option Nat} {R : Hp} : hp_gR (Wd b V lw R) (some (b)) 0 21 = some (some (b + 113)) := rdR (o := 0) (n := 22) (x := 113) (by decide) (by decide) (by decide) (by decide)
theorem cO4 {b : Nat} {V : Vw} {lw : Option Nat} {R : Hp} : hp_cls (Wd b V lw R) (some (b + 4)) = some 1 := clO (o := 4) (n := 10) (by decide)
theorem on4 {α : Type} {b : Nat} {V : Vw} {lw : Option Nat} {R : Hp} {x : Option α} : hp_on (Wd b V lw R) (some (b + 4)) 1 x = x := if_pos cO4
theorem gI4_0 {b : Nat} {V : Vw} {lw : Option Nat} {R : Hp} : hp_gI (Wd b V lw R) (some (b + 4)) 1 0 = some (I (V 4 0)) := rdI (o := 4) (n := 10) (by decide) (by decide) (by decide) (by decide)
theorem pI4_0 {b : Nat} {V : Vw} {lw : Option Nat} {R : Hp} {x : Int} : hp_pI (Wd b V lw R) (some (b + 4)) 1 0 (I x) = some (Wd b (up V 4 0 x) lw R) := wrI (o := 4) (n := 10) (by decide) (by decide) (by decide) (by decide)
theorem gI4_1 {b : Nat} {V : Vw} {lw : Option Nat} {R : Hp} : hp_gI (Wd b V lw R) (some (b + 4)) 1 1 = some (I (V 4 1)) := rdI (o := 4) (n := 10) (by decide) (by decide) (by decide) (by decide)
theorem pI4_1 {b : Nat} {V : Vw} {lw : Option Nat} {R : Hp} {x : Int} : hp_pI (Wd b V lw R) (some (b + 4)) 1 1 (I x) = some (Wd b (up V 4 1 x) lw R) := wrI (o := 4) (n := 10) (by decide) (by decide) (by decide) (by decide)
theorem gI4_2 {b : Nat} {V : Vw} {lw : Option Nat} {R : Hp} : hp_gI (Wd b V lw R) (some (b + 4)) 1 2 = some (I (V 4 2)) := rdI (o := 4) (n := 10) (by decide) (by decide) (by decide) (by decide)
theorem pI4_2 {b : Nat} {V : Vw} {lw : Option Nat} {R : Hp} {x : Int} : hp_pI (Wd b V lw R) (some (b + 4)) 1 2 (I x) = some (Wd b (up V 4 2 x) lw R) := wrI (o := 4) (n := 10) (by decide) (by decide) (by decide) (by decide)
theorem gI4_3 {b : Nat} {V : Vw} {lw : Option Nat} {R : Hp} : hp_gI (Wd b V lw R) (some (b + 4)) 1 3 = some (I (V 4 3)) := rdI (o := 4) (n := 10) (by decide) (by decide) (by decide) (by decide)
theorem pI4_3 {b : Nat} {V : Vw} {lw : Option Nat} {R : Hp} {x : Int} : hp_pI (Wd b V lw R) (some (b + 4)) 1 3 (I x) = some (Wd b (up V 4 3 x) lw R) := wrI (o := 4) (n := 10) (by decide) (by decide) (by decide) (by decide)
theorem gI4_4 {b : Nat} {V : Vw} {lw : Option Nat} {R : Hp} : hp_gI (Wd b V lw R) (some (b + 4)) 1 4 = some (I (V 4 4)) := rdI (o := 4) (n := 10) (by decide) (by decide) (by decide) (by decide)
theorem pI4_4 {b : Nat} {V : Vw} {lw : Option Nat} {R : Hp} {x : Int} : hp_pI (Wd b V lw R) (some (b + 4)) 1 4 (I x) = some (Wd b (up V 4 4 x) lw R) := wrI (o := 4) (n := 10) (by decide) (by decide) (by decide) (by decide)
theorem gI4_5 {b : Nat} {V : Vw} {lw : Option Nat} {R : Hp} : hp_gI (Wd b V lw R) (some (b + 4)) 1 5 = some (I (V 4 5)) := rdI (o := 4) (n := 10) (by decide) (by decide) (by decide) (by decide)
theorem pI4_5 {b : Nat} {V : Vw} {lw : Option Nat} {R : Hp} {x : Int} : hp_pI (Wd b V lw R) (some (b + 4)) 1 5 (I x) = some (Wd b (up V 4 5 x) lw R) := wrI (o := 4) (n := 10) (by decide) (by decide) (by decide) (by decide)
theorem gI4_6 {b : Nat} {V : Vw} {lw : Option Nat} {R : Hp} : hp_gI (Wd b V lw R) (some (b + 4)) 1 6 = some (I (V 4 6)) := rdI (o := 4) (n := 10) (by decide) (by decide) (by decide) (by decide)
theorem pI4_6 {b : Nat} {V : Vw} {lw : Option Nat} {R : Hp} {x : Int} : hp_pI (Wd b V lw R) (some (b + 4)) 1 6 (I x) = some (Wd b (up V 4 6 x) lw R) := wrI (o := 4) (n := 10) (by decide) (by decide) (by decide) (by decide)
theorem gI4_7 {b : Nat} {V : Vw} {lw : Option Nat} {R : Hp} : hp_gI (Wd b V lw R) (some (b + 4)) 1 7 = some (I (V 4 7)) := rdI (o := 4) (n := 10) (by decide) (by decide) (by decide) (by decide)
theorem pI4_7 {b : Nat} {V : Vw} {lw : Option Nat} {R : Hp} {x : Int} : hp_pI (Wd b V lw R) (some (b + 4)) 1 7 (I x) = some (Wd b (up V 4 7 x) lw R) := wrI (o := 4) (n := 10) (by decide) (by decide) (by decide) (by decide)
theorem gI4_8 {b : Nat} {V : Vw} {lw : Option Nat} {R : Hp} : hp_gI (Wd b V lw R) (some (b + 4)) 1 8 = some (I (V 4 8)) := rdI (o := 4) (n := 10) (by decide) (by decide) (by decide) (by decide)
theorem pI4_8 {b : Nat} {V : Vw} {lw : Option Nat} {R : Hp} {x : Int} : hp_pI (Wd b V lw R) (some (b + 4)) 1 8 (I x) = some (Wd b (up V 4 8 x) lw R) := wrI (o := 4) (n := 10) (by decide) (by decide) (by decide) (by decide)
theorem gI4_9 {b : Nat} {V : Vw} {lw : Option Nat} {R : Hp} : hp_gI (Wd b V lw R) (some (b + 4)) 1 9 = some (I (V 4 9)) := rdI (o := 4) (n := 10) (by decide) (by decide) (by decide) (by decide)
theorem pI4_9 {b : Nat} {V : Vw} {lw : Option Nat} {R : Hp} {x : Int} : hp_pI (Wd b V lw R) (some (b + 4)) 1 9 (I x) = some (Wd b (up V 4 9 x) lw R) := wrI (o := 4) (n := 10) (by decide) (by decide) (by decide) (by decide)
theorem cO5 {b : Nat} {V : Vw} {lw : Option Nat} {R : Hp} : hp_cls (Wd b V lw R) (some (b + 5)) = some 2 := clO (o := 5) (n := 9) (by decide)
theorem on5 {α : Type} {b : Nat} {V : Vw} {lw : Option Nat} {R : Hp} {x : Option α} : hp_on (Wd b V lw R) (some (b + 5)) 2 x = x := if_pos cO5
theorem gR5_0 {b : Nat} {V : Vw} {lw : Option Nat} {R : Hp} : hp_gR (Wd b V lw R) (some (b + 5)) 2 0 = some (some (b + 6)) := rdR (o := 5) (n := 9) (x := 6) (by decide) (by decide) (by decide) (by decide)
theorem gR5_1 {b : Nat} {V : Vw} {lw : Option Nat} {R : Hp} : hp_gR (Wd b V lw R) (some (b + 5)) 2 1 = some (some (b + 7)) := rdR (o := 5) (n := 9) (x := 7) (by decide) (by decide) (by decide) (by decide)
theorem gR5_2 {b : Nat} {V : Vw} {lw : Option Nat} {R : Hp} : hp_gR (Wd b V lw R) (some (b + 5)) 2 2 = some (some (b + 8)) := rdR (o := 5) (n := 9) (x := 8) (by decide) (by decide) (by decide) (by decide)
theorem gI5_3 {b : Nat} {V : Vw} {lw : Option Nat} {R : Hp} : hp_gI (Wd b V lw R) (some (b + 5)) 2 3 = some (I (V 5 3)) := rdI (o := 5) (n := 9) (by decide) (by decide) (by decide) (by decide)
theorem pI5_3 {b : Nat} {V : Vw} {lw : Option Nat} {R : Hp} {x : Int} : hp_pI (Wd b V lw R) (some (b + 5)) 2 3 (I x) = some (Wd b (up V 5 3 x) lw R) := wrI (o := 5) (n := 9) (by decide) (by decide) (by decide) (by decide)
theorem gI5_4 {b : Nat} {V : Vw} {lw : Option Nat} {R : Hp} : hp_gI (Wd b V lw R) (some (b + 5)) 2 4 = some (I (V 5 4)) := rdI (o := 5) (n := 9) (by decide) (by decide) (by decide) (by decide)
theorem pI5_4 {b : Nat} {V : Vw} {lw : Option Nat} {R : Hp} {x : Int} : hp_pI (Wd b V lw R) (some (b + 5)) 2 4 (I x) = some (Wd b (up V 5 4 x) lw R) := wrI (o := 5) (n := 9) (by decide) (by decide) (by decide) (by decide)
theorem gI5_5 {b : Nat} {V : Vw} {lw : Option Nat} {R : Hp} : hp_gI (Wd b V lw R) (some (b + 5)) 2 5 = some (I (V 5 5)) := rdI (o := 5) (n := 9) (by decide) (by decide) (by decide) (by decide)
theorem pI5_5 {b : Nat} {V : Vw} {lw : Option Nat} {R : Hp} {x : Int} : hp_pI (Wd b V lw R) (some (b + 5)) 2 5 (I x) = some (Wd b (up V 5 5 x) lw R) := wrI (o := 5) (n := 9) (by decide) (by decide) (by decide) (by decide)
theorem gI5_6 {b : Nat} {V : Vw} {lw : Option Nat} {R : Hp} : hp_gI (Wd b V lw R) (some (b + 5)) 2 6 = some (I (V 5 6)) := rdI (o := 5) (n := 9) (by decide) (by decide) (by decide) (by decide)
theorem pI5_6 {b : Nat} {V : Vw} {lw : Option Nat} {R : Hp} {x : Int} : hp_pI (Wd b V lw R) (some (b + 5)) 2 6 (I x) = some (Wd b (up V 5 6 x) lw R) := wrI (o := 5) (n := 9) (by decide) (by decide) (by decide) (by decide)
theorem gI5_7 {b : Nat} {V : Vw} {lw : Option Nat} {R : Hp} : hp_gI (Wd b V lw R) (some (b + 5)) 2 7 = some (I (V 5 7)) := rdI (o := 5) (n := 9) (by decide) (by decide) (by decide) (by decide)
theorem pI5_7 {b : Nat} {V : Vw} {lw : Option Nat} {R : Hp} {x : Int} : hp_pI (Wd b V lw R) (some (b + 5)) 2 7 (I x) = some (Wd b (up V 5 7 x) lw R) := wrI (o := 5) (n := 9) (by decide) (by decide) (by decide) (by decide)
theorem gR5_8 {b : Nat} {V : Vw} {lw : Option Nat} {R : Hp} : hp_gR (Wd b V lw R) (some (b + 5)) 2 8 = some (some (b)) := rdR (o := 5) (n := 9) (x := 0) (by decide) (by decide) (by decide) (by decide)
theorem cO21 {b : Nat} {V : Vw} {lw : Option Nat} {R : Hp} : hp_cls (Wd b V lw R) (some (b + 21)) = some 2 := clO (o := 21) (n := 9) (by decide)
theorem on21 {α : Type} {b : Nat} {V : Vw} {lw : Option Nat} {R : Hp} {x : Option α} : hp_on (Wd b V lw R) (some (b + 21)) 2 x = x := if_pos cO21
theorem gR21_0 {b : Nat} {V : Vw} {lw : Option Nat} {R : Hp} : hp_gR (Wd b V lw R) (some (b + 21)) 2 0 = some (some (b + 22)) := rdR (o := 21) (n := 9) (x := 22) (by decide) (by decide) (by decide) (by decide)
theorem gR21_1 {b : Nat} {V : Vw} {lw : Option Nat} {R : Hp} : hp_gR (Wd b V lw R) (some (b + 21)) 2 1 = some (some (b + 23)) := rdR (o := 21) (n := 9) (x := 23) (by decide) (by decide) (by decide) (by decide)
theorem gR21_2 {b : Nat} {V : Vw} {lw : Option Nat} {R : Hp} : hp_gR (Wd b V lw R) (some (b + 21)) 2 2 = some (some (b + 24)) := rdR (o := 21) (n := 9) (x := 24) (by decide) (by decide) (by decide) (by decide)
theorem gI21_3 {b : Nat} {V : Vw} {lw : Option Nat} {R : Hp} : hp_gI (Wd b V lw R) (some (b + 21)) 2 3 = some (I (V 21 3)) := rdI (o := 21) (n := 9) (by decide) (by decide) (by decide) (by decide)
theorem pI21_3 {b : Nat} {V : Vw} {lw : Option Nat} {R : Hp} {x : Int} : hp_pI (Wd b V lw R) (some (b + 21)) 2 3 (I x) = some (Wd b (up V 21 3 x) lw R) := wrI (o := 21) (n := 9) (by decide) (by decide) (by decide) (by decide)
theorem gI21_4 {b : Nat} {V : Vw} {lw : Option Nat} {R : Hp} : hp_gI (Wd b V lw R) (some (b + 21)) 2 4 = some (I (V 21 4)) := rdI (o := 21) (n := 9) (by decide) (by decide) (by decide) (by decide)
theorem pI21_4 {b : Nat} {V : Vw} {lw : Option Nat} {R : Hp} {x : Int} : hp_pI (Wd b V lw R) (some (b + 21)) 2 4 (I x) = some (Wd b (up V 21 4 x) lw R) := wrI (o := 21) (n := 9) (by decide) (by decide) (by decide) (by decide)
theorem gI21_5 {b : Nat} {V : Vw} {lw : Option Nat} {R : Hp} : hp_gI (Wd b V lw R) (some (b + 21)) 2 5 = some (I (V 21 5)) := rdI (o := 21) (n := 9) (by decide) (by decide) (by decide) (by decide)
theorem pI21_5 {b : Nat} {V : Vw} {lw : Option Nat} {R : Hp} {x : Int} : hp_pI (Wd b V lw R) (some (b + 21)) 2 5 (I x) = some (Wd b (up V 21 5 x) lw R) := wrI (o := 21) (n := 9) (by decide) (by decide) (by decide) (by decide)
theorem gI21_6 {b : Nat} {V : Vw} {lw : Option Nat} {R : Hp} : hp_gI (Wd b V lw R) (some (b + 21)) 2 6 = some (I (V 21 6)) := rdI (o := 21) (n := 9) (by decide) (by decide) (by decide) (by decide)
theorem pI21_6 {b : Nat} {V : Vw} {lw : Option Nat} {R : Hp} {x : Int} : hp_pI (Wd b V lw R) (some (b + 21)) 2 6 (I x) = some (Wd b (up V 21 6 x) lw R) := wrI (o := 21) (n := 9) (by decide) (by decide) (by decide) (by decide)
theorem gI21_7 {b : Nat} {V : Vw} {lw : Option Nat} {R : Hp} : hp_gI (Wd b V lw R) (some (b + 21)) 2 7 = some (I (V 21 7)) := rdI (o := 21) (n := 9) (by decide) (by decide) (by decide) (by decide)
theorem pI21_7 {b : Nat} {V : Vw} {lw : Option Nat} {R : Hp} {x : Int} : hp_pI (Wd b V lw R) (some (b + 21)) 2 7 (I x) = some (Wd b (up V 21 7 x) lw R) := wrI (o := 21) (n := 9) (by decide) (by decide) (by decide) (by decide)
theorem gR21_8 {b : Nat} {V : Vw} {lw : Option Nat} {R : Hp} : hp_gR (Wd b V lw R) (some (b + 21)) 2 8 = some (some (b)) := rdR (o := 21) (n := 9) (x := 0) (by decide) (by decide) (by decide) (by decide)
theorem cO37 {b : Nat} {V : Vw} {lw : Option Nat} {R : Hp} : hp_cls (Wd b V lw R) (some (b + 37)) = some 2 := clO (o := 37) (n := 9) (by decide)
theorem on37 {α : Type} {b : Nat} {V : Vw} {lw : Option Nat} {R : Hp} {x : Option α} : hp_on (Wd b V lw R) (some (b + 37)) 2 x = x := if_pos cO37
theorem gR37_0 {b : Nat} {V : Vw} {lw : Option Nat} {R : Hp} : hp_gR (Wd b V lw R) (some (b + 37)) 2 0 = some (some (b + 38)) := rdR (o := 37) (n := 9) (x := 38) (by decide) (by decide) (by decide) (by decide)
theorem gR37_1 {b : Nat} {V : Vw} {lw : Option Nat} {R : Hp} : hp_gR (Wd b V lw R) (some (b + 37)) 2 1 = some (some (b + 39)) := rdR (o := 37) (n := 9) (x := 39) (by decide) (by decide) (by decide) (by decide)
theorem gR37_2 {b : Nat} {V : Vw} {lw : Option Nat} {R : Hp} : hp_gR (Wd b V lw R) (some (b + 37)) 2 2 = some (some (b + 40)) := rdR (o := 37) (n := 9) (x := 40) (by decide) (by decide) (by decide) (by decide)
theorem gI37_3 {b : Nat} {V : Vw} {lw : Option Nat} {R : Hp} : hp_gI (Wd b V lw R) (some (b + 37)) 2 3 = some (I (V 37 3)) := rdI (o := 37) (n := 9) (by decide) (by decide) (by decide) (by decide)
theorem pI37_3 {b : Nat} {V : Vw} {lw : Option Nat} {R : Hp} {x : Int} : hp_pI (Wd b V lw R) (some (b + 37)) 2 3 (I x) = some (Wd b (up V 37 3 x) lw R) := wrI (o := 37) (n := 9) (by decide) (by decide) (by decide) (by decide)
theorem gI37_4 {b : Nat} {V : Vw} {lw : Option Nat} {R : Hp} : hp_gI (Wd b V lw R) (some (b + 37)) 2 4 = some (I (V 37 4)) := rdI (o := 37) (n := 9) (by decide) (by decide) (by decide) (by decide)
theorem pI37_4 {b : Nat} {V : Vw} {lw : Option Nat} {R : Hp} {x : Int} : hp_pI (Wd b V lw R) (some (b + 37)) 2 4 (I x) = some (Wd b (up V 37 4 x) lw R) := wrI (o := 37) (n := 9) (by decide) (by decide) (by decide) (by decide)
theorem gI37_5 {b : Nat} {V : Vw} {lw : Option Nat} {R : Hp} : hp_gI (Wd b V lw R) (some (b + 37)) 2 5 = some (I (V 37 5)) := rdI (o := 37) (n := 9) (by decide) (by decide) (by decide) (by decide)
theorem pI37_5 {b : Nat} {V : Vw} {lw : Option Nat} {R : Hp} {x : Int} : hp_pI (Wd b V lw R) (some (b + 37)) 2 5 (I x) = some (Wd b (up V 37 5 x) lw R) := wrI (o := 37) (n := 9) (by decide) (by decide) (by decide) (by decide)
theorem gI37_6 {b : Nat} {V : Vw} {lw : Option Nat} {R : Hp} : hp_gI (Wd b V lw R) (some (b + 37)) 2 6 = some (I (V 37 6)) := rdI (o := 37) (n := 9) (by decide) (by decide) (by decide) (by decide)
theorem pI37_6 {b : Nat} {V : Vw} {lw : Option Nat} {R : Hp} {x : Int} : hp_pI (Wd b V lw R) (some (b + 37)) 2 6 (I x) = some (Wd b (up V 37 6 x) lw R) := wrI (o := 37) (n := 9) (by decide) (by decide) (by decide) (by decide)
theorem gI37_7 {b : Nat} {V : Vw} {lw : Option Nat} {R : Hp} : hp_gI (Wd b V lw R) (some (b + 37)) 2 7 = some (I (V 37 7)) := rdI (o := 37) (n := 9) (by decide) (by decide) (by decide) (by decide)
theorem pI37_7 {b : Nat} {V : Vw} {lw : Option Nat} {R : Hp} {x : Int} : hp_pI (Wd b V lw R) (some (b + 37)) 2 7 (I x) = some (Wd b (up V 37 7 x) lw R) := wrI (o := 37) (n := 9) (by decide) (by decide) (by decide) (by decide)
theorem gR37_8 {b : Nat} {V : Vw} {lw : Option Nat} {R : Hp} : hp_gR (Wd b V lw R) (some (b + 37)) 2 8 = some (some (b)) := rdR (o := 37) (n := 9) (x := 0) (by decide) (by decide) (by decide) (by decide)
theorem cO258 {b : Nat} {V : Vw} {lw : Option Nat} {R : Hp} : hp_cls (Wd b V lw R) (some (b + 258)) = some 6 := clO (o := 258) (n := 66) (by decide)
theorem on258 {α : Type} {b : Nat} {V : Vw} {lw : Option Nat} {R : Hp} {x : Option α} : hp_on (Wd b V lw R) (some (b + 258)) 6 x = x := if_pos cO258
theorem gR258_0 {b : Nat} {V : Vw} {lw : Option Nat} {R : Hp} : hp_gR (Wd b V lw R) (some (b + 258)) 6 0 = some (some (b + 259)) := rdR (o := 258) (n := 66) (x := 259) (by decide) (by decide) (by decide) (by decide)
theorem gR258_1 {b : Nat} {V : Vw} {lw : Option Nat} {R : Hp} : hp_gR (Wd b V lw R) (some (b + 258)) 6 1 = some (some (b + 260)) := rdR (o := 258) (n := 66) (x := 260) (by decide) (by decide) (by decide) (by decide)
theorem gR258_2 {b : Nat} {V : Vw} {lw : Option Nat} {R : Hp} : hp_gR (Wd b V lw R) (some (b + 258)) 6 2 = some (some (b + 261)) := rdR (o := 258) (n := 66) (x := 261) (by decide) (by decide) (by decide) (by decide)
theorem gR258_3 {b : Nat} {V : Vw} {lw : Option Nat} {R : Hp} : hp_gR (Wd b V lw R) (some (b + 258)) 6 3 = some (some (b + 262)) := rdR (o := 258) (n := 66) (x := 262) (by decide) (by decide) (by decide) (by decide)
theorem gR258_4 {b : Nat} {V : Vw} {lw : Option Nat} {R : Hp} : hp_gR (Wd b V lw R) (some (b + 258)) 6 4 = some (some (b + 263)) := rdR (o := 258) (n := 66) (x := 263) (by decide) (by decide) (by decide) (by decide)
theorem gR258_5 {b : Nat} {V : Vw} {lw : Option Nat} {R : Hp} : hp_gR (Wd b V lw R) (some (b + 258)) 6 5 = some (some (b + 264)) := rdR (o := 258) (n := 66) (x := 264) (by decide) (by decide) (by decide) (by decide)
theorem gR258_6 {b : Nat} {V : Vw} {lw : Option Nat} {R : Hp} : hp_gR (Wd b V lw R) (some (b + 258)) 6 6 = some (some (b + 265)) := rdR (o := 258) (n := 66) (x := 265) (by decide) (by decide) (by decide) (by decide)
theorem gR258_7 {b : Nat} {V : Vw} {lw : Option Nat} {R : Hp} : hp_gR (Wd b V lw R) (some (b + 258)) 6 7 = some (some (b + 266)) := rdR (o := 258) (n := 66) (x := 266) (by decide) (by decide) (by decide) (by decide)
theorem gR258_8 {b : Nat} {V : Vw} {lw : Option Nat} {R : Hp} : hp_gR (Wd b V lw R) (some (b + 258)) 6 8 = some (some (b + 267)) := rdR (o := 258) (n := 66) (x := 267) (by decide) (by decide) (by decide) (by decide)
theorem gR258_9 {b : Nat} {V : Vw} {lw : Option Nat} {R : Hp} : hp_gR (Wd b V lw R) (some (b + 258)) 6 9 = some (some (b + 268)) := rdR (o := 258) (n := 66) (x := 268) (by decide) (by decide) (by decide) (by decide)
theorem gR258_10 {b : Nat} {V : Vw} {lw : Option Nat} {R : Hp} : hp_gR (Wd b V lw R) (some (b + 258)) 6 10 = some (some (b + 269)) := rdR (o := 258) (n := 66) (x := 269) (by decide) (by decide) (by decide) (by decide)
theorem gR258_11 {b : Nat} {V : Vw} {lw : Option Nat} {R : Hp} : hp_gR (Wd b V lw R) (some (b + 258)) 6 11 = some (some (b + 270)) := rdR (o := 258) (n := 66) (x := 270) (by decide) (by decide) (by decide) (by decide)
theorem gR258_12 {b : Nat} {V : Vw} {lw : Option Nat} {R : Hp} : hp_gR (Wd b V lw R) (some (b + 258)) 6 12 = some (some (b + 271)) := rdR (o := 258) (n := 66) (x := 271) (by decide) (by decide) (by decide) (by decide)
theorem gI258_13 {b : Nat} {V : Vw} {lw : Option Nat} {R : Hp} : hp_gI (Wd b V lw R) (some (b + 258)) 6 13 = some (I (V 258 13)) := rdI (o := 258) (n := 66) (by decide) (by decide) (by decide) (by decide)
theorem pI258_13 {b : Nat} {V : Vw} {lw : Option Nat} {R : Hp} {x : Int} : hp_pI (Wd b V lw R) (some (b + 258)) 6 13 (I x) = some (Wd b (up V 258 13 x) lw R) := wrI (o := 258) (n := 66) (by decide) (by decide) (by decide) (by decide)
theorem gI258_14 {b : Nat} {V : Vw} {lw : Option Nat} {R : Hp} : hp_gI (Wd b V lw R) (some (b + 258)) 6 14 = some (I (V 258 14)) := rdI (o := 258) (n := 66) (by decide) (by decide) (by decide) (by decide)
theorem pI258_14 {b : Nat} {V : Vw} {lw : Option Nat} {R : Hp} {x : Int} : hp_pI (Wd b V lw R) (some (b + 258)) 6 14 (I x) = some (Wd b (up V 258 14 x) lw R) := wrI (o := 258) (n := 66) (by decide) (by decide) (by decide) (by decide)
theorem gI258_15 {b : Nat} {V : Vw} {lw : Option Nat} {R : Hp} : hp_gI (Wd b V lw R) (some (b + 258)) 6 15 = some (I (V 258 15)) := rdI (o := 258) (n := 66) (by decide) (by decide) (by decide) (by decide)
theorem pI258_15 {b : Nat} {V : Vw} {lw : Option Nat} {R : Hp} {x : Int} : hp_pI (Wd b V lw R) (some (b + 258)) 6 15 (I x) = some (Wd b (up V 258 15 x) lw R) := wrI (o := 258) (n := 66) (by decide) (by decide) (by decide) (by decide)
theorem gR258_16 {b : Nat} {V : Vw} {lw : Option Nat} {R : Hp} : hp_gR (Wd b V lw R) (some (b + 258)) 6 16 = some (some (b + 272)) := rdR (o := 258) (n := 66) (x := 272) (by decide) (by decide) (by decide) (by decide)
theorem gI258_17 {b : Nat} {V : Vw} {lw : Option Nat} {R : Hp} : hp_gI (Wd b V lw R) (some (b + 258)) 6 17 = some (I (V 258 17)) := rdI (o := 258) (n := 66) (by decide) (by decide) (by decide) (by decide)
theorem pI258_17 {b : Nat} {V : Vw} {lw : Option Nat} {R : Hp} {x : Int} : hp_pI (Wd b V lw R) (some (b + 258)) 6 17 (I x) = some (Wd b (up V 258 17 x) lw R) := wrI (o := 258) (n := 66) (by decide) (by decide) (by decide) (by decide)
theorem gI258_18 {b : Nat} {V : Vw} {lw : Option Nat} {R : Hp} : hp_gI (Wd b V lw R) (some (b + 258)) 6 18 = some (I (V 258 18)) := rdI (o := 258) (n := 66) (by decide) (by decide) (by decide) (by decide)
theorem pI258_18 {b : Nat} {V : Vw} {lw : Option Nat} {R : Hp} {x : Int} : hp_pI (Wd b V lw R) (some (b + 258)) 6 18 (I x) = some (Wd b (up V 258 18 x) lw R) := wrI (o := 258) (n := 66) (by decide) (by decide) (by decide) (by decide)
theorem gI258_19 {b : Nat} {V : Vw} {lw : Option Nat} {R : Hp} : hp_gI (Wd b V lw R) (some (b + 258)) 6 19 = some (I (V 258 19)) := rdI (o := 258) (n := 66) (by decide) (by decide) (by decide) (by decide)
theorem pI258_19 {b : Nat} {V : Vw} {lw : Option Nat} {R : Hp} {x : Int} : hp_pI (Wd b V lw R) (some (b + 258)) 6 19 (I x) = some (Wd b (up V 258 19 x) lw R) := wrI (o := 258) (n := 66) (by decide) (by decide) (by decide) (by decide)
theorem gI258_20 {b : Nat} {V : Vw} {lw : Option Nat} {R : Hp} : hp_gI (Wd b V lw R) (some (b + 258)) 6 20 = some (I (V 258 20)) := rdI (o := 258) (n := 66) (by decide) (by decide) (by decide) (by decide)
theorem pI258_20 {b : Nat} {V : Vw} {lw : Option Nat} {R : Hp} {x : Int} : hp_pI (Wd b V lw R) (some (b + 258)) 6 20 (I x) = some (Wd b (up V 258 20 x) lw R) := wrI (o := 258) (n := 66) (by decide) (by decide) (by decide) (by decide)
theorem gI258_21 {b : Nat} {V : Vw} {lw : Option Nat} {R : Hp} : hp_gI (Wd b V lw R) (some (b + 258)) 6 21 = some (I (V 258 21)) := rdI (o := 258) (n := 66) (by decide) (by decide) (by decide) (by decide)
theorem pI258_21 {b : Nat} {V : Vw} {lw : Option Nat} {R : Hp} {x : Int} : hp_pI (Wd b V lw R) (some (b + 258)) 6 21 (I x) = some (Wd b (up V 258 21 x) lw R) := wrI (o := 258) (n := 66) (by decide) (by decide) (by decide) (by decide)
theorem gI258_22 {b : Nat} {V : Vw} {lw : Option Nat} {R : Hp} : hp_gI (Wd b V lw R) (some (b + 258)) 6 22 = some (I (V 258 22)) := rdI (o := 258) (n := 66) (by decide) (by decide) (by decide) (by decide)
theorem pI258_22 {b : Nat} {V : Vw} {lw : Option Nat} {R : Hp} {x : Int} : hp_pI (Wd b V lw R) (some (b + 258)) 6 22 (I x) = some (Wd b (up V 258 22 x) lw R) := wrI (o := 258) (n := 66) (by decide) (by decide) (by decide) (by decide)
theorem gI258_23 {b : Nat} {V : Vw} {lw : Option Nat} {R : Hp} : hp_gI (Wd b V lw R) (some (b + 258)) 6 23 = some (I (V 258 23)) := rdI (o := 258) (n := 66) (by decide) (by decide) (by decide) (by decide)
theorem pI258_23 {b : Nat} {V : Vw} {lw : Option Nat} {R : Hp} {x : Int} : hp_pI (Wd b V lw R) (some (b + 258)) 6 23 (I x) = some (Wd b (up V 258 23 x) lw R) := wrI (o := 258) (n := 66) (by decide) (by decide) (by decide) (by decide)
theorem gI258_24 {b : Nat} {V : Vw} {lw : Option Nat} {R : Hp} : hp_gI (Wd b V lw R) (some (b + 258)) 6 24 = some (I (V 258 24)) := rdI (o := 258) (n := 66) (by decide) (by decide) (by decide) (by decide)
theorem pI258_24 {b : Nat} {V : Vw} {lw : Option Nat} {R : Hp} {x : Int} : hp_pI (Wd b V lw R) (some (b + 258)) 6 24 (I x) = some (Wd b (up V 258 24 x) lw R) := wrI (o := 258) (n := 66) (by decide) (by decide) (by decide) (by decide)
theorem gI258_25 {b : Nat} {V : Vw} {lw : Option Nat} {R : Hp} : hp_gI (Wd b V lw R) (some (b + 258)) 6 25 = some (I (V 258 25)) := rdI (o := 258) (n := 66) (by decide) (by decide) (by decide) (by decide)
theorem pI258_25 {b : Nat} {V : Vw} {lw : Option Nat} {R : Hp} {x : Int} : hp_pI (Wd b V lw R) (some (b + 258)) 6 25 (I x) = some (Wd b (up V 258 25 x) lw R) := wrI (o := 258) (n := 66) (by decide) (by decide) (by decide) (by decide)
theorem gI258_26 {b : Nat} {V : Vw} {lw : Option Nat} {R : Hp} : hp_gI (Wd b V lw R) (some (b + 258)) 6 26 = some (I (V 258 26)) := rdI (o := 258) (n := 66) (by decide) (by decide) (by decide) (by decide)
theorem pI258_26 {b : Nat} {V : Vw} {lw : Option Nat} {R : Hp} {x : Int} : hp_pI (Wd b V lw R) (some (b + 258)) 6 26 (I x) = some (Wd b (up V 258 26 x) lw R) := wrI (o := 258) (n := 66) (by decide) (by decide) (by decide) (by decide)
theorem gR258_27 {b : Nat} {V : Vw} {lw : Option Nat} {R : Hp} : hp_gR (Wd b V lw R) (some (b + 258)) 6 27 = some (some (b + 273)) := rdR (o := 258) (n := 66) (x := 273) (by decide) (by decide) (by decide) (by decide)
theorem gR258_28 {b : Nat} {V : Vw} {lw : Option Nat} {R : Hp} : hp_gR (Wd b V lw R) (some (b + 258)) 6 28 = some (some (b + 274)) := rdR (o := 258) (n := 66) (x := 274) (by decide) (by decide) (by decide) (by decide)
theorem gR258_29 {b : Nat} {V : Vw} {lw : Option Nat} {R : Hp} : hp_gR (Wd b V lw R) (some (b + 258)) 6 29 = some (some (b + 275)) := rdR (o := 258) (n := 66) (x := 275) (by decide) (by decide) (by decide) (by decide)
theorem gR258_30 {b : Nat} {V : Vw} {lw : Option Nat} {R : Hp} : hp_gR (Wd b V lw R) (some (b + 258)) 6 30 = some (some (b + 276)) := rdR (o := 258) (n := 66) (x := 276) (by decide) (by decide) (by decide) (by decide)
theorem gR258_31 {b : Nat} {V : Vw} {lw : Option Nat} {R : Hp} : hp_gR (Wd b V lw R) (some (b + 258)) 6 31 = some (some (b + 277)) := rdR (o := 258) (n := 66) (x := 277) (by decide) (by decide) (by decide) (by decide)
theorem gR258_32 {b : Nat} {V : Vw} {lw : Option Nat} {R : Hp} : hp_gR (Wd b V lw R) (some (b + 258)) 6 32 = some (some (b + 278)) := rdR (o := 258) (n := 66) (x := 278) (by decide) (by decide) (by decide) (by decide)
theorem gR258_33 {b : Nat} {V : Vw} {lw : Option Nat} {R : Hp} : hp_gR (Wd b V lw R) (some (b + 258)) 6 33 = some (some (b + 279)) := rdR (o := 258) (n := 66) (x := 279) (by decide) (by decide) (by decide) (by decide)
theorem gR258_34 {b : Nat} {V : Vw} {lw : Option Nat} {R : Hp} : hp_gR (Wd b V lw R) (some (b + 258)) 6 34 = some (some (b + 280)) := rdR (o := 258) (n := 66) (x := 280) (by decide) (by decide) (by decide) (by decide)
theorem gR258_35 {b : Nat} {V : Vw} {lw : Option Nat} {R : Hp} : hp_gR (Wd b V lw R) (some (b + 258)) 6 35 = some (some (b + 281)) := rdR (o := 258) (n := 66) (x := 281) (by decide) (by decide) (by decide) (by decide)
theorem gR258_36 {b : Nat} {V : Vw} {lw : Option Nat} {R : Hp} : hp_gR (Wd b V lw R) (some (b + 258)) 6 36 = some (some (b + 282)) := rdR (o := 258) (n := 66) (x := 282) (by decide) (by decide) (by decide) (by decide)
theorem gR258_37 {b : Nat} {V : Vw} {lw : Option Nat} {R : Hp} : hp_gR (Wd b V lw R) (some (b + 258)) 6 37 = some (some (b + 283)) := rdR (o := 258) (n := 66) (x := 283) (by decide) (by decide) (by decide) (by decide)
theorem gR258_38 {b : Nat} {V : Vw} {lw : Option Nat} {R : Hp} : hp_gR (Wd b V lw R) (some (b + 258)) 6 38 = some (some (b + 284)) := rdR (o := 258) (n := 66) (x := 284) (by decide) (by decide) (by decide) (by decide)
theorem gR258_39 {b : Nat} {V : Vw} {lw : Option Nat} {R : Hp} : hp_gR (Wd b V lw R) (some (b + 258)) 6 39 = some (some (b + 285)) := rdR (o := 258) (n := 66) (x := 285) (by decide) (by decide) (by decide) (by decide)
theorem gR258_40 {b : Nat} {V : Vw} {lw : Option Nat} {R : Hp} : hp_gR (Wd b V lw R) (some (b + 258)) 6 40 = some (some (b + 286)) := rdR (o := 258) (n := 66) (x := 286) (by decide) (by decide) (by decide) (by decide)
theorem gR258_41 {b : Nat} {V : Vw} {lw : Option Nat} {R : Hp} : hp_gR (Wd b V lw R) (some (b + 258)) 6 41 = some (some (b + 287)) := rdR (o := 258) (n := 66) (x := 287) (by decide) (by decide) (by decide) (by decide)
theorem gR258_42 {b : Nat} {V : Vw} {lw : Option Nat} {R : Hp} : hp_gR (Wd b V lw R) (some (b + 258)) 6 42 = some (some (b + 288)) := rdR (o := 258) (n := 66) (x := 288) (by decide) (by decide) (by decide) (by decide)
theorem gI258_43 {b : Nat} {V : Vw} {lw : Option Nat} {R : Hp} : hp_gI (Wd b V lw R) (some (b + 258)) 6 43 = some (I (V 258 43)) := rdI (o := 258) (n := 66) (by decide) (by decide) (by decide) (by decide)
theorem pI258_43 {b : Nat} {V : Vw} {lw : Option Nat} {R : Hp} {x : Int} : hp_pI (Wd b V lw R) (some (b + 258)) 6 43 (I x) = some (Wd b (up V 258 43 x) lw R) := wrI (o := 258) (n := 66) (by decide) (by decide) (by decide) (by decide)
theorem gI258_44 {b : Nat} {V : Vw} {lw : Option Nat} {R : Hp} : hp_gI (Wd b V lw R) (some (b + 258)) 6 44 = some (I (V 258 44)) := rdI (o := 258) (n := 66) (by decide) (by decide) (by decide) (by decide)
theorem pI258_44 {b : Nat} {V : Vw} {lw : Option Nat} {R : Hp} {x : Int} : hp_pI (Wd b V lw R) (some (b + 258)) 6 44 (I x) = some (Wd b (up V 258 44 x) lw R) := wrI (o := 258) (n := 66) (by decide) (by decide) (by decide) (by decide)
theorem gR258_45 {b : Nat} {V : Vw} {lw : Option Nat} {R : Hp} : hp_gR (Wd b V lw R) (some (b + 258)) 6 45 = some (some (b + 289)) := rdR (o := 258) (n := 66) (x := 289) (by decide) (by decide) (by decide) (by decide)
theorem gR258_46 {b : Nat} {V : Vw} {lw : Option Nat} {R : Hp} : hp_gR (Wd b V lw R) (some (b + 258)) 6 46 = some (some (b + 290)) := rdR (o := 258) (n := 66) (x := 290) (by decide) (by decide) (by decide) (by decide)
theorem gR258_47 {b : Nat} {V : Vw} {lw : Option Nat} {R : Hp} : hp_gR (Wd b V lw R) (some (b + 258)) 6 47 = some (some (b + 291)) := rdR (o := 258) (n := 66) (x := 291) (by decide) (by decide) (by decide) (by decide)
theorem gR258_48 {b : Nat} {V : Vw} {lw : Option Nat} {R : Hp} : hp_gR (Wd b V lw R) (some (b + 258)) 6 48 = some (some (b + 292)) := rdR (o := 258) (n := 66) (x := 292) (by decide) (by decide) (by decide) (by decide)
theorem gI258_49 {b : Nat} {V : Vw} {lw : Option Nat} {R : Hp} : hp_gI (Wd b V lw R) (some (b + 258)) 6 49 = some (I (V 258 49)) := rdI (o := 258) (n := 66) (by decide) (by decide) (by decide) (by decide)
theorem pI258_49 {b : Nat} {V : Vw} {lw : Option Nat} {R : Hp} {x : Int} : hp_pI (Wd b V lw R) (some (b + 258)) 6 49 (I x) = some (Wd b (up V 258 49 x) lw R) := wrI (o := 258) (n := 66) (by decide) (by decide) (by decide) (by decide)
theorem gR258_50 {b : Nat} {V : Vw} {lw : Option Nat} {R : Hp} : hp_gR (Wd b V lw R) (some (b + 258)) 6 50 = some (some (b + 293)) := rdR (o := 258) (n := 66) (x := 293) (by decide) (by decide) (by decide) (by decide)
theorem gR258_51 {b : Nat} {V : Vw} {lw : Option Nat} {R : Hp} : hp_gR (Wd b V lw R) (some (b + 258)) 6 51 = some (some (b + 294)) := rdR (o := 258) (n := 66) (x := 294) (by decide) (by decide) (by decide) (by decide)
theorem gI258_52 {b : Nat} {V : Vw} {lw : Option Nat} {R : Hp} : hp_gI (Wd b V lw R) (some (b + 258)) 6 52 = some (I (V 258 52)) := rdI (o := 258) (n := 66) (by decide) (by decide) (by decide) (by decide)
theorem pI258_52 {b : Nat} {V : Vw} {lw : Option Nat} {R : Hp} {x : Int} : hp_pI (Wd b V lw R) (some (b + 258)) 6 52 (I x) = some (Wd b (up V 258 52 x) lw R) := wrI (o := 258) (n := 66) (by decide) (by decide) (by decide) (by decide)
theorem gI258_53 {b : Nat} {V : Vw} {lw : Option Nat} {R : Hp} : hp_gI (Wd b V lw R) (some (b + 258)) 6 53 = some (I (V 258 53)) := rdI (o := 258) (n := 66) (by decide) (by decide) (by decide) (by decide)
theorem pI258_53 {b : Nat} {V : Vw} {lw : Option Nat} {R : Hp} {x : Int} : hp_pI (Wd b V lw R) (some (b + 258)) 6 53 (I x) = some (Wd b (up V 258 53 x) lw R) := wrI (o := 258) (n := 66) (by decide) (by decide) (by decide) (by decide)
theorem gI258_54 {b : Nat} {V : Vw} {lw : Option Nat} {R : Hp} : hp_gI (Wd b V lw R) (some (b + 258)) 6 54 = some (I (V 258 54)) := rdI (o := 258) (n := 66) (by decide) (by decide) (by decide) (by decide)
theorem pI258_54 {b : Nat} {V : Vw} {lw : Option Nat} {R : Hp} {x : Int} : hp_pI (Wd b V lw R) (some (b + 258)) 6 54 (I x) = some (Wd b (up V 258 54 x) lw R) := wrI (o := 258) (n := 66) (by decide) (by decide) (by decide) (by decide)
theorem gR258_55 {b : Nat} {V : Vw} {lw : Option Nat} {R : Hp} : hp_gR (Wd b V lw R) (some (b + 258)) 6 55 = some (some (b + 295)) := rdR (o := 258) (n := 66) (x := 295) (by decide) (by decide) (by decide) (by decide)
theorem gR258_56 {b : Nat} {V : Vw} {lw : Option Nat} {R : Hp} : hp_gR (Wd b V lw R) (some (b + 258)) 6 56 = some (some (b + 296)) := rdR (o := 258) (n := 66) (x := 296) (by decide) (by decide) (by decide) (by decide)
theorem gR258_57 {b : Nat} {V : Vw} {lw : Option Nat} {R : Hp} : hp_gR (Wd b V lw R) (some (b + 258)) 6 57 = some (some (b + 297)) := rdR (o := 258) (n := 66) (x := 297) (by decide) (by decide) (by decide) (by decide)
theorem gR258_58 {b : Nat} {V : Vw} {lw : Option Nat} {R : Hp} : hp_gR (Wd b V lw R) (some (b + 258)) 6 58 = some (some (b + 298)) := rdR (o := 258) (n := 66) (x := 298) (by decide) (by decide) (by decide) (by decide)
theorem gR258_59 {b : Nat} {V : Vw} {lw : Option Nat} {R : Hp} : hp_gR (Wd b V lw R) (some (b + 258)) 6 59 = some (some (b + 299)) := rdR (o := 258) (n := 66) (x := 299) (by decide) (by decide) (by decide) (by decide)
theorem gR258_60 {b : Nat} {V : Vw} {lw : Option Nat} {R : Hp} : hp_gR (Wd b V lw R) (some (b + 258)) 6 60 = some (some (b + 300)) := rdR (o := 258) (n := 66) (x := 300) (by decide) (by decide) (by decide) (by decide)
theorem gR258_61 {b : Nat} {V : Vw} {lw : Option Nat} {R : Hp} : hp_gR (Wd b V lw R) (some (b + 258)) 6 61 = some (some (b + 301)) := rdR (o := 258) (n := 66) (x := 301) (by decide) (by decide) (by decide) (by decide)
theorem gR258_62 {b : Nat} {V : Vw} {lw : Option Nat} {R : Hp} : hp_gR (Wd b V lw R) (some (b + 258)) 6 62 = some (some (b + 302)) := rdR (o := 258) (n := 66) (x := 302) (by decide) (by decide) (by decide) (by decide)
theorem gR258_63 {b : Nat} {V : Vw} {lw : Option Nat} {R : Hp} : hp_gR (Wd b V lw R) (some (b + 258)) 6 63 = some (some (b + 303)) := rdR (o := 258) (n := 66) (x := 303) (by decide) (by decide) (by decide) (by decide)
theorem gR258_64 {b : Nat} {V : Vw} {lw : Option Nat} {R : Hp} : hp_gR (Wd b V lw R) (some (b + 258)) 6 64 = some (some (b + 304)) := rdR (o := 258) (n := 66) (x := 304) (by decide) (by decide) (by decide) (by decide)
theorem gI258_65 {b : Nat} {V : Vw} {lw : Option Nat} {R : Hp} : hp_gI (Wd b V lw R) (some (b + 258)) 6 65 = some (I (V 258 65)) := rdI (o := 258) (n := 66) (by decide) (by decide) (by decide) (by decide)
theorem pI258_65 {b : Nat} {V : Vw} {lw : Option Nat} {R : Hp} {x : Int} : hp_pI (Wd b V lw R) (some (b + 258)) 6 65 (I x) = some (Wd b (up V 258 65 x) lw R) := wrI (o := 258) (n := 66) (by decide) (by decide) (by decide) (by decide)
