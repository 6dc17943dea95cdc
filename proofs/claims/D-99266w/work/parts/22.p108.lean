/-! THE START: what the constructors make, the small ones. No JVM here. -/
set_option maxRecDepth 100000
set_option linter.unusedVariables false
set_option linter.unusedSimpArgs false
theorem g_gR {m : Hp} {a c k : Nat} {fs : List Vl} {x : Option Nat} (h : m a = some (.inr (c, fs))) (hk : fs[k]? = some (.inr x)) : hp_gR m (some a) c k = some x := by
  unfold hp_gR hp_gV
  simp only [h, if_true, hk]
theorem g_pV {m : Hp} {a c k : Nat} {fs : List Vl} {v : Vl} (h : m a = some (.inr (c, fs))) (hk : k < fs.length) : hp_pV m (some a) c k v = some (hp_set m a (.inr (c, fs.set k v))) := by
  unfold hp_pV
  simp only [h, true_and, hk, if_true]
theorem g_sR {m : Hp} {a t n u cl : Nat} {f : Nat → Option Nat} {z : Int} {x : List Vl} (h : m a = some (.inl (t, n, .inr f))) (h0 : 0 ≤ z) (h1 : z < n) (hn : n ≤ 2000) (hu : m u = some (.inr (cl, x))) (hk : hp_okc t cl = true) : hp_sR m (some a) t (I z) (some u) = some (hp_set m a (.inl (t, n, .inr (hp_upR f z.toNat (some u))))) := by
  have ok : hp_okr m t (some u) = true := by
    unfold hp_okr hp_cls
    simp only [hu, hk]
  unfold hp_sR hp_arr
  simp only [h, if_true, I_in h0 h1 hn, I_cl h0 (show z < 2000 by omega), ok, and_self]
def cel0 (t n : Nat) : Cel := .inl (t, n, .inl fun _ => 0)
def celP : Cel := .inr (3, dfX4)
def platC (nx b : Nat) (x : Int32) : Cel := .inr (2, [.inr (some nx), .inr (some (nx + 1)), .inr (some (nx + 2)), .inl 0, .inl x, .inl 0, .inl 0, .inl 0, .inr (some b)])
/-- a platform, t persons made -/
def PLp (m : Hp) (nx a b t : Nat) : Hp := fun q => if q = a then some (platC nx b 0) else if q = nx then some (.inl (6, 12, .inr fun i => if i < t then some (nx + 3 + i) else none)) else if q = nx + 1 then some (cel0 0 48) else if q = nx + 2 then some (cel0 0 12) else if nx + 3 ≤ q ∧ q < nx + 3 + t then some celP else m q
section SX
variable {m : Hp} {nx a b t : Nat}
theorem PLp_a : PLp m nx a b t a = some (platC nx b 0) := if_pos rfl
theorem PLp_n (h : a < nx) : PLp m nx a b t nx = some (.inl (6, 12, .inr fun i => if i < t then some (nx + 3 + i) else none)) := (if_neg (by omega)).trans (if_pos rfl)
theorem plat_step (h : a < nx) (ht : t < 12) : fX3_init_L36 (some a) (I (t : Int), PLp m nx a b t) (nx + 3 + t) = some (.inl (I ((t + 1 : Nat) : Int), PLp m nx a b (t + 1)), 1 + 0, 6 + 0) := by
  have e1 : hp_gR (PLp m nx a b t) (some a) 2 0 = some (some nx) := g_gR (m := PLp m nx a b t) (a := a) (c := 2) PLp_a rfl
  have e2 : hp_sR (hp_set (PLp m nx a b t) (nx + 3 + t) (.inr (3, dfX4))) (some nx) 6 (I (t : Int)) (some (nx + 3 + t)) = some (PLp m nx a b (t + 1)) := by
    rw [g_sR (n := 12) (f := fun i => if i < t then some (nx + 3 + i) else none) (cl := 3) (x := dfX4) (by rw [s_n (by omega)]; exact PLp_n h) (by omega) (by omega) (by omega) (s_s _ _) (by decide), tn]
    refine congrArg some (funext fun q => ?_)
    unfold hp_set
    by_cases c1 : q = nx
    · rw [if_pos c1, c1, PLp_n h]
      refine congrArg some (congrArg Sum.inl (Prod.ext rfl (Prod.ext rfl (congrArg Sum.inr (funext fun i => ?_)))))
      unfold hp_upR
      by_cases c : i = t
      · rw [if_pos c, if_pos (by omega), c]
      · rw [if_neg c]
        dsimp only
        by_cases c2 : i < t
        · rw [if_pos c2, if_pos (by omega)]
        · rw [if_neg c2, if_neg (by omega)]
    · rw [if_neg c1]
      unfold PLp
      by_cases c2 : q = nx + 3 + t
      · rw [if_pos c2, if_neg (by omega), if_neg (by omega), if_neg (by omega), if_neg (by omega), if_pos (by omega)]
        rfl
      · rw [if_neg c2]
        by_cases c3 : q = a
        · rw [if_pos c3, if_pos c3]
        · rw [if_neg c3, if_neg c3, if_neg c1, if_neg c1]
          by_cases c4 : q = nx + 1
          · rw [if_pos c4, if_pos c4]
          · rw [if_neg c4, if_neg c4]
            by_cases c5 : q = nx + 2
            · rw [if_pos c5, if_pos c5]
            · rw [if_neg c5, if_neg c5]
              by_cases c6 : nx + 3 ≤ q ∧ q < nx + 3 + t
              · rw [if_pos c6, if_pos (by omega)]
              · rw [if_neg c6, if_neg (by omega)]
  unfold fX3_init_L36
  dsimp only
  rw [show (12 : Int32) = I 12 from rfl, if_neg (by rw [I_le (by omega) (by omega) (by omega) (by omega)]; omega), e1, Option.bind_some, Option.bind_some]
  show andA 1 6 (Option.bind (some ()) _) = _
  rw [Option.bind_some, e2, Option.bind_some, k_1, I_add]
  rfl
theorem plat_loop (h : a < nx) : ∀ (k t fu : Nat), t + k = 12 → k < fu → iterA (fX3_init_L36 (some a)) fu (I (t : Int), PLp m nx a b t) (nx + 3 + t) = some (PLp m nx a b 12, k, 6 * k)
  | 0, t, fu, e, hf => by
    obtain ⟨f, rfl⟩ : ∃ f, fu = f + 1 := ⟨fu - 1, by omega⟩
    have : t = 12 := by omega
    subst this
    refine iterA_r0 ?_
    unfold fX3_init_L36
    dsimp only
    rw [show (12 : Int32) = I 12 from rfl, if_pos (by rw [I_le (by omega) (by omega) (by omega) (by omega)]; omega)]
  | k + 1, t, fu, e, hf => by
    obtain ⟨f, rfl⟩ : ∃ f, fu = f + 1 := ⟨fu - 1, by omega⟩
    have ih := plat_loop h k (t + 1) f (by omega) (by omega)
    rw [iterA_c (plat_step h (by omega)) (d2 := k) (c2 := 6 * k) (r := PLp m nx a b 12) (by rw [show nx + 3 + t + (1 + 0) = nx + 3 + (t + 1) by omega]; exact ih)]
    congr 3 <;> omega
theorem x_plat (h : a < nx) : fX3_init (hp_set m a (.inr (2, dfX3))) nx a (some b) = some (PLp m nx a b 12, 15, 144) := by
  have L3 : dfX3.length = 9 := rfl
  have lp := plat_loop (m := m) (b := b) h 12 0 FUEL (by omega) (by unfold FUEL; omega)
  have em : hp_set (hp_set (hp_set (hp_set (hp_set (hp_set (hp_set (hp_set m a (.inr (2, dfX3))) a (.inr (2, dfX3.set 8 (.inr (some b))))) nx (.inl (6, 12, .inr fun _ => none))) a (.inr (2, (dfX3.set 8 (.inr (some b))).set 0 (.inr (some nx))))) (nx + 1) (.inl (0, 48, .inl fun _ => 0))) a (.inr (2, ((dfX3.set 8 (.inr (some b))).set 0 (.inr (some nx))).set 1 (.inr (some (nx + 1)))))) (nx + 1 + 1) (.inl (0, 12, .inl fun _ => 0))) a (.inr (2, (((dfX3.set 8 (.inr (some b))).set 0 (.inr (some nx))).set 1 (.inr (some (nx + 1)))).set 2 (.inr (some (nx + 1 + 1))))) = PLp m nx a b 0 := by
    funext q
    unfold PLp hp_set
    by_cases c3 : q = a
    · rw [if_pos c3, if_pos c3]
      rfl
    · simp only [c3, if_false]
      by_cases c1 : q = nx
      · rw [if_neg (by omega), if_neg (by omega), if_pos c1, if_pos c1]
        rfl
      · rw [if_neg c1, if_neg c1]
        by_cases c4 : q = nx + 1
        · rw [if_neg (by omega), if_pos c4, if_pos c4]
          rfl
        · rw [if_neg c4, if_neg c4]
          by_cases c5 : q = nx + 2
          · rw [if_pos (by omega), if_pos c5]
            rfl
          · rw [if_neg (by omega), if_neg c5, if_neg (by omega)]
  unfold fX3_init hp_newa hp_newr hp_pR
  rw [g_pV (s_s a _) (by rw [L3]; omega), Option.bind_some, Option.bind_some]
  rw [g_pV (c := 2) (fs := dfX3.set 8 (.inr (some b))) (by rw [s_n (by omega), s_s]) (by rw [List.length_set, L3]; omega), Option.bind_some, Option.bind_some]
  rw [g_pV (c := 2) (fs := (dfX3.set 8 (.inr (some b))).set 0 (.inr (some nx))) (by rw [s_n (by omega), s_s]) (by rw [List.length_set, List.length_set, L3]; omega), Option.bind_some, Option.bind_some]
  rw [g_pV (c := 2) (fs := ((dfX3.set 8 (.inr (some b))).set 0 (.inr (some nx))).set 1 (.inr (some (nx + 1)))) (by rw [s_n (by omega), s_s]) (by rw [List.length_set, List.length_set, List.length_set, L3]; omega), Option.bind_some, em]
  have lp : iterA (fX3_init_L36 (some a)) FUEL ((0 : Int32), PLp m nx a b 0) (nx + 1 + 1 + 1) = some (PLp m nx a b 12, 12, 6 * 12) := lp
  rw [lp]
  rfl
/-- trains, t made -/
def trO (q : Nat) : Cel := .inr (5, [.inr (some (q + 1)), .inr (some (q + 2)), .inl 0, .inl 0, .inl 1])
def TRp (m : Hp) (nx a t : Nat) : Hp := fun q => if q = a then some (.inl (5, 48, .inr fun i => if i < t then some (nx + 3 * i) else none)) else if nx ≤ q ∧ q < nx + 3 * t then some (if (q - nx) % 3 = 0 then trO q else cel0 0 8) else m q
theorem TRp_a : TRp m nx a t a = some (.inl (5, 48, .inr fun i => if i < t then some (nx + 3 * i) else none)) := if_pos rfl
theorem TRp_o {q : Nat} (h : q < nx) (h2 : q ≠ a) : TRp m nx a t q = m q := (if_neg h2).trans (if_neg (by omega))
theorem train_1 (m : Hp) (nx : Nat) : fX6_init (hp_set m nx (.inr (5, dfX6))) (nx + 1) nx = some (hp_set (hp_set (hp_set m nx (trO nx)) (nx + 1) (cel0 0 8)) (nx + 2) (cel0 0 8), 2, 16) := by
  have L6 : dfX6.length = 5 := rfl
  have em : hp_set (hp_set (hp_set (hp_set (hp_set (hp_set m nx (.inr (5, dfX6))) (nx + 1) (.inl (0, 8, .inl fun _ => 0))) nx (.inr (5, dfX6.set 0 (.inr (some (nx + 1)))))) (nx + 1 + 1) (.inl (0, 8, .inl fun _ => 0))) nx (.inr (5, (dfX6.set 0 (.inr (some (nx + 1)))).set 1 (.inr (some (nx + 1 + 1)))))) nx (.inr (5, ((dfX6.set 0 (.inr (some (nx + 1)))).set 1 (.inr (some (nx + 1 + 1)))).set 4 (.inl 1))) = hp_set (hp_set (hp_set m nx (trO nx)) (nx + 1) (cel0 0 8)) (nx + 2) (cel0 0 8) := by
    funext q
    unfold hp_set
    by_cases c1 : q = nx
    · rw [if_pos c1, if_neg (by omega), if_neg (by omega), if_pos c1]
      rfl
    · simp only [c1, if_false]
      by_cases c2 : q = nx + 1
      · rw [if_neg (by omega), if_pos c2, if_neg (by omega), if_pos c2]
        rfl
      · rw [if_neg c2, if_neg c2]
        rfl
  unfold fX6_init hp_newa hp_pR hp_pZ
  rw [Option.bind_some]
  rw [g_pV (c := 5) (fs := dfX6) (by rw [s_n (by omega), s_s]) (by rw [L6]; omega), Option.bind_some, Option.bind_some]
  rw [g_pV (c := 5) (fs := dfX6.set 0 (.inr (some (nx + 1)))) (by rw [s_n (by omega), s_s]) (by rw [List.length_set, L6]; omega), Option.bind_some]
  rw [if_pos (Or.inr rfl), g_pV (c := 5) (fs := (dfX6.set 0 (.inr (some (nx + 1)))).set 1 (.inr (some (nx + 1 + 1)))) (s_s _ _) (by rw [List.length_set, List.length_set, L6]; omega), Option.bind_some, em]
  rfl
theorem train_step {fs : List Vl} (h : a < nx) (hb : b < nx) (hba : b ≠ a) (ht : t < 48) (hm : m b = some (.inr (0, fs))) (hf : fs[0]? = some (.inr (some a))) : fX0_init_L173 (some b) (I (t : Int), TRp m nx a t) (nx + 3 * t) = some (.inl (I ((t + 1 : Nat) : Int), TRp m nx a (t + 1)), 1 + (2 + 0), 5 + (16 + 0)) := by
  have e1 : hp_gR (TRp m nx a t) (some b) 0 0 = some (some a) := g_gR (m := TRp m nx a t) (a := b) (c := 0) (fs := fs) (by rw [TRp_o hb hba]; exact hm) hf
  have e2 : hp_sR (hp_set (hp_set (hp_set (TRp m nx a t) (nx + 3 * t) (trO (nx + 3 * t))) (nx + 3 * t + 1) (cel0 0 8)) (nx + 3 * t + 2) (cel0 0 8)) (some a) 5 (I (t : Int)) (some (nx + 3 * t)) = some (TRp m nx a (t + 1)) := by
    rw [g_sR (n := 48) (f := fun i => if i < t then some (nx + 3 * i) else none) (cl := 5) (x := [.inr (some (nx + 3 * t + 1)), .inr (some (nx + 3 * t + 2)), .inl 0, .inl 0, .inl 1]) (by rw [s_n (by omega), s_n (by omega), s_n (by omega)]; exact TRp_a) (by omega) (by omega) (by omega) (by rw [s_n (by omega), s_n (by omega), s_s]; rfl) (by decide), tn]
    refine congrArg some (funext fun q => ?_)
    unfold hp_set
    by_cases c1 : q = a
    · rw [if_pos c1, c1, TRp_a]
      refine congrArg some (congrArg Sum.inl (Prod.ext rfl (Prod.ext rfl (congrArg Sum.inr (funext fun i => ?_)))))
      unfold hp_upR
      by_cases c : i = t
      · rw [if_pos c, if_pos (by omega), c]
      · rw [if_neg c]
        dsimp only
        by_cases c2 : i < t
        · rw [if_pos c2, if_pos (by omega)]
        · rw [if_neg c2, if_neg (by omega)]
    · rw [if_neg c1]
      unfold TRp
      rw [if_neg c1, if_neg c1]
      by_cases c2 : q = nx + 3 * t + 2
      · rw [if_pos c2, if_pos (by omega), if_neg (by omega)]
      · rw [if_neg c2]
        by_cases c3 : q = nx + 3 * t + 1
        · rw [if_pos c3, if_pos (by omega), if_neg (by omega)]
        · rw [if_neg c3]
          by_cases c4 : q = nx + 3 * t
          · rw [if_pos c4, if_pos (by omega), if_pos (by omega), c4]
          · rw [if_neg c4]
            by_cases c5 : nx ≤ q ∧ q < nx + 3 * t
            · rw [if_pos c5, if_pos (show nx ≤ q ∧ q < nx + 3 * (t + 1) by omega)]
            · rw [if_neg c5, if_neg (show ¬ (nx ≤ q ∧ q < nx + 3 * (t + 1)) by omega)]
  unfold fX0_init_L173
  dsimp only
  rw [show (48 : Int32) = I 48 from rfl, if_neg (by rw [I_le (by omega) (by omega) (by omega) (by omega)]; omega), e1, Option.bind_some, Option.bind_some, train_1, Option.bind_some]
  dsimp only
  rw [e2, Option.bind_some, k_1, I_add]
  rfl
theorem train_loop {fs : List Vl} (h : a < nx) (hb : b < nx) (hba : b ≠ a) (hm : m b = some (.inr (0, fs))) (hf : fs[0]? = some (.inr (some a))) : ∀ (k t fu : Nat), t + k = 48 → k < fu → iterA (fX0_init_L173 (some b)) fu (I (t : Int), TRp m nx a t) (nx + 3 * t) = some (TRp m nx a 48, 3 * k, 21 * k)
  | 0, t, fu, e, hf2 => by
    obtain ⟨f, rfl⟩ : ∃ f, fu = f + 1 := ⟨fu - 1, by omega⟩
    have : t = 48 := by omega
    subst this
    refine iterA_r0 ?_
    unfold fX0_init_L173
    dsimp only
    rw [show (48 : Int32) = I 48 from rfl, if_pos (by rw [I_le (by omega) (by omega) (by omega) (by omega)]; omega)]
  | k + 1, t, fu, e, hf2 => by
    obtain ⟨f, rfl⟩ : ∃ f, fu = f + 1 := ⟨fu - 1, by omega⟩
    have ih := train_loop h hb hba hm hf k (t + 1) f (by omega) (by omega)
    rw [iterA_c (train_step h hb hba (by omega) hm hf) (d2 := 3 * k) (c2 := 21 * k) (r := TRp m nx a 48) (by rw [show nx + 3 * t + (1 + (2 + 0)) = nx + 3 * (t + 1) by omega]; exact ih)]
    congr 3 <;> omega
theorem TRp_0 (h : m a = some (.inl (5, 48, .inr fun _ => none))) : TRp m nx a 0 = m := by
  funext q
  unfold TRp
  by_cases c : q = a
  · rw [if_pos c, c, h]
    rfl
  · rw [if_neg c, if_neg (by omega)]
end SX
