/-! JOURNEYS: one ride more, on both sides. No JVM here. -/
set_option maxRecDepth 100000
set_option linter.unusedVariables false
/-- whether one is on a train ahead of its stop k, from a table N of when one can be where -/
def onB (V : Vw) (N : Nat → Int) (c : Int) (r : Nat) : Nat → Bool
  | 0 => false
  | k + 1 => onB V N c r k || decide (N (st V r k).toNat + c ≤ mi V r k)
/-- a table A after a train's first stops -/
def tU (V : Vw) (N : Nat → Int) (c : Int) (r : Nat) (A : Nat → Int) : Nat → Nat → Int
  | 0 => A
  | k + 1 => if onB V N c r k = true then (fun s => if s = (st V r k).toNat then min (tU V N c r A k s) (mi V r k) else tU V N c r A k s) else tU V N c r A k
/-- .. after some trains -/
def tA (V : Vw) (N : Nat → Int) (c : Int) (A : Nat → Int) : Nat → Nat → Int
  | 0 => A
  | r + 1 => if ru V r then tU V N c r (tA V N c A r) (sm V r) else tA V N c A r
abbrev tbB (A : Nat → Int) (lo hi : Int) : Prop := ∀ s, s < 10 → lo ≤ A s ∧ A s ≤ hi
section JR
variable {b : Nat} {V0 V : Vw} {lw : Option Nat} {R : Hp} {p k j i r e n d : Nat} {s t z y w c lo hi : Int} {u : Int32} {N A : Nat → Int}
theorem tU_b (h : Rel V0 V) (hr : r < nT V0) (hb : tbB A lo hi) (hl : lo ≤ 0) : ∀ k, k ≤ sm V0 r → tbB (tU V0 N c r A k) lo hi
  | 0, _ => hb
  | k + 1, hk => by
    have ih := tU_b h hr hb hl k (by omega)
    have hm := mi_b h hr (show k < sm V0 r by omega)
    intro s hs
    have := ih s hs
    rw [tU]
    split
    · show lo ≤ (if s = _ then _ else _) ∧ (if s = _ then _ else _) ≤ hi
      split
      · omega
      · exact this
    · exact this
theorem tA_b (h : Rel V0 V) (hb : tbB A lo hi) (hl : lo ≤ 0) : ∀ r, r ≤ nT V0 → tbB (tA V0 N c A r) lo hi
  | 0, _ => hb
  | r + 1, hr => by
    have ih := tA_b h hb hl r (by omega)
    rw [tA]
    split
    · exact tU_b h (by omega) ih hl _ (Nat.le_refl _)
    · exact ih
theorem up_row {V : Vw} {o i : Nat} {x : Int} : up V o i x o = fun k => if k = i then x else V o k := funext fun k => by
  by_cases e : k = i
  · rw [e, up_s, if_pos rfl]
  · rw [up_k e, if_neg e]
theorem bor {a q : Bool} : (bi (a = true) = 0 ↔ a = false) := by
  unfold bi
  cases a <;> simp
theorem x_ridesIn (h : Rel V0 V) (hr : r < nT V0) (hc : 0 ≤ c ∧ c ≤ 60) (hA : tbB (V 58) (-1) 268435456) (hN : tbB (V 59) (-1) 268435456) : ∃ V', fX0_ridesIn (Wd b V lw R) (some b) (some (b + (114 + 3 * r))) (I c) = some (Wd b V' lw R) ∧ (∀ o, o ≠ 58 → V' o = V o) ∧ V' 58 = if ru V0 r then tU V0 (V 59) c r (V 58) (sm V0 r) else V 58 := by
  have h48 := r48 h hr
  have hsm := sm2 h hr
  by_cases hru : ru V0 r
  · rw [if_pos hru]
    obtain ⟨q, h1, V', h2, h3, h4⟩ := iter_for (b := fX0_ridesIn_L5 (some b) (some (b + (114 + 3 * r))) (I c)) (s := (I 0, I 0, Wd b V lw R)) (fun k q => ∃ V', q = (I (bi (onB V0 (V 59) c r k = true)), I (k : Int), Wd b V' lw R) ∧ (∀ o, o ≠ 58 → V' o = V o) ∧ V' 58 = tU V0 (V 59) c r (V 58) k) (fun q => ∃ V', q = Wd b V' lw R ∧ (∀ o, o ≠ 58 → V' o = V o) ∧ V' 58 = tU V0 (V 59) c r (V 58) (sm V0 r)) (sm V0 r) (by omega) ⟨V, by rw [bi_f (by simp [onB])]; rfl, fun _ _ => rfl, rfl⟩ (fun k q hS hk => by
        obtain ⟨V', rfl, a1, a2⟩ := hS
        have h' : Rel V0 V' := h.sc (fun o k q => by rw [a1 o (fun e => q (by unfold scr; omega))])
        have hst := st_b h hr hk
        have hmi := mi_b h hr hk
        have e59 : V' 59 = V 59 := a1 59 (by decide)
        have bA := tU_b (N := V 59) (c := c) h hr hA (by decide) k (by omega) (st V0 r k).toNat (by omega)
        have bN := hN (st V0 r k).toNat (by omega)
        by_cases on : onB V0 (V 59) c r k = true
        · refine ⟨(I 1, I ((k + 1 : Nat) : Int), Wd b (up V' 58 (st V0 r k).toNat (min (V' 58 (st V0 r k).toNat) (mi V0 r k))) lw R), ?_, _, by rw [bi_t (by rw [onB, on]; rfl)], fun o ho => by rw [up_r ho, a1 o ho], ?_⟩
          · rw [bi_t on]
            have q0 : (I 1 = I 0) = False := eq_false (by decide)
            have bA' : -1 ≤ V' 58 (st V0 r k).toNat ∧ V' 58 (st V0 r k).toNat ≤ 268435456 := by rw [a2]; exact bA
            unfold fX0_ridesIn_L5
            simp (disch := omega) only [k_0, k_1, I_le, if_neg, gTr2, gTr4, gTr0, gTr1, v_sm h' hr, v_ru h' hr, bi_if, if_pos hru, Option.bind_some, rSt, rMi, v_st h' hr, v_mi h' hr, tn, q0, if_false, gR0_14, rA58, I_min, wA58, I_add]
            rfl
          · rw [up_row, tU, if_pos on, a2]
            funext x
            by_cases e : x = (st V0 r k).toNat
            · rw [if_pos e, if_pos e, e]
            · rw [if_neg e, if_neg e]
        · refine ⟨(I (bi (onB V0 (V 59) c r (k + 1) = true)), I ((k + 1 : Nat) : Int), Wd b V' lw R), ?_, V', rfl, a1, by rw [tU, if_neg on, a2]⟩
          have on' : onB V0 (V 59) c r k = false := by simpa using on
          rw [bi_f on]
          unfold fX0_ridesIn_L5
          simp (disch := omega) only [k_0, k_1, I_le, if_neg, gTr2, gTr4, gTr0, gTr1, v_sm h' hr, v_ru h' hr, bi_if, if_pos hru, Option.bind_some, rSt, rMi, v_st h' hr, v_mi h' hr, tn, if_true, gR0_15, rA59, e59, I_add, I_lt]
          by_cases c1 : mi V0 r k < V 59 (st V0 r k).toNat + c
          · rw [if_pos c1, bi_f (by rw [onB, on']; simpa using c1)]
            rfl
          · rw [if_neg c1, bi_t (by rw [onB, on']; simpa using c1)]
            rfl) (fun q hS => by
        obtain ⟨V', rfl, a1, a2⟩ := hS
        have h' : Rel V0 V' := h.sc (fun o k q => by rw [a1 o (fun e => q (by unfold scr; omega))])
        refine ⟨_, ?_, V', rfl, a1, a2⟩
        unfold fX0_ridesIn_L5
        simp (disch := omega) only [I_le, if_pos, gTr2, v_sm h' hr, Option.bind_some])
    refine ⟨V', ?_, h3, h4⟩
    unfold fX0_ridesIn
    rw [k_0, h1, h2]
    rfl
  · rw [if_neg hru]
    refine ⟨V, ?_, fun _ _ => rfl, rfl⟩
    have key : iter (fX0_ridesIn_L5 (some b) (some (b + (114 + 3 * r))) (I c)) FUEL (I 0, I 0, Wd b V lw R) = some (Wd b V lw R) := by
      refine iter_r (n := 1999) ?_
      unfold fX0_ridesIn_L5
      simp (disch := omega) only [k_0, I_le, if_neg, gTr2, gTr4, v_sm h hr, v_ru h hr, Option.bind_some, bi_if]
    unfold fX0_ridesIn
    rw [k_0, key]
    rfl
end JR
